/-! what holds between two calls of the law, and a call of both sides -/
set_option maxRecDepth 100000
def sub2 (R R' : sMem) : Prop := ∀ a e, R.2.2.2 a = some e → R'.2.2.2 a = some e
theorem hIntsOf_ex {R R' : sMem} (hR : sub2 R R') {q n : Nat} {g : Nat → Int32} (h : hIntsOf R q n g) : hIntsOf R' q n g := by
  obtain ⟨f, h1, h2⟩ := h
  exact ⟨f, hR _ _ h1, h2⟩
theorem hReads_ex {R R' : sMem} (hR : sub2 R R') {q : Nat} {t : Nat → Int32} (g : hReads R q t) : hReads R' q t := by
  obtain ⟨fo, ao, h1, h2⟩ := g
  exact ⟨fo, ao, hR _ _ h1, fun f hf => ⟨(h2 f hf).1, hR _ _ (h2 f hf).2⟩⟩
theorem hReps.ex {R R' : sMem} (hR : sub2 R R') {F : Nat → Value} {k0 k1 k2 k3 k4 k5 k6 k7 : Nat} {t : Nat → Int32} (h : hReps R F k0 k1 k2 k3 k4 k5 k6 k7 t) : hReps R' F k0 k1 k2 k3 k4 k5 k6 k7 t := by
  obtain ⟨⟨q0, a0, b0⟩, ⟨q1, a1, b1⟩, ⟨q2, a2, b2⟩, ⟨q3, a3, b3⟩, ⟨q4, a4, b4⟩, ⟨q5, a5, b5⟩, ⟨q6, a6, b6⟩, q7, a7, b7⟩ := h
  exact ⟨⟨q0, a0, hLaw_ex hR b0⟩, ⟨q1, a1, hFacts_ex hR b1⟩, ⟨q2, a2, hMeals_ex hR b2⟩, ⟨q3, a3, hIntsOf_ex hR b3⟩, ⟨q4, a4, hReads_ex hR b4⟩, ⟨q5, a5, hIntsOf_ex hR b5⟩, ⟨q6, a6, hIntsOf_ex hR b6⟩, q7, a7, hIntsOf_ex hR b7⟩
theorem hIntsOf_eq {R : sMem} {q n n' : Nat} {g g' : Nat → Int32} (h : hIntsOf R q n g) (hn : n' = n) (hg : ∀ k, k < n → g' k = g k) : hIntsOf R q n' g' := by
  subst hn
  obtain ⟨f, h1, h2⟩ := h
  exact ⟨f, h1, fun k hk => (h2 k hk).trans (hg k hk).symm⟩
theorem hReps.al {R : sMem} {F : Nat → Value} {k0 k1 k2 k3 k4 k5 k6 k7 : Nat} {t t' : Nat → Int32} (h : hReps R F k0 k1 k2 k3 k4 k5 k6 k7 t) (hw : wStat t) (g : wAl t t') : hReps R F k0 k1 k2 k3 k4 k5 k6 k7 t' := by
  obtain ⟨⟨q0, a0, b0⟩, ⟨q1, a1, b1⟩, ⟨q2, a2, b2⟩, ⟨q3, a3, b3⟩, ⟨q4, a4, b4⟩, ⟨q5, a5, b5⟩, ⟨q6, a6, b6⟩, q7, a7, b7⟩ := h
  obtain ⟨w1, w2, w3, w4, w5, w6, w7, w8, w9⟩ := hw
  have l4 : hQc t ≤ 16 := w4.2
  have l5 : hRc t ≤ 12 := w5.1.2
  have l6 : hKc t ≤ 12 := w6.1.2
  have l7 : hSc t ≤ 16 := w7.2
  have l8 : hOc t ≤ 16 := w8.1.2
  have n4 : hQc t' = hQc t := congrArg cv (g _ (by omega))
  have n5 : hRc t' = hRc t := congrArg cv (g _ (by omega))
  have n6 : hKc t' = hKc t := congrArg cv (g _ (by omega))
  have n7 : hSc t' = hSc t := congrArg cv (g _ (by omega))
  have n8 : hOc t' = hOc t := congrArg cv (g _ (by omega))
  refine ⟨⟨q0, a0, hLaw_al g w9 b0⟩, ⟨q1, a1, hFacts_al g w2 b1⟩, ⟨q2, a2, hMeals_al g w3 b2⟩, ⟨q3, a3, hIntsOf_eq b3 n4 (fun k hk => g _ (by omega))⟩, ⟨q4, a4, ?_⟩, ⟨q5, a5, hIntsOf_eq b5 n6 (fun k hk => by rw [g _ (by omega), g _ (by omega)])⟩, ⟨q6, a6, hIntsOf_eq b6 n7 (fun k hk => g _ (by omega))⟩, q7, a7, hIntsOf_eq b7 n8 (fun k hk => by rw [g _ (by omega), g _ (by omega)])⟩
  obtain ⟨fo, ao, h1, h2⟩ := b4
  refine ⟨fo, ao, by rw [n5]; exact h1, fun f hf => ?_⟩
  rw [n5] at hf
  rw [g _ (by omega), g _ (by omega)]
  exact h2 f hf
abbrev rA (A : hA) (R : sMem) (S : hS) : Prop := hReps R S.1 16 18 19 20 29 31 34 35 (S.2.2.2.1 0)
/-- the world now -/
def iA (A : hA) (R : sMem) (S : hS) : Prop := hG A ∧ hCl A R ∧ S.2.2.2.2.1 0 = 0 ∧ S.2.2.2.1 0 = S.2.2.2.2.2.2 0 ∧ wAct (S.2.2.2.1 0) ∧ (∀ p, 2355 ≤ p → S.2.2.2.1 0 p = 0) ∧ rA A R S
/-- the tape, the fault -/
def iB (S : hS) : Prop := ∃ n, n ≤ 400 ∧ S.1 1 = .int (nI n) ∧ S.2.2.2.2.2.1 16 = nI n ∧ (∀ k, k < n → S.2.1 1 k &&& 255 = S.2.2.2.2.2.2 7 k) ∧ S.1 14 = .int (S.2.2.2.2.2.1 23) ∧ S.1 15 = .int (S.2.2.2.2.2.1 25)
/-- what can be undone -/
def iC (A : hA) (S : hS) : Prop := ∃ (u c : Nat) (h : Nat → Nat), u ≤ 6 ∧ c ≤ 6 ∧ u ≤ c ∧ A.2.2 = 3 + c ∧ S.1 28 = .int (nI u) ∧ S.2.2.2.2.2.1 4 = nI u ∧ (∀ k, k < c → 3 ≤ h k ∧ h k < A.2.2 ∧ S.2.2.1 k = some (hTa A (h k))) ∧ (∀ j k, j < c → k < c → h j = h k → j = k) ∧ (∀ k, c ≤ k → k < 6 → S.2.2.1 k = none) ∧ ∀ k, k < u → wAl (S.2.2.2.1 0) (S.2.2.2.1 (h k)) ∧ wAct (S.2.2.2.1 (h k)) ∧ ∀ p, p < 571 → S.2.2.2.1 (h k) p = S.2.2.2.2.2.2 2 (571 * k + p)
/-- the image -/
def iD (R : sMem) (S : hS) : Prop := (∀ p, 2355 ≤ p → S.2.2.2.2.2.2 1 p = 0) ∧ ((S.2.2.2.2.2.1 5 = 0 ∧ S.1 46 = .null) ∨ (S.2.2.2.2.2.1 5 = 1 ∧ S.2.2.2.1 2 = S.2.2.2.2.2.2 1 ∧ wAct (S.2.2.2.1 2) ∧ S.1 38 = .int (S.2.2.2.1 2 571) ∧ hReps R S.1 46 39 40 42 41 43 44 45 (S.2.2.2.1 2)))
def hTx (R : sMem) (g : Nat → Nat) : Prop := ∀ j, j < 26 → ∃ v, sStrV R (g (10 + j)) = some v ∧ sInts R 1 v = some (txLen j, fun i => (txByt j).getD i 0)
def hRowOf (R : sMem) (q n : Nat) (f : Nat → Nat) : Prop := ∃ h : Nat → Option Nat, R.2.2.2 q = some (sArq 2 n h) ∧ ∀ k, k < n → h k = some (f k)
/-- what never changes: words, lambdas, the script -/
def iE (A : hA) (R : sMem) (S : hS) (g : Nat → Nat) (b L : Nat) (xs : Nat → Int32) : Prop := hTx R g ∧ (∀ a b : Nat, a < 5 → b < 5 → g a = g b → a = b) ∧ sInts R 0 b = some (L, xs) ∧
  (∃ q h, S.1 2 = .ref q ∧ R.2.2.2 q = some (sArq 3 4 h) ∧ ∀ k, k < 4 → ∃ w, h k = some w ∧ hRowOf R w 3 (fun j => g (10 + (5 + 3 * k + j)))) ∧ (∃ q, S.1 3 = .ref q ∧ hRowOf R q 10 (fun j => if j = 9 then g 10 else g (10 + (17 + j)))) ∧ (∃ q, S.1 4 = .ref q ∧ hRowOf R q 4 (fun j => if j = 0 then g 11 else if j = 1 then g 12 else if j = 2 then g 26 else g 13)) ∧ (∃ q f, S.1 5 = .ref q ∧ R.2.2.2 q = some (sArq 2 0 f)) ∧
  (∃ q, S.1 32 = .ref q ∧ R.2.2.2 q = some (sLam 0 [.ref (hX A)])) ∧ ∃ q, S.1 33 = .ref q ∧ R.2.2.2 q = some (sLam 1 [.ref (hX A)])
def hInv (A : hA) (R : sMem) (S : hS) (g : Nat → Nat) (b L : Nat) (xs : Nat → Int32) : Prop := iA A R S ∧ iB S ∧ iC A S ∧ iD R S ∧ iE A R S g b L xs
/-- a call of both sides: the same answer, and what holds holds still -/
def hOp (A : hA) (R : sMem) (S : hS) (g : Nat → Nat) (b L : Nat) (xs : Nat → Int32) (f1 f2 : sMem → Option (sRes × sMem)) : Prop := ∃ (v : Int32) (M1 : sMem) (A' : hA) (R' : sMem) (S' : hS), f1 (hMem A R S) = some (.inl (some (.int v)), M1) ∧ (∀ o, sChk M1 3 (A.2.1 9) o = o) ∧ sInts M1 0 b = some (L, xs) ∧ f2 M1 = some (.inl (some (.int v)), hMem A' R' S') ∧ hInv A' R' S' g b L xs ∧ A'.1 = A.1 ∧ hX A' = hX A ∧ A'.2.1 9 = A.2.1 9 ∧ hEx 18000 84000 R R'
theorem sInts_ex {R R' : sMem} (hR : sub2 R R') {t a n : Nat} {f : Nat → Int32} (h : sInts R t a = some (n, f)) : sInts R' t a = some (n, f) := by
  unfold sInts at h ⊢
  cases hq : R.2.2.2 a with
  | none => rw [hq] at h; cases h
  | some e => rw [hR a e hq, ← h, hq]
theorem sStrV_ex {R R' : sMem} (hR : sub2 R R') {a v : Nat} (h : sStrV R a = some v) : sStrV R' a = some v := by
  unfold sStrV at h ⊢
  cases hq : R.2.2.2 a with
  | none => rw [hq] at h; cases h
  | some e => rw [hR a e hq, ← h, hq]
theorem hTx.ex {R R' : sMem} (hR : sub2 R R') {g : Nat → Nat} (h : hTx R g) : hTx R' g := fun j hj => by
  obtain ⟨v, h1, h2⟩ := h j hj
  exact ⟨v, sStrV_ex hR h1, sInts_ex hR h2⟩
theorem hRowOf.ex {R R' : sMem} (hR : sub2 R R') {q n : Nat} {f : Nat → Nat} (h : hRowOf R q n f) : hRowOf R' q n f := by
  obtain ⟨x, h1, h2⟩ := h
  exact ⟨x, hR _ _ h1, h2⟩
theorem iE.fr {A A' : hA} {R R' : sMem} {S S' : hS} {g : Nat → Nat} {b L : Nat} {xs : Nat → Int32} (h : iE A R S g b L xs) (hR : sub2 R R') (hx : hX A' = hX A) (e : ∀ k, k = 2 ∨ k = 3 ∨ k = 4 ∨ k = 5 ∨ k = 32 ∨ k = 33 → S'.1 k = S.1 k) : iE A' R' S' g b L xs := by
  obtain ⟨h1, h2, h3, ⟨q, x, h4, h5, h6⟩, ⟨q2, h7, h8⟩, ⟨q3, h9, h10⟩, ⟨q4, f4, h11, h12⟩, ⟨q5, h13, h14⟩, q6, h15, h16⟩ := h
  refine ⟨h1.ex hR, h2, sInts_ex hR h3, ⟨q, x, (e 2 (by omega)).trans h4, hR _ _ h5, fun k hk => ?_⟩, ⟨q2, (e 3 (by omega)).trans h7, h8.ex hR⟩, ⟨q3, (e 4 (by omega)).trans h9, h10.ex hR⟩, ⟨q4, f4, (e 5 (by omega)).trans h11, hR _ _ h12⟩, ⟨q5, (e 32 (by omega)).trans h13, ?_⟩, q6, (e 33 (by omega)).trans h15, ?_⟩
  · obtain ⟨w, hw, h⟩ := h6 k hk
    exact ⟨w, hw, h.ex hR⟩
  · rw [hx]
    exact hR _ _ h14
  · rw [hx]
    exact hR _ _ h16
theorem iB.fr {S S' : hS} (h : iB S) (e : S'.1 1 = S.1 1 ∧ S'.1 14 = S.1 14 ∧ S'.1 15 = S.1 15) (e1 : S'.2.1 1 = S.2.1 1) (e2 : S'.2.2.2.2.2.2 7 = S.2.2.2.2.2.2 7) (e3 : S'.2.2.2.2.2.1 16 = S.2.2.2.2.2.1 16 ∧ S'.2.2.2.2.2.1 23 = S.2.2.2.2.2.1 23 ∧ S'.2.2.2.2.2.1 25 = S.2.2.2.2.2.1 25) : iB S' := by
  obtain ⟨n, h1, h2, h3, h4, h5, h6⟩ := h
  refine ⟨n, h1, e.1.trans h2, e3.1.trans h3, fun k hk => by rw [e1, e2]; exact h4 k hk, by rw [e.2.1, e3.2.1]; exact h5, by rw [e.2.2, e3.2.2]; exact h6⟩
theorem iD.fr {R R' : sMem} {S S' : hS} (h : iD R S) (hR : sub2 R R') (e : ∀ k, k = 38 ∨ (39 ≤ k ∧ k < 47) → S'.1 k = S.1 k) (e1 : S'.2.2.2.2.2.1 5 = S.2.2.2.2.2.1 5) (e2 : S'.2.2.2.2.2.2 1 = S.2.2.2.2.2.2 1) (e3 : S'.2.2.2.1 2 = S.2.2.2.1 2) : iD R' S' := by
  obtain ⟨h0, h⟩ := h
  refine ⟨fun p hp => by rw [e2]; exact h0 p hp, ?_⟩
  rcases h with ⟨h1, h2⟩ | ⟨h1, h2, h3, h5, h6⟩
  · exact Or.inl ⟨e1.trans h1, (e 46 (by omega)).trans h2⟩
  · refine Or.inr ⟨e1.trans h1, by rw [e3, e2]; exact h2, by rw [e3]; exact h3, by rw [e3, e 38 (by omega)]; exact h5, ?_⟩
    have := h6.ex hR
    rw [e3]
    unfold hReps at this ⊢
    rw [e 46 (by omega), e 39 (by omega), e 40 (by omega), e 42 (by omega), e 41 (by omega), e 43 (by omega), e 44 (by omega), e 45 (by omega)]
    exact this
theorem iC.fr {A : hA} {S S' : hS} (h : iC A S) (e28 : S'.1 28 = S.1 28) (e4 : S'.2.2.2.2.2.1 4 = S.2.2.2.2.2.1 4) (e2 : S'.2.2.2.2.2.2 2 = S.2.2.2.2.2.2 2) (eA : S'.2.2.1 = S.2.2.1) (eT : ∀ k, 3 ≤ k → S'.2.2.2.1 k = S.2.2.2.1 k) (al : wAl (S.2.2.2.1 0) (S'.2.2.2.1 0)) : iC A S' := by
  obtain ⟨u, c, x, h1, h2, h3, h4, h5, h6, h7, h8, h9, h10⟩ := h
  refine ⟨u, c, x, h1, h2, h3, h4, e28.trans h5, e4.trans h6, fun k hk => by rw [eA]; exact h7 k hk, h8, fun k hk => by rw [eA]; exact h9 k hk, fun k hk => ?_⟩
  obtain ⟨a1, a2, a3⟩ := h10 k hk
  rw [eT _ (h7 k (by omega)).1, e2]
  exact ⟨fun p hp => (a1 p hp).trans (al p hp).symm, a2, a3⟩
/-- undoing forgotten on both sides -/
theorem iC.no {A : hA} {S S' : hS} (h : iC A S) (e28 : S'.1 28 = .int 0) (e4 : S'.2.2.2.2.2.1 4 = 0) (eA : S'.2.2.1 = S.2.2.1) : iC A S' := by
  obtain ⟨u, c, x, h1, h2, h3, h4, h5, h6, h7, h8, h9, h10⟩ := h
  exact ⟨0, c, x, by omega, h2, by omega, h4, e28, e4, fun k hk => by rw [eA]; exact h7 k hk, h8, fun k hk => by rw [eA]; exact h9 k hk, fun k hk => by omega⟩
theorem iA.fr {A : hA} {R R' : sMem} {S S' : hS} (h : iA A R S) (hR : sub2 R R') (hc : hCl A R') (eh : S'.2.2.2.2.1 0 = S.2.2.2.2.1 0) (eT : S'.2.2.2.1 0 = S'.2.2.2.2.2.2 0) (al : wAl (S.2.2.2.1 0) (S'.2.2.2.1 0)) (hw : wAct (S'.2.2.2.1 0)) (e : ∀ k, k = 16 ∨ k = 18 ∨ k = 19 ∨ k = 20 ∨ k = 29 ∨ k = 31 ∨ k = 34 ∨ k = 35 → S'.1 k = S.1 k) : iA A R' S' := by
  obtain ⟨h1, h2, h3, h4, h5, h6, h7⟩ := h
  refine ⟨h1, hc, eh.trans h3, eT, hw, fun p hp => (al p (by omega)).trans (h6 p hp), ?_⟩
  have := (h7.ex hR).al h5.1 al
  show hReps R' S'.1 16 18 19 20 29 31 34 35 (S'.2.2.2.1 0)
  unfold hReps at this ⊢
  rw [e 16 (by omega), e 18 (by omega), e 19 (by omega), e 20 (by omega), e 29 (by omega), e 31 (by omega), e 34 (by omega), e 35 (by omega)]
  exact this
/-- the same state but rows nobody asks for, the same world -/
def hSame (S S' : hS) : Prop := S'.1 = S.1 ∧ S'.2.1 1 = S.2.1 1 ∧ S'.2.2.1 = S.2.2.1 ∧ S'.2.2.2.1 = S.2.2.2.1 ∧ S'.2.2.2.2 = S.2.2.2.2
theorem hSame.refl (S : hS) : hSame S S := ⟨rfl, rfl, rfl, rfl, rfl⟩
theorem hSame.rw2 (S : hS) (f : Nat → Int32) : hSame S (hRw S 2 f) := ⟨rfl, by rw [hRw_ne _ _ (by omega)], rfl, rfl, rfl⟩
theorem hSame.rw6 (S : hS) (f : Nat → Int32) : hSame S (hRw S 6 f) := ⟨rfl, by rw [hRw_ne _ _ (by omega)], rfl, rfl, rfl⟩
theorem hSame.trans {S S1 S2 : hS} (h : hSame S S1) (g : hSame S1 S2) : hSame S S2 := ⟨g.1.trans h.1, g.2.1.trans h.2.1, g.2.2.1.trans h.2.2.1, g.2.2.2.1.trans h.2.2.2.1, g.2.2.2.2.trans h.2.2.2.2⟩
theorem hInv.read {A : hA} {R R' : sMem} {S S' : hS} {g : Nat → Nat} {b L : Nat} {xs : Nat → Int32} (h : hInv A R S g b L xs) (hS : hSame S S') (hR : sub2 R R') (hc : hCl A R') {s' : mSt} (hs : Sw S.2.2.2.2.2 (S.2.2.2.2.2.2 0) s') : hInv A R' (hM S' s') g b L xs := by
  obtain ⟨h1, h2, h3, h4, h5⟩ := h
  obtain ⟨a1, a2, a3, a4, a5⟩ := hS
  have eT : (hM S' s').2.2.2.1 = S.2.2.2.1 := a4
  have e1 : (hM S' s').1 = S.1 := a1
  have eTh : (hM S' s').2.2.2.2.1 = S.2.2.2.2.1 := (show S'.2.2.2.2.1 = S.2.2.2.2.1 from by rw [a5])
  refine ⟨h1.fr hR hc (by rw [eTh]) (by rw [eT, h1.2.2.2.1]; exact hs.2.1.symm) (by rw [eT]; exact wAl.refl _) (by rw [eT]; exact h1.2.2.2.2.1) (fun k _ => by rw [e1]), h2.fr (by rw [e1]; exact ⟨rfl, rfl, rfl⟩) a2 (hs.2.2 7 (by omega) (by omega)) ⟨congrFun hs.1 16, congrFun hs.1 23, congrFun hs.1 25⟩, h3.fr (by rw [e1]) (congrFun hs.1 4) (hs.2.2 2 (by omega) (by omega)) a3 (fun k _ => by rw [eT]) (by rw [eT]; exact wAl.refl _), h4.fr hR (fun k _ => by rw [e1]) (congrFun hs.1 5) (hs.2.2 1 (by omega) (by omega)) (by rw [eT]), h5.fr hR rfl (fun k _ => by rw [e1])⟩
theorem hM_chk {A : hA} (hg : hG A) (R : sMem) (S : hS) (o : Option (sRes × sMem)) : sChk (hMem A R S) 3 (A.2.1 9) o = o := by
  have := hMem_at hg R S (k := 9) (hG.k A hg (by omega))
  unfold sChk sFs
  rw [this]
  rfl
theorem hInv.script {A : hA} {R : sMem} {S S' : hS} {g : Nat → Nat} {b L : Nat} {xs : Nat → Int32} (h : hInv A R S g b L xs) : sInts (hMem A R S') 0 b = some (L, xs) := by
  have hc := h.1.2.1
  exact sInts_ex (R' := hMem A R S') (fun a e ha => hR_at hc S' ha) h.2.2.2.2.2.2.1
/-- a call that only reads -/
theorem hOp.read {A : hA} {R R' : sMem} {S S' : hS} {g : Nat → Nat} {b L : Nat} {xs : Nat → Int32} {f1 f2 : sMem → Option (sRes × sMem)} {pf : mSt → Option (Option Value × mSt)} {v : Int32} {s' : mSt} (h : hInv A R S g b L xs) (hq : ∀ (R : sMem), R.1 ≤ A.2.1 9 → ∀ s : mSt, f2 (mPut R (A.2.1 9) s) = lft R (A.2.1 9) (pf s)) (e1 : f1 (hMem A R S) = some (.inl (some (.int v)), hMem A R' S')) (hS : hSame S S') (hex : hEx 18000 84000 R R') (hc : hCl A R') (e2 : pf S.2.2.2.2.2 = some (some (.int v), s')) (hs : Sw S.2.2.2.2.2 (S.2.2.2.2.2.2 0) s') : hOp A R S g b L xs f1 f2 := by
  have hI := h.read hS hex.1 hc hs
  have hm : S'.2.2.2.2.2 = S.2.2.2.2.2 := congrArg Prod.snd hS.2.2.2.2
  have e3 := hLft_of h.1.1 R' S' hq
  rw [hm, e2] at e3
  exact ⟨v, hMem A R' S', A, R', hM S' s', e1, hM_chk h.1.1 R' S', hI.script, e3, hI, rfl, rfl, rfl, hex⟩
/-- .. and nothing is made -/
theorem hOp.read0 {A : hA} {R : sMem} {S : hS} {g : Nat → Nat} {b L : Nat} {xs : Nat → Int32} {f1 f2 : sMem → Option (sRes × sMem)} {pf : mSt → Option (Option Value × mSt)} {v : Int32} (h : hInv A R S g b L xs) (hq : ∀ (R : sMem), R.1 ≤ A.2.1 9 → ∀ s : mSt, f2 (mPut R (A.2.1 9) s) = lft R (A.2.1 9) (pf s)) (e1 : f1 (hMem A R S) = some (.inl (some (.int v)), hMem A R S)) (e2 : pf S.2.2.2.2.2 = some (some (.int v), S.2.2.2.2.2)) : hOp A R S g b L xs f1 f2 :=
  hOp.read h hq e1 (hSame.refl S) ((hEx.refl R).le (by omega) (by omega)) h.1.2.1 e2 (Sw.refl _)
/-! ranges -/
def inB (a lo hi : Int32) : Bool := !decide (a < lo) && !decide (hi < a)
theorem px_isIn (a lo hi : Int32) (s : mSt) : p_X3_isIn a lo hi s = some (some (.int (b01 (inB a lo hi))), s) := by
  unfold p_X3_isIn inB
  by_cases h1 : a < lo
  · simp [h1, b01]
  · by_cases h2 : hi < a
    · simp [h1, h2, b01]
    · simp [h1, h2, b01]
theorem fx_isIn (a lo hi : Int32) (M : sMem) : f_X0_isIn a lo hi M = some (.inl (some (.int (b01 (inB a lo hi)))), M) := by
  unfold f_X0_isIn inB
  by_cases h1 : a < lo
  · simp [h1, b01]
  · by_cases h2 : hi < a
    · simp [h1, h2, b01]
    · simp [h1, h2, b01]
theorem inB_lit {a : Int32} {k : Nat} (hk : k < 2 ^ 31) (h : inB a 0 (nI k) = true) : ∃ i, i ≤ k ∧ a = nI i := by
  unfold inB at h
  simp only [Bool.and_eq_true, Bool.not_eq_true', decide_eq_false_iff_not] at h
  obtain ⟨j, hj, rfl⟩ := nI_of h.1
  have := h.2
  rw [nI_ltI (by omega) (by omega)] at this
  exact ⟨j, by omega, rfl⟩
theorem inB_below {a : Int32} {n : Nat} (hn : n < 2 ^ 31) (h : inB a 0 (nI n - 1) = true) : ∃ i, i < n ∧ a = nI i := by
  cases n with
  | zero =>
    exfalso
    unfold inB at h
    simp only [Bool.and_eq_true, Bool.not_eq_true', decide_eq_false_iff_not] at h
    obtain ⟨h1, h2⟩ := h
    have e : nI 0 - 1 = -1 := by decide
    rw [e] at h2
    rw [Int32.lt_iff_toInt_lt] at h1 h2
    have a1 : (-1 : Int32).toInt = -1 := by decide
    have a0 : (0 : Int32).toInt = 0 := by decide
    omega
  | succ n =>
    rw [nI_pred] at h
    obtain ⟨i, hi, e⟩ := inB_lit (by omega) h
    exact ⟨i, by omega, e⟩
theorem sBool_b01 (x : Bool) (M : sMem) : sBool (b01 x) M = some (.inl (some (.int (b01 x))), M) := by
  cases x <;> rfl
theorem pBool_b01 (x : Bool) (s : mSt) : pBool (b01 x) s = some (some (.int (b01 x)), s) := by
  cases x <;> rfl
theorem b01_0 (x : Bool) : (b01 x = 0) = (x = false) := by
  cases x <;> simp [b01]
theorem b01_t : (b01 true = 0) = False := by simp [b01]
theorem b01_f : (b01 false = 0) = True := by simp [b01]
theorem px_isWorm (m : Nat) (v : Int32) (s : mSt) : p_X3_isWorm m v s = some (some (.int (b01 (inB v 0 (s.2 0 571 - 1)))), s) := by
  have e : qAld s 0 571 = some (s.2 0 571) := qld_0 s (p := 571) (by omega)
  simp only [p_X3_isWorm, mRow_0, obS, e, px_isIn, pcI, pBool_b01]
theorem px_isFact (m : Nat) (v : Int32) (s : mSt) : p_X3_isFact m v s = some (some (.int (b01 (inB v 0 (s.2 0 572 - 1)))), s) := by
  have e : qAld s 0 572 = some (s.2 0 572) := qld_0 s (p := 572) (by omega)
  simp only [p_X3_isFact, mRow_0, obS, e, px_isIn, pcI, pBool_b01]
theorem fx_isWorm {A : hA} (hg : hG A) (R : sMem) (S : hS) (v : Int32) : f_X0_isWorm (hX A) v (hMem A R S) = some (.inl (some (.int (b01 (inB v 0 (S.2.2.2.1 0 571 - 1))))), hMem A R S) := by
  simp only [f_X0_isWorm, xgI_21 hg, eq_self, ↓reduceIte, hcI, hcN, hcV, obS, if_true, if_false, fx_isIn, sBool_b01]
theorem fx_isFact {A : hA} {R : sMem} {S : hS} (hg : hG A) (hc : hCl A R) {t : Nat → Int32} (hT : ∃ q, S.1 18 = .ref q ∧ hFacts R q t) (hw : wFac t) (v : Int32) : f_X0_isFact (hX A) v (hMem A R S) = some (.inl (some (.int (b01 (inB v 0 (t 572 - 1))))), hMem A R S) := by
  obtain ⟨q, hq, fo, ao, ma, mf, h1, h2⟩ := hT
  have e572 : t 572 = nI (hFc t) := hw.1.1
  simp only [f_X0_isFact, xgN_18 hg, hq, hvN_ref, hR_lenq hc S h1, eq_self, ↓reduceIte, hcI, hcN, hcV, obS, if_true, if_false, fx_isIn, sBool_b01, e572]
