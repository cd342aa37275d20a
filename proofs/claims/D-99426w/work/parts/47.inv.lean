/-! the world's numbers, and what the component's immutable objects say of it -/
set_option maxRecDepth 100000
def cv (x : Int32) : Nat := x.toNatClampNeg
def wSm (t : Nat → Int32) (p b : Nat) : Prop := t p = nI (cv (t p)) ∧ cv (t p) ≤ b
abbrev hFc (t : Nat → Int32) : Nat := cv (t 572)
abbrev hLn (t : Nat → Int32) : Nat := cv (t 574)
abbrev hMe (t : Nat → Int32) : Nat := cv (t 575)
abbrev hQc (t : Nat → Int32) : Nat := cv (t 576)
abbrev hRc (t : Nat → Int32) : Nat := cv (t 577)
abbrev hKc (t : Nat → Int32) : Nat := cv (t 578)
abbrev hSc (t : Nat → Int32) : Nat := cv (t 579)
abbrev hOc (t : Nat → Int32) : Nat := cv (t 580)
/-- marks of a fact, marks of a thread -/
abbrev hMc (t : Nat → Int32) (f : Nat) : Nat := cv (t (605 + 9 * f))
abbrev hLo (t : Nat → Int32) (i : Nat) : Nat := cv (t (19 + i))
theorem wSm_of {t : Nat → Int32} {p b n : Nat} (h : t p = nI n) (hn : n ≤ b) (hb : b < 2 ^ 31) : wSm t p b := by
  unfold wSm cv
  rw [h, nI_clamp (by omega)]
  exact ⟨rfl, hn⟩
theorem cv_nI {n : Nat} (h : n < 2 ^ 31) : cv (nI n) = n := nI_clamp h
def wDyn (t : Nat → Int32) : Prop := (∀ i, i < hN t → wSm t (19 + i) 40 ∧ (∃ c, c ≤ 10000 ∧ t (43 + i) + 1 = nI c) ∧ (t (55 + i) = 0 ∨ t (55 + i) = 1) ∧ (t (67 + i) = 0 ∨ t (67 + i) = 1) ∧ (t (67 + i) = 1 → t (19 + i) = 0)) ∧ (∀ p, p < 480 → wSm t (91 + p) 7) ∧ wSm t 6 150 ∧ ∀ i, hN t ≤ i → i < 12 → t (79 + i) = 0
def wWor (t : Nat → Int32) : Prop := wSm t 571 12 ∧ ∀ i, i < hN t → wSm t (581 + i) 3
def wFac (t : Nat → Int32) : Prop := wSm t 572 10 ∧ ∀ f, f < hFc t → wSm t (605 + 9 * f) 6 ∧ 1 ≤ hMc t f ∧ wSm t (605 + 9 * f + 1) 20 ∧ wSm t (605 + 9 * f + 2) 99 ∧ ∀ j, j < hMc t f → wSm t (605 + 9 * f + 3 + j) 7
def wMea (t : Nat → Int32) : Prop := wSm t 575 16 ∧ ∀ k, k < hMe t → (∃ w, w < hN t ∧ t (695 + 4 * k + 1) = nI w) ∧ (∃ a, a < hFc t ∧ t (695 + 4 * k + 2) = nI a) ∧ (t (695 + 4 * k + 3) = -1 ∨ ∃ b, b < hFc t ∧ t (695 + 4 * k + 3) = nI b)
def wQue (t : Nat → Int32) : Prop := wSm t 576 16
def wRea (t : Nat → Int32) : Prop := wSm t 577 12 ∧ ∀ k, k < hRc t → wSm t (775 + 2 * k + 1) 11
def wKno (t : Nat → Int32) : Prop := wSm t 578 12 ∧ ∀ k, k < hKc t → wSm t (799 + 2 * k) 9 ∧ wSm t (799 + 2 * k + 1) 9
def wSca (t : Nat → Int32) : Prop := wSm t 579 16
def wOwn (t : Nat → Int32) : Prop := wSm t 580 16 ∧ ∀ k, k < hOc t → wSm t (839 + 2 * k) 11 ∧ wSm t (839 + 2 * k + 1) 9
/-! terms: what a tree in the heap says, against steps of the world -/
def hSg (sg : Nat) : Option Nat := match sg with
  | 43 => some 23
  | 45 => some 24
  | 42 => some 25
  | _ => none
/-- sums: the steps from a to b -/
def hTrA (R : sMem) (t : Nat → Int32) : Nat → Nat → Nat → Nat → Prop
  | 0, _, _, _ => False
  | d + 1, q, a, b => (∃ v, R.2.2.2 q = some (sObj 6 [.int v]) ∧ b = a + 1 ∧ t (1535 + 2 * a) = 0 ∧ t (1535 + 2 * a + 1) = v)
    ∨ (∃ k, k < 10 ∧ R.2.2.2 q = some (sObj 7 [.int (nI k)]) ∧ b = a + 1 ∧ t (1535 + 2 * a) = nI (k + 1))
    ∨ (∃ sg co q1 q2 c e, hSg sg = some co ∧ R.2.2.2 q = some (sObj 8 [.int (nI sg), .ref q1, .ref q2]) ∧ hTrA R t d q1 a c ∧ hTrA R t d q2 c e ∧ b = e + 1 ∧ t (1535 + 2 * e) = nI co)
    ∨ (∃ q1 q2 v e, R.2.2.2 q = some (sObj 8 [.int 47, .ref q1, .ref q2]) ∧ hTrA R t d q1 a e ∧ R.2.2.2 q2 = some (sObj 6 [.int v]) ∧ v ≠ 0 ∧ b = e + 1 ∧ t (1535 + 2 * e) = 26 ∧ t (1535 + 2 * e + 1) = v)
def hSc2 (sg : Nat) : Option Nat := match sg with
  | 60 => some 27
  | 61 => some 28
  | 62 => some 29
  | _ => none
def hSb (sg : Nat) : Option Nat := match sg with
  | 38 => some 31
  | 124 => some 32
  | _ => none
/-- conditions -/
def hTrB (R : sMem) (t : Nat → Int32) : Nat → Nat → Nat → Nat → Prop
  | 0, _, _, _ => False
  | d + 1, q, a, b => (∃ sg co q1 q2 c e, hSc2 sg = some co ∧ R.2.2.2 q = some (sObj 8 [.int (nI sg), .ref q1, .ref q2]) ∧ hTrA R t d q1 a c ∧ hTrA R t d q2 c e ∧ b = e + 1 ∧ t (1535 + 2 * e) = nI co)
    ∨ (∃ sg co q1 q2 c e, hSb sg = some co ∧ R.2.2.2 q = some (sObj 8 [.int (nI sg), .ref q1, .ref q2]) ∧ hTrB R t d q1 a c ∧ hTrB R t d q2 c e ∧ b = e + 1 ∧ t (1535 + 2 * e) = nI co)
    ∨ (∃ q1 e, R.2.2.2 q = some (sObj 9 [.ref q1]) ∧ hTrB R t d q1 a e ∧ b = e + 1 ∧ t (1535 + 2 * e) = 30)
abbrev hFr (t : Nat → Int32) (l : Nat) : Nat := cv (t (1471 + l))
abbrev hMi (t : Nat → Int32) (l : Nat) : Nat := cv (t (1487 + l))
abbrev hTo (t : Nat → Int32) (l : Nat) : Nat := cv (t (1503 + l))
def wLaw (t : Nat → Int32) : Prop := wSm t 574 16 ∧ ∀ l, l < hLn t → wSm t (1471 + l) 410 ∧ wSm t (1487 + l) 410 ∧ wSm t (1503 + l) 410
def hLaw (R : sMem) (q : Nat) (t : Nat → Int32) : Prop := ∃ (wa oa na : Nat) (wf : Nat → Int32) (of nf : Nat → Option Nat), R.2.2.2 q = some (sObj 1 [.ref wa, .ref oa, .ref na, .int (nI (hLn t))]) ∧ R.2.2.2 wa = some (sArr 0 16 wf) ∧ R.2.2.2 oa = some (sArq 4 16 of) ∧ R.2.2.2 na = some (sArq 4 16 nf) ∧
  ∀ l, l < hLn t → t (1519 + l) = wf l + 20 ∧ (∃ k, k < 3 ∧ wf l = nI k) ∧ (∃ o, of l = some o ∧ hTrA R t 500 o (hFr t l) (hMi t l)) ∧ ((nf l = none ∧ hMi t l = hTo t l) ∨ ∃ o, nf l = some o ∧ hTrB R t 550 o (hMi t l) (hTo t l))
def hFacts (R : sMem) (q : Nat) (t : Nat → Int32) : Prop := ∃ (fo : Nat → Option Nat) (ao ma : Nat → Nat) (mf : Nat → Nat → Int32), R.2.2.2 q = some (sArq 5 (hFc t) fo) ∧ ∀ f, f < hFc t → fo f = some (ao f) ∧ R.2.2.2 (ao f) = some (sObj 5 [.ref (ma f), .int (t (605 + 9 * f + 1)), .int (t (605 + 9 * f + 2))]) ∧ R.2.2.2 (ma f) = some (sArr 0 (hMc t f) (mf f)) ∧ ∀ j, j < hMc t f → mf f j = t (605 + 9 * f + 3 + j)
def hMeals (R : sMem) (q : Nat) (t : Nat → Int32) : Prop := ∃ (fo : Nat → Option Nat) (ao : Nat → Nat), R.2.2.2 q = some (sArq 6 (hMe t) fo) ∧ ∀ k, k < hMe t → fo k = some (ao k) ∧ R.2.2.2 (ao k) = some (sObj 10 [.int (t (695 + 4 * k)), .int (t (695 + 4 * k + 1)), .int (t (695 + 4 * k + 2)), .int (t (695 + 4 * k + 3))])
def hReads (R : sMem) (q : Nat) (t : Nat → Int32) : Prop := ∃ (fo : Nat → Option Nat) (ao : Nat → Nat), R.2.2.2 q = some (sArq 8 (hRc t) fo) ∧ ∀ k, k < hRc t → fo k = some (ao k) ∧ R.2.2.2 (ao k) = some (sObj 11 [.int (t (775 + 2 * k)), .int (t (775 + 2 * k + 1))])
def hIntsOf (R : sMem) (q n : Nat) (g : Nat → Int32) : Prop := ∃ f, R.2.2.2 q = some (sArr 0 n f) ∧ ∀ k, k < n → f k = g k
def hQrs (R : sMem) (q : Nat) (t : Nat → Int32) : Prop := hIntsOf R q (hQc t) fun k => t (759 + k)
def hKnots (R : sMem) (q : Nat) (t : Nat → Int32) : Prop := hIntsOf R q (hKc t) fun k => nI (2 ^ cv (t (799 + 2 * k)) ||| 2 ^ cv (t (799 + 2 * k + 1)))
def hScarf (R : sMem) (q : Nat) (t : Nat → Int32) : Prop := hIntsOf R q (hSc t) fun k => t (823 + k)
def hOwns (R : sMem) (q : Nat) (t : Nat → Int32) : Prop := hIntsOf R q (hOc t) fun k => nI (10 * cv (t (839 + 2 * k)) + cv (t (839 + 2 * k + 1)))
/-- the world's numbers beyond what acts and days move -/
def wStat (t : Nat → Int32) : Prop := wWor t ∧ wFac t ∧ wMea t ∧ wQue t ∧ wRea t ∧ wKno t ∧ wSca t ∧ wOwn t ∧ wLaw t
/-- eight immutables tell of a world -/
def hReps (R : sMem) (F : Nat → Value) (k0 k1 k2 k3 k4 k5 k6 k7 : Nat) (t : Nat → Int32) : Prop :=
  (∃ q, F k0 = .ref q ∧ hLaw R q t) ∧ (∃ q, F k1 = .ref q ∧ hFacts R q t) ∧ (∃ q, F k2 = .ref q ∧ hMeals R q t) ∧ (∃ q, F k3 = .ref q ∧ hQrs R q t) ∧ (∃ q, F k4 = .ref q ∧ hReads R q t) ∧ (∃ q, F k5 = .ref q ∧ hKnots R q t) ∧ (∃ q, F k6 = .ref q ∧ hScarf R q t) ∧ ∃ q, F k7 = .ref q ∧ hOwns R q t
