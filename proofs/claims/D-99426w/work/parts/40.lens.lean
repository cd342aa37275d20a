/-! the model's memory as a state of its own: int fields, and sixteen rows of numbers that lie behind the object -/
set_option maxRecDepth 100000
abbrev mSt : Type := (Nat → Int32) × (Nat → Nat → Int32)
def mLen (j : Nat) : Nat := [2355, 2355, 3426, 571, 64, 820, 90, 400, 420, 11, 9, 4096, 1681, 16, 4096].getD j 0
/-- which row a field holds, if any -/
def mRow (k : Nat) : Option Nat := [some 0, some 1, some 2, some 3, none, none, some 4, some 5, some 6, some 7, some 8, some 9, none, none, none, none, none, none, none, none, none, none, none, none, none, none, none, none, some 10, some 11, some 12, some 13, some 14].getD k none
/-- where row j lies -/
def mAd (m j : Nat) : Nat := m + 1 + j
def mFld (m : Nat) (s : mSt) (k : Nat) : Value := match mRow k with
  | some j => .ref (mAd m j)
  | none => .int (s.1 k)
def mFs (m : Nat) (s : mSt) : List Value := (List.range 33).map (mFld m s)
def mPut (R : sMem) (m : Nat) (s : mSt) : sMem := (R.1, R.2.1, R.2.2.1, fun q => if q = m then some (sObj 3 (mFs m s)) else if m < q ∧ q < m + 16 then some (sArr 0 (mLen (q - m - 1)) (s.2 (q - m - 1))) else R.2.2.2 q)
/-- an answer over the state, back in the memory -/
def lft (R : sMem) (m : Nat) (o : Option (Option Value × mSt)) : Option (sRes × sMem) := o.map fun q => (.inl q.1, mPut R m q.2)
def pAld (n : Nat) (f : Nat → Int32) (i : Int32) : Option Int32 := if i < 0 ∨ n ≤ i.toNatClampNeg then none else some (f i.toNatClampNeg)
def mSet (s : mSt) (k : Nat) (x : Int32) : mSt := (upd s.1 k x, s.2)
def mRowSet (s : mSt) (j : Nat) (f : Nat → Int32) : mSt := (s.1, fun q => if q = j then f else s.2 q)
def pAst (s : mSt) (j : Nat) (i x : Int32) : Option mSt := if i < 0 ∨ mLen j ≤ i.toNatClampNeg then none else some (mRowSet s j (upd (s.2 j) i.toNatClampNeg x))
theorem mFs_at (m : Nat) (s : mSt) {k : Nat} (h : k < 33) : (mFs m s)[k]? = some (mFld m s k) := by simp [mFs, h]
theorem mPut_obj (R : sMem) (m : Nat) (s : mSt) : (mPut R m s).2.2.2 m = some (sObj 3 (mFs m s)) := by simp [mPut]
theorem mPut_row (R : sMem) (m : Nat) (s : mSt) {j : Nat} (h : j < 15) : (mPut R m s).2.2.2 (mAd m j) = some (sArr 0 (mLen j) (s.2 j)) := by
  have e : m + 1 + j - m - 1 = j := by omega
  unfold mAd
  simp only [mPut]
  rw [if_neg (by omega), if_pos (by omega), e]
theorem ln_getI (R : sMem) (m : Nat) (s : mSt) {k : Nat} (h : k < 33) (hk : mRow k = none) : sGetI (mPut R m s) 3 k m = some (s.1 k) := by
  simp [sGetI, sGet, sFs, mPut_obj, mFs_at m s h, mFld, hk, sObj]
theorem ln_getN (R : sMem) (m : Nat) (s : mSt) {k j : Nat} (h : k < 33) (hk : mRow k = some j) : sGetN (mPut R m s) 3 k m = some (mAd m j) := by
  simp [sGetN, sGet, sFs, mPut_obj, mFs_at m s h, mFld, hk, sObj]
theorem ln_put (R : sMem) (m : Nat) (s : mSt) {k : Nat} (hR : R.1 ≤ m) (h : k < 33) (hk : mRow k = none) (x : Int32) : sPut (mPut R m s) 3 k m (.int x) = some (mPut R m (mSet s k x)) := by
  have e : (mFs m s).set k (.int x) = mFs m (mSet s k x) := by
    apply List.ext_getElem?
    intro i
    rw [List.getElem?_set]
    by_cases hi : k = i
    · subst hi
      rw [if_pos rfl, if_pos (by simp [mFs, h]), mFs_at m _ h]
      simp [mFld, hk, mSet, upd]
    · rw [if_neg hi]
      by_cases h9 : i < 33
      · rw [mFs_at m _ h9, mFs_at m _ h9]
        simp only [mFld, mSet]
        cases mRow i with
        | some j => rfl
        | none => simp [upd, Ne.symm hi]
      · rw [List.getElem?_eq_none (by simp [mFs]; omega), List.getElem?_eq_none (by simp [mFs]; omega)]
  have hl : (mFs m s).length = 33 := by simp [mFs]
  unfold sPut
  simp only [sFs, mPut_obj, sObj, if_true]
  rw [if_pos ⟨hR, by rw [hl]; exact h⟩, e]
  simp only [sUp, mPut, Option.some.injEq, Prod.mk.injEq, true_and]
  funext q
  by_cases hq : q = m
  · simp [hq]
  · simp [hq, mSet]
theorem ln_ints (R : sMem) (m : Nat) (s : mSt) {j : Nat} (h : j < 15) : sInts (mPut R m s) 0 (mAd m j) = some (mLen j, s.2 j) := by
  simp [sInts, mPut_row R m s h, sArr]
theorem ln_ald (R : sMem) (m : Nat) (s : mSt) {j : Nat} (h : j < 15) (i : Int32) : sXld (mPut R m s) 0 (mAd m j) i = pAld (mLen j) (s.2 j) i := by
  simp [sXld, ln_ints R m s h, pAld]
theorem ln_len (R : sMem) (m : Nat) (s : mSt) {j : Nat} (h : j < 15) : sLen (mPut R m s) (mAd m j) = some (nI (mLen j)) := by
  simp [sLen, mPut_row R m s h, sArr]
theorem ln_ast (R : sMem) (m : Nat) (s : mSt) {j : Nat} (hR : R.1 ≤ m) (h : j < 15) (i x : Int32) : sXst (mPut R m s) 0 (mAd m j) i x = (pAst s j i x).map (mPut R m) := by
  have h0 : mFs m s = mFs m (mRowSet s j (upd (s.2 j) i.toNatClampNeg x)) := by
    unfold mFs
    congr 1
  unfold sXst pAst
  simp only [mPut_row R m s h, sArr, true_and]
  by_cases hi : i < 0 ∨ mLen j ≤ i.toNatClampNeg
  · rw [if_neg (fun q => q.2 hi), if_pos hi]
    rfl
  · rw [if_pos ⟨by show R.1 ≤ m + 1 + j; omega, hi⟩, if_neg hi]
    simp only [Option.map_some, Option.some.injEq, sUp, mPut, Prod.mk.injEq, true_and]
    funext q
    unfold mAd
    by_cases hq : q = m + 1 + j
    · subst hq
      have e : m + 1 + j - m - 1 = j := by omega
      rw [if_pos rfl, if_neg (by omega), if_pos (by omega), e]
      simp [mRowSet]
    · rw [if_neg hq]
      by_cases hm : q = m
      · rw [if_pos hm, if_pos hm, h0]
      · rw [if_neg hm, if_neg hm]
        by_cases h9 : m < q ∧ q < m + 16
        · rw [if_pos h9, if_pos h9]
          have hne : q - m - 1 ≠ j := by omega
          simp [mRowSet, hne]
        · rw [if_neg h9, if_neg h9]
theorem lft_none (R : sMem) (m : Nat) : lft R m none = none := by simp [lft]
theorem lft_some (R : sMem) (m : Nat) (v : Option Value) (s : mSt) : lft R m (some (v, s)) = some (.inl v, mPut R m s) := by simp [lft]
theorem lft_bind {α : Type} (R : sMem) (m : Nat) (o : Option α) (h : α → Option (Option Value × mSt)) : lft R m (o.bind h) = o.bind fun x => lft R m (h x) := by cases o <;> rfl
theorem lft_ite (R : sMem) (m : Nat) (c : Prop) [Decidable c] (a b : Option (Option Value × mSt)) : lft R m (if c then a else b) = if c then lft R m a else lft R m b := by split <;> rfl
/-- calls by the kind of their answer -/
def pCI {α : Type} (o : Option (Option Value × mSt)) (K : Int32 → mSt → Option α) : Option α := match o with
  | some (some (.int x), s) => K x s
  | _ => none
def pCV {α : Type} (o : Option (Option Value × mSt)) (K : mSt → Option α) : Option α := match o with
  | some (none, s) => K s
  | _ => none
theorem ln_callI (R : sMem) (m : Nat) (o : Option (Option Value × mSt)) (K : Int32 → sMem → Option (sRes × sMem)) : sCallI (lft R m o) K = pCI o fun x s => K x (mPut R m s) := by
  rcases o with _ | ⟨_ | v, s⟩
  · rfl
  · rfl
  · cases v <;> rfl
theorem ln_callV (R : sMem) (m : Nat) (o : Option (Option Value × mSt)) (K : sMem → Option (sRes × sMem)) : sCallV (lft R m o) K = pCV o fun s => K (mPut R m s) := by
  rcases o with _ | ⟨_ | v, s⟩ <;> rfl
theorem lft_pCI (R : sMem) (m : Nat) (o : Option (Option Value × mSt)) (K : Int32 → mSt → Option (Option Value × mSt)) : lft R m (pCI o K) = pCI o fun x s => lft R m (K x s) := by
  rcases o with _ | ⟨_ | v, s⟩
  · rfl
  · rfl
  · cases v <;> rfl
theorem lft_pCV (R : sMem) (m : Nat) (o : Option (Option Value × mSt)) (K : mSt → Option (Option Value × mSt)) : lft R m (pCV o K) = pCV o fun s => lft R m (K s) := by
  rcases o with _ | ⟨_ | v, s⟩ <;> rfl
def pBool (x : Int32) (s : mSt) : Option (Option Value × mSt) := if x = 0 ∨ x = 1 then some (some (.int x), s) else none
theorem ln_bool (R : sMem) (m : Nat) (s : mSt) (x : Int32) : sBool x (mPut R m s) = lft R m (pBool x s) := by
  unfold sBool pBool
  split <;> rfl
theorem ln_chk (R : sMem) (m : Nat) (s : mSt) (o : Option (sRes × sMem)) : sChk (mPut R m s) 3 m o = o := by
  simp [sChk, sFs, mPut_obj, sObj]
/-! the same steps over the state alone -/
def qGet (s : mSt) (k : Nat) : Option Int32 := some (s.1 k)
def qPut (s : mSt) (k : Nat) (x : Int32) : Option mSt := some (mSet s k x)
def qAld (s : mSt) (j : Nat) (i : Int32) : Option Int32 := pAld (mLen j) (s.2 j) i
def qAst (s : mSt) (j : Nat) (i x : Int32) : Option mSt := pAst s j i x
def qLen (j : Nat) : Option Int32 := some (nI (mLen j))
theorem lnN_0 (R : sMem) (m : Nat) (s : mSt) : sGetN (mPut R m s) 3 0 m = some (mAd m 0) := ln_getN R m s (by decide) rfl
theorem mRow_0 : mRow 0 = some 0 := by decide
theorem lnN_1 (R : sMem) (m : Nat) (s : mSt) : sGetN (mPut R m s) 3 1 m = some (mAd m 1) := ln_getN R m s (by decide) rfl
theorem mRow_1 : mRow 1 = some 1 := by decide
theorem lnN_2 (R : sMem) (m : Nat) (s : mSt) : sGetN (mPut R m s) 3 2 m = some (mAd m 2) := ln_getN R m s (by decide) rfl
theorem mRow_2 : mRow 2 = some 2 := by decide
theorem lnN_3 (R : sMem) (m : Nat) (s : mSt) : sGetN (mPut R m s) 3 3 m = some (mAd m 3) := ln_getN R m s (by decide) rfl
theorem mRow_3 : mRow 3 = some 3 := by decide
theorem lnN_6 (R : sMem) (m : Nat) (s : mSt) : sGetN (mPut R m s) 3 6 m = some (mAd m 4) := ln_getN R m s (by decide) rfl
theorem mRow_6 : mRow 6 = some 4 := by decide
theorem lnN_7 (R : sMem) (m : Nat) (s : mSt) : sGetN (mPut R m s) 3 7 m = some (mAd m 5) := ln_getN R m s (by decide) rfl
theorem mRow_7 : mRow 7 = some 5 := by decide
theorem lnN_8 (R : sMem) (m : Nat) (s : mSt) : sGetN (mPut R m s) 3 8 m = some (mAd m 6) := ln_getN R m s (by decide) rfl
theorem mRow_8 : mRow 8 = some 6 := by decide
theorem lnN_9 (R : sMem) (m : Nat) (s : mSt) : sGetN (mPut R m s) 3 9 m = some (mAd m 7) := ln_getN R m s (by decide) rfl
theorem mRow_9 : mRow 9 = some 7 := by decide
theorem lnN_10 (R : sMem) (m : Nat) (s : mSt) : sGetN (mPut R m s) 3 10 m = some (mAd m 8) := ln_getN R m s (by decide) rfl
theorem mRow_10 : mRow 10 = some 8 := by decide
theorem lnN_11 (R : sMem) (m : Nat) (s : mSt) : sGetN (mPut R m s) 3 11 m = some (mAd m 9) := ln_getN R m s (by decide) rfl
theorem mRow_11 : mRow 11 = some 9 := by decide
theorem lnN_28 (R : sMem) (m : Nat) (s : mSt) : sGetN (mPut R m s) 3 28 m = some (mAd m 10) := ln_getN R m s (by decide) rfl
theorem mRow_28 : mRow 28 = some 10 := by decide
theorem lnN_29 (R : sMem) (m : Nat) (s : mSt) : sGetN (mPut R m s) 3 29 m = some (mAd m 11) := ln_getN R m s (by decide) rfl
theorem mRow_29 : mRow 29 = some 11 := by decide
theorem lnN_30 (R : sMem) (m : Nat) (s : mSt) : sGetN (mPut R m s) 3 30 m = some (mAd m 12) := ln_getN R m s (by decide) rfl
theorem mRow_30 : mRow 30 = some 12 := by decide
theorem lnN_31 (R : sMem) (m : Nat) (s : mSt) : sGetN (mPut R m s) 3 31 m = some (mAd m 13) := ln_getN R m s (by decide) rfl
theorem mRow_31 : mRow 31 = some 13 := by decide
theorem lnN_32 (R : sMem) (m : Nat) (s : mSt) : sGetN (mPut R m s) 3 32 m = some (mAd m 14) := ln_getN R m s (by decide) rfl
theorem mRow_32 : mRow 32 = some 14 := by decide
theorem lnI_4 (R : sMem) (m : Nat) (s : mSt) : sGetI (mPut R m s) 3 4 m = qGet s 4 := ln_getI R m s (by decide) rfl
theorem lnP_4 (R : sMem) (m : Nat) (s : mSt) (hR : R.1 ≤ m) (x : Int32) : sPut (mPut R m s) 3 4 m (.int x) = (qPut s 4 x).map (mPut R m) := ln_put R m s hR (by decide) rfl x
theorem lnI_5 (R : sMem) (m : Nat) (s : mSt) : sGetI (mPut R m s) 3 5 m = qGet s 5 := ln_getI R m s (by decide) rfl
theorem lnP_5 (R : sMem) (m : Nat) (s : mSt) (hR : R.1 ≤ m) (x : Int32) : sPut (mPut R m s) 3 5 m (.int x) = (qPut s 5 x).map (mPut R m) := ln_put R m s hR (by decide) rfl x
theorem lnI_12 (R : sMem) (m : Nat) (s : mSt) : sGetI (mPut R m s) 3 12 m = qGet s 12 := ln_getI R m s (by decide) rfl
theorem lnP_12 (R : sMem) (m : Nat) (s : mSt) (hR : R.1 ≤ m) (x : Int32) : sPut (mPut R m s) 3 12 m (.int x) = (qPut s 12 x).map (mPut R m) := ln_put R m s hR (by decide) rfl x
theorem lnI_13 (R : sMem) (m : Nat) (s : mSt) : sGetI (mPut R m s) 3 13 m = qGet s 13 := ln_getI R m s (by decide) rfl
theorem lnP_13 (R : sMem) (m : Nat) (s : mSt) (hR : R.1 ≤ m) (x : Int32) : sPut (mPut R m s) 3 13 m (.int x) = (qPut s 13 x).map (mPut R m) := ln_put R m s hR (by decide) rfl x
theorem lnI_14 (R : sMem) (m : Nat) (s : mSt) : sGetI (mPut R m s) 3 14 m = qGet s 14 := ln_getI R m s (by decide) rfl
theorem lnP_14 (R : sMem) (m : Nat) (s : mSt) (hR : R.1 ≤ m) (x : Int32) : sPut (mPut R m s) 3 14 m (.int x) = (qPut s 14 x).map (mPut R m) := ln_put R m s hR (by decide) rfl x
theorem lnI_15 (R : sMem) (m : Nat) (s : mSt) : sGetI (mPut R m s) 3 15 m = qGet s 15 := ln_getI R m s (by decide) rfl
theorem lnP_15 (R : sMem) (m : Nat) (s : mSt) (hR : R.1 ≤ m) (x : Int32) : sPut (mPut R m s) 3 15 m (.int x) = (qPut s 15 x).map (mPut R m) := ln_put R m s hR (by decide) rfl x
theorem lnI_16 (R : sMem) (m : Nat) (s : mSt) : sGetI (mPut R m s) 3 16 m = qGet s 16 := ln_getI R m s (by decide) rfl
theorem lnP_16 (R : sMem) (m : Nat) (s : mSt) (hR : R.1 ≤ m) (x : Int32) : sPut (mPut R m s) 3 16 m (.int x) = (qPut s 16 x).map (mPut R m) := ln_put R m s hR (by decide) rfl x
theorem lnI_17 (R : sMem) (m : Nat) (s : mSt) : sGetI (mPut R m s) 3 17 m = qGet s 17 := ln_getI R m s (by decide) rfl
theorem lnP_17 (R : sMem) (m : Nat) (s : mSt) (hR : R.1 ≤ m) (x : Int32) : sPut (mPut R m s) 3 17 m (.int x) = (qPut s 17 x).map (mPut R m) := ln_put R m s hR (by decide) rfl x
theorem lnI_18 (R : sMem) (m : Nat) (s : mSt) : sGetI (mPut R m s) 3 18 m = qGet s 18 := ln_getI R m s (by decide) rfl
theorem lnP_18 (R : sMem) (m : Nat) (s : mSt) (hR : R.1 ≤ m) (x : Int32) : sPut (mPut R m s) 3 18 m (.int x) = (qPut s 18 x).map (mPut R m) := ln_put R m s hR (by decide) rfl x
theorem lnI_19 (R : sMem) (m : Nat) (s : mSt) : sGetI (mPut R m s) 3 19 m = qGet s 19 := ln_getI R m s (by decide) rfl
theorem lnP_19 (R : sMem) (m : Nat) (s : mSt) (hR : R.1 ≤ m) (x : Int32) : sPut (mPut R m s) 3 19 m (.int x) = (qPut s 19 x).map (mPut R m) := ln_put R m s hR (by decide) rfl x
theorem lnI_20 (R : sMem) (m : Nat) (s : mSt) : sGetI (mPut R m s) 3 20 m = qGet s 20 := ln_getI R m s (by decide) rfl
theorem lnP_20 (R : sMem) (m : Nat) (s : mSt) (hR : R.1 ≤ m) (x : Int32) : sPut (mPut R m s) 3 20 m (.int x) = (qPut s 20 x).map (mPut R m) := ln_put R m s hR (by decide) rfl x
theorem lnI_21 (R : sMem) (m : Nat) (s : mSt) : sGetI (mPut R m s) 3 21 m = qGet s 21 := ln_getI R m s (by decide) rfl
theorem lnP_21 (R : sMem) (m : Nat) (s : mSt) (hR : R.1 ≤ m) (x : Int32) : sPut (mPut R m s) 3 21 m (.int x) = (qPut s 21 x).map (mPut R m) := ln_put R m s hR (by decide) rfl x
theorem lnI_22 (R : sMem) (m : Nat) (s : mSt) : sGetI (mPut R m s) 3 22 m = qGet s 22 := ln_getI R m s (by decide) rfl
theorem lnP_22 (R : sMem) (m : Nat) (s : mSt) (hR : R.1 ≤ m) (x : Int32) : sPut (mPut R m s) 3 22 m (.int x) = (qPut s 22 x).map (mPut R m) := ln_put R m s hR (by decide) rfl x
theorem lnI_23 (R : sMem) (m : Nat) (s : mSt) : sGetI (mPut R m s) 3 23 m = qGet s 23 := ln_getI R m s (by decide) rfl
theorem lnP_23 (R : sMem) (m : Nat) (s : mSt) (hR : R.1 ≤ m) (x : Int32) : sPut (mPut R m s) 3 23 m (.int x) = (qPut s 23 x).map (mPut R m) := ln_put R m s hR (by decide) rfl x
theorem lnI_24 (R : sMem) (m : Nat) (s : mSt) : sGetI (mPut R m s) 3 24 m = qGet s 24 := ln_getI R m s (by decide) rfl
theorem lnP_24 (R : sMem) (m : Nat) (s : mSt) (hR : R.1 ≤ m) (x : Int32) : sPut (mPut R m s) 3 24 m (.int x) = (qPut s 24 x).map (mPut R m) := ln_put R m s hR (by decide) rfl x
theorem lnI_25 (R : sMem) (m : Nat) (s : mSt) : sGetI (mPut R m s) 3 25 m = qGet s 25 := ln_getI R m s (by decide) rfl
theorem lnP_25 (R : sMem) (m : Nat) (s : mSt) (hR : R.1 ≤ m) (x : Int32) : sPut (mPut R m s) 3 25 m (.int x) = (qPut s 25 x).map (mPut R m) := ln_put R m s hR (by decide) rfl x
theorem lnI_26 (R : sMem) (m : Nat) (s : mSt) : sGetI (mPut R m s) 3 26 m = qGet s 26 := ln_getI R m s (by decide) rfl
theorem lnP_26 (R : sMem) (m : Nat) (s : mSt) (hR : R.1 ≤ m) (x : Int32) : sPut (mPut R m s) 3 26 m (.int x) = (qPut s 26 x).map (mPut R m) := ln_put R m s hR (by decide) rfl x
theorem lnI_27 (R : sMem) (m : Nat) (s : mSt) : sGetI (mPut R m s) 3 27 m = qGet s 27 := ln_getI R m s (by decide) rfl
theorem lnP_27 (R : sMem) (m : Nat) (s : mSt) (hR : R.1 ≤ m) (x : Int32) : sPut (mPut R m s) 3 27 m (.int x) = (qPut s 27 x).map (mPut R m) := ln_put R m s hR (by decide) rfl x
theorem lnA_0 (R : sMem) (m : Nat) (s : mSt) (i : Int32) : sIald (mPut R m s) (mAd m 0) i = qAld s 0 i := ln_ald R m s (by decide) i
theorem lnS_0 (R : sMem) (m : Nat) (s : mSt) (hR : R.1 ≤ m) (i x : Int32) : sIast (mPut R m s) (mAd m 0) i x = (qAst s 0 i x).map (mPut R m) := ln_ast R m s hR (by decide) i x
theorem lnA_1 (R : sMem) (m : Nat) (s : mSt) (i : Int32) : sIald (mPut R m s) (mAd m 1) i = qAld s 1 i := ln_ald R m s (by decide) i
theorem lnS_1 (R : sMem) (m : Nat) (s : mSt) (hR : R.1 ≤ m) (i x : Int32) : sIast (mPut R m s) (mAd m 1) i x = (qAst s 1 i x).map (mPut R m) := ln_ast R m s hR (by decide) i x
theorem lnA_2 (R : sMem) (m : Nat) (s : mSt) (i : Int32) : sIald (mPut R m s) (mAd m 2) i = qAld s 2 i := ln_ald R m s (by decide) i
theorem lnS_2 (R : sMem) (m : Nat) (s : mSt) (hR : R.1 ≤ m) (i x : Int32) : sIast (mPut R m s) (mAd m 2) i x = (qAst s 2 i x).map (mPut R m) := ln_ast R m s hR (by decide) i x
theorem lnA_3 (R : sMem) (m : Nat) (s : mSt) (i : Int32) : sIald (mPut R m s) (mAd m 3) i = qAld s 3 i := ln_ald R m s (by decide) i
theorem lnS_3 (R : sMem) (m : Nat) (s : mSt) (hR : R.1 ≤ m) (i x : Int32) : sIast (mPut R m s) (mAd m 3) i x = (qAst s 3 i x).map (mPut R m) := ln_ast R m s hR (by decide) i x
theorem lnA_4 (R : sMem) (m : Nat) (s : mSt) (i : Int32) : sIald (mPut R m s) (mAd m 4) i = qAld s 4 i := ln_ald R m s (by decide) i
theorem lnS_4 (R : sMem) (m : Nat) (s : mSt) (hR : R.1 ≤ m) (i x : Int32) : sIast (mPut R m s) (mAd m 4) i x = (qAst s 4 i x).map (mPut R m) := ln_ast R m s hR (by decide) i x
theorem lnA_5 (R : sMem) (m : Nat) (s : mSt) (i : Int32) : sIald (mPut R m s) (mAd m 5) i = qAld s 5 i := ln_ald R m s (by decide) i
theorem lnS_5 (R : sMem) (m : Nat) (s : mSt) (hR : R.1 ≤ m) (i x : Int32) : sIast (mPut R m s) (mAd m 5) i x = (qAst s 5 i x).map (mPut R m) := ln_ast R m s hR (by decide) i x
theorem lnA_6 (R : sMem) (m : Nat) (s : mSt) (i : Int32) : sIald (mPut R m s) (mAd m 6) i = qAld s 6 i := ln_ald R m s (by decide) i
theorem lnS_6 (R : sMem) (m : Nat) (s : mSt) (hR : R.1 ≤ m) (i x : Int32) : sIast (mPut R m s) (mAd m 6) i x = (qAst s 6 i x).map (mPut R m) := ln_ast R m s hR (by decide) i x
theorem lnA_7 (R : sMem) (m : Nat) (s : mSt) (i : Int32) : sIald (mPut R m s) (mAd m 7) i = qAld s 7 i := ln_ald R m s (by decide) i
theorem lnS_7 (R : sMem) (m : Nat) (s : mSt) (hR : R.1 ≤ m) (i x : Int32) : sIast (mPut R m s) (mAd m 7) i x = (qAst s 7 i x).map (mPut R m) := ln_ast R m s hR (by decide) i x
theorem lnA_8 (R : sMem) (m : Nat) (s : mSt) (i : Int32) : sIald (mPut R m s) (mAd m 8) i = qAld s 8 i := ln_ald R m s (by decide) i
theorem lnS_8 (R : sMem) (m : Nat) (s : mSt) (hR : R.1 ≤ m) (i x : Int32) : sIast (mPut R m s) (mAd m 8) i x = (qAst s 8 i x).map (mPut R m) := ln_ast R m s hR (by decide) i x
theorem lnA_9 (R : sMem) (m : Nat) (s : mSt) (i : Int32) : sIald (mPut R m s) (mAd m 9) i = qAld s 9 i := ln_ald R m s (by decide) i
theorem lnS_9 (R : sMem) (m : Nat) (s : mSt) (hR : R.1 ≤ m) (i x : Int32) : sIast (mPut R m s) (mAd m 9) i x = (qAst s 9 i x).map (mPut R m) := ln_ast R m s hR (by decide) i x
theorem lnA_10 (R : sMem) (m : Nat) (s : mSt) (i : Int32) : sIald (mPut R m s) (mAd m 10) i = qAld s 10 i := ln_ald R m s (by decide) i
theorem lnS_10 (R : sMem) (m : Nat) (s : mSt) (hR : R.1 ≤ m) (i x : Int32) : sIast (mPut R m s) (mAd m 10) i x = (qAst s 10 i x).map (mPut R m) := ln_ast R m s hR (by decide) i x
theorem lnA_11 (R : sMem) (m : Nat) (s : mSt) (i : Int32) : sIald (mPut R m s) (mAd m 11) i = qAld s 11 i := ln_ald R m s (by decide) i
theorem lnS_11 (R : sMem) (m : Nat) (s : mSt) (hR : R.1 ≤ m) (i x : Int32) : sIast (mPut R m s) (mAd m 11) i x = (qAst s 11 i x).map (mPut R m) := ln_ast R m s hR (by decide) i x
theorem lnA_12 (R : sMem) (m : Nat) (s : mSt) (i : Int32) : sIald (mPut R m s) (mAd m 12) i = qAld s 12 i := ln_ald R m s (by decide) i
theorem lnS_12 (R : sMem) (m : Nat) (s : mSt) (hR : R.1 ≤ m) (i x : Int32) : sIast (mPut R m s) (mAd m 12) i x = (qAst s 12 i x).map (mPut R m) := ln_ast R m s hR (by decide) i x
theorem lnA_13 (R : sMem) (m : Nat) (s : mSt) (i : Int32) : sIald (mPut R m s) (mAd m 13) i = qAld s 13 i := ln_ald R m s (by decide) i
theorem lnS_13 (R : sMem) (m : Nat) (s : mSt) (hR : R.1 ≤ m) (i x : Int32) : sIast (mPut R m s) (mAd m 13) i x = (qAst s 13 i x).map (mPut R m) := ln_ast R m s hR (by decide) i x
theorem lnA_14 (R : sMem) (m : Nat) (s : mSt) (i : Int32) : sIald (mPut R m s) (mAd m 14) i = qAld s 14 i := ln_ald R m s (by decide) i
theorem lnS_14 (R : sMem) (m : Nat) (s : mSt) (hR : R.1 ≤ m) (i x : Int32) : sIast (mPut R m s) (mAd m 14) i x = (qAst s 14 i x).map (mPut R m) := ln_ast R m s hR (by decide) i x
theorem map_bindP {α β γ : Type} (o : Option α) (f : α → β) (K : β → Option γ) : (o.map f).bind K = o.bind fun x => K (f x) := by cases o <;> rfl
theorem some_bindP {α β : Type} (x : α) (K : α → Option β) : (some x).bind K = K x := by simp
