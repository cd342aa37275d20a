/-! the whole memory of a run: what both sides write (the owned cells), over a heap of things that never change again -/
set_option maxRecDepth 100000
/-- base, addresses of the owned cells, how many trays -/
abbrev hA : Type := Nat × (Nat → Nat) × Nat
def hFnd (ad : Nat → Nat) (q : Nat) : Nat → Option Nat
  | 0 => none
  | k + 1 => if ad k = q then some k else hFnd ad q k
theorem hFnd_some {ad : Nat → Nat} {q k : Nat} : ∀ {n : Nat}, hFnd ad q n = some k → k < n ∧ ad k = q
  | 0, h => by cases h
  | n + 1, h => by
    unfold hFnd at h
    by_cases e : ad n = q
    · rw [if_pos e] at h
      cases h
      exact ⟨by omega, e⟩
    · rw [if_neg e] at h
      have := hFnd_some h
      exact ⟨by omega, this.2⟩
theorem hFnd_none {ad : Nat → Nat} {q : Nat} : ∀ {n : Nat}, (∀ k, k < n → ad k ≠ q) → hFnd ad q n = none
  | 0, _ => rfl
  | n + 1, h => by
    unfold hFnd
    rw [if_neg (h n (by omega))]
    exact hFnd_none (fun k hk => h k (by omega))
theorem hFnd_at {ad : Nat → Nat} {k n : Nat} (inj : ∀ j k, j < n → k < n → ad j = ad k → j = k) (hk : k < n) : hFnd ad (ad k) n = some k := by
  cases h : hFnd ad (ad k) n with
  | some j =>
    have := hFnd_some h
    rw [inj j k this.1 hk this.2]
  | none =>
    have : ∀ m, k < m → hFnd ad (ad k) m ≠ none := by
      intro m
      induction m with
      | zero => intro h; omega
      | succ m ih =>
        intro hm
        unfold hFnd
        by_cases e : ad m = ad k
        · rw [if_pos e]
          simp
        · rw [if_neg e]
          refine ih ?_
          have : k ≠ m := fun q => e (by rw [q])
          omega
    exact absurd h (this n hk)
def hK (A : hA) : Nat := 25 + 8 * A.2.2
/-- addresses: apart, over the base; the model's cells lie one behind another; three trays at least -/
def hG (A : hA) : Prop := (∀ j k, j < hK A → k < hK A → A.2.1 j = A.2.1 k → j = k) ∧ (∀ k, k < hK A → A.1 ≤ A.2.1 k) ∧ (∀ j, j < 16 → A.2.1 (9 + j) = A.2.1 9 + j) ∧ 3 ≤ A.2.2
def hMemC (A : hA) (R : sMem) (C : Nat → sCell) : sMem := (A.1, R.2.1, R.2.2.1, fun q => match hFnd A.2.1 q (hK A) with
  | some k => some (C k)
  | none => R.2.2.2 q)
theorem hMemC_at {A : hA} (h : hG A) (R : sMem) (C : Nat → sCell) {k : Nat} (hk : k < hK A) : (hMemC A R C).2.2.2 (A.2.1 k) = some (C k) := by
  simp only [hMemC, hFnd_at h.1 hk]
theorem hMemC_off {A : hA} (R : sMem) (C : Nat → sCell) {q : Nat} (hq : ∀ k, k < hK A → A.2.1 k ≠ q) : (hMemC A R C).2.2.2 q = R.2.2.2 q := by
  simp only [hMemC, hFnd_none hq]
theorem hMemC_congr {A : hA} (R : sMem) {C C' : Nat → sCell} (h : ∀ k, k < hK A → C k = C' k) : hMemC A R C = hMemC A R C' := by
  unfold hMemC
  congr 3
  funext q
  cases hq : hFnd A.2.1 q (hK A) with
  | none => rfl
  | some k => simp only [h k (hFnd_some hq).1]
def hUc (C : Nat → sCell) (k : Nat) (e : sCell) : Nat → sCell := fun j => if j = k then e else C j
theorem hMemC_up {A : hA} (h : hG A) (R : sMem) (C : Nat → sCell) {k : Nat} (hk : k < hK A) (e : sCell) : sUp (hMemC A R C) (A.2.1 k) e = hMemC A R (hUc C k e) := by
  unfold sUp hMemC
  congr 3
  funext q
  by_cases hq : q = A.2.1 k
  · rw [if_pos hq, hq, hFnd_at h.1 hk]
    simp [hUc]
  · rw [if_neg hq]
    dsimp only
    cases hf : hFnd A.2.1 q (hK A) with
    | none => rfl
    | some j =>
      have hj := hFnd_some hf
      have : j ≠ k := fun e => hq (by rw [← hj.2, e])
      simp [hUc, this]
theorem hMemC_upR {A : hA} (R : sMem) (C : Nat → sCell) {q : Nat} (hq : ∀ k, k < hK A → A.2.1 k ≠ q) (e : sCell) : sUp (hMemC A R C) q e = hMemC A (sUp R q e) C := by
  unfold sUp hMemC
  congr 3
  funext a
  by_cases ha : a = q
  · rw [if_pos ha, ha, hFnd_none hq]
    simp
  · rw [if_neg ha]
    dsimp only
    cases hf : hFnd A.2.1 a (hK A) with
    | none => simp [ha]
    | some j => rfl
theorem hMemC_new {A : hA} (R : sMem) (C : Nat → sCell) (hq : ∀ k, k < hK A → A.2.1 k ≠ R.2.1) (e : sCell) (n : Nat) : sNew (hMemC A R C) e n = hMemC A (sNew R e n) C := by
  unfold sNew hMemC
  congr 3
  funext a
  show (if a = R.2.1 then some e else _) = _
  by_cases ha : a = R.2.1
  · rw [if_pos ha, ha, hFnd_none hq]
    simp
  · rw [if_neg ha]
    dsimp only
    cases hf : hFnd A.2.1 a (hK A) with
    | none => simp [ha]
    | some j => rfl
/-! ## the typed state: fields of the component, its rows, ahead, a world for each trays, isThought, the model -/
abbrev hS : Type := (Nat → Value) × (Nat → Nat → Int32) × (Nat → Option Nat) × (Nat → Nat → Int32) × (Nat → Int32) × mSt
def hN (t : Nat → Int32) : Nat := (t 571).toNatClampNeg
def hBn (t : Nat → Int32) (o : Nat) : Nat → Nat
  | 0 => 0
  | k + 1 => hBn t o k + (if t (o + k) = 1 then 2 ^ k else 0)
def hBits (t : Nat → Int32) (o : Nat) : Int32 := nI (hBn t o 12)
def hTl (r : Nat) : Nat := match r with
  | 6 => 480
  | _ => 12
/-- where row r of a trays begins in the world -/
def hOf (r : Nat) : Nat := match r with
  | 0 => 593
  | 1 => 7
  | 2 => 79
  | 3 => 31
  | 4 => 43
  | 5 => 19
  | _ => 91
def hSl (n o : Nat) (t : Nat → Int32) : Nat → Int32 := fun p => if p < n then t (o + p) else 0
def hCo (t : Nat → Int32) : Nat → Int32 := fun p => if p < 12 ∧ p < hN t then t (43 + p) + 1 else 0
def hRow (r : Nat) (t : Nat → Int32) : Nat → Int32 := if r = 4 then hCo t else hSl (hTl r) (hOf r) t
def hX (A : hA) : Nat := A.2.1 0
def hRa (A : hA) (j : Nat) : Nat := A.2.1 j
def hTa (A : hA) (i : Nat) : Nat := A.2.1 (25 + 8 * i)
def hTr (A : hA) (i j : Nat) : Nat := A.2.1 (26 + 8 * i + j)
def hXf (A : hA) (S : hS) (k : Nat) : Value := match k with
  | 0 => .ref (hRa A 1)
  | 17 => .ref (hRa A 2)
  | 21 => .int (S.2.2.2.1 0 571)
  | 22 => .ref (hRa A 3)
  | 23 => .ref (hTa A 0)
  | 24 => .ref (hTa A 1)
  | 25 => .ref (hTa A 2)
  | 26 => .ref (hRa A 4)
  | 27 => .ref (hRa A 5)
  | 30 => .ref (hRa A 6)
  | 36 => .ref (hRa A 7)
  | 37 => .ref (hRa A 8)
  | k => S.1 k
def hXs (A : hA) (S : hS) : List Value := (List.range 47).map (hXf A S)
def hTf (A : hA) (S : hS) (i k : Nat) : Value := match k with
  | 7 => .int (hBits (S.2.2.2.1 i) 55)
  | 8 => .int (hBits (S.2.2.2.1 i) 67)
  | 9 => .int (S.2.2.2.1 i 1)
  | 10 => .int (S.2.2.2.1 i 573)
  | 11 => .int (S.2.2.2.1 i 0)
  | 12 => .int (S.2.2.2.1 i 2)
  | 13 => .int (S.2.2.2.1 i 3)
  | 14 => .int (S.2.2.2.1 i 4)
  | 15 => .int (S.2.2.2.1 i 5)
  | 16 => .int (S.2.2.2.1 i 6)
  | 17 => .int (S.2.2.2.2.1 i)
  | 18 => .ref (hX A)
  | k => .ref (hTr A i k)
def hTs (A : hA) (S : hS) (i : Nat) : List Value := (List.range 19).map (hTf A S i)
def hTray (A : hA) (S : hS) (i j : Nat) : sCell := match j with
  | 0 => sObj 2 (hTs A S i)
  | j + 1 => sArr 0 (hTl j) (hRow j (S.2.2.2.1 i))
def hCell (A : hA) (S : hS) (k : Nat) : sCell := match k with
  | 0 => sObj 0 (hXs A S)
  | 1 => sArr 1 400 (S.2.1 1)
  | 2 => sArr 0 10 (S.2.1 2)
  | 3 => sArr 0 12 (hSl 12 581 (S.2.2.2.1 0))
  | 4 => sArr 0 600 (hSl 600 871 (S.2.2.2.1 0))
  | 5 => sArq 7 6 S.2.2.1
  | 6 => sArr 0 49152 (S.2.1 6)
  | 7 => sArr 0 12 (hSl 12 581 (S.2.2.2.1 2))
  | 8 => sArr 0 600 (hSl 600 871 (S.2.2.2.1 2))
  | 9 => sObj 3 (mFs (A.2.1 9) S.2.2.2.2.2)
  | k + 10 => if k < 15 then sArr 0 (mLen k) (S.2.2.2.2.2.2 k) else hTray A S ((k - 15) / 8) ((k - 15) % 8)
def hMem (A : hA) (R : sMem) (S : hS) : sMem := hMemC A R (hCell A S)
def hF (S : hS) (k : Nat) (v : Value) : hS := (fun q => if q = k then v else S.1 q, S.2)
def hRw (S : hS) (j : Nat) (f : Nat → Int32) : hS := (S.1, (fun q => if q = j then f else S.2.1 q), S.2.2)
def hAh (S : hS) (f : Nat → Option Nat) : hS := (S.1, S.2.1, f, S.2.2.2)
def hT (S : hS) (i : Nat) (t : Nat → Int32) : hS := (S.1, S.2.1, S.2.2.1, (fun q => if q = i then t else S.2.2.2.1 q), S.2.2.2.2)
def hTh (S : hS) (i : Nat) (x : Int32) : hS := (S.1, S.2.1, S.2.2.1, S.2.2.2.1, (fun q => if q = i then x else S.2.2.2.2.1 q), S.2.2.2.2.2)
def hM (S : hS) (s : mSt) : hS := (S.1, S.2.1, S.2.2.1, S.2.2.2.1, S.2.2.2.2.1, s)
theorem hCell_tray (A : hA) (S : hS) {i j : Nat} (hj : j < 8) : hCell A S (25 + 8 * i + j) = hTray A S i j := by
  have e : 25 + 8 * i + j = (15 + 8 * i + j) + 10 := by omega
  rw [e]
  show (if 15 + 8 * i + j < 15 then _ else _) = _
  rw [if_neg (by omega), show (15 + 8 * i + j - 15) / 8 = i by omega, show (15 + 8 * i + j - 15) % 8 = j by omega]
theorem hCell_mod (A : hA) (S : hS) {j : Nat} (hj : j < 15) : hCell A S (10 + j) = sArr 0 (mLen j) (S.2.2.2.2.2.2 j) := by
  rw [Nat.add_comm]
  show (if j < 15 then _ else _) = _
  rw [if_pos hj]
/-- each id is one of these -/
theorem hId (k : Nat) : k < 10 ∨ (∃ j, j < 15 ∧ k = 10 + j) ∨ ∃ i j, j < 8 ∧ k = 25 + 8 * i + j := by
  by_cases h : k < 10
  · exact Or.inl h
  · by_cases h2 : k < 25
    · exact Or.inr (Or.inl ⟨k - 10, by omega, by omega⟩)
    · exact Or.inr (Or.inr ⟨(k - 25) / 8, (k - 25) % 8, by omega, by omega⟩)
theorem hG.k (A : hA) (h : hG A) {k : Nat} (hk : k < 49) : k < hK A := by
  have := h.2.2.2
  unfold hK
  omega
theorem hG.t {A : hA} {i j : Nat} (hi : i < A.2.2) (hj : j < 8) : 25 + 8 * i + j < hK A := by
  unfold hK
  omega
theorem hMem_at {A : hA} (h : hG A) (R : sMem) (S : hS) {k : Nat} (hk : k < hK A) : (hMem A R S).2.2.2 (A.2.1 k) = some (hCell A S k) := hMemC_at h R _ hk
theorem hMem_x {A : hA} (h : hG A) (R : sMem) (S : hS) : (hMem A R S).2.2.2 (hX A) = some (sObj 0 (hXs A S)) := hMem_at h R S (hG.k A h (by decide))
theorem hMem_t {A : hA} (h : hG A) (R : sMem) (S : hS) {i : Nat} (hi : i < A.2.2) : (hMem A R S).2.2.2 (hTa A i) = some (sObj 2 (hTs A S i)) := by
  have := hMem_at h R S (hG.t (j := 0) hi (by omega))
  rw [hCell_tray A S (by omega)] at this
  exact this
theorem hMem_tr {A : hA} (h : hG A) (R : sMem) (S : hS) {i j : Nat} (hi : i < A.2.2) (hj : j < 7) : (hMem A R S).2.2.2 (hTr A i j) = some (sArr 0 (hTl j) (hRow j (S.2.2.2.1 i))) := by
  have := hMem_at h R S (hG.t (j := j + 1) hi (by omega))
  rw [hCell_tray A S (by omega)] at this
  have e : 25 + 8 * i + (j + 1) = 26 + 8 * i + j := by omega
  rw [e] at this
  exact this
/-- a write at an owned cell: the state behind it holds that cell, and the others as before -/
theorem hMem_up {A : hA} (h : hG A) (R : sMem) (S S' : hS) {k : Nat} (hk : k < hK A) {e : sCell} (he : hCell A S' k = e) (ho : ∀ j, j < hK A → j ≠ k → hCell A S' j = hCell A S j) : sUp (hMem A R S) (A.2.1 k) e = hMem A R S' := by
  unfold hMem
  rw [hMemC_up h R _ hk]
  refine hMemC_congr R fun j hj => ?_
  by_cases hjk : j = k
  · subst hjk
    simp [hUc, he]
  · simp [hUc, hjk, ho j hj hjk]
theorem hMem_base (A : hA) (R : sMem) (S : hS) : (hMem A R S).1 = A.1 := rfl
theorem hMem_size (A : hA) (R : sMem) (S : hS) : (hMem A R S).2.1 = R.2.1 := rfl
theorem hMem_slots (A : hA) (R : sMem) (S : hS) : (hMem A R S).2.2.1 = R.2.2.1 := rfl
/-! ## reads and writes through the state -/
def hvI (v : Value) : Option Int32 := match v with
  | .int x => some x
  | _ => none
def hvN (v : Value) : Option Nat := match v with
  | .ref x => some x
  | _ => none
def hvR (v : Value) : Option (Option Nat) := match v with
  | .ref x => some (some x)
  | .null => some none
  | _ => none
theorem hvI_int (x : Int32) : hvI (.int x) = some x := rfl
theorem hvN_ref (x : Nat) : hvN (.ref x) = some x := rfl
theorem hvR_ref (x : Nat) : hvR (.ref x) = some (some x) := rfl
theorem hvR_null : hvR .null = some none := rfl
theorem hx_get {A : hA} (h : hG A) (R : sMem) (S : hS) {k : Nat} (hk : k < 47) : sGet (hMem A R S) 0 k (hX A) = some (hXf A S k) := by
  simp [sGet, sFs, hMem_x h, hXs, hk, sObj]
theorem hx_I {A : hA} (h : hG A) (R : sMem) (S : hS) {k : Nat} (hk : k < 47) {v : Value} (e : hXf A S k = v) : sGetI (hMem A R S) 0 k (hX A) = hvI v := by
  rw [← e]
  unfold sGetI hvI
  rw [hx_get h R S hk]
  cases hXf A S k <;> rfl
theorem hx_N {A : hA} (h : hG A) (R : sMem) (S : hS) {k : Nat} (hk : k < 47) {v : Value} (e : hXf A S k = v) : sGetN (hMem A R S) 0 k (hX A) = hvN v := by
  rw [← e]
  unfold sGetN hvN
  rw [hx_get h R S hk]
  cases hXf A S k <;> rfl
theorem hx_R {A : hA} (h : hG A) (R : sMem) (S : hS) {k : Nat} (hk : k < 47) {v : Value} (e : hXf A S k = v) : sGetR (hMem A R S) 0 k (hX A) = hvR v := by
  rw [← e]
  unfold sGetR hvR
  rw [hx_get h R S hk]
  cases hXf A S k <;> rfl
theorem ht_get {A : hA} (h : hG A) (R : sMem) (S : hS) {i k : Nat} (hi : i < A.2.2) (hk : k < 19) : sGet (hMem A R S) 2 k (hTa A i) = some (hTf A S i k) := by
  simp [sGet, sFs, hMem_t h R S hi, hTs, hk, sObj]
theorem ht_I {A : hA} (h : hG A) (R : sMem) (S : hS) {i k : Nat} (hi : i < A.2.2) (hk : k < 19) {x : Int32} (e : hTf A S i k = .int x) : sGetI (hMem A R S) 2 k (hTa A i) = some x := by
  unfold sGetI
  rw [ht_get h R S hi hk, e]
theorem ht_N {A : hA} (h : hG A) (R : sMem) (S : hS) {i k : Nat} (hi : i < A.2.2) (hk : k < 19) {x : Nat} (e : hTf A S i k = .ref x) : sGetN (hMem A R S) 2 k (hTa A i) = some x := by
  unfold sGetN
  rw [ht_get h R S hi hk, e]
theorem hx_chk {A : hA} (h : hG A) (R : sMem) (S : hS) (o : Option (sRes × sMem)) : sChk (hMem A R S) 0 (hX A) o = o := by
  simp [sChk, sFs, hMem_x h, sObj]
theorem ht_chk {A : hA} (h : hG A) (R : sMem) (S : hS) {i : Nat} (hi : i < A.2.2) (o : Option (sRes × sMem)) : sChk (hMem A R S) 2 (hTa A i) o = o := by
  simp [sChk, sFs, hMem_t h R S hi, sObj]
/-- fields of the component that are no owned row -/
def hVar (k : Nat) : Bool := !([0, 17, 21, 22, 23, 24, 25, 26, 27, 30, 36, 37].contains k) && k < 47
theorem hXf_var {A : hA} {S : hS} {k : Nat} (h : hVar k = true) : hXf A S k = S.1 k := by
  unfold hXf
  split <;> first | rfl | (exact absurd h (by decide))
theorem hF_cell (A : hA) (S : hS) (k : Nat) (v : Value) {j : Nat} (hj : j ≠ 0) : hCell A (hF S k v) j = hCell A S j := by
  rcases hId j with h0 | ⟨m, hm, rfl⟩ | ⟨i, m, hm, rfl⟩
  · have : j = 1 ∨ j = 2 ∨ j = 3 ∨ j = 4 ∨ j = 5 ∨ j = 6 ∨ j = 7 ∨ j = 8 ∨ j = 9 := by omega
    rcases this with rfl | rfl | rfl | rfl | rfl | rfl | rfl | rfl | rfl <;> rfl
  · rw [hCell_mod A _ hm, hCell_mod A _ hm]
    rfl
  · rw [hCell_tray A _ hm, hCell_tray A _ hm]
    rfl
theorem hx_put {A : hA} (h : hG A) (R : sMem) (S : hS) {k : Nat} (hk : hVar k = true) (v : Value) : sPut (hMem A R S) 0 k (hX A) v = some (hMem A R (hF S k v)) := by
  have hk47 : k < 47 := by
    unfold hVar at hk
    simp at hk
    exact hk.2
  have hl : (hXs A S).length = 47 := by simp [hXs]
  have e : hCell A (hF S k v) 0 = sObj 0 ((hXs A S).set k v) := by
    show sObj 0 (hXs A (hF S k v)) = _
    refine congrArg (sObj 0) ?_
    apply List.ext_getElem?
    intro i
    rw [List.getElem?_set]
    by_cases hi : k = i
    · subst hi
      rw [if_pos rfl, if_pos (by rw [hl]; exact hk47)]
      simp only [hXs, List.getElem?_map, List.getElem?_range hk47, Option.map_some]
      rw [hXf_var hk]
      simp [hF]
    · rw [if_neg hi]
      by_cases h9 : i < 47
      · simp only [hXs, List.getElem?_map, List.getElem?_range h9, Option.map_some, Option.some.injEq]
        unfold hXf
        split <;> first | rfl | (simp only [hF]; rw [if_neg (Ne.symm hi)])
      · rw [List.getElem?_eq_none (by simp [hXs]; omega), List.getElem?_eq_none (by rw [hl]; omega)]
  unfold sPut
  have hf : sFs (hMem A R S) 0 (hX A) = some (hXs A S) := by simp [sFs, hMem_x h, sObj]
  rw [hf]
  have hb : (hMem A R S).1 ≤ hX A := h.2.1 0 (hG.k A h (by decide))
  simp only []
  rw [if_pos ⟨hb, by rw [hl]; exact hk47⟩]
  exact congrArg some (hMem_up h R S _ (k := 0) (hG.k A h (by decide)) e (fun j _ hj => hF_cell A S k v hj))
/-! worlds -/
theorem hSl_upd {n o k : Nat} (t : Nat → Int32) (v : Int32) (hk : k < n) : upd (hSl n o t) k v = hSl n o (upd t (o + k) v) := by
  funext p
  simp only [upd, hSl]
  by_cases hp : p = k
  · subst hp
    simp [hk]
  · have : ¬ o + p = o + k := by omega
    simp [hp]
theorem hSl_off {n o q : Nat} (t : Nat → Int32) (v : Int32) (hq : ¬ (o ≤ q ∧ q < o + n)) : hSl n o (upd t q v) = hSl n o t := by
  funext p
  simp only [upd, hSl]
  by_cases hp : p < n
  · have : ¬ o + p = q := by omega
    simp [hp, this]
  · simp [hp]
theorem hBn_off {o q : Nat} (t : Nat → Int32) (v : Int32) : ∀ n, ¬ (o ≤ q ∧ q < o + n) → hBn (upd t q v) o n = hBn t o n
  | 0, _ => rfl
  | n + 1, hq => by
    unfold hBn
    rw [hBn_off t v n (by omega)]
    have : ¬ o + n = q := by omega
    simp [upd, this]
theorem hBits_off {o q : Nat} (t : Nat → Int32) (v : Int32) (hq : ¬ (o ≤ q ∧ q < o + 12)) : hBits (upd t q v) o = hBits t o := by
  unfold hBits
  rw [hBn_off t v 12 hq]
theorem hCo_off {q : Nat} (t : Nat → Int32) (v : Int32) (hq : ¬ (43 ≤ q ∧ q < 55)) (h5 : q ≠ 571) : hCo (upd t q v) = hCo t := by
  funext p
  have hn : hN (upd t q v) = hN t := by simp [hN, upd, Ne.symm h5]
  unfold hCo
  rw [hn]
  by_cases hp : p < 12
  · have : ¬ 43 + p = q := by omega
    simp [upd, this]
  · simp [hp]
theorem hRow_off {r q : Nat} (t : Nat → Int32) (v : Int32) (hq : ¬ (hOf r ≤ q ∧ q < hOf r + hTl r)) (h5 : q ≠ 571) : hRow r (upd t q v) = hRow r t := by
  unfold hRow
  by_cases h4 : r = 4
  · subst h4
    rw [if_pos rfl, if_pos rfl]
    exact hCo_off t v (by simpa [hOf, hTl] using hq) h5
  · rw [if_neg h4, if_neg h4]
    exact hSl_off t v hq
theorem hTf_off (A : hA) (S : hS) (i : Nat) {q : Nat} (v : Int32) (hq : ¬ (q < 7 ∨ 55 ≤ q ∧ q < 79 ∨ q = 573)) (k : Nat) : hTf A (hT S i (upd (S.2.2.2.1 i) q v)) i k = hTf A S i k := by
  unfold hTf
  split <;> simp only [hT, if_true] <;> first | rfl | (rw [hBits_off _ _ (by omega)]) | (simp only [upd]; rw [if_neg (by omega)])
/-- a world changed at q: the cells that do not hold q are as before -/
theorem hT_off {A : hA} {S : hS} {i q k : Nat} {v : Int32} (h0 : k = 0 → i = 0 → q ≠ 571) (h3 : k = 3 → i = 0 → ¬ (581 ≤ q ∧ q < 593)) (h4 : k = 4 → i = 0 → ¬ (871 ≤ q ∧ q < 1471)) (h7 : k = 7 → i = 2 → ¬ (581 ≤ q ∧ q < 593)) (h8 : k = 8 → i = 2 → ¬ (871 ≤ q ∧ q < 1471))
    (ht : k = 25 + 8 * i → ¬ (q < 7 ∨ 55 ≤ q ∧ q < 79 ∨ q = 573)) (hr : ∀ r, r < 7 → k = 26 + 8 * i + r → ¬ (hOf r ≤ q ∧ q < hOf r + hTl r) ∧ q ≠ 571) : hCell A (hT S i (upd (S.2.2.2.1 i) q v)) k = hCell A S k := by
  rcases hId k with hk | ⟨m, hm, rfl⟩ | ⟨i', m, hm, rfl⟩
  · have : k = 0 ∨ k = 1 ∨ k = 2 ∨ k = 3 ∨ k = 4 ∨ k = 5 ∨ k = 6 ∨ k = 7 ∨ k = 8 ∨ k = 9 := by omega
    rcases this with rfl | rfl | rfl | rfl | rfl | rfl | rfl | rfl | rfl | rfl
    · by_cases hi : i = 0
      · subst hi
        have := h0 rfl rfl
        show sObj 0 (hXs A _) = sObj 0 (hXs A S)
        refine congrArg (sObj 0) ?_
        unfold hXs
        apply List.map_congr_left
        intro j _
        unfold hXf
        split <;> first | rfl | (simp only [hT, if_true, upd]; rw [if_neg (by omega)])
      · show sObj 0 (hXs A _) = sObj 0 (hXs A S)
        refine congrArg (sObj 0) ?_
        unfold hXs
        apply List.map_congr_left
        intro j _
        unfold hXf
        split <;> first | rfl | (simp only [hT]; rw [if_neg (by omega)])
    · rfl
    · rfl
    · show sArr 0 12 (hSl 12 581 (if 0 = i then _ else _)) = sArr 0 12 (hSl 12 581 (S.2.2.2.1 0))
      by_cases hi : 0 = i
      · rw [if_pos hi, hSl_off _ _ (h3 rfl hi.symm), hi]
      · rw [if_neg hi]
    · show sArr 0 600 (hSl 600 871 (if 0 = i then _ else _)) = sArr 0 600 (hSl 600 871 (S.2.2.2.1 0))
      by_cases hi : 0 = i
      · rw [if_pos hi, hSl_off _ _ (h4 rfl hi.symm), hi]
      · rw [if_neg hi]
    · rfl
    · rfl
    · show sArr 0 12 (hSl 12 581 (if 2 = i then _ else _)) = sArr 0 12 (hSl 12 581 (S.2.2.2.1 2))
      by_cases hi : 2 = i
      · rw [if_pos hi, hSl_off _ _ (h7 rfl hi.symm), hi]
      · rw [if_neg hi]
    · show sArr 0 600 (hSl 600 871 (if 2 = i then _ else _)) = sArr 0 600 (hSl 600 871 (S.2.2.2.1 2))
      by_cases hi : 2 = i
      · rw [if_pos hi, hSl_off _ _ (h8 rfl hi.symm), hi]
      · rw [if_neg hi]
    · rfl
  · rw [hCell_mod A _ hm, hCell_mod A _ hm]
    rfl
  · rw [hCell_tray A _ hm, hCell_tray A _ hm]
    by_cases hi : i' = i
    · subst hi
      cases m with
      | zero =>
        show sObj 2 (hTs A _ i') = sObj 2 (hTs A S i')
        refine congrArg (sObj 2) ?_
        unfold hTs
        apply List.map_congr_left
        intro j _
        exact hTf_off A S i' v (ht rfl) j
      | succ r =>
        show sArr 0 (hTl r) (hRow r (if i' = i' then _ else _)) = sArr 0 (hTl r) (hRow r (S.2.2.2.1 i'))
        have := hr r (by omega) (by omega)
        rw [if_pos rfl, hRow_off _ _ this.1 this.2]
    · cases m with
      | zero =>
        show sObj 2 (hTs A _ i') = sObj 2 (hTs A S i')
        refine congrArg (sObj 2) ?_
        unfold hTs
        apply List.map_congr_left
        intro j _
        unfold hTf
        simp only [hT, if_neg hi]
      | succ r =>
        show sArr 0 (hTl r) (hRow r (if i' = i then _ else _)) = sArr 0 (hTl r) (hRow r (S.2.2.2.1 i'))
        rw [if_neg hi]
/-- which index of the world a trays' field holds -/
def hSi (f : Nat) : Nat := match f with
  | 9 => 1
  | 10 => 573
  | 11 => 0
  | 12 => 2
  | 13 => 3
  | 14 => 4
  | 15 => 5
  | _ => 6
theorem hTs_set (A : hA) (S : hS) (i : Nat) {q f : Nat} {v : Int32} {w : Value} (hf : f < 19) (hw : hTf A (hT S i (upd (S.2.2.2.1 i) q v)) i f = w) (ho : ∀ k, k < 19 → k ≠ f → hTf A (hT S i (upd (S.2.2.2.1 i) q v)) i k = hTf A S i k) : hTs A (hT S i (upd (S.2.2.2.1 i) q v)) i = (hTs A S i).set f w := by
  have hl : (hTs A S i).length = 19 := by simp [hTs]
  apply List.ext_getElem?
  intro j
  rw [List.getElem?_set]
  by_cases hj : f = j
  · subst hj
    rw [if_pos rfl, if_pos (by rw [hl]; exact hf)]
    simp only [hTs, List.getElem?_map, List.getElem?_range hf, Option.map_some, hw]
  · rw [if_neg hj]
    by_cases h9 : j < 19
    · simp only [hTs, List.getElem?_map, List.getElem?_range h9, Option.map_some, ho j h9 (Ne.symm hj)]
    · rw [List.getElem?_eq_none (by simp [hTs]; omega), List.getElem?_eq_none (by rw [hl]; omega)]
theorem ht_putG {A : hA} (h : hG A) (R : sMem) (S : hS) {i q f : Nat} {v : Int32} {w : Value} (hi : i < A.2.2) (hf : f < 19) (hq : q < 7 ∨ 55 ≤ q ∧ q < 79 ∨ q = 573) (hw : hTf A (hT S i (upd (S.2.2.2.1 i) q v)) i f = w) (ho : ∀ k, k < 19 → k ≠ f → hTf A (hT S i (upd (S.2.2.2.1 i) q v)) i k = hTf A S i k) : sPut (hMem A R S) 2 f (hTa A i) w = some (hMem A R (hT S i (upd (S.2.2.2.1 i) q v))) := by
  have hl : (hTs A S i).length = 19 := by simp [hTs]
  unfold sPut
  have hs : sFs (hMem A R S) 2 (hTa A i) = some (hTs A S i) := by simp [sFs, hMem_t h R S hi, sObj]
  rw [hs]
  have hb : (hMem A R S).1 ≤ hTa A i := h.2.1 _ (hG.t (j := 0) hi (by omega))
  simp only []
  rw [if_pos ⟨hb, by rw [hl]; exact hf⟩]
  refine congrArg some (hMem_up h R S _ (k := 25 + 8 * i) (hG.t (j := 0) hi (by omega)) ?_ ?_)
  · rw [← hTs_set A S i hf hw ho]
    exact hCell_tray A _ (i := i) (j := 0) (by omega)
  · intro k hk hne
    refine hT_off (by omega) (by omega) (by omega) (by omega) (by omega) (by omega) ?_
    intro r hr _
    have : r = 0 ∨ r = 1 ∨ r = 2 ∨ r = 3 ∨ r = 4 ∨ r = 5 ∨ r = 6 := by omega
    rcases this with rfl | rfl | rfl | rfl | rfl | rfl | rfl <;> simp only [hOf, hTl] <;> omega
theorem ht_put {A : hA} (h : hG A) (R : sMem) (S : hS) {i f : Nat} (hi : i < A.2.2) (h9 : 9 ≤ f) (h17 : f < 17) (v : Int32) : sPut (hMem A R S) 2 f (hTa A i) (.int v) = some (hMem A R (hT S i (upd (S.2.2.2.1 i) (hSi f) v))) := by
  have : f = 9 ∨ f = 10 ∨ f = 11 ∨ f = 12 ∨ f = 13 ∨ f = 14 ∨ f = 15 ∨ f = 16 := by omega
  rcases this with rfl | rfl | rfl | rfl | rfl | rfl | rfl | rfl <;> refine ht_putG h R S hi (by omega) (by simp [hSi]) (by simp [hTf, hT, upd, hSi]) (fun k hk hne => ?_) <;> unfold hTf <;> split <;> simp only [hT, if_true, hSi] <;> first | rfl | (exact absurd rfl hne) | (rw [hBits_off _ _ (by omega)]) | (simp only [upd]; rw [if_neg (by omega)])
theorem ht_put7 {A : hA} (h : hG A) (R : sMem) (S : hS) {i w : Nat} (hi : i < A.2.2) (hw : w < 12) (b : Int32) : sPut (hMem A R S) 2 7 (hTa A i) (.int (hBits (upd (S.2.2.2.1 i) (55 + w) b) 55)) = some (hMem A R (hT S i (upd (S.2.2.2.1 i) (55 + w) b))) := by
  refine ht_putG h R S hi (by omega) (by omega) (by simp [hTf, hT]) (fun k hk hne => ?_)
  unfold hTf
  split <;> simp only [hT, if_true] <;> first | rfl | (exact absurd rfl hne) | (rw [hBits_off _ _ (by omega)]) | (simp only [upd]; rw [if_neg (by omega)])
theorem ht_put8 {A : hA} (h : hG A) (R : sMem) (S : hS) {i w : Nat} (hi : i < A.2.2) (hw : w < 12) (b : Int32) : sPut (hMem A R S) 2 8 (hTa A i) (.int (hBits (upd (S.2.2.2.1 i) (67 + w) b) 67)) = some (hMem A R (hT S i (upd (S.2.2.2.1 i) (67 + w) b))) := by
  refine ht_putG h R S hi (by omega) (by omega) (by simp [hTf, hT]) (fun k hk hne => ?_)
  unfold hTf
  split <;> simp only [hT, if_true] <;> first | rfl | (exact absurd rfl hne) | (rw [hBits_off _ _ (by omega)]) | (simp only [upd]; rw [if_neg (by omega)])
theorem hTh_cell (A : hA) (S : hS) (i : Nat) (x : Int32) {j : Nat} (hj : j ≠ 25 + 8 * i) : hCell A (hTh S i x) j = hCell A S j := by
  rcases hId j with h0 | ⟨m, hm, rfl⟩ | ⟨i', m, hm, rfl⟩
  · have : j = 0 ∨ j = 1 ∨ j = 2 ∨ j = 3 ∨ j = 4 ∨ j = 5 ∨ j = 6 ∨ j = 7 ∨ j = 8 ∨ j = 9 := by omega
    rcases this with rfl | rfl | rfl | rfl | rfl | rfl | rfl | rfl | rfl | rfl <;> rfl
  · rw [hCell_mod A _ hm, hCell_mod A _ hm]
    rfl
  · rw [hCell_tray A _ hm, hCell_tray A _ hm]
    cases m with
    | zero =>
      have hi : i' ≠ i := fun e => hj (by rw [e]; rfl)
      show sObj 2 (hTs A _ i') = sObj 2 (hTs A S i')
      refine congrArg (sObj 2) ?_
      unfold hTs
      apply List.map_congr_left
      intro j _
      unfold hTf
      simp only [hTh, if_neg hi]
    | succ r => rfl
theorem ht_put17 {A : hA} (h : hG A) (R : sMem) (S : hS) {i : Nat} (hi : i < A.2.2) (x : Int32) : sPut (hMem A R S) 2 17 (hTa A i) (.int x) = some (hMem A R (hTh S i x)) := by
  have hl : (hTs A S i).length = 19 := by simp [hTs]
  unfold sPut
  have hs : sFs (hMem A R S) 2 (hTa A i) = some (hTs A S i) := by simp [sFs, hMem_t h R S hi, sObj]
  rw [hs]
  have hb : (hMem A R S).1 ≤ hTa A i := h.2.1 _ (hG.t (j := 0) hi (by omega))
  simp only []
  rw [if_pos ⟨hb, by rw [hl]; omega⟩]
  refine congrArg some (hMem_up h R S _ (k := 25 + 8 * i) (hG.t (j := 0) hi (by omega)) ?_ (fun k hk hne => hTh_cell A S i x hne))
  refine (hCell_tray A _ (i := i) (j := 0) (by omega)).trans ?_
  show sObj 2 (hTs A (hTh S i x) i) = _
  refine congrArg (sObj 2) ?_
  apply List.ext_getElem?
  intro j
  rw [List.getElem?_set]
  by_cases hj : 17 = j
  · subst hj
    rw [if_pos rfl, if_pos (by rw [hl]; omega)]
    simp [hTs, hTf, hTh]
  · rw [if_neg hj]
    by_cases h9 : j < 19
    · simp only [hTs, List.getElem?_map, List.getElem?_range h9, Option.map_some, Option.some.injEq]
      unfold hTf
      split <;> first | rfl | (exact absurd rfl hj)
    · rw [List.getElem?_eq_none (by simp [hTs]; omega), List.getElem?_eq_none (by rw [hl]; omega)]
/-! rows -/
theorem hb_ld {n p : Nat} (f : Nat → Int32) (hp : p < n) (hn : n < 2 ^ 31) : (if nI p < 0 ∨ n ≤ (nI p).toNatClampNeg then none else some (f (nI p).toNatClampNeg)) = some (f p) := by
  rw [if_neg (nI_in hp hn), nI_clamp (by omega)]
theorem hr_ints {A : hA} (h : hG A) (R : sMem) (S : hS) {i r : Nat} (hi : i < A.2.2) (hr : r < 7) : sInts (hMem A R S) 0 (hTr A i r) = some (hTl r, hRow r (S.2.2.2.1 i)) := by
  simp [sInts, hMem_tr h R S hi hr, sArr]
theorem hTl_lt (r : Nat) : hTl r < 2 ^ 31 := by
  unfold hTl
  split <;> decide
theorem hr_ldG {A : hA} (h : hG A) (R : sMem) (S : hS) {i r p : Nat} (hi : i < A.2.2) (hr : r < 7) (hp : p < hTl r) : sXld (hMem A R S) 0 (hTr A i r) (nI p) = some (hRow r (S.2.2.2.1 i) p) := by
  unfold sXld
  rw [hr_ints h R S hi hr]
  exact hb_ld _ hp (hTl_lt r)
theorem hr_ld {A : hA} (h : hG A) (R : sMem) (S : hS) {i r p : Nat} (hi : i < A.2.2) (hr : r < 7) (h4 : r ≠ 4) (hp : p < hTl r) : sXld (hMem A R S) 0 (hTr A i r) (nI p) = some (S.2.2.2.1 i (hOf r + p)) := by
  rw [hr_ldG h R S hi hr hp]
  simp [hRow, h4, hSl, hp]
theorem hr_ld4 {A : hA} (h : hG A) (R : sMem) (S : hS) {i p : Nat} (hi : i < A.2.2) (hp : p < 12) : sXld (hMem A R S) 0 (hTr A i 4) (nI p) = some (hCo (S.2.2.2.1 i) p) := by
  rw [hr_ldG h R S hi (by omega) (by simpa [hTl] using hp)]
  simp [hRow]
theorem hr_len {A : hA} (h : hG A) (R : sMem) (S : hS) {i r : Nat} (hi : i < A.2.2) (hr : r < 7) : sLen (hMem A R S) (hTr A i r) = some (nI (hTl r)) := by
  simp [sLen, hMem_tr h R S hi hr, sArr]
theorem hr_stG {A : hA} (h : hG A) (R : sMem) (S : hS) {i r p q : Nat} {x v : Int32} (hi : i < A.2.2) (hr : r < 7) (hp : p < hTl r) (hq : hOf r ≤ q ∧ q < hOf r + hTl r) (e : upd (hRow r (S.2.2.2.1 i)) p x = hRow r (upd (S.2.2.2.1 i) q v)) : sXst (hMem A R S) 0 (hTr A i r) (nI p) x = some (hMem A R (hT S i (upd (S.2.2.2.1 i) q v))) := by
  have hk : 26 + 8 * i + r < hK A := by
    have := hG.t (A := A) (j := r + 1) hi (by omega)
    omega
  unfold sXst
  rw [hMem_tr h R S hi hr]
  simp only [sArr, true_and]
  rw [if_pos ⟨h.2.1 _ hk, nI_in hp (hTl_lt r)⟩, nI_clamp (by have := hTl_lt r; omega)]
  refine congrArg some (hMem_up h R S _ (k := 26 + 8 * i + r) hk ?_ ?_)
  · have := hCell_tray A (hT S i (upd (S.2.2.2.1 i) q v)) (i := i) (j := r + 1) (by omega)
    rw [show 25 + 8 * i + (r + 1) = 26 + 8 * i + r by omega] at this
    rw [this]
    show sArr 0 (hTl r) (hRow r (if i = i then _ else _)) = _
    rw [if_pos rfl, ← e]
  · intro k hk hne
    have hr' : r = 0 ∨ r = 1 ∨ r = 2 ∨ r = 3 ∨ r = 4 ∨ r = 5 ∨ r = 6 := by omega
    rcases hr' with rfl | rfl | rfl | rfl | rfl | rfl | rfl <;> simp only [hOf, hTl] at hq <;> refine hT_off (by omega) (by omega) (by omega) (by omega) (by omega) (by omega) (fun r' hr2 hk2 => ?_) <;> (have hr3 : r' = 0 ∨ r' = 1 ∨ r' = 2 ∨ r' = 3 ∨ r' = 4 ∨ r' = 5 ∨ r' = 6 := by omega) <;> rcases hr3 with rfl | rfl | rfl | rfl | rfl | rfl | rfl <;> simp only [hOf, hTl] <;> omega
theorem hr_st {A : hA} (h : hG A) (R : sMem) (S : hS) {i r p : Nat} (hi : i < A.2.2) (hr : r < 7) (h4 : r ≠ 4) (hp : p < hTl r) (v : Int32) : sXst (hMem A R S) 0 (hTr A i r) (nI p) v = some (hMem A R (hT S i (upd (S.2.2.2.1 i) (hOf r + p) v))) := by
  refine hr_stG h R S hi hr hp ⟨by omega, by omega⟩ ?_
  unfold hRow
  rw [if_neg h4, if_neg h4, hSl_upd _ _ hp]
theorem hr_st4 {A : hA} (h : hG A) (R : sMem) (S : hS) {i p : Nat} (hi : i < A.2.2) (hp : p < 12) (hn : p < hN (S.2.2.2.1 i)) (v x : Int32) (e : x = v + 1) : sXst (hMem A R S) 0 (hTr A i 4) (nI p) x = some (hMem A R (hT S i (upd (S.2.2.2.1 i) (43 + p) v))) := by
  refine hr_stG h R S hi (by omega) (by simpa [hTl] using hp) ⟨by simp [hOf], by simp [hOf, hTl]; omega⟩ ?_
  unfold hRow
  rw [if_pos rfl, if_pos rfl, e]
  funext j
  have hN' : hN (upd (S.2.2.2.1 i) (43 + p) v) = hN (S.2.2.2.1 i) := by
    have : ¬ 571 = 43 + p := by omega
    simp [hN, upd, this]
  simp only [upd, hCo]
  rw [hN']
  by_cases hj : j = p
  · subst hj
    simp [hp, hn]
  · have : ¬ 43 + j = 43 + p := by omega
    simp [hj, this]
/-- a cocoon row's entry beyond the worms: zero stays zero -/
theorem hr_st40 {A : hA} (h : hG A) (R : sMem) (S : hS) {i p : Nat} (hi : i < A.2.2) (hp : p < 12) (hn : ¬ p < hN (S.2.2.2.1 i)) : sXst (hMem A R S) 0 (hTr A i 4) (nI p) 0 = some (hMem A R S) := by
  have hk : 26 + 8 * i + 4 < hK A := by
    have := hG.t (A := A) (j := 5) hi (by omega)
    omega
  unfold sXst
  rw [hMem_tr h R S hi (by omega)]
  simp only [sArr, true_and]
  rw [if_pos ⟨h.2.1 _ hk, nI_in (by simpa [hTl] using hp) (hTl_lt 4)⟩, nI_clamp (by omega)]
  refine congrArg some (hMem_up h R S _ (k := 26 + 8 * i + 4) hk ?_ (fun _ _ _ => rfl))
  have := hCell_tray A S (i := i) (j := 5) (by omega)
  rw [show 25 + 8 * i + 5 = 26 + 8 * i + 4 by omega] at this
  rw [this]
  show sArr 0 (hTl 4) (hRow 4 (S.2.2.2.1 i)) = sArr 0 (hTl 4) _
  congr 3
  funext j
  simp only [hRow, if_true, upd, hCo]
  by_cases hj : j = p
  · subst hj
    simp [hn]
  · simp [hj]
/-! rows of the component itself -/
theorem hRa_at {A : hA} (h : hG A) (R : sMem) (S : hS) {j : Nat} (hj : j < 49) : (hMem A R S).2.2.2 (hRa A j) = some (hCell A S j) := hMem_at h R S (hG.k A h hj)
theorem hq_ldG {A : hA} (h : hG A) (R : sMem) (S : hS) {t j p n : Nat} {f : Nat → Int32} (hj : j < 49) (e : hCell A S j = sArr t n f) (hn : n < 2 ^ 31) (hp : p < n) : sXld (hMem A R S) t (hRa A j) (nI p) = some (f p) := by
  unfold sXld
  have : sInts (hMem A R S) t (hRa A j) = some (n, f) := by simp [sInts, hRa_at h R S hj, e, sArr]
  rw [this]
  exact hb_ld f hp hn
theorem hq_lenG {A : hA} (h : hG A) (R : sMem) (S : hS) {t j n : Nat} {f : Nat → Int32} (hj : j < 49) (e : hCell A S j = sArr t n f) : sLen (hMem A R S) (hRa A j) = some (nI n) := by
  simp [sLen, hRa_at h R S hj, e, sArr]
theorem hq_stG {A : hA} (h : hG A) (R : sMem) (S S' : hS) {t j p n : Nat} {f : Nat → Int32} {x : Int32} (hj : j < 49) (e : hCell A S j = sArr t n f) (hn : n < 2 ^ 31) (hp : p < n) (e' : hCell A S' j = sArr t n (upd f p x)) (ho : ∀ k, k < hK A → k ≠ j → hCell A S' k = hCell A S k) : sXst (hMem A R S) t (hRa A j) (nI p) x = some (hMem A R S') := by
  unfold sXst
  rw [hRa_at h R S hj, e]
  simp only [sArr, true_and]
  rw [if_pos ⟨h.2.1 _ (hG.k A h hj), nI_in hp hn⟩, nI_clamp (by omega)]
  exact congrArg some (hMem_up h R S _ (k := j) (hG.k A h hj) e' ho)
theorem hRw_cell (A : hA) (S : hS) (j : Nat) (f : Nat → Int32) {k : Nat} (hk : k ≠ j) : hCell A (hRw S j f) k = hCell A S k := by
  rcases hId k with h0 | ⟨m, hm, rfl⟩ | ⟨i, m, hm, rfl⟩
  · have : k = 0 ∨ k = 1 ∨ k = 2 ∨ k = 3 ∨ k = 4 ∨ k = 5 ∨ k = 6 ∨ k = 7 ∨ k = 8 ∨ k = 9 := by omega
    rcases this with rfl | rfl | rfl | rfl | rfl | rfl | rfl | rfl | rfl | rfl <;> first | rfl | (simp only [hCell, hRw]; rw [if_neg hk])
  · rw [hCell_mod A _ hm, hCell_mod A _ hm]
    rfl
  · rw [hCell_tray A _ hm, hCell_tray A _ hm]
    rfl
theorem hq_ld1 {A : hA} (h : hG A) (R : sMem) (S : hS) {p : Nat} (hp : p < 400) : sXld (hMem A R S) 1 (hRa A 1) (nI p) = some (S.2.1 1 p) := hq_ldG h R S (by omega) rfl (by decide) hp
theorem hq_ld2 {A : hA} (h : hG A) (R : sMem) (S : hS) {p : Nat} (hp : p < 10) : sXld (hMem A R S) 0 (hRa A 2) (nI p) = some (S.2.1 2 p) := hq_ldG h R S (by omega) rfl (by decide) hp
theorem hq_ld3 {A : hA} (h : hG A) (R : sMem) (S : hS) {p : Nat} (hp : p < 12) : sXld (hMem A R S) 0 (hRa A 3) (nI p) = some (S.2.2.2.1 0 (581 + p)) := by
  rw [hq_ldG h R S (by omega) rfl (by decide) hp]
  simp [hSl, hp]
theorem hq_ld4 {A : hA} (h : hG A) (R : sMem) (S : hS) {p : Nat} (hp : p < 600) : sXld (hMem A R S) 0 (hRa A 4) (nI p) = some (S.2.2.2.1 0 (871 + p)) := by
  rw [hq_ldG h R S (by omega) rfl (by decide) hp]
  simp [hSl, hp]
theorem hq_ld6 {A : hA} (h : hG A) (R : sMem) (S : hS) {p : Nat} (hp : p < 49152) : sXld (hMem A R S) 0 (hRa A 6) (nI p) = some (S.2.1 6 p) := hq_ldG h R S (by omega) rfl (by decide) hp
theorem hq_st1 {A : hA} (h : hG A) (R : sMem) (S : hS) {p : Nat} (hp : p < 400) (x : Int32) : sXst (hMem A R S) 1 (hRa A 1) (nI p) x = some (hMem A R (hRw S 1 (upd (S.2.1 1) p x))) := hq_stG h R S _ (by omega) rfl (by decide) hp rfl (fun k _ hk => hRw_cell A S 1 _ hk)
theorem hq_st2 {A : hA} (h : hG A) (R : sMem) (S : hS) {p : Nat} (hp : p < 10) (x : Int32) : sXst (hMem A R S) 0 (hRa A 2) (nI p) x = some (hMem A R (hRw S 2 (upd (S.2.1 2) p x))) := hq_stG h R S _ (by omega) rfl (by decide) hp rfl (fun k _ hk => hRw_cell A S 2 _ hk)
theorem hq_st6 {A : hA} (h : hG A) (R : sMem) (S : hS) {p : Nat} (hp : p < 49152) (x : Int32) : sXst (hMem A R S) 0 (hRa A 6) (nI p) x = some (hMem A R (hRw S 6 (upd (S.2.1 6) p x))) := hq_stG h R S _ (by omega) rfl (by decide) hp rfl (fun k _ hk => hRw_cell A S 6 _ hk)
theorem hq_st3 {A : hA} (h : hG A) (R : sMem) (S : hS) {p : Nat} (hp : p < 12) (x : Int32) : sXst (hMem A R S) 0 (hRa A 3) (nI p) x = some (hMem A R (hT S 0 (upd (S.2.2.2.1 0) (581 + p) x))) := by
  refine hq_stG h R S _ (by omega) rfl (by decide) hp ?_ ?_
  · rw [hSl_upd _ _ hp]
    rfl
  · intro k _ hk
    refine hT_off (by omega) (by omega) (by omega) (by omega) (by omega) (by omega) ?_
    intro r hr _
    have : r = 0 ∨ r = 1 ∨ r = 2 ∨ r = 3 ∨ r = 4 ∨ r = 5 ∨ r = 6 := by omega
    rcases this with rfl | rfl | rfl | rfl | rfl | rfl | rfl <;> simp only [hOf, hTl] <;> omega
theorem hq_st4 {A : hA} (h : hG A) (R : sMem) (S : hS) {p : Nat} (hp : p < 600) (x : Int32) : sXst (hMem A R S) 0 (hRa A 4) (nI p) x = some (hMem A R (hT S 0 (upd (S.2.2.2.1 0) (871 + p) x))) := by
  refine hq_stG h R S _ (by omega) rfl (by decide) hp ?_ ?_
  · rw [hSl_upd _ _ hp]
    rfl
  · intro k _ hk
    refine hT_off (by omega) (by omega) (by omega) (by omega) (by omega) (by omega) ?_
    intro r hr _
    have : r = 0 ∨ r = 1 ∨ r = 2 ∨ r = 3 ∨ r = 4 ∨ r = 5 ∨ r = 6 := by omega
    rcases this with rfl | rfl | rfl | rfl | rfl | rfl | rfl <;> simp only [hOf, hTl] <;> omega
/-! the model within the whole memory -/
theorem hM_cell (A : hA) (S : hS) (s : mSt) {k : Nat} (hk : ¬ (9 ≤ k ∧ k < 25)) : hCell A (hM S s) k = hCell A S k := by
  rcases hId k with h0 | ⟨m, hm, rfl⟩ | ⟨i, m, hm, rfl⟩
  · have : k = 0 ∨ k = 1 ∨ k = 2 ∨ k = 3 ∨ k = 4 ∨ k = 5 ∨ k = 6 ∨ k = 7 ∨ k = 8 := by omega
    rcases this with rfl | rfl | rfl | rfl | rfl | rfl | rfl | rfl | rfl <;> rfl
  · omega
  · rw [hCell_tray A _ hm, hCell_tray A _ hm]
    rfl
theorem hM_put {A : hA} (h : hG A) (R : sMem) (S : hS) (s : mSt) : mPut (hMem A R S) (A.2.1 9) s = hMem A R (hM S s) := by
  have hK9 : ∀ j, j < 16 → 9 + j < hK A := fun j hj => hG.k A h (by omega)
  unfold mPut
  show (A.1, R.2.1, R.2.2.1, _) = (A.1, R.2.1, R.2.2.1, _)
  congr 3
  funext q
  by_cases hq : q = A.2.1 9
  · rw [if_pos hq, hq]
    exact (hMem_at h R (hM S s) (hK9 0 (by omega))).symm
  · rw [if_neg hq]
    by_cases h2 : A.2.1 9 < q ∧ q < A.2.1 9 + 16
    · rw [if_pos h2]
      have e : q = A.2.1 (9 + (q - A.2.1 9)) := by
        rw [h.2.2.1 _ (by omega)]
        omega
      have hr := hMem_at h R (hM S s) (hK9 (q - A.2.1 9) (by omega))
      rw [← e] at hr
      refine Eq.trans ?_ hr.symm
      have e2 : 9 + (q - A.2.1 9) = 10 + (q - A.2.1 9 - 1) := by omega
      rw [e2, hCell_mod A _ (by omega)]
      rfl
    · rw [if_neg h2]
      unfold hMem hMemC
      simp only []
      cases hf : hFnd A.2.1 q (hK A) with
      | none => rfl
      | some k =>
        have hk := hFnd_some hf
        simp only []
        rw [hM_cell A S s]
        rintro ⟨g1, g2⟩
        have e3 := h.2.2.1 (k - 9) (by omega)
        rw [show 9 + (k - 9) = k by omega, hk.2] at e3
        apply h2
        refine ⟨?_, by omega⟩
        have : k ≠ 9 := fun e => hq (by rw [← hk.2, e])
        omega
/-- the model's methods within the whole memory -/
def hLft (A : hA) (R : sMem) (S : hS) (o : Option (Option Value × mSt)) : Option (sRes × sMem) := o.map fun q => (.inl q.1, hMem A R (hM S q.2))
theorem hM_self (S : hS) : hM S S.2.2.2.2.2 = S := rfl
theorem hLft_of {A : hA} (h : hG A) (R : sMem) (S : hS) {f : sMem → Option (sRes × sMem)} {pf : mSt → Option (Option Value × mSt)} (hq : ∀ (R : sMem), R.1 ≤ A.2.1 9 → ∀ s : mSt, f (mPut R (A.2.1 9) s) = lft R (A.2.1 9) (pf s)) : f (hMem A R S) = hLft A R S (pf S.2.2.2.2.2) := by
  have h1 := hq (hMem A R S) (h.2.1 9 (hG.k A h (by omega))) S.2.2.2.2.2
  rw [hM_put h, hM_self] at h1
  rw [h1]
  unfold lft hLft
  cases pf S.2.2.2.2.2 with
  | none => rfl
  | some q =>
    simp only [Option.map_some]
    rw [hM_put h]
