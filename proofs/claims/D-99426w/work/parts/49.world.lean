/-! what acts and days do to the world, in plain words -/
set_option maxRecDepth 100000
def bI (b : Option Nat) : Int32 := match b with
  | none => -1
  | some b => nI b
def wLeaf (t : Nat → Int32) (a : Nat) (b : Option Nat) : Int32 := t (605 + 9 * a + 1) + (match b with
  | none => 0
  | some b => t (605 + 9 * b + 1))
def wMany (t : Nat → Int32) (a : Nat) (b : Option Nat) : Nat := hMc t a + (match b with
  | none => 0
  | some b => hMc t b)
def wMark (t : Nat → Int32) (a : Nat) (b : Option Nat) (i : Nat) : Int32 := if i < wMany t a b then (match b with
  | none => t (605 + 9 * a + 3 + i)
  | some b => if 2 * min (hMc t a) (hMc t b) ≤ i then t (605 + 9 * (if hMc t a ≤ min (hMc t a) (hMc t b) then b else a) + 3 + (i - min (hMc t a) (hMc t b))) else t (605 + 9 * (if i % 2 = 0 then a else b) + 3 + i / 2)) else -1
def wMx (most v : Int32) : Int32 := if 0 ≤ (if v ≤ most then v else most) then (if v ≤ most then v else most) else 0
/-- what the law is asked with -/
def wFa (t : Nat → Int32) (i : Nat) (mark place : Int32) : Nat → Int32 := fun k => match k with
  | 1 => nI i
  | 2 => t (581 + i)
  | 3 => t (593 + i)
  | 4 => t (7 + i)
  | 5 => t (19 + i)
  | 6 => t 573
  | 7 => t 1
  | 8 => mark
  | 9 => place
  | 10 => t 0
  | _ => 0
/-- the steps from a to b come to v on the model's pile -/
def evM (t F : Nat → Int32) (a b : Nat) (v : Int32) : Prop := ∀ (m : Nat) (s : mSt) (top e n : Nat), s.2 0 = t → (∀ k, k < 10 → s.2 9 (k + 1) = F (k + 1)) → top + (b - a) ≤ 415 → b ≤ e → e ≤ 410 → ∃ pl, p_X3_comesTo_L6 m 0 (nI e) (n + (b - a)) (nI top) (nI a) s = p_X3_comesTo_L6 m 0 (nI e) n (nI (top + 1)) (nI b) (mRowSet s 8 pl) ∧ pl top = v ∧ ∀ j, j < top → pl j = s.2 8 j
noncomputable def hEv (t F : Nat → Int32) (a b : Nat) : Int32 := @dite Int32 (∃ v, evM t F a b v) (Classical.propDecidable _) (fun h => h.choose) (fun _ => 0)
noncomputable def wSo (t F : Nat → Int32) (l : Nat) : Bool := decide (t (1503 + l) = t (1487 + l)) || decide (hEv t F (hMi t l) (hTo t l) = 1)
noncomputable def wSays (t : Nat → Int32) (word : Int32) (i : Nat) (mark place without most : Int32) : Int32 := match fstN (fun l => decide (t (1519 + l) = word) && wSo t (wFa t i mark place) l) (hLn t) with
  | some l => wMx most (hEv t (wFa t i mark place) (hFr t l) (hMi t l))
  | none => wMx most without
noncomputable def wEats (t : Nat → Int32) (i : Nat) : Int32 := wSays t 20 i 0 0 3 3
noncomputable def wSlips (t : Nat → Int32) (i : Nat) (mark place : Int32) : Int32 := wSays t 21 i mark place (25 + 20 * t 573) 1000
noncomputable def wStrong (t : Nat → Int32) (i : Nat) : Int32 := wSays t 22 i 0 0 (9 - t (593 + i)) 20
/-- can be fed -/
noncomputable def wCan (t : Nat → Int32) (i a : Nat) (b : Option Nat) : Bool := decide (t (43 + i) = -1) && (decide (t (67 + i) ≠ 1) && (decide (t (7 + i) + (if bI b = -1 then 1 else 2) ≤ 9) && (!decide (wEats t i ≤ t (79 + i)) && !decide (t 1 < wLeaf t a b))))
def wNote (tr : Bool) (what : Int32) (i : Nat) (which : Int32) (t : Nat → Int32) : Nat → Int32 := if tr = true ∧ t 6 ≠ 150 then upd (upd (upd (upd (upd t (871 + 4 * cv (t 6)) (t 0)) (871 + 4 * cv (t 6) + 1) what) (871 + 4 * cv (t 6) + 2) (nI i)) (871 + 4 * cv (t 6) + 3) which) 6 (t 6 + 1) else t
def wHide (tr : Bool) (i : Nat) (t : Nat → Int32) : Nat → Int32 := wNote tr 2 i (t (19 + i)) (upd t (43 + i) 0)
def wDraw (t : Nat → Int32) : Nat → Int32 := upd t 5 (1664525 * t 5 + 1013904223)
/-- the number drawn, of a state -/
def wDrawn (x : Int32) : Int32 := (x.toUInt32 >>> ((8 : Int32).toUInt32 &&& Int32.toUInt32 31)).toInt32 - (x.toUInt32 >>> ((8 : Int32).toUInt32 &&& Int32.toUInt32 31)).toInt32 / 1000 * 1000
def wLays (i : Nat) (mark : Int32) (t : Nat → Int32) : Nat → Int32 := if t (19 + i) = 40 then t else upd (upd t (91 + 40 * i + hLo t i) mark) (19 + i) (t (19 + i) + 1)
def wNext (mark : Int32) : Int32 := (mark + 1) - (mark + 1) / 8 * 8
noncomputable def wSpin (tr : Bool) (i a : Nat) (b : Option Nat) (p : Nat) (x : (Nat → Int32) × Int32) : (Nat → Int32) × Int32 := if tr = true then (if wSlips x.1 i (wMark x.1 a b p) (nI p) ≤ wDrawn (wDraw x.1 5) then (wLays i (wMark x.1 a b p) (wDraw x.1), x.2) else (wLays i (wNext (wMark x.1 a b p)) (wDraw x.1), x.2 + 1)) else (wLays i (wMark x.1 a b p) x.1, x.2)
noncomputable def wSpun (tr : Bool) (i a : Nat) (b : Option Nat) (t : Nat → Int32) : (Nat → Int32) × Int32 := fdN (wSpin tr i a b) (t, 0) (wMany t a b)
noncomputable def wSpins (tr : Bool) (i a : Nat) (b : Option Nat) (t : Nat → Int32) : Nat → Int32 := upd (wSpun tr i a b t).1 3 ((wSpun tr i a b t).1 3 + (wSpun tr i a b t).2)
def wFeed0 (i a : Nat) (b : Option Nat) (t : Nat → Int32) : Nat → Int32 := upd (upd (upd (upd t 1 (t 1 - wLeaf t a b)) (7 + i) (t (7 + i) + (if bI b = -1 then 1 else 2))) 2 (t 2 + (if bI b = -1 then 0 else 1))) (79 + i) (t (79 + i) + 1)
def wFeed1 (tr : Bool) (i a : Nat) (b : Option Nat) (t : Nat → Int32) : Nat → Int32 := wNote tr (if bI b = -1 then 0 else 1) i (if bI b = -1 then nI a else 10 * nI a + bI b) (wFeed0 i a b t)
noncomputable def wFeed2 (tr : Bool) (i : Nat) (t : Nat → Int32) : Nat → Int32 := upd t (31 + i) (if t (31 + i) + wStrong t i ≤ 999 then t (31 + i) + wStrong t i else 999)
noncomputable def wFeeds (tr : Bool) (i a : Nat) (b : Option Nat) (t : Nat → Int32) : Nat → Int32 := if wFeed2 tr i (wSpins tr i a b (wFeed1 tr i a b t)) (7 + i) = 9 then wHide tr i (wFeed2 tr i (wSpins tr i a b (wFeed1 tr i a b t))) else wFeed2 tr i (wSpins tr i a b (wFeed1 tr i a b t))
/-- what is answered: how many slip -/
noncomputable def wFed (tr : Bool) (i a : Nat) (b : Option Nat) (t : Nat → Int32) : Int32 := (wSpun tr i a b (wFeed1 tr i a b t)).2
def wFly (tr : Bool) (i : Nat) (t : Nat → Int32) : Nat → Int32 := upd (upd (upd (upd (upd (wNote tr 4 i (t (19 + i)) t) (67 + i) 1) (19 + i) 0) (31 + i) 0) (43 + i) (-1)) 4 (t 4 + 1)
/-- a worm's cocoon grows older: who flies -/
def wOld (i : Nat) (t : Nat → Int32) : Nat → Int32 := upd t (43 + i) (if t (43 + i) + 1 ≤ 9999 then t (43 + i) + 1 else 9999)
def wFlies (i : Nat) (t : Nat → Int32) : Bool := decide (t (43 + i) ≠ -1) && (decide (wOld i t (43 + i) = 20) && decide (t (55 + i) = 0))
def wGrow (tr : Bool) (i : Nat) (t : Nat → Int32) : Nat → Int32 := if t (43 + i) = -1 then t else if wFlies i t = true then wFly tr i (wOld i t) else wOld i t
/-- a meal of the mulberry -/
def wMB (t : Nat → Int32) (k : Nat) : Option Nat := if t (695 + 4 * k + 3) = -1 then none else some (cv (t (695 + 4 * k + 3)))
noncomputable def wMeal (tr : Bool) (k : Nat) (t : Nat → Int32) : Nat → Int32 := if t (695 + 4 * k) = t 0 ∧ wCan t (cv (t (695 + 4 * k + 1))) (cv (t (695 + 4 * k + 2))) (wMB t k) = true then wFeeds tr (cv (t (695 + 4 * k + 1))) (cv (t (695 + 4 * k + 2))) (wMB t k) t else t
def wZero (n : Nat) (t : Nat → Int32) : Nat → Int32 := fun p => if 79 ≤ p ∧ p < 79 + n then 0 else t p
noncomputable def wMeals (tr : Bool) (t : Nat → Int32) : Nat → Int32 := fdN (wMeal tr) t (hMe t)
def wGrown (tr : Bool) (t : Nat → Int32) : Nat → Int32 := fdN (wGrow tr) t (hN t)
noncomputable def wDay (tr : Bool) (t : Nat → Int32) : Nat → Int32 := wZero (hN t) (upd (wGrown tr (wMeals tr t)) 0 (wGrown tr (wMeals tr t) 0 + 1))
/-- same but the rows nobody asks for: the world changed to t -/
def Sw (s : mSt) (t : Nat → Int32) (s' : mSt) : Prop := s'.1 = s.1 ∧ s'.2 0 = t ∧ ∀ j, 1 ≤ j → j < 8 → s'.2 j = s.2 j
theorem Sw.refl (s : mSt) : Sw s (s.2 0) s := ⟨rfl, rfl, fun _ _ _ => rfl⟩
theorem Sw.trans {s s1 s2 : mSt} {t t' : Nat → Int32} (h : Sw s t s1) (g : Sw s1 t' s2) : Sw s t' s2 := ⟨g.1.trans h.1, g.2.1, fun j h1 h2 => (g.2.2 j h1 h2).trans (h.2.2 j h1 h2)⟩
theorem Sw.row {s : mSt} {t : Nat → Int32} {s' : mSt} (h : Sw s t s') {j : Nat} (f : Nat → Int32) (hj : 8 ≤ j) : Sw s t (mRowSet s' j f) := ⟨h.1, by rw [mrs_ne _ _ (by omega)]; exact h.2.1, fun i h1 h2 => by rw [mrs_ne _ _ (by omega)]; exact h.2.2 i h1 h2⟩
theorem Sw.world {s : mSt} {t t' : Nat → Int32} {s' : mSt} (h : Sw s t s') : Sw s t' (mRowSet s' 0 t') := ⟨h.1, by rw [mrs_same], fun i h1 h2 => by rw [mrs_ne _ _ (by omega)]; exact h.2.2 i h1 h2⟩
