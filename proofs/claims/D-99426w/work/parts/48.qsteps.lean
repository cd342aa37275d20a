/-! the model over its own state: steps for simp -/
set_option maxRecDepth 100000
theorem qstG (s : mSt) {j n p : Nat} (hl : mLen j = n) (hn : n < 2 ^ 31) (hp : p < n) (x : Int32) : qAst s j (nI p) x = some (mRowSet s j (upd (s.2 j) p x)) := by
  unfold qAst pAst
  rw [hl, if_neg (nI_in hp hn), nI_clamp (by omega)]
theorem qld_0 (s : mSt) {p : Nat} (hp : p < 2355) : qAld s 0 (nI p) = some (s.2 0 p) := hb_ld (n := 2355) (s.2 0) hp (by decide)
theorem qst_0 (s : mSt) {p : Nat} (hp : p < 2355) (x : Int32) : qAst s 0 (nI p) x = some (mRowSet s 0 (upd (s.2 0) p x)) := qstG s (n := 2355) (by decide) (by decide) hp x
theorem qld_1 (s : mSt) {p : Nat} (hp : p < 2355) : qAld s 1 (nI p) = some (s.2 1 p) := hb_ld (n := 2355) (s.2 1) hp (by decide)
theorem qst_1 (s : mSt) {p : Nat} (hp : p < 2355) (x : Int32) : qAst s 1 (nI p) x = some (mRowSet s 1 (upd (s.2 1) p x)) := qstG s (n := 2355) (by decide) (by decide) hp x
theorem qld_2 (s : mSt) {p : Nat} (hp : p < 3426) : qAld s 2 (nI p) = some (s.2 2 p) := hb_ld (n := 3426) (s.2 2) hp (by decide)
theorem qst_2 (s : mSt) {p : Nat} (hp : p < 3426) (x : Int32) : qAst s 2 (nI p) x = some (mRowSet s 2 (upd (s.2 2) p x)) := qstG s (n := 3426) (by decide) (by decide) hp x
theorem qld_3 (s : mSt) {p : Nat} (hp : p < 571) : qAld s 3 (nI p) = some (s.2 3 p) := hb_ld (n := 571) (s.2 3) hp (by decide)
theorem qst_3 (s : mSt) {p : Nat} (hp : p < 571) (x : Int32) : qAst s 3 (nI p) x = some (mRowSet s 3 (upd (s.2 3) p x)) := qstG s (n := 571) (by decide) (by decide) hp x
theorem qld_4 (s : mSt) {p : Nat} (hp : p < 64) : qAld s 4 (nI p) = some (s.2 4 p) := hb_ld (n := 64) (s.2 4) hp (by decide)
theorem qst_4 (s : mSt) {p : Nat} (hp : p < 64) (x : Int32) : qAst s 4 (nI p) x = some (mRowSet s 4 (upd (s.2 4) p x)) := qstG s (n := 64) (by decide) (by decide) hp x
theorem qld_5 (s : mSt) {p : Nat} (hp : p < 820) : qAld s 5 (nI p) = some (s.2 5 p) := hb_ld (n := 820) (s.2 5) hp (by decide)
theorem qst_5 (s : mSt) {p : Nat} (hp : p < 820) (x : Int32) : qAst s 5 (nI p) x = some (mRowSet s 5 (upd (s.2 5) p x)) := qstG s (n := 820) (by decide) (by decide) hp x
theorem qld_6 (s : mSt) {p : Nat} (hp : p < 90) : qAld s 6 (nI p) = some (s.2 6 p) := hb_ld (n := 90) (s.2 6) hp (by decide)
theorem qst_6 (s : mSt) {p : Nat} (hp : p < 90) (x : Int32) : qAst s 6 (nI p) x = some (mRowSet s 6 (upd (s.2 6) p x)) := qstG s (n := 90) (by decide) (by decide) hp x
theorem qld_7 (s : mSt) {p : Nat} (hp : p < 400) : qAld s 7 (nI p) = some (s.2 7 p) := hb_ld (n := 400) (s.2 7) hp (by decide)
theorem qst_7 (s : mSt) {p : Nat} (hp : p < 400) (x : Int32) : qAst s 7 (nI p) x = some (mRowSet s 7 (upd (s.2 7) p x)) := qstG s (n := 400) (by decide) (by decide) hp x
theorem qld_8 (s : mSt) {p : Nat} (hp : p < 420) : qAld s 8 (nI p) = some (s.2 8 p) := hb_ld (n := 420) (s.2 8) hp (by decide)
theorem qst_8 (s : mSt) {p : Nat} (hp : p < 420) (x : Int32) : qAst s 8 (nI p) x = some (mRowSet s 8 (upd (s.2 8) p x)) := qstG s (n := 420) (by decide) (by decide) hp x
theorem qld_9 (s : mSt) {p : Nat} (hp : p < 11) : qAld s 9 (nI p) = some (s.2 9 p) := hb_ld (n := 11) (s.2 9) hp (by decide)
theorem qst_9 (s : mSt) {p : Nat} (hp : p < 11) (x : Int32) : qAst s 9 (nI p) x = some (mRowSet s 9 (upd (s.2 9) p x)) := qstG s (n := 11) (by decide) (by decide) hp x
theorem qld_10 (s : mSt) {p : Nat} (hp : p < 9) : qAld s 10 (nI p) = some (s.2 10 p) := hb_ld (n := 9) (s.2 10) hp (by decide)
theorem qst_10 (s : mSt) {p : Nat} (hp : p < 9) (x : Int32) : qAst s 10 (nI p) x = some (mRowSet s 10 (upd (s.2 10) p x)) := qstG s (n := 9) (by decide) (by decide) hp x
theorem qld_11 (s : mSt) {p : Nat} (hp : p < 4096) : qAld s 11 (nI p) = some (s.2 11 p) := hb_ld (n := 4096) (s.2 11) hp (by decide)
theorem qst_11 (s : mSt) {p : Nat} (hp : p < 4096) (x : Int32) : qAst s 11 (nI p) x = some (mRowSet s 11 (upd (s.2 11) p x)) := qstG s (n := 4096) (by decide) (by decide) hp x
theorem qld_12 (s : mSt) {p : Nat} (hp : p < 1681) : qAld s 12 (nI p) = some (s.2 12 p) := hb_ld (n := 1681) (s.2 12) hp (by decide)
theorem qst_12 (s : mSt) {p : Nat} (hp : p < 1681) (x : Int32) : qAst s 12 (nI p) x = some (mRowSet s 12 (upd (s.2 12) p x)) := qstG s (n := 1681) (by decide) (by decide) hp x
theorem qld_13 (s : mSt) {p : Nat} (hp : p < 16) : qAld s 13 (nI p) = some (s.2 13 p) := hb_ld (n := 16) (s.2 13) hp (by decide)
theorem qst_13 (s : mSt) {p : Nat} (hp : p < 16) (x : Int32) : qAst s 13 (nI p) x = some (mRowSet s 13 (upd (s.2 13) p x)) := qstG s (n := 16) (by decide) (by decide) hp x
theorem qld_14 (s : mSt) {p : Nat} (hp : p < 4096) : qAld s 14 (nI p) = some (s.2 14 p) := hb_ld (n := 4096) (s.2 14) hp (by decide)
theorem qst_14 (s : mSt) {p : Nat} (hp : p < 4096) (x : Int32) : qAst s 14 (nI p) x = some (mRowSet s 14 (upd (s.2 14) p x)) := qstG s (n := 4096) (by decide) (by decide) hp x
theorem qg (s : mSt) (k : Nat) : qGet s k = some (s.1 k) := by simp [qGet]
theorem qp (s : mSt) (k : Nat) (x : Int32) : qPut s k x = some (mSet s k x) := by simp [qPut]
theorem mrs_1 (s : mSt) (j : Nat) (f : Nat → Int32) : (mRowSet s j f).1 = s.1 := by simp [mRowSet]
theorem mrs_same (s : mSt) (j : Nat) (f : Nat → Int32) : (mRowSet s j f).2 j = f := by simp [mRowSet]
theorem mrs_ne (s : mSt) {j k : Nat} (f : Nat → Int32) (h : k ≠ j) : (mRowSet s j f).2 k = s.2 k := by simp [mRowSet, h]
theorem mrs_mrs (s : mSt) (j : Nat) (f g : Nat → Int32) : mRowSet (mRowSet s j f) j g = mRowSet s j g := by
  unfold mRowSet
  simp only [Prod.mk.injEq, true_and]
  funext q
  by_cases h : q = j <;> simp [h]
theorem mrs_self (s : mSt) (j : Nat) : mRowSet s j (s.2 j) = s := by
  unfold mRowSet
  refine Prod.ext rfl ?_
  funext q
  by_cases h : q = j
  · simp [h]
  · simp [h]
theorem ms_2 (s : mSt) (k : Nat) (x : Int32) : (mSet s k x).2 = s.2 := by simp [mSet]
theorem ms_same (s : mSt) (k : Nat) (x : Int32) : (mSet s k x).1 k = x := by simp [mSet, upd]
theorem ms_ne (s : mSt) {k j : Nat} (x : Int32) (h : j ≠ k) : (mSet s k x).1 j = s.1 j := by simp [mSet, upd, h]
theorem ms_self (s : mSt) {k : Nat} {x : Int32} (h : s.1 k = x) : mSet s k x = s := by
  unfold mSet
  refine Prod.ext ?_ rfl
  funext q
  by_cases e : q = k
  · simp [upd, e, h]
  · simp [upd, e]
theorem pcI {α : Type} (v : Int32) (s : mSt) (K : Int32 → mSt → Option α) : pCI (some (some (.int v), s)) K = K v s := by simp [pCI]
theorem pcV {α : Type} (s : mSt) (K : mSt → Option α) : pCV (some (none, s)) K = K s := by simp [pCV]
theorem upd_same (f : Nat → Int32) (k : Nat) (x : Int32) : upd f k x k = x := by simp [upd]
theorem upd_ne (f : Nat → Int32) {k j : Nat} (x : Int32) (h : j ≠ k) : upd f k x j = f j := by simp [upd, h]
theorem obS {α β : Type} (x : α) (K : α → Option β) : (some x).bind K = K x := by simp
theorem if0 {α : Type} (a b : α) : (if nI 0 = 0 then a else b) = a := if_pos rfl
theorem nI_z {n : Nat} (h : n < 2 ^ 31) : nI n = 0 ↔ n = 0 := nI_eq (b := 0) h (by decide)
theorem nI_z' {n : Nat} (h : n < 2 ^ 31) : 0 = nI n ↔ n = 0 := (nI_eq (a := 0) (by decide) h).trans ⟨Eq.symm, Eq.symm⟩
theorem nI_m1F {n : Nat} (h : n < 2 ^ 31) : (nI n = -1) = False := eq_false (nI_m1 n h)
theorem nI_m1F' {n : Nat} (h : n < 2 ^ 31) : ((-1 : Int32) = nI n) = False := eq_false (nI_m1' n h)
theorem nI_n1F {n : Nat} (h : n < 2 ^ 31) : (nI n = -nI 1) = False := eq_false (nI_m1 n h)
theorem nI_n1F' {n : Nat} (h : n < 2 ^ 31) : (-nI 1 = nI n) = False := eq_false (nI_m1' n h)
theorem nI_n1 {n : Nat} (h : 1 ≤ n) : nI n + -nI 1 = nI (n - 1) := sb_m1 h
