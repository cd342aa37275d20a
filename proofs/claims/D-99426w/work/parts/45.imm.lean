/-! the heap behind the owned cells: what never changes again once it is made -/
set_option maxRecDepth 100000
def hCl (A : hA) (R : sMem) : Prop := (∀ k, k < hK A → R.2.2.2 (A.2.1 k) = none ∧ A.2.1 k < R.2.1) ∧ ∀ q, R.2.1 ≤ q → R.2.2.2 q = none
/-- grown by at most c cells of n slots; what stood there stands there still -/
def hEx (c n : Nat) (R R' : sMem) : Prop := (∀ a e, R.2.2.2 a = some e → R'.2.2.2 a = some e) ∧ R.2.1 ≤ R'.2.1 ∧ R'.2.1 ≤ R.2.1 + c ∧ R.2.2.1 ≤ R'.2.2.1 ∧ R'.2.2.1 ≤ R.2.2.1 + n
theorem hEx.refl (R : sMem) : hEx 0 0 R R := ⟨fun _ _ h => h, Nat.le_refl _, Nat.le_refl _, Nat.le_refl _, Nat.le_refl _⟩
theorem hEx.trans {c n c' n' : Nat} {R R1 R2 : sMem} (h : hEx c n R R1) (g : hEx c' n' R1 R2) : hEx (c + c') (n + n') R R2 := ⟨fun a e he => g.1 a e (h.1 a e he), by have := h.2.1; have := g.2.1; omega, by have := h.2.2.1; have := g.2.2.1; omega, by have := h.2.2.2.1; have := g.2.2.2.1; omega, by have := h.2.2.2.2; have := g.2.2.2.2; omega⟩
theorem hEx.le {c n c' n' : Nat} {R R' : sMem} (h : hEx c n R R') (hc : c ≤ c') (hn : n ≤ n') : hEx c' n' R R' := ⟨h.1, h.2.1, by have := h.2.2.1; omega, h.2.2.2.1, by have := h.2.2.2.2; omega⟩
theorem hCl.ne {A : hA} {R : sMem} (h : hCl A R) {a : Nat} {e : sCell} (ha : R.2.2.2 a = some e) : ∀ k, k < hK A → A.2.1 k ≠ a := fun k hk q => by
  have := (h.1 k hk).1
  rw [q, ha] at this
  cases this
theorem hCl.fresh {A : hA} {R : sMem} (h : hCl A R) : ∀ k, k < hK A → A.2.1 k ≠ R.2.1 := fun k hk q => by
  have := (h.1 k hk).2
  omega
theorem hCl.lt {A : hA} {R : sMem} (h : hCl A R) {a : Nat} {e : sCell} (ha : R.2.2.2 a = some e) : a < R.2.1 := by
  rcases Nat.lt_or_ge a R.2.1 with g | g
  · exact g
  · rw [h.2 a g] at ha
    cases ha
theorem hCl.base {A : hA} {R : sMem} (hg : hG A) (h : hCl A R) : A.1 ≤ R.2.1 := by
  have h0 : 0 < hK A := hG.k A hg (by omega)
  have := hg.2.1 0 h0
  have := (h.1 0 h0).2
  omega
theorem hR_at {A : hA} {R : sMem} (h : hCl A R) (S : hS) {a : Nat} {e : sCell} (ha : R.2.2.2 a = some e) : (hMem A R S).2.2.2 a = some e := (hMemC_off R _ (h.ne ha)).trans ha
theorem hR_ints {A : hA} {R : sMem} (h : hCl A R) (S : hS) {a t n : Nat} {f : Nat → Int32} (ha : R.2.2.2 a = some (sArr t n f)) : sInts (hMem A R S) t a = some (n, f) := by
  simp [sInts, hR_at h S ha, sArr]
theorem hR_ld {A : hA} {R : sMem} (h : hCl A R) (S : hS) {a t n p : Nat} {f : Nat → Int32} (ha : R.2.2.2 a = some (sArr t n f)) (hp : p < n) (hn : n < 2 ^ 31) : sXld (hMem A R S) t a (nI p) = some (f p) := by
  unfold sXld
  rw [hR_ints h S ha]
  exact hb_ld f hp hn
theorem hR_len {A : hA} {R : sMem} (h : hCl A R) (S : hS) {a t n : Nat} {f : Nat → Int32} (ha : R.2.2.2 a = some (sArr t n f)) : sLen (hMem A R S) a = some (nI n) := by
  simp [sLen, hR_at h S ha, sArr]
theorem hR_lenq {A : hA} {R : sMem} (h : hCl A R) (S : hS) {a t n : Nat} {f : Nat → Option Nat} (ha : R.2.2.2 a = some (sArq t n f)) : sLen (hMem A R S) a = some (nI n) := by
  simp [sLen, hR_at h S ha, sArq]
theorem hR_refs {A : hA} {R : sMem} (h : hCl A R) (S : hS) {a t n : Nat} {f : Nat → Option Nat} (ha : R.2.2.2 a = some (sArq t n f)) (ht : 2 ≤ t) : sRfs (hMem A R S) a = some (t, n, f) := by
  simp [sRfs, hR_at h S ha, sArq, ht]
theorem hR_ldq {A : hA} {R : sMem} (h : hCl A R) (S : hS) {a t n p : Nat} {f : Nat → Option Nat} (ha : R.2.2.2 a = some (sArq t n f)) (ht : 2 ≤ t) (hp : p < n) (hn : n < 2 ^ 31) : sAldR (hMem A R S) a (nI p) = some (f p) := by
  unfold sAldR
  rw [hR_refs h S ha ht]
  simp only [Option.bind_some]
  rw [if_neg (nI_in hp hn), nI_clamp (by omega)]
theorem hR_ldn {A : hA} {R : sMem} (h : hCl A R) (S : hS) {a t n p q : Nat} {f : Nat → Option Nat} (ha : R.2.2.2 a = some (sArq t n f)) (ht : 2 ≤ t) (hp : p < n) (hn : n < 2 ^ 31) (hq : f p = some q) : sAldN (hMem A R S) a (nI p) = some q := by
  unfold sAldN
  rw [hR_ldq h S ha ht hp hn, hq]
  rfl
theorem hR_fs {A : hA} {R : sMem} (h : hCl A R) (S : hS) {a ci : Nat} {fs : List Value} (ha : R.2.2.2 a = some (sObj ci fs)) : sFs (hMem A R S) ci a = some fs := by
  simp [sFs, hR_at h S ha, sObj]
theorem hR_I {A : hA} {R : sMem} (h : hCl A R) (S : hS) {a ci k : Nat} {fs : List Value} {x : Int32} (ha : R.2.2.2 a = some (sObj ci fs)) (hk : fs[k]? = some (.int x)) : sGetI (hMem A R S) ci k a = some x := by
  unfold sGetI sGet
  rw [hR_fs h S ha, Option.bind_some, hk]
theorem hR_N {A : hA} {R : sMem} (h : hCl A R) (S : hS) {a ci k : Nat} {fs : List Value} {x : Nat} (ha : R.2.2.2 a = some (sObj ci fs)) (hk : fs[k]? = some (.ref x)) : sGetN (hMem A R S) ci k a = some x := by
  unfold sGetN sGet
  rw [hR_fs h S ha, Option.bind_some, hk]
theorem hR_chk {A : hA} {R : sMem} (h : hCl A R) (S : hS) {a ci : Nat} {fs : List Value} (ha : R.2.2.2 a = some (sObj ci fs)) (o : Option (sRes × sMem)) : sChk (hMem A R S) ci a o = o := by
  unfold sChk
  rw [hR_fs h S ha]
  rfl
/-! new cells -/
theorem hMem_new {A : hA} {R : sMem} (h : hCl A R) (S : hS) (e : sCell) (n : Nat) : sNew (hMem A R S) e n = hMem A (sNew R e n) S := hMemC_new R _ h.fresh e n
theorem hCl.new {A : hA} {R : sMem} (h : hCl A R) (e : sCell) (n : Nat) : hCl A (sNew R e n) := by
  refine ⟨fun k hk => ?_, fun q hq => ?_⟩
  · have h1 := h.1 k hk
    refine ⟨?_, by show _ < R.2.1 + 1; omega⟩
    show (if A.2.1 k = R.2.1 then some e else R.2.2.2 (A.2.1 k)) = none
    rw [if_neg (by omega)]
    exact h1.1
  · have hq' : R.2.1 + 1 ≤ q := hq
    show (if q = R.2.1 then some e else R.2.2.2 q) = none
    rw [if_neg (by omega)]
    exact h.2 q (by omega)
theorem hEx.new {A : hA} {R : sMem} (h : hCl A R) (e : sCell) (n : Nat) : hEx 1 n R (sNew R e n) := by
  refine ⟨fun a x hx => ?_, Nat.le_succ _, Nat.le_refl _, Nat.le_add_right _ _, Nat.le_refl _⟩
  show (if a = R.2.1 then some e else R.2.2.2 a) = some x
  rw [if_neg (by have := h.lt hx; omega)]
  exact hx
theorem sNew_at (R : sMem) (e : sCell) (n : Nat) : (sNew R e n).2.2.2 R.2.1 = some e := by simp [sNew]
theorem sNew_size (R : sMem) (e : sCell) (n : Nat) : (sNew R e n).2.1 = R.2.1 + 1 := rfl
theorem hNewA {A : hA} {R : sMem} (h : hCl A R) (S : hS) {t n : Nat} (hn : n < 100000000) (K : Nat → sMem → Option (sRes × sMem)) : sNewA (hMem A R S) t (nI n) K = K R.2.1 (hMem A (sNew R (sArr t n (fun _ => 0)) n) S) := by
  unfold sNewA
  rw [nI_clamp (by omega), if_neg (fun q => q.elim (nI_pos (n := n) (by omega)) (by omega)), hMem_new h]
  rfl
theorem hNewQ {A : hA} {R : sMem} (h : hCl A R) (S : hS) {t n : Nat} (hn : n < 100000000) (K : Nat → sMem → Option (sRes × sMem)) : sNewQ (hMem A R S) t (nI n) K = K R.2.1 (hMem A (sNew R (sArq t n (fun _ => none)) n) S) := by
  unfold sNewQ
  rw [nI_clamp (by omega), if_neg (fun q => q.elim (nI_pos (n := n) (by omega)) (by omega)), hMem_new h]
  rfl
theorem hNewO {A : hA} {R : sMem} (h : hCl A R) (S : hS) (ci : Nat) (fs : List Value) (n : Nat) (K : Nat → sMem → Option (sRes × sMem)) : sNewO (hMem A R S) ci fs n K = K R.2.1 (hMem A (sNew R (sObj ci fs) n) S) := by
  unfold sNewO
  rw [hMem_new h]
  rfl
/-! writes to what is being made -/
theorem hMem_upR {A : hA} {R : sMem} (h : hCl A R) (S : hS) {a : Nat} {e x : sCell} (ha : R.2.2.2 a = some x) : sUp (hMem A R S) a e = hMem A (sUp R a e) S := hMemC_upR R _ (h.ne ha) e
theorem hCl.up {A : hA} {R : sMem} (h : hCl A R) {a : Nat} {e x : sCell} (ha : R.2.2.2 a = some x) : hCl A (sUp R a e) := by
  have hl := h.lt ha
  refine ⟨fun k hk => ⟨?_, (h.1 k hk).2⟩, fun q hq => ?_⟩
  · show (if A.2.1 k = a then some e else R.2.2.2 (A.2.1 k)) = none
    rw [if_neg (h.ne ha k hk)]
    exact (h.1 k hk).1
  · have : R.2.1 ≤ q := hq
    show (if q = a then some e else R.2.2.2 q) = none
    rw [if_neg (by omega)]
    exact h.2 q this
theorem hEx.up {A : hA} {c n : Nat} {R0 R : sMem} (h0 : hCl A R0) (h : hEx c n R0 R) {a : Nat} (ha : R0.2.1 ≤ a) (e : sCell) : hEx c n R0 (sUp R a e) := by
  refine ⟨fun b x hx => ?_, h.2⟩
  have := h0.lt hx
  show (if b = a then some e else R.2.2.2 b) = some x
  rw [if_neg (by omega)]
  exact h.1 b x hx
theorem sUp_at (R : sMem) (a : Nat) (e : sCell) : (sUp R a e).2.2.2 a = some e := by simp [sUp]
theorem sUp_ne (R : sMem) {a b : Nat} (e : sCell) (h : b ≠ a) : (sUp R a e).2.2.2 b = R.2.2.2 b := by simp [sUp, h]
theorem hR_st {A : hA} {R : sMem} (hg : hG A) (h : hCl A R) (S : hS) {a t n p : Nat} {f : Nat → Int32} (ha : R.2.2.2 a = some (sArr t n f)) (hb : A.1 ≤ a) (hp : p < n) (hn : n < 2 ^ 31) (x : Int32) : sXst (hMem A R S) t a (nI p) x = some (hMem A (sUp R a (sArr t n (upd f p x))) S) := by
  unfold sXst
  rw [hR_at h S ha]
  simp only [sArr, true_and]
  rw [if_pos ⟨hb, nI_in hp hn⟩, nI_clamp (by omega), hMem_upR h S ha]
theorem hR_put {A : hA} {R : sMem} (h : hCl A R) (S : hS) {a ci k : Nat} {fs : List Value} (ha : R.2.2.2 a = some (sObj ci fs)) (hb : A.1 ≤ a) (hk : k < fs.length) (v : Value) : sPut (hMem A R S) ci k a v = some (hMem A (sUp R a (sObj ci (fs.set k v))) S) := by
  unfold sPut
  rw [hR_fs h S ha]
  simp only []
  rw [if_pos ⟨hb, hk⟩, hMem_upR h S ha]
theorem hR_stq {A : hA} {R : sMem} (h : hCl A R) (S : hS) {a t n p v : Nat} {f : Nat → Option Nat} {e : sCell} (ha : R.2.2.2 a = some (sArq t n f)) (ht : 2 ≤ t) (hb : A.1 ≤ a) (hp : p < n) (hn : n < 2 ^ 31) (hv : R.2.2.2 v = some e) (hf : sFit t e = true) : sAst (hMem A R S) a (nI p) v = some (hMem A (sUp R a (sArq t n (va_up f p (some v)))) S) := by
  unfold sAst
  rw [hR_refs h S ha ht, hR_at h S hv]
  simp only []
  rw [if_pos ⟨hf, hb, nI_in hp hn⟩, nI_clamp (by omega), hMem_upR h S ha]
/-! calls -/
theorem hcI (v : Int32) (M : sMem) (K : Int32 → sMem → Option (sRes × sMem)) : sCall (some (.inl (some (.int v)), M)) (sCI K) = K v M := by simp [sCall, sCI]
theorem hcN (v : Nat) (M : sMem) (K : Nat → sMem → Option (sRes × sMem)) : sCall (some (.inl (some (.ref v)), M)) (sCN K) = K v M := by simp [sCall, sCN]
theorem hcV (M : sMem) (K : sMem → Option (sRes × sMem)) : sCall (some (.inl none, M)) (sCV K) = K M := by simp [sCall, sCV]
theorem hcX {M : sMem} {q : Nat} (K : Option Value → sMem → Option (sRes × sMem)) : sCall (some (.inr q, M)) K = some (.inr q, M) := by simp [sCall]
