/-! a new trays object: made, and owned -/
set_option maxRecDepth 100000
theorem sNew_ne (R : sMem) (e : sCell) (n : Nat) {a : Nat} (h : a ≠ R.2.1) : (sNew R e n).2.2.2 a = R.2.2.2 a := by simp [sNew, h]
def hAx (A : hA) (r : Nat) : hA := (A.1, fun k => if k < hK A then A.2.1 k else r + (k - hK A), A.2.2 + 1)
def hEr (R : sMem) (r n : Nat) : sMem := (R.1, R.2.1, R.2.2.1, fun q => if r ≤ q ∧ q < r + n then none else R.2.2.2 q)
theorem hAx_k (A : hA) (r : Nat) : hK (hAx A r) = hK A + 8 := by
  show 25 + 8 * (A.2.2 + 1) = 25 + 8 * A.2.2 + 8
  omega
theorem hAx_old (A : hA) (r : Nat) {k : Nat} (hk : k < hK A) : (hAx A r).2.1 k = A.2.1 k := by
  show (if k < hK A then A.2.1 k else _) = _
  rw [if_pos hk]
theorem hAx_new (A : hA) (r j : Nat) : (hAx A r).2.1 (hK A + j) = r + j := by
  show (if hK A + j < hK A then _ else r + (hK A + j - hK A)) = _
  rw [if_neg (by omega)]
  omega
theorem hAx_G {A : hA} {r : Nat} (h : hG A) (hr : ∀ k, k < hK A → A.2.1 k < r) (hb : A.1 ≤ r) : hG (hAx A r) := by
  have ge := hAx_k A r
  refine ⟨fun j k hj hk e => ?_, fun k hk => ?_, fun j hj => ?_, by show 3 ≤ A.2.2 + 1; have := h.2.2.2; omega⟩
  · rw [ge] at hj hk
    by_cases a : j < hK A
    · by_cases b : k < hK A
      · rw [hAx_old A r a, hAx_old A r b] at e
        exact h.1 j k a b e
      · obtain ⟨m, rfl⟩ : ∃ m, k = hK A + m := ⟨k - hK A, by omega⟩
        rw [hAx_old A r a, hAx_new] at e
        have := hr j a
        omega
    · obtain ⟨l, rfl⟩ : ∃ l, j = hK A + l := ⟨j - hK A, by omega⟩
      by_cases b : k < hK A
      · rw [hAx_new, hAx_old A r b] at e
        have := hr k b
        omega
      · obtain ⟨m, rfl⟩ : ∃ m, k = hK A + m := ⟨k - hK A, by omega⟩
        rw [hAx_new, hAx_new] at e
        omega
  · show A.1 ≤ _
    rw [ge] at hk
    by_cases b : k < hK A
    · rw [hAx_old A r b]
      exact h.2.1 k b
    · obtain ⟨m, rfl⟩ : ∃ m, k = hK A + m := ⟨k - hK A, by omega⟩
      rw [hAx_new]
      omega
  · rw [hAx_old A r (hG.k A h (by omega)), hAx_old A r (hG.k A h (by omega))]
    exact h.2.2.1 j hj
theorem hFnd_ext {ad ad' : Nat → Nat} {q : Nat} : ∀ {n : Nat}, (∀ k, k < n → ad' k = ad k) → hFnd ad' q n = hFnd ad q n
  | 0, _ => rfl
  | n + 1, h => by
    unfold hFnd
    rw [h n (by omega), hFnd_ext (n := n) (fun k hk => h k (by omega))]
theorem hAbs {A : hA} {R : sMem} {S S' : hS} {r : Nat} (hg : hG A) (hc : hCl A R) (hr : ∀ k, k < hK A → A.2.1 k < r) (hb : A.1 ≤ r) (hs : r + 8 ≤ R.2.1) (cells : ∀ j, j < 8 → R.2.2.2 (r + j) = some (hCell (hAx A r) S' (hK A + j))) (old : ∀ k, k < hK A → hCell (hAx A r) S' k = hCell A S k) : hMem A R S = hMem (hAx A r) (hEr R r 8) S' ∧ hG (hAx A r) ∧ hCl (hAx A r) (hEr R r 8) := by
  have hg' := hAx_G hg hr hb
  have ge := hAx_k A r
  refine ⟨?_, hg', fun k hk => ?_, fun q hq => ?_⟩
  · unfold hMem hMemC
    show (A.1, R.2.1, R.2.2.1, _) = (A.1, R.2.1, R.2.2.1, _)
    congr 3
    funext q
    by_cases h1 : r ≤ q ∧ q < r + 8
    · obtain ⟨j, rfl⟩ : ∃ j, q = r + j := ⟨q - r, by omega⟩
      have e1 : hFnd A.2.1 (r + j) (hK A) = none := hFnd_none (fun k hk e => by have := hr k hk; omega)
      have e2 : hFnd (hAx A r).2.1 (r + j) (hK (hAx A r)) = some (hK A + j) := by
        rw [← hAx_new A r j]
        exact hFnd_at hg'.1 (by rw [ge]; omega)
      rw [e1, e2]
      exact cells j (by omega)
    · cases hf : hFnd A.2.1 q (hK A) with
      | some k =>
        have hk := hFnd_some hf
        have e2 : hFnd (hAx A r).2.1 q (hK (hAx A r)) = some k := by
          rw [← hk.2, ← hAx_old A r hk.1]
          exact hFnd_at hg'.1 (by rw [ge]; omega)
        rw [e2]
        exact congrArg some (old k hk.1).symm
      | none =>
        have e2 : hFnd (hAx A r).2.1 q (hK (hAx A r)) = none := hFnd_none (fun k hk e => by
          rw [ge] at hk
          by_cases b : k < hK A
          · rw [hAx_old A r b] at e
            have := hFnd_at hg.1 b
            rw [e, hf] at this
            cases this
          · obtain ⟨m, rfl⟩ : ∃ m, k = hK A + m := ⟨k - hK A, by omega⟩
            rw [hAx_new] at e
            omega)
        rw [e2]
        show R.2.2.2 q = if r ≤ q ∧ q < r + 8 then none else R.2.2.2 q
        rw [if_neg h1]
  · rw [ge] at hk
    by_cases b : k < hK A
    · rw [hAx_old A r b]
      have := hc.1 k b
      have := hr k b
      refine ⟨?_, (hc.1 k b).2⟩
      show (if _ then none else _) = none
      rw [if_neg (by omega)]
      exact (hc.1 k b).1
    · obtain ⟨m, rfl⟩ : ∃ m, k = hK A + m := ⟨k - hK A, by omega⟩
      rw [hAx_new]
      refine ⟨?_, by show _ < R.2.1; omega⟩
      show (if r ≤ r + m ∧ r + m < r + 8 then none else _) = none
      rw [if_pos ⟨by omega, by omega⟩]
  · have : R.2.1 ≤ q := hq
    show (if _ then none else _) = none
    split
    · rfl
    · exact hc.2 q this
/-- a step of the constructor: a row made and put -/
theorem mk_row {A : hA} {R : sMem} (hc : hCl A R) (S : hS) {r k n : Nat} {fs : List Value} (hr : R.2.2.2 r = some (sObj 2 fs)) (hb : A.1 ≤ r) (hk : k < fs.length) (hn : n < 100000000) (K : sMem → Option (sRes × sMem)) : (sNewA (hMem A R S) 0 (nI n) fun r1 M => (sPut M 2 k r (.ref r1)).bind K) = K (hMem A (sUp (sNew R (sArr 0 n (fun _ => 0)) n) r (sObj 2 (fs.set k (.ref R.2.1)))) S) := by
  have hl := hc.lt hr
  rw [hNewA hc S hn]
  have c1 := hc.new (sArr 0 n (fun _ => 0)) n
  rw [hR_put c1 S (a := r) (fs := fs) (by rw [sNew_ne _ _ _ (by omega)]; exact hr) hb hk, obS]
def t100 : Nat → Int32 := fun p => if p = 1 then 100 else 0
/-- what the constructor of a trays makes -/
theorem f_newTrays {A : hA} {R : sMem} (hg : hG A) (hc : hCl A R) (S : hS) : ∃ R1, f_X2_init R.2.1 (hX A) (hMem A (sNew R (sObj 2 [.null, .null, .null, .null, .null, .null, .null, .int 0, .int 0, .int 0, .int 0, .int 0, .int 0, .int 0, .int 0, .int 0, .int 0, .int 0, .null]) 19) S) = some (.inl none, hMem A R1 S) ∧ hCl A R1 ∧ hEx 8 600 R R1 ∧ R1.2.1 = R.2.1 + 8 ∧ R1.2.2.2 R.2.1 = some (sObj 2 [.ref (R.2.1 + 1), .ref (R.2.1 + 2), .ref (R.2.1 + 3), .ref (R.2.1 + 4), .ref (R.2.1 + 5), .ref (R.2.1 + 6), .ref (R.2.1 + 7), .int 0, .int 0, .int 100, .int 0, .int 0, .int 0, .int 0, .int 0, .int 0, .int 0, .int 0, .ref (hX A)]) ∧ (∀ j, j < 6 → R1.2.2.2 (R.2.1 + 1 + j) = some (sArr 0 12 (fun _ => 0))) ∧ R1.2.2.2 (R.2.1 + 7) = some (sArr 0 480 (fun _ => 0)) := by
  have hb := hCl.base hg hc
  unfold f_X2_init
  generalize hfs : ([.null, .null, .null, .null, .null, .null, .null, .int 0, .int 0, .int 0, .int 0, .int 0, .int 0, .int 0, .int 0, .int 0, .int 0, .int 0, .null] : List Value) = fs
  have hl : fs.length = 19 := by rw [← hfs]; rfl
  have e0 : hEx 1 19 R (sNew R (sObj 2 fs) 19) := hEx.new hc _ _
  have c0 : hCl A (sNew R (sObj 2 fs) 19) := hc.new _ _
  have x0 : (sNew R (sObj 2 fs) 19).2.2.2 R.2.1 = some (sObj 2 fs) := sNew_at _ _ _
  have s0 : (sNew R (sObj 2 fs) 19).2.1 = R.2.1 + 1 := rfl
  generalize sNew R (sObj 2 fs) 19 = R0 at *
  rw [hR_put c0 S x0 hb (by omega), obS]
  have e1 := e0.up hc (a := R.2.1) (Nat.le_refl _) (sObj 2 (fs.set 18 (.ref (hX A))))
  have c1 : hCl A (sUp R0 R.2.1 (sObj 2 (fs.set 18 (.ref (hX A))))) := c0.up x0
  have x1 := sUp_at R0 R.2.1 (sObj 2 (fs.set 18 (.ref (hX A))))
  have s1 : (sUp R0 R.2.1 (sObj 2 (fs.set 18 (.ref (hX A))))).2.1 = R.2.1 + 1 := s0
  have hl1 : (fs.set 18 (.ref (hX A))).length = 19 := by rw [List.length_set]; exact hl
  generalize sUp R0 R.2.1 (sObj 2 (fs.set 18 (.ref (hX A)))) = R1 at *
  generalize hf1 : fs.set 18 (.ref (hX A)) = f1 at *
  -- the rows
  have step : ∀ (Ra : sMem) (f : List Value) (k n c s : Nat), hCl A Ra → hEx c s R Ra → Ra.2.2.2 R.2.1 = some (sObj 2 f) → f.length = 19 → k < 19 → n < 100000000 → Ra.2.1 = R.2.1 + (k + 1) → ∃ Rb f', f' = f.set k (.ref (R.2.1 + (k + 1))) ∧ (∀ K : sMem → Option (sRes × sMem), (sNewA (hMem A Ra S) 0 (nI n) fun r1 M => (sPut M 2 k R.2.1 (.ref r1)).bind K) = K (hMem A Rb S)) ∧ hCl A Rb ∧ hEx (c + 1) (s + n) R Rb ∧ Rb.2.2.2 R.2.1 = some (sObj 2 f') ∧ f'.length = 19 ∧ Rb.2.1 = R.2.1 + (k + 1 + 1) ∧ Rb.2.2.2 (R.2.1 + (k + 1)) = some (sArr 0 n (fun _ => 0)) ∧ ∀ a, a ≠ R.2.1 → a ≠ R.2.1 + (k + 1) → Rb.2.2.2 a = Ra.2.2.2 a := by
    intro Ra f k n c s hca hex hx hlf hk hn hsz
    have hca1 := hca.new (sArr 0 n (fun _ => 0)) n
    have hx1 : (sNew Ra (sArr 0 n (fun _ => 0)) n).2.2.2 R.2.1 = some (sObj 2 f) := by rw [sNew_ne _ _ _ (by omega)]; exact hx
    refine ⟨sUp (sNew Ra (sArr 0 n (fun _ => 0)) n) R.2.1 (sObj 2 (f.set k (.ref (R.2.1 + (k + 1))))), _, rfl, fun K => ?_, hca1.up hx1, ?_, sUp_at _ _ _, by rw [List.length_set]; exact hlf, ?_, ?_, fun a h1 h2 => ?_⟩
    · rw [mk_row hca S hx hb (by omega) hn, hsz]
    · exact (hex.trans (hEx.new hca _ _)).up hc (Nat.le_refl _) _
    · show Ra.2.1 + 1 = _
      omega
    · rw [sUp_ne _ _ (by omega), ← hsz]
      exact sNew_at _ _ _
    · rw [sUp_ne _ _ h1, sNew_ne _ _ _ (by omega)]
  obtain ⟨Ra, laa, qa, ka, ca, ea, xa, la, sa, va, oa⟩ := step R1 f1 0 12 1 19 c1 e1 x1 hl1 (by omega) (by omega) s1
  obtain ⟨Rb, lbb, qb, kb, cb, eb, xb, lb, sb, vb, ob⟩ := step Ra _ 1 12 _ _ ca ea xa la (by omega) (by omega) sa
  obtain ⟨Rc, lcc, qc, kc, cc, ec, xc, lc, sc, vc, oc⟩ := step Rb _ 2 12 _ _ cb eb xb lb (by omega) (by omega) sb
  obtain ⟨Rd, ldd, qd, kd, cd, ed, xd, ld, sd, vd, od⟩ := step Rc _ 3 12 _ _ cc ec xc lc (by omega) (by omega) sc
  obtain ⟨Re, lee, qe, ke, ce, ee, xe, le, se, ve, oe⟩ := step Rd _ 4 12 _ _ cd ed xd ld (by omega) (by omega) sd
  obtain ⟨Rf, lff, qf, kf, cf, ef, xf, lf, sf, vf, of⟩ := step Re _ 5 12 _ _ ce ee xe le (by omega) (by omega) se
  obtain ⟨Rg, lgg, qg, kg, cg, eg, xg, lg, sg, vg, og⟩ := step Rf _ 6 480 _ _ cf ef xf lf (by omega) (by omega) sf
  refine ⟨sUp Rg R.2.1 (sObj 2 (lgg.set 9 (.int 100))), ?_, cg.up xg, ((eg.up hc (a := R.2.1) (Nat.le_refl _) _).le (by omega) (by omega)), by show Rg.2.1 = _; omega, ?_, ?_, ?_⟩
  rotate_left
  · rw [sUp_at]
    rw [qg, qf, qe, qd, qc, qb, qa, ← hf1, ← hfs]
    rfl
  · intro j hj
    rw [sUp_ne _ _ (by omega)]
    have : j = 0 ∨ j = 1 ∨ j = 2 ∨ j = 3 ∨ j = 4 ∨ j = 5 := by omega
    rcases this with rfl | rfl | rfl | rfl | rfl | rfl
    · rw [og _ (by omega) (by omega), of _ (by omega) (by omega), oe _ (by omega) (by omega), od _ (by omega) (by omega), oc _ (by omega) (by omega), ob _ (by omega) (by omega)]
      exact va
    · rw [og _ (by omega) (by omega), of _ (by omega) (by omega), oe _ (by omega) (by omega), od _ (by omega) (by omega), oc _ (by omega) (by omega)]
      exact vb
    · rw [og _ (by omega) (by omega), of _ (by omega) (by omega), oe _ (by omega) (by omega), od _ (by omega) (by omega)]
      exact vc
    · rw [og _ (by omega) (by omega), of _ (by omega) (by omega), oe _ (by omega) (by omega)]
      exact vd
    · rw [og _ (by omega) (by omega), of _ (by omega) (by omega)]
      exact ve
    · rw [og _ (by omega) (by omega)]
      exact vf
  · rw [sUp_ne _ _ (by omega)]
    exact vg
  · have n12 : (12 : Int32) = nI 12 := rfl
    have n480 : (480 : Int32) = nI 480 := rfl
    rw [n12, n480, ka, kb, kc, kd, ke, kf, kg, hR_put cg S xg hb (by rw [lg]; omega), obS]
