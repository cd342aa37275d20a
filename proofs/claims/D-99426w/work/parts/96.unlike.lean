/-! how unlike two threads are -/
set_option maxRecDepth 100000
/-- a row that is being written -/
theorem ar_ld {A : hA} {R1 : sMem} (hc1 : hCl A R1) (S : hS) {r n : Nat} {F0 F : Nat → Int32} (hr : R1.2.2.2 r = some (sArr 0 n F0)) (hn : n < 2 ^ 31) {p : Nat} (hp : p < n) : sXld (hMem A (sUp R1 r (sArr 0 n F)) S) 0 r (nI p) = some (F p) := hR_ld (hc1.up hr) S (sUp_at R1 r (sArr 0 n F)) hp hn
theorem ar_st {A : hA} {R1 : sMem} (hg : hG A) (hc1 : hCl A R1) (S : hS) {r n : Nat} {F0 F : Nat → Int32} (hr : R1.2.2.2 r = some (sArr 0 n F0)) (hb : A.1 ≤ r) (hn : n < 2 ^ 31) {p : Nat} (hp : p < n) (x : Int32) : sXst (hMem A (sUp R1 r (sArr 0 n F)) S) 0 r (nI p) x = some (hMem A (sUp R1 r (sArr 0 n (upd F p x))) S) := by
  have := hR_st hg (hc1.up hr) S (sUp_at R1 r (sArr 0 n F)) hb hp hn x
  rw [sUp_sUp] at this
  exact this
theorem ar_len {A : hA} {R1 : sMem} (hc1 : hCl A R1) (S : hS) {r n : Nat} {F0 F : Nat → Int32} (hr : R1.2.2.2 r = some (sArr 0 n F0)) : sLen (hMem A (sUp R1 r (sArr 0 n F)) S) r = some (nI n) := hR_len (hc1.up hr) S (sUp_at R1 r (sArr 0 n F))
theorem mn2 {a b : Nat} (ha : a < 2 ^ 31) (hb : b < 2 ^ 31) : (if nI b < nI a then nI b else nI a) = nI (min a b) := by
  by_cases c : b < a
  · rw [if_pos ((nI_ltI hb ha).mpr c)]
    congr 1
    omega
  · rw [if_neg (fun q => c ((nI_ltI hb ha).mp q))]
    congr 1
    omega
theorem mn2' {a b : Nat} (ha : a < 2 ^ 31) (hb : b < 2 ^ 31) : (if nI b ≤ nI a then nI b else nI a) = nI (min a b) := by
  by_cases c : b ≤ a
  · rw [if_pos ((nI_leI hb ha).mpr c)]
    congr 1
    omega
  · rw [if_neg (fun q => c ((nI_leI hb ha).mp q))]
    congr 1
    omega
theorem mx2 {a b : Nat} (ha : a < 2 ^ 31) (hb : b < 2 ^ 31) : (if nI a < nI b then nI b else nI a) = nI (max a b) := by
  by_cases c : a < b
  · rw [if_pos ((nI_ltI ha hb).mpr c)]
    congr 1
    omega
  · rw [if_neg (fun q => c ((nI_ltI ha hb).mp q))]
    congr 1
    omega
theorem mx2' {a b : Nat} (ha : a < 2 ^ 31) (hb : b < 2 ^ 31) : (if nI a ≤ nI b then nI b else nI a) = nI (max a b) := by
  by_cases c : a ≤ b
  · rw [if_pos ((nI_leI ha hb).mpr c)]
    congr 1
    omega
  · rw [if_neg (fun q => c ((nI_leI ha hb).mp q))]
    congr 1
    omega
theorem ite01 (c : Prop) [Decidable c] : (if c then (0 : Int32) else 1) = nI (if c then 0 else 1) := by
  by_cases h : c
  · rw [if_pos h, if_pos h]; rfl
  · rw [if_neg h, if_neg h]; rfl
/-- counting down -/
def dnI (n r : Nat) : Int32 := if r ≤ n then nI (n - r) else -1
theorem dnI_in {n r : Nat} (h : r ≤ n) : dnI n r = nI (n - r) := if_pos h
theorem dnI_end (n : Nat) : dnI n (n + 1) = -1 := if_neg (by omega)
theorem dnI_s {n r : Nat} (h : r ≤ n) : nI (n - r) + -1 = dnI n (r + 1) := by
  unfold dnI
  by_cases c : r + 1 ≤ n
  · rw [if_pos c, show n - r = (n - (r + 1)) + 1 by omega]
    exact pk_m1 _
  · rw [if_neg c, show n - r = 0 by omega]
    decide
theorem f_unlike {A : hA} {R : sMem} {S : hS} {g : Nat → Nat} {b L : Nat} {xs : Nat → Int32} (h : hInv A R S g b L xs) {lo : Nat → Nat} (hlo : ∀ i, i < hN (S.2.2.2.1 0) → S.2.2.2.1 0 (19 + i) = nI (lo i) ∧ lo i ≤ 40) {ia ib : Nat} (ha : ia < hN (S.2.2.2.1 0)) (hb9 : ib < hN (S.2.2.2.1 0)) {R1 : sMem} (hc1 : hCl A R1) {r : Nat} (hb : A.1 ≤ r) (hr : R1.2.2.2 r = some (sArr 0 (lo ib + 1) (fun _ => 0))) : ∃ F : Nat → Int32, f_X0_unlike_L35 (hX A) (nI ia) (nI ib) r sFuel 0 (hMem A R1 S) = some (.inl (some (.int (nI (edN (fun p => S.2.2.2.1 0 (91 + 40 * ia + p)) (fun p => S.2.2.2.1 0 (91 + 40 * ib + p)) (lo ia) (lo ib))))), hMem A (sUp R1 r (sArr 0 (lo ib + 1) F)) S) := by
  have hg := h.1.1
  have h3 : 0 < A.2.2 := by have := hg.2.2.2; omega
  have hn := h.act.n
  have hs : sFuel = 1000000 := rfl
  obtain ⟨e1, l1⟩ := hlo ia ha
  obtain ⟨e2, l2⟩ := hlo ib hb9
  have fa := fun (R2 : sMem) p (hp : p < 40) => fx_mark hg R2 S (k := 0) h3 (i := ia) (p := p) (by omega) hp
  have fb := fun (R2 : sMem) p (hp : p < 40) => fx_mark hg R2 S (k := 0) h3 (i := ib) (p := p) (by omega) hp
  have eda : ∀ p, S.2.2.2.1 0 (91 + 40 * ia + p) = (fun p => S.2.2.2.1 0 (91 + 40 * ia + p)) p := fun _ => rfl
  have edb : ∀ p, S.2.2.2.1 0 (91 + 40 * ib + p) = (fun p => S.2.2.2.1 0 (91 + 40 * ib + p)) p := fun _ => rfl
  generalize (fun p => S.2.2.2.1 0 (91 + 40 * ia + p)) = da at *
  generalize (fun p => S.2.2.2.1 0 (91 + 40 * ib + p)) = db at *
  simp only [eda] at fa
  simp only [edb] at fb
  have ed := fun i j => edN_le da db i j
  generalize lo ia = na at *
  generalize lo ib = nb at *
  have ld := fun (F : Nat → Int32) p (hp : p < nb + 1) => ar_ld (F := F) hc1 S hr (by omega) hp
  have st := fun (F : Nat → Int32) p (hp : p < nb + 1) x => ar_st (F := F) hg hc1 S hr hb (by omega) hp x
  have ln := fun (F : Nat → Int32) => ar_len (F := F) hc1 S hr
  -- the rows one by one
  have J2 : ∀ F : Nat → Int32, (∀ j, j ≤ nb → F j = nI (edN da db 0 j)) → ∃ F' : Nat → Int32, f_X0_unlike_L57 (hX A) (nI ia) (nI ib) r sFuel 0 (hMem A (sUp R1 r (sArr 0 (nb + 1) F)) S) = some (.inl (some (.int (nI (edN da db na nb)))), hMem A (sUp R1 r (sArr 0 (nb + 1) F')) S) := by
    intro F0 hF0
    refine lk (α := Nat → Int32) (fun f k F => f_X0_unlike_L57 (hX A) (nI ia) (nI ib) r f (nI k) (hMem A (sUp R1 r (sArr 0 (nb + 1) F)) S)) (fun _ _ _ => none) na (fun k F => ∀ j, j ≤ nb → F j = nI (edN da db k j)) (fun o _ => ∃ F' : Nat → Int32, o = some (.inl (some (.int (nI (edN da db na nb)))), hMem A (sUp R1 r (sArr 0 (nb + 1) F')) S)) ?_ ?_ (by omega) F0 hF0
    · intro f f' i F hi hF
      have c0 : ¬ na ≤ i := by omega
      have IN := lkS (α := (Nat → Int32) × Nat) (fun q j x => f_X0_unlike_L86 (f_X0_unlike_L57 (hX A) (nI ia) (nI ib) r f) (hX A) (nI ia) (nI ib) r (nI i) q (nI x.2) (nI j) (hMem A (sUp R1 r (sArr 0 (nb + 1) x.1)) S)) (fun _ _ _ => none) (nb + 1) (fun j x => 0 < j ∧ x.2 = edN da db i (j - 1) ∧ (∀ k, k < j → x.1 k = nI (edN da db (i + 1) k)) ∧ ∀ k, j ≤ k → k ≤ nb → x.1 k = nI (edN da db i k)) (fun o _ => ∃ F' : Nat → Int32, (∀ j, j ≤ nb → F' j = nI (edN da db (i + 1) j)) ∧ o = f_X0_unlike_L57 (hX A) (nI ia) (nI ib) r f (nI (i + 1)) (hMem A (sUp R1 r (sArr 0 (nb + 1) F')) S)) ?_ ?_ nb 1 sFuel sFuel (upd F 0 (nI (i + 1)), i) (by omega) (by omega) (by omega) ⟨by omega, by rw [edN_0], fun k hk => by
        have : k = 0 := by omega
        subst this
        show upd F 0 (nI (i + 1)) 0 = _
        rw [upd_same, edN_0], fun k h1 h2 => by
        show upd F 0 (nI (i + 1)) k = _
        rw [upd_ne _ _ (by omega), hF k h2]⟩
      · obtain ⟨F', h1, h2⟩ := IN
        refine Or.inl ⟨F', h1, ?_, rfl⟩
        rw [← h2]
        have l0 := ld F 0 (by omega)
        rw [hF 0 (by omega), edN_0] at l0
        have s0 := st F 0 (by omega) (nI (i + 1))
        have l0' : sXld (hMem A (sUp R1 r (sArr 0 (nb + 1) F)) S) 0 r 0 = some (nI i) := l0
        have s0' : sXst (hMem A (sUp R1 r (sArr 0 (nb + 1) F)) S) 0 r 0 (nI (i + 1)) = _ := s0
        simp (disch := omega) only [f_X0_unlike_L57, xgN_23 hg, xgN_22 hg, xgI_21 hg, hx_chk hg, ht_chk hg, tgN_5 hg, trl_5 hg, tgN_3 hg, trl_3 hg, obS, e1, nI_leI, c0, ↓reduceIte, l0', nI_1, s0']
        rfl
      · intro q q' j x hj ⟨j0, hx1, hx2, hx3⟩
        have c1 : ¬ nb + 1 ≤ j := by omega
        obtain ⟨j, rfl⟩ : ∃ z, j = z + 1 := ⟨j - 1, by omega⟩
        obtain ⟨F, bf⟩ := x
        simp only [Nat.add_sub_cancel] at hx1
        subst hx1
        have lw := ld F (j + 1) (by omega)
        have lp := ld F j (by omega)
        dsimp only at hx2 hx3
        rw [hx3 (j + 1) (by omega) (by omega)] at lw
        rw [hx2 j (by omega)] at lp
        have sw := fun y => st F (j + 1) (by omega) y
        have m1 := fa (sUp R1 r (sArr 0 (nb + 1) F)) i (by omega)
        have m2 := fb (sUp R1 r (sArr 0 (nb + 1) F)) j (by omega)
        have pr : nI (j + 1) - 1 = nI j := nI_pred j
        have b1 := ed i (j + 1)
        have b2 := ed (i + 1) j
        have b3 := ed i j
        have val : (if (if nI (edN da db (i + 1) j) < nI (edN da db i (j + 1)) then nI (edN da db (i + 1) j) else nI (edN da db i (j + 1))) + 1 < nI (edN da db i j) + (if da i = db j then (0 : Int32) else 1) then (if nI (edN da db (i + 1) j) < nI (edN da db i (j + 1)) then nI (edN da db (i + 1) j) else nI (edN da db i (j + 1))) + 1 else nI (edN da db i j) + (if da i = db j then (0 : Int32) else 1)) = nI (edN da db (i + 1) (j + 1)) := by
          rw [mn2 (by omega) (by omega), nI_1, ite01, nI_add, mn2 (by split <;> omega) (by omega), edN_s]
        refine Or.inl ⟨(upd F (j + 1) (nI (edN da db (i + 1) (j + 1))), edN da db i (j + 1)), ⟨by omega, rfl, fun k hk => ?_, fun k h1 h2 => ?_⟩, ?_, rfl⟩
        · dsimp only
          by_cases c : k = j + 1
          · subst c; rw [upd_same]
          · rw [upd_ne _ _ c, hx2 k (by omega)]
        · dsimp only
          rw [upd_ne _ _ (by omega), hx3 k (by omega) h2]
        · simp (disch := omega) only [f_X0_unlike_L86, ln, obS, nI_leI, c1, ↓reduceIte, lw, xgN_23 hg, xgN_22 hg, xgI_21 hg, hx_chk hg, ht_chk hg, tgN_5 hg, trl_5 hg, tgN_3 hg, trl_3 hg, m1, m2, hcI, pr, lp, val, sw, nI_1]
      · intro q q' x ⟨_, hx1, hx2, hx3⟩
        have c1 : nb + 1 ≤ nb + 1 := Nat.le_refl _
        refine ⟨x.1, fun j hj => hx2 j (by omega), ?_⟩
        simp (disch := omega) only [f_X0_unlike_L86, ln, obS, nI_leI, c1, ↓reduceIte, nI_1]
    · intro f f' F hF
      have c0 : na ≤ na := Nat.le_refl _
      have l0 := ld F nb (by omega)
      rw [hF nb (by omega)] at l0
      have pr : nI (nb + 1) - 1 = nI nb := nI_pred nb
      refine ⟨F, ?_⟩
      simp (disch := omega) only [f_X0_unlike_L57, xgN_23 hg, xgN_22 hg, xgI_21 hg, hx_chk hg, ht_chk hg, tgN_5 hg, trl_5 hg, tgN_3 hg, trl_3 hg, obS, e1, nI_leI, c0, ↓reduceIte, ln, pr, l0]
  have J1 := lk (α := Nat → Int32) (fun f k F => f_X0_unlike_L35 (hX A) (nI ia) (nI ib) r f (nI k) (hMem A (sUp R1 r (sArr 0 (nb + 1) F)) S)) (fun _ _ _ => none) (nb + 1) (fun k F => ∀ j, j < k → F j = nI j) (fun o _ => ∃ F : Nat → Int32, o = some (.inl (some (.int (nI (edN da db na nb)))), hMem A (sUp R1 r (sArr 0 (nb + 1) F)) S)) ?_ ?_ (by omega) (fun _ => 0) (fun j hj => by omega)
  · have J1' : ∃ F : Nat → Int32, f_X0_unlike_L35 (hX A) (nI ia) (nI ib) r sFuel 0 (hMem A (sUp R1 r (sArr 0 (nb + 1) (fun _ => 0))) S) = some (.inl (some (.int (nI (edN da db na nb)))), hMem A (sUp R1 r (sArr 0 (nb + 1) F)) S) := J1
    rw [sUp_self R1 hr] at J1'
    exact J1'
  · intro f f' k F hk hF
    have c0 : ¬ nb + 1 ≤ k := by omega
    have s0 := st F k hk (nI k)
    refine Or.inl ⟨upd F k (nI k), fun j hj => ?_, ?_, rfl⟩
    · by_cases c : j = k
      · subst c; rw [upd_same]
      · rw [upd_ne _ _ c, hF j (by omega)]
    · simp (disch := omega) only [f_X0_unlike_L35, ln, obS, nI_leI, c0, ↓reduceIte, s0, nI_1]
  · intro f f' F hF
    have c0 : nb + 1 ≤ nb + 1 := Nat.le_refl _
    obtain ⟨F', e⟩ := J2 F (fun j hj => by rw [hF j (by omega), edN_0'])
    refine ⟨F', ?_⟩
    simp (disch := omega) only [f_X0_unlike_L35, ln, obS, nI_leI, c0, ↓reduceIte]
    exact e
theorem px_unlike {A : hA} {R : sMem} {S : hS} {g : Nat → Nat} {b L : Nat} {xs : Nat → Int32} (h : hInv A R S g b L xs) (m : Nat) {lo : Nat → Nat} (hlo : ∀ i, i < hN (S.2.2.2.1 0) → S.2.2.2.1 0 (19 + i) = nI (lo i) ∧ lo i ≤ 40) {ia ib : Nat} (ha : ia < hN (S.2.2.2.1 0)) (hb9 : ib < hN (S.2.2.2.1 0)) : ∃ G : Nat → Int32, p_X3_unlike_L28 m (nI ia) (nI ib) sFuel (nI (lo ia)) S.2.2.2.2.2 = some (some (.int (nI (edN (fun p => S.2.2.2.1 0 (91 + 40 * ia + p)) (fun p => S.2.2.2.1 0 (91 + 40 * ib + p)) (lo ia) (lo ib)))), mRowSet S.2.2.2.2.2 12 G) := by
  have ht := h.t0
  have hn := h.act.n
  have hs : sFuel = 1000000 := rfl
  obtain ⟨e1, l1⟩ := hlo ia ha
  obtain ⟨e2, l2⟩ := hlo ib hb9
  have r0 : ∀ G, (mRowSet S.2.2.2.2.2 12 G).2 0 = S.2.2.2.1 0 := fun G => by rw [mrs_ne _ _ (by omega), ht]
  have pa := fun G p (hp : p < 40) => px_mark2 m (mRowSet S.2.2.2.2.2 12 G) (i := ia) (p := p) (by omega) hp
  have pb := fun G p (hp : p < 40) => px_mark2 m (mRowSet S.2.2.2.2.2 12 G) (i := ib) (p := p) (by omega) hp
  simp only [r0] at pa pb
  have eda : ∀ p, S.2.2.2.1 0 (91 + 40 * ia + p) = (fun p => S.2.2.2.1 0 (91 + 40 * ia + p)) p := fun _ => rfl
  have edb : ∀ p, S.2.2.2.1 0 (91 + 40 * ib + p) = (fun p => S.2.2.2.1 0 (91 + 40 * ib + p)) p := fun _ => rfl
  generalize (fun p => S.2.2.2.1 0 (91 + 40 * ia + p)) = da at *
  generalize (fun p => S.2.2.2.1 0 (91 + 40 * ib + p)) = db at *
  simp only [eda] at pa
  simp only [edb] at pb
  generalize lo ia = na at *
  generalize lo ib = nb at *
  rw [← edN_rev]
  generalize hT : (fun i k => edN (rvN na da) (rvN nb db) (na - i) (nb - k)) = T
  have eT : ∀ i k, T i k = edN (rvN na da) (rvN nb db) (na - i) (nb - k) := fun i k => by rw [← hT]
  have bT : ∀ i k, T i k ≤ 80 := fun i k => by
    rw [eT]
    have := edN_le (rvN na da) (rvN nb db) (na - i) (nb - k)
    omega
  have J := lk (α := Nat → Int32) (fun _ _ _ => none) (fun f q G => p_X3_unlike_L28 m (nI ia) (nI ib) f (dnI na q) (mRowSet S.2.2.2.2.2 12 G)) (na + 1) (fun q G => ∀ i k, i ≤ na → na < i + q → k ≤ nb → G (41 * i + k) = nI (T i k)) (fun _ p => ∃ G : Nat → Int32, p = some (some (.int (nI (T 0 0))), mRowSet S.2.2.2.2.2 12 G)) ?_ ?_ (by omega) (S.2.2.2.2.2.2 12) (fun i k h1 h2 h3 => by omega)
  · obtain ⟨G, e⟩ := J
    refine ⟨G, ?_⟩
    have e' : p_X3_unlike_L28 m (nI ia) (nI ib) sFuel (dnI na 0) (mRowSet S.2.2.2.2.2 12 (S.2.2.2.2.2.2 12)) = _ := e
    rw [mrs_self, dnI_in (by omega)] at e'
    rw [eT] at e'
    exact e'
  · intro f f' q G hq hG
    have hi : q ≤ na := by omega
    obtain ⟨i, hii⟩ : ∃ i, i = na - q := ⟨_, rfl⟩
    have nn : ¬ nI i < 0 := nI_pos (by omega)
    have IN := lk (α := Nat → Int32) (fun _ _ _ => none) (fun z y G => p_X3_unlike_L43 (p_X3_unlike_L28 m (nI ia) (nI ib) f') m (nI ia) (nI ib) (nI i) z (dnI nb y) (mRowSet S.2.2.2.2.2 12 G)) (nb + 1) (fun y G => (∀ i k, i ≤ na → na < i + q → k ≤ nb → G (41 * i + k) = nI (T i k)) ∧ ∀ k, k ≤ nb → nb < k + y → G (41 * i + k) = nI (T i k)) (fun _ p => ∃ G : Nat → Int32, (∀ i k, i ≤ na → na < i + (q + 1) → k ≤ nb → G (41 * i + k) = nI (T i k)) ∧ p = p_X3_unlike_L28 m (nI ia) (nI ib) f' (dnI na (q + 1)) (mRowSet S.2.2.2.2.2 12 G)) ?_ ?_ (by omega) G ⟨hG, fun k h1 h2 => by omega⟩
    · obtain ⟨G', h1, h2⟩ := IN
      refine Or.inl ⟨G', h1, rfl, ?_⟩
      rw [← h2]
      rw [dnI_in hi, ← hii, dnI_in (show 0 ≤ nb by omega)]
      simp (disch := omega) only [p_X3_unlike_L28, if_neg nn, mRow_0, obS, qld_19, r0, e2]
      rfl
    · intro z z' y G hy ⟨hG1, hG2⟩
      have hk : y ≤ nb := by omega
      obtain ⟨k, hkk⟩ : ∃ k, k = nb - y := ⟨_, rfl⟩
      have nk : ¬ nI k < 0 := nI_pos (by omega)
      have cix : (41 : Int32) * nI i + nI k = nI (41 * i + k) := by
        show nI 41 * nI i + _ = _
        rw [pk_mul, nI_add]
      have dn := dnI_s (n := nb) (r := y) hk
      rw [← hkk] at dn
      have sa : nI na - nI i = nI (na - i) := pk_sub (by omega)
      have sb : nI nb - nI k = nI (nb - k) := pk_sub (by omega)
      refine Or.inl ⟨upd G (41 * i + k) (nI (T i k)), ⟨fun i2 k2 h1 h2 h3 => ?_, fun k2 h1 h2 => ?_⟩, rfl, ?_⟩
      · rw [upd_ne _ _ (by omega), hG1 i2 k2 h1 h2 h3]
      · by_cases c : k2 = k
        · subst c; rw [upd_same]
        · rw [upd_ne _ _ (by omega), hG2 k2 h1 (by omega)]
      · rw [dnI_in hk, ← hkk]
        by_cases c1 : na - i = 0
        · have z1 : nI (na - i) ≤ 0 := by rw [c1]; decide
          have v1 : nI (na - i) + nI (nb - k) = nI (T i k) := by
            rw [nI_add, eT, c1, edN_0', Nat.zero_add]
          simp (disch := omega) only [p_X3_unlike_L43, p_X3_unlike_J172, if_neg nk, mRow_0, mRow_30, obS, qld_19, r0, e1, e2, sa, sb, if_pos z1, v1, cix, qst_12, mrs_same, mrs_mrs, dn]
        · have z1 : ¬ nI (na - i) ≤ 0 := nI_nle (by omega) (by omega)
          by_cases c2 : nb - k = 0
          · have z2 : nI (nb - k) ≤ 0 := by rw [c2]; decide
            have v1 : nI (na - i) + nI (nb - k) = nI (T i k) := by
              rw [nI_add, eT, c2, edN_0, Nat.add_zero]
            simp (disch := omega) only [p_X3_unlike_L43, p_X3_unlike_J172, if_neg nk, mRow_0, mRow_30, obS, qld_19, r0, e1, e2, sa, sb, if_neg z1, if_pos z2, v1, cix, qst_12, mrs_same, mrs_mrs, dn]
          · have z2 : ¬ nI (nb - k) ≤ 0 := nI_nle (by omega) (by omega)
            have g1 : G (41 * i + k + 42) = nI (T (i + 1) (k + 1)) := by
              have := hG1 (i + 1) (k + 1) (by omega) (by omega) (by omega)
              rwa [show 41 * (i + 1) + (k + 1) = 41 * i + k + 42 by omega] at this
            have g2 : G (41 * i + k + 41) = nI (T (i + 1) k) := by
              have := hG1 (i + 1) k (by omega) (by omega) (by omega)
              rwa [show 41 * (i + 1) + k = 41 * i + k + 41 by omega] at this
            have g3 : G (41 * i + k + 1) = nI (T i (k + 1)) := hG2 (k + 1) (by omega) (by omega)
            have i42 : nI (41 * i + k) + 42 = nI (41 * i + k + 42) := nI_add (41 * i + k) 42
            have i41 : nI (41 * i + k) + 41 = nI (41 * i + k + 41) := nI_add (41 * i + k) 41
            have i1 : nI (41 * i + k) + 1 = nI (41 * i + k + 1) := nI_1 _
            have t1 := bT (i + 1) (k + 1)
            have t2 := bT (i + 1) k
            have t3 := bT i (k + 1)
            have one : ∀ x : Nat, (1 : Int32) + nI x = nI (x + 1) := fun x => by
              rw [show (1 : Int32) + nI x = nI (1 + x) from nI_add 1 x, Nat.add_comm]
            have val : T i k = min (T (i + 1) (k + 1) + (if da i = db k then 0 else 1)) (min (T (i + 1) k) (T i (k + 1)) + 1) := by
              rw [eT, eT, eT, eT, show na - i = (na - (i + 1)) + 1 by omega, show nb - k = (nb - (k + 1)) + 1 by omega, edN_s]
              have ra : rvN na da (na - (i + 1)) = da i := by unfold rvN; congr 1; omega
              have rb : rvN nb db (nb - (k + 1)) = db k := by unfold rvN; congr 1; omega
              rw [ra, rb]
            have l1' : (if nI (T i (k + 1)) ≤ nI (T (i + 1) k) then nI (T i (k + 1)) else nI (T (i + 1) k)) = nI (min (T (i + 1) k) (T i (k + 1))) := mn2' (by omega) (by omega)
            have l2' : (if nI (min (T (i + 1) k) (T i (k + 1)) + 1) ≤ nI (T (i + 1) (k + 1) + (if da i = db k then 0 else 1)) then nI (min (T (i + 1) k) (T i (k + 1)) + 1) else nI (T (i + 1) (k + 1) + (if da i = db k then 0 else 1))) = nI (T i k) := by
              rw [val, mn2' (by split <;> omega) (by omega)]
            simp (disch := omega) only [p_X3_unlike_L43, p_X3_unlike_J172, if_neg nk, mRow_0, mRow_30, obS, qld_19, r0, e1, e2, sa, sb, if_neg z1, if_neg z2, cix, i42, i41, i1, qld_12, mrs_same, g1, g2, g3, pa, pb, pcI, px_lesser, l1', one, ite01, nI_add, l2', qst_12, mrs_mrs, dn]
    · intro z z' G ⟨hG1, hG2⟩
      have nk : (-1 : Int32) < 0 := by decide
      have dn := dnI_s (n := na) (r := q) hi
      rw [← hii] at dn
      refine ⟨G, fun i2 k2 h1 h2 h3 => ?_, ?_⟩
      · by_cases c : i2 = i
        · subst c
          exact hG2 k2 h3 (by omega)
        · exact hG1 i2 k2 h1 (by omega) h3
      · show p_X3_unlike_L43 _ _ _ _ _ _ (dnI nb (nb + 1)) _ = _
        rw [dnI_end]
        simp (disch := omega) only [p_X3_unlike_L43, if_pos nk, dn]
  · intro f f' G hG
    have nk : (-1 : Int32) < 0 := by decide
    have g0 := hG 0 0 (by omega) (by omega) (by omega)
    have q0 : qAld (mRowSet S.2.2.2.2.2 12 G) 12 0 = some (nI (T 0 0)) := by
      have := qld_12 (mRowSet S.2.2.2.2.2 12 G) (p := 0) (by omega)
      rw [mrs_same] at this
      have g0' : G 0 = nI (T 0 0) := g0
      rw [g0'] at this
      exact this
    refine ⟨G, ?_⟩
    show p_X3_unlike_L28 _ _ _ _ (dnI na (na + 1)) _ = _
    rw [dnI_end]
    simp (disch := omega) only [p_X3_unlike_L28, if_pos nk, mRow_30, obS, q0]
theorem j_unlike {A : hA} {R : sMem} {S : hS} {g : Nat → Nat} {b L : Nat} {xs : Nat → Int32} (h : hInv A R S g b L xs) (v u : Int32) : hOp A R S g b L xs (f_X0_unlike (hX A) v u) (f_X3_unlike (A.2.1 9) v u) := by
  have hg := h.1.1
  have hc := h.1.2.1
  have h3 : 0 < A.2.2 := by have := hg.2.2.2; omega
  have ht := h.t0
  have hw := h.act
  have hn := hw.n
  have hq : ∀ (R : sMem), R.1 ≤ A.2.1 9 → ∀ s : mSt, f_X3_unlike (A.2.1 9) v u (mPut R (A.2.1 9) s) = lft R (A.2.1 9) (p_X3_unlike (A.2.1 9) v u s) := fun R hR s => q_X3_unlike R _ hR v u s
  have f1 := fun x => fx_isWorm hg R S x
  have p1 := fun x => px_isWorm (A.2.1 9) x S.2.2.2.2.2
  simp only [ht] at p1
  obtain ⟨lo, hlo⟩ := h.lo
  cases hv : inB v 0 (S.2.2.2.1 0 571 - 1) with
  | false =>
    refine hOp.read0 h hq (v := -1) ?_ ?_
    · simp only [f_X0_unlike, hx_chk hg, f1, hv, eq_self, ↓reduceIte, hcI, hcN, hcV, obS, if_true, if_false, b01_f]
    · simp only [p_X3_unlike, p1, hv, pcI, b01_f, ↓reduceIte]
  | true =>
    cases hu : inB u 0 (S.2.2.2.1 0 571 - 1) with
    | false =>
      refine hOp.read0 h hq (v := -1) ?_ ?_
      · simp only [f_X0_unlike, hx_chk hg, f1, hv, hu, eq_self, ↓reduceIte, hcI, hcN, hcV, obS, if_true, if_false, b01_f, b01_t]
      · simp only [p_X3_unlike, p1, hv, hu, pcI, b01_f, b01_t, ↓reduceIte]
    | true =>
      obtain ⟨i, hi, rfl⟩ := inB_worm hw hv
      obtain ⟨j, hj, rfl⟩ := inB_worm hw hu
      obtain ⟨e1, l1⟩ := hlo i hi
      obtain ⟨e2, l2⟩ := hlo j hj
      have hb := hc.base hg
      have hc1 := hc.new (sArr 0 (lo j + 1) (fun _ => 0)) (lo j + 1)
      have x1 := hEx.new hc (sArr 0 (lo j + 1) (fun _ => 0)) (lo j + 1)
      have a1 := sNew_at R (sArr 0 (lo j + 1) (fun _ => 0)) (lo j + 1)
      have nA : ∀ K, sNewA (hMem A R S) 0 (nI (lo j + 1)) K = K R.2.1 (hMem A (sNew R (sArr 0 (lo j + 1) (fun _ => 0)) (lo j + 1)) S) := fun K => hNewA hc S (n := lo j + 1) (by omega) K
      generalize hR1 : sNew R (sArr 0 (lo j + 1) (fun _ => 0)) (lo j + 1) = R1 at *
      obtain ⟨F, fe⟩ := f_unlike h hlo hi hj hc1 hb a1
      obtain ⟨G, pe⟩ := px_unlike h (A.2.1 9) hlo hi hj
      refine hOp.read h hq (v := nI (edN (fun p => S.2.2.2.1 0 (91 + 40 * i + p)) (fun p => S.2.2.2.1 0 (91 + 40 * j + p)) (lo i) (lo j))) (R' := sUp R1 R.2.1 (sArr 0 (lo j + 1) F)) (S' := S) (s' := mRowSet S.2.2.2.2.2 12 G) ?_ (hSame.refl S) ((hEx.up hc x1 (Nat.le_refl _) _).le (by omega) (by omega)) (hc1.up a1) ?_ ((Sw.refl _).row G (by omega))
      · simp (disch := omega) only [f_X0_unlike, hx_chk hg, f1, hv, hu, eq_self, ↓reduceIte, hcI, hcN, hcV, obS, if_true, if_false, b01_t, xgN_23 hg, xgN_22 hg, xgI_21 hg, hx_chk hg, ht_chk hg, tgN_5 hg, trl_5 hg, tgN_3 hg, trl_3 hg, e2, nI_1, nA, fe]
      · simp (disch := omega) only [p_X3_unlike, p1, hv, hu, pcI, b01_t, ↓reduceIte, mRow_0, obS, qld_19, ht, e1, pe]
