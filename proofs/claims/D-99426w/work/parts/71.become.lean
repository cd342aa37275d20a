/-! one trays becomes another -/
set_option maxRecDepth 100000
theorem hSl_congr {n o : Nat} {t t' : Nat → Int32} (h : ∀ p, o ≤ p → p < o + n → t' p = t p) : hSl n o t' = hSl n o t := by
  funext p
  unfold hSl
  by_cases hp : p < n
  · rw [if_pos hp, if_pos hp, h _ (by omega) (by omega)]
  · rw [if_neg hp, if_neg hp]
theorem hBn_congr {o : Nat} {t t' : Nat → Int32} : ∀ {n : Nat}, (∀ p, o ≤ p → p < o + n → t' p = t p) → hBn t' o n = hBn t o n
  | 0, _ => rfl
  | n + 1, h => by
    unfold hBn
    rw [hBn_congr (n := n) (fun p h1 h2 => h p h1 (by omega)), h (o + n) (by omega) (by omega)]
theorem hBits_congr {o : Nat} {t t' : Nat → Int32} (h : ∀ p, o ≤ p → p < o + 12 → t' p = t p) : hBits t' o = hBits t o := by
  unfold hBits
  rw [hBn_congr h]
theorem hCo_congr {t t' : Nat → Int32} (h : ∀ p, 43 ≤ p → p < 55 → t' p = t p) (h5 : t' 571 = t 571) : hCo t' = hCo t := by
  funext p
  unfold hCo
  rw [hN_eq h5]
  by_cases hp : p < 12
  · rw [h (43 + p) (by omega) (by omega)]
  · rw [if_neg (by omega), if_neg (by omega)]
theorem hRow_congr {r : Nat} {t t' : Nat → Int32} (h : ∀ p, hOf r ≤ p → p < hOf r + hTl r → t' p = t p) (h5 : r = 4 → t' 571 = t 571) : hRow r t' = hRow r t := by
  unfold hRow
  by_cases h4 : r = 4
  · subst h4
    rw [if_pos rfl, if_pos rfl]
    exact hCo_congr h (h5 rfl)
  · rw [if_neg h4, if_neg h4]
    exact hSl_congr h
/-- a world in the place of another: the cells whose part is the same -/
theorem hT_gen {A : hA} {S : hS} {i k : Nat} {w : Nat → Int32} (h0 : k = 0 → i = 0 → w 571 = S.2.2.2.1 0 571) (h3 : k = 3 → i = 0 → ∀ p, 581 ≤ p → p < 593 → w p = S.2.2.2.1 0 p) (h4 : k = 4 → i = 0 → ∀ p, 871 ≤ p → p < 1471 → w p = S.2.2.2.1 0 p) (h7 : k = 7 → i = 2 → ∀ p, 581 ≤ p → p < 593 → w p = S.2.2.2.1 2 p) (h8 : k = 8 → i = 2 → ∀ p, 871 ≤ p → p < 1471 → w p = S.2.2.2.1 2 p) (ht : k = 25 + 8 * i → ∀ p, (p < 7 ∨ 55 ≤ p ∧ p < 79 ∨ p = 573) → w p = S.2.2.2.1 i p) (hr : ∀ r, r < 7 → k = 26 + 8 * i + r → (∀ p, hOf r ≤ p → p < hOf r + hTl r → w p = S.2.2.2.1 i p) ∧ (r = 4 → w 571 = S.2.2.2.1 i 571)) : hCell A (hT S i w) k = hCell A S k := by
  rcases hId k with hk | ⟨m, hm, rfl⟩ | ⟨i', m, hm, rfl⟩
  · have : k = 0 ∨ k = 1 ∨ k = 2 ∨ k = 3 ∨ k = 4 ∨ k = 5 ∨ k = 6 ∨ k = 7 ∨ k = 8 ∨ k = 9 := by omega
    rcases this with rfl | rfl | rfl | rfl | rfl | rfl | rfl | rfl | rfl | rfl
    · show sObj 0 (hXs A _) = sObj 0 (hXs A S)
      refine congrArg (sObj 0) ?_
      unfold hXs
      apply List.map_congr_left
      intro j _
      unfold hXf
      split <;> first | rfl | skip
      by_cases hi : i = 0
      · subst hi
        rw [hT_same, h0 rfl rfl]
      · rw [hT_ne _ _ (Ne.symm hi)]
    · rfl
    · rfl
    · show sArr 0 12 (hSl 12 581 ((hT S i w).2.2.2.1 0)) = sArr 0 12 (hSl 12 581 (S.2.2.2.1 0))
      by_cases hi : i = 0
      · subst hi
        rw [hT_same, hSl_congr (h3 rfl rfl)]
      · rw [hT_ne _ _ (Ne.symm hi)]
    · show sArr 0 600 (hSl 600 871 ((hT S i w).2.2.2.1 0)) = sArr 0 600 (hSl 600 871 (S.2.2.2.1 0))
      by_cases hi : i = 0
      · subst hi
        rw [hT_same, hSl_congr (h4 rfl rfl)]
      · rw [hT_ne _ _ (Ne.symm hi)]
    · rfl
    · rfl
    · show sArr 0 12 (hSl 12 581 ((hT S i w).2.2.2.1 2)) = sArr 0 12 (hSl 12 581 (S.2.2.2.1 2))
      by_cases hi : i = 2
      · subst hi
        rw [hT_same, hSl_congr (h7 rfl rfl)]
      · rw [hT_ne _ _ (Ne.symm hi)]
    · show sArr 0 600 (hSl 600 871 ((hT S i w).2.2.2.1 2)) = sArr 0 600 (hSl 600 871 (S.2.2.2.1 2))
      by_cases hi : i = 2
      · subst hi
        rw [hT_same, hSl_congr (h8 rfl rfl)]
      · rw [hT_ne _ _ (Ne.symm hi)]
    · rfl
  · rw [hCell_mod A _ hm, hCell_mod A _ hm]
    rfl
  · rw [hCell_tray A _ hm, hCell_tray A _ hm]
    by_cases hi : i' = i
    · subst hi
      cases m with
      | zero =>
        have H := ht rfl
        show sObj 2 (hTs A _ i') = sObj 2 (hTs A S i')
        refine congrArg (sObj 2) ?_
        unfold hTs
        apply List.map_congr_left
        intro j _
        unfold hTf
        rw [hT_same]
        split <;> first | rfl | (rw [hBits_congr (fun p h1 h2 => H p (by omega))]) | (rw [H _ (by omega)])
      | succ r =>
        have H := hr r (by omega) (by omega)
        show sArr 0 (hTl r) (hRow r ((hT S i' w).2.2.2.1 i')) = sArr 0 (hTl r) (hRow r (S.2.2.2.1 i'))
        rw [hT_same, hRow_congr H.1 H.2]
    · cases m with
      | zero =>
        show sObj 2 (hTs A _ i') = sObj 2 (hTs A S i')
        refine congrArg (sObj 2) ?_
        unfold hTs
        apply List.map_congr_left
        intro j _
        unfold hTf
        rw [hT_ne _ _ hi]
        rfl
      | succ r =>
        show sArr 0 (hTl r) (hRow r ((hT S i w).2.2.2.1 i')) = sArr 0 (hTl r) (hRow r (S.2.2.2.1 i'))
        rw [hT_ne _ _ hi]
theorem hT_eq {A : hA} (R : sMem) (S : hS) {i : Nat} {w w' : Nat → Int32} (h : ∀ p, (p < 572 ∨ p = 573 ∨ 593 ≤ p ∧ p < 605) → w' p = w p) (h0 : i = 0 ∨ i = 2 → ∀ p, (581 ≤ p ∧ p < 593 ∨ 871 ≤ p ∧ p < 1471) → w' p = w p) : hMem A R (hT S i w) = hMem A R (hT S i w') := by
  refine hMemC_congr R fun k hk => ?_
  have := hT_gen (A := A) (S := hT S i w) (i := i) (k := k) (w := w') (fun _ hi => by subst hi; rw [hT_same]; exact h _ (by omega)) (fun _ hi p a b => by subst hi; rw [hT_same]; exact h0 (Or.inl rfl) p (by omega)) (fun _ hi p a b => by subst hi; rw [hT_same]; exact h0 (Or.inl rfl) p (by omega)) (fun _ hi p a b => by subst hi; rw [hT_same]; exact h0 (Or.inr rfl) p (by omega)) (fun _ hi p a b => by subst hi; rw [hT_same]; exact h0 (Or.inr rfl) p (by omega)) (fun _ p hp => by rw [hT_same]; exact h p (by omega)) (fun r hr _ => by
    rw [hT_same]
    have : r = 0 ∨ r = 1 ∨ r = 2 ∨ r = 3 ∨ r = 4 ∨ r = 5 ∨ r = 6 := by omega
    refine ⟨fun p a b => ?_, fun _ => h _ (by omega)⟩
    rcases this with rfl | rfl | rfl | rfl | rfl | rfl | rfl <;> simp only [hOf, hTl] at a b <;> exact h p (by omega))
  rw [hT_hT] at this
  exact this.symm
/-- row r taken from another world -/
def cpW (r : Nat) (u t : Nat → Int32) : Nat → Int32 := fun p => if (hOf r ≤ p ∧ p < hOf r + hTl r) ∨ (r = 4 ∧ p = 571) then u p else t p
theorem hr_cp {A : hA} (h : hG A) (R : sMem) (S : hS) {i j r : Nat} (hi : i < A.2.2) (hj : j < A.2.2) (hr : r < 7) (h5 : r = 4 → i = 0 → S.2.2.2.1 j 571 = S.2.2.2.1 0 571) : f_X0_copies (hTr A j r) (hTr A i r) (hMem A R S) = some (.inl none, hMem A R (hT S i (cpW r (S.2.2.2.1 j) (S.2.2.2.1 i)))) := by
  have hk : 26 + 8 * i + r < hK A := by
    have := hG.t (A := A) (j := r + 1) hi (by omega)
    omega
  have hl := hTl_lt r
  have hr' : r = 0 ∨ r = 1 ∨ r = 2 ∨ r = 3 ∨ r = 4 ∨ r = 5 ∨ r = 6 := by omega
  have e1 : sCpI (hMem A R S) (hTr A j r) 0 (hTr A i r) 0 (nI (hTl r)) = some (hMem A R (hT S i (cpW r (S.2.2.2.1 j) (S.2.2.2.1 i)))) := by
    unfold sCpI
    rw [hMem_tr h R S hj hr, hMem_tr h R S hi hr]
    have c0 : (0 : Int32).toNatClampNeg = 0 := by decide
    have n0 : ¬ (0 : Int32) < 0 := by decide
    simp only [sArr]
    rw [nI_clamp hl, c0, if_pos ⟨h.2.1 _ hk, n0, n0, nI_pos hl, by omega, by omega⟩]
    refine congrArg some (hMem_up h R S _ (k := 26 + 8 * i + r) hk ?_ (fun k hk2 hne => ?_))
    · have e := hCell_tray A (hT S i (cpW r (S.2.2.2.1 j) (S.2.2.2.1 i))) (i := i) (j := r + 1) (by omega)
      rw [show 25 + 8 * i + (r + 1) = 26 + 8 * i + r by omega] at e
      rw [e]
      show sArr 0 (hTl r) (hRow r ((hT S i (cpW r (S.2.2.2.1 j) (S.2.2.2.1 i))).2.2.2.1 i)) = _
      rw [hT_same, hRow_congr (r := r) (t := S.2.2.2.1 j) (t' := cpW r (S.2.2.2.1 j) (S.2.2.2.1 i)) (fun p a b => by unfold cpW; rw [if_pos (Or.inl ⟨a, b⟩)]) (fun h4 => by unfold cpW; rw [if_pos (Or.inr ⟨h4, rfl⟩)])]
      refine congrArg (sArr 0 (hTl r)) ?_
      funext p
      unfold va_cpy
      by_cases hp : p < hTl r
      · rw [if_pos ⟨by omega, by omega⟩]
        congr 1
        omega
      · rw [if_neg (by omega)]
        have z : ∀ t, hRow r t p = 0 := fun t => by
          unfold hRow
          by_cases h4 : r = 4
          · subst h4
            rw [if_pos rfl]
            unfold hCo
            rw [if_neg (fun q => hp (by have := q.1; simpa [hTl] using this))]
          · rw [if_neg h4]
            unfold hSl
            rw [if_neg hp]
        rw [z, z]
    · refine hT_gen ?_ ?_ ?_ ?_ ?_ ?_ ?_
      · intro _ hi0
        subst hi0
        unfold cpW
        by_cases c : (hOf r ≤ 571 ∧ 571 < hOf r + hTl r) ∨ (r = 4 ∧ 571 = 571)
        · rw [if_pos c]
          have h4 : r = 4 := by
            rcases hr' with rfl | rfl | rfl | rfl | rfl | rfl | rfl <;> simp only [hOf, hTl] at c <;> omega
          exact h5 h4 rfl
        · rw [if_neg c]
      · intro _ hi0 p a b
        subst hi0
        unfold cpW
        rw [if_neg]
        rcases hr' with rfl | rfl | rfl | rfl | rfl | rfl | rfl <;> simp only [hOf, hTl] <;> omega
      · intro _ hi0 p a b
        subst hi0
        unfold cpW
        rw [if_neg]
        rcases hr' with rfl | rfl | rfl | rfl | rfl | rfl | rfl <;> simp only [hOf, hTl] <;> omega
      · intro _ hi0 p a b
        subst hi0
        unfold cpW
        rw [if_neg]
        rcases hr' with rfl | rfl | rfl | rfl | rfl | rfl | rfl <;> simp only [hOf, hTl] <;> omega
      · intro _ hi0 p a b
        subst hi0
        unfold cpW
        rw [if_neg]
        rcases hr' with rfl | rfl | rfl | rfl | rfl | rfl | rfl <;> simp only [hOf, hTl] <;> omega
      · intro _ p hp
        unfold cpW
        rw [if_neg]
        rcases hr' with rfl | rfl | rfl | rfl | rfl | rfl | rfl <;> simp only [hOf, hTl] <;> omega
      · intro r2 hr2 hk3
        have hne2 : r2 ≠ r := fun e => hne (by rw [hk3, e])
        have hr3 : r2 = 0 ∨ r2 = 1 ∨ r2 = 2 ∨ r2 = 3 ∨ r2 = 4 ∨ r2 = 5 ∨ r2 = 6 := by omega
        refine ⟨fun p a b => ?_, fun h4 => ?_⟩
        · unfold cpW
          rw [if_neg]
          rcases hr' with rfl | rfl | rfl | rfl | rfl | rfl | rfl <;> rcases hr3 with rfl | rfl | rfl | rfl | rfl | rfl | rfl <;> simp only [hOf, hTl] at a b ⊢ <;> omega
        · unfold cpW
          rw [if_neg]
          rcases hr' with rfl | rfl | rfl | rfl | rfl | rfl | rfl <;> simp only [hOf, hTl] <;> omega
  unfold f_X0_copies
  rw [hr_len h R S hj hr, obS, e1, obS]
def cpB (o : Nat) (u t : Nat → Int32) : Nat → Int32 := fun p => if o ≤ p ∧ p < o + 12 then u p else t p
theorem ht_putB {A : hA} (h : hG A) (R : sMem) (S : hS) {i f o : Nat} (hfo : f = 7 ∧ o = 55 ∨ f = 8 ∧ o = 67) (hi : i < A.2.2) (u : Nat → Int32) : sPut (hMem A R S) 2 f (hTa A i) (.int (hBits u o)) = some (hMem A R (hT S i (cpB o u (S.2.2.2.1 i)))) := by
  have hl : (hTs A S i).length = 19 := by simp [hTs]
  unfold sPut
  have hs : sFs (hMem A R S) 2 (hTa A i) = some (hTs A S i) := by simp [sFs, hMem_t h R S hi, sObj]
  rw [hs]
  have hb : (hMem A R S).1 ≤ hTa A i := h.2.1 _ (hG.t (j := 0) hi (by omega))
  simp only []
  rw [if_pos ⟨hb, by rw [hl]; omega⟩]
  have off : ∀ p, (p < 55 ∨ 79 ≤ p) → cpB o u (S.2.2.2.1 i) p = S.2.2.2.1 i p := fun p hp => by
    unfold cpB
    rw [if_neg (by omega)]
  refine congrArg some (hMem_up h R S _ (k := 25 + 8 * i) (hG.t (j := 0) hi (by omega)) ?_ (fun k hk2 hne => ?_))
  · refine (hCell_tray A _ (i := i) (j := 0) (by omega)).trans ?_
    show sObj 2 (hTs A (hT S i (cpB o u (S.2.2.2.1 i))) i) = _
    refine congrArg (sObj 2) ?_
    apply List.ext_getElem?
    intro j
    rw [List.getElem?_set]
    by_cases hj : f = j
    · subst hj
      rw [if_pos rfl, if_pos (by rw [hl]; omega)]
      have hf : f < 19 := by omega
      simp only [hTs, List.getElem?_map, List.getElem?_range hf, Option.map_some, Option.some.injEq]
      rcases hfo with ⟨rfl, rfl⟩ | ⟨rfl, rfl⟩
      · show Value.int (hBits ((hT S i _).2.2.2.1 i) 55) = _
        rw [hT_same, hBits_congr (fun p a b => by unfold cpB; rw [if_pos ⟨a, b⟩])]
      · show Value.int (hBits ((hT S i _).2.2.2.1 i) 67) = _
        rw [hT_same, hBits_congr (fun p a b => by unfold cpB; rw [if_pos ⟨a, b⟩])]
    · rw [if_neg hj]
      by_cases h9 : j < 19
      · simp only [hTs, List.getElem?_map, List.getElem?_range h9, Option.map_some, Option.some.injEq]
        unfold hTf
        rw [hT_same]
        rcases hfo with ⟨rfl, rfl⟩ | ⟨rfl, rfl⟩
        · split <;> first | rfl | (exact absurd rfl hj) | (rw [hBits_congr (fun p a b => by unfold cpB; rw [if_neg (by omega)])]) | (rw [off _ (by omega)])
        · split <;> first | rfl | (exact absurd rfl hj) | (rw [hBits_congr (fun p a b => by unfold cpB; rw [if_neg (by omega)])]) | (rw [off _ (by omega)])
      · rw [List.getElem?_eq_none (by simp [hTs]; omega), List.getElem?_eq_none (by rw [hl]; omega)]
  · refine hT_gen (fun _ hi0 => ?_) (fun _ hi0 p a b => ?_) (fun _ hi0 p a b => ?_) (fun _ hi0 p a b => ?_) (fun _ hi0 p a b => ?_) (fun hk3 => absurd hk3 hne) (fun r hr _ => ?_)
    · subst hi0; exact off _ (by omega)
    · subst hi0; exact off _ (by omega)
    · subst hi0; exact off _ (by omega)
    · subst hi0; exact off _ (by omega)
    · subst hi0; exact off _ (by omega)
    · have hr3 : r = 0 ∨ r = 1 ∨ r = 2 ∨ r = 3 ∨ r = 4 ∨ r = 5 ∨ r = 6 := by omega
      refine ⟨fun p a b => ?_, fun _ => off _ (by omega)⟩
      rcases hr3 with rfl | rfl | rfl | rfl | rfl | rfl | rfl <;> simp only [hOf, hTl] at a b <;> exact off _ (by omega)
