/-! one trays becomes another, whole -/
set_option maxRecDepth 100000
theorem iteS {α : Type} {c : Prop} [Decidable c] {x y z : α} (h1 : c → z = x) (h2 : ¬ c → z = y) : z = if c then x else y := by
  by_cases h : c
  · rw [if_pos h]; exact h1 h
  · rw [if_neg h]; exact h2 h
theorem f_become {A : hA} (hg : hG A) (R : sMem) (S : hS) {i j : Nat} (hi : i < A.2.2) (hj : j < A.2.2) (hij : i ≠ j) {t' : Nat → Int32} (H : ∀ p, (p < 572 ∨ p = 573 ∨ 593 ≤ p ∧ p < 605) → t' p = S.2.2.2.1 j p) (h0 : i = 0 → S.2.2.2.1 j 571 = S.2.2.2.1 0 571) (hb : i = 0 ∨ i = 2 → ∀ p, (581 ≤ p ∧ p < 593 ∨ 871 ≤ p ∧ p < 1471) → t' p = S.2.2.2.1 i p) : f_X2_become (hTa A i) (hTa A j) (hMem A R S) = some (.inl none, hMem A R (hT S i t')) := by
  have uj : ∀ w, (hT S i w).2.2.2.1 j = S.2.2.2.1 j := fun w => hT_ne _ _ (Ne.symm hij)
  have cp : ∀ r w, r < 7 → (r = 4 → i = 0 → w 571 = S.2.2.2.1 0 571) → f_X0_copies (hTr A j r) (hTr A i r) (hMem A R (hT S i w)) = some (.inl none, hMem A R (hT S i (cpW r (S.2.2.2.1 j) w))) := fun r w hr h5 => by
    have := hr_cp hg R (hT S i w) hi hj hr (fun h4 hi0 => by
      rw [uj]
      subst hi0
      rw [hT_same, h5 h4 rfl]
      exact h0 rfl)
    rw [uj, hT_same, hT_hT] at this
    exact this
  have start : hMem A R S = hMem A R (hT S i (S.2.2.2.1 i)) := by rw [hT_self]
  have w3 : i = 0 → cpW 3 (S.2.2.2.1 j) (cpW 2 (S.2.2.2.1 j) (cpW 1 (S.2.2.2.1 j) (cpW 0 (S.2.2.2.1 j) (S.2.2.2.1 i)))) 571 = S.2.2.2.1 0 571 := fun hi0 => by
    subst hi0
    simp [cpW, hOf, hTl]
  have c0 := cp 0 (S.2.2.2.1 i) (by omega) (fun h => by omega)
  have c1 := cp 1 (cpW 0 (S.2.2.2.1 j) (S.2.2.2.1 i)) (by omega) (fun h => by omega)
  have c2 := cp 2 (cpW 1 (S.2.2.2.1 j) (cpW 0 (S.2.2.2.1 j) (S.2.2.2.1 i))) (by omega) (fun h => by omega)
  have c3 := cp 3 (cpW 2 (S.2.2.2.1 j) (cpW 1 (S.2.2.2.1 j) (cpW 0 (S.2.2.2.1 j) (S.2.2.2.1 i)))) (by omega) (fun h => by omega)
  have c4 := cp 4 (cpW 3 (S.2.2.2.1 j) (cpW 2 (S.2.2.2.1 j) (cpW 1 (S.2.2.2.1 j) (cpW 0 (S.2.2.2.1 j) (S.2.2.2.1 i))))) (by omega) (fun _ => w3)
  generalize hW4 : cpW 4 (S.2.2.2.1 j) (cpW 3 (S.2.2.2.1 j) (cpW 2 (S.2.2.2.1 j) (cpW 1 (S.2.2.2.1 j) (cpW 0 (S.2.2.2.1 j) (S.2.2.2.1 i))))) = W4 at c4
  have c5 := cp 5 W4 (by omega) (fun h => by omega)
  have c6 := cp 6 (cpW 5 (S.2.2.2.1 j) W4) (by omega) (fun h => by omega)
  have p7 : ∀ w, sPut (hMem A R (hT S i w)) 2 7 (hTa A i) (.int (hBits (S.2.2.2.1 j) 55)) = some (hMem A R (hT S i (cpB 55 (S.2.2.2.1 j) w))) := fun w => by
    have := ht_putB hg R (hT S i w) (Or.inl ⟨rfl, rfl⟩) hi (S.2.2.2.1 j)
    rw [hT_same, hT_hT] at this
    exact this
  have p8 : ∀ w, sPut (hMem A R (hT S i w)) 2 8 (hTa A i) (.int (hBits (S.2.2.2.1 j) 67)) = some (hMem A R (hT S i (cpB 67 (S.2.2.2.1 j) w))) := fun w => by
    have := ht_putB hg R (hT S i w) (Or.inr ⟨rfl, rfl⟩) hi (S.2.2.2.1 j)
    rw [hT_same, hT_hT] at this
    exact this
  rw [start]
  unfold f_X2_become
  rw [tgN_0 hg _ _ hj, obS, tgN_0 hg _ _ hi, obS]
  simp only [hT_same, c0, hcV]
  rw [tgN_1 hg _ _ hj, obS, tgN_1 hg _ _ hi, obS]
  simp only [c1, hcV]
  rw [tgN_2 hg _ _ hj, obS, tgN_2 hg _ _ hi, obS]
  simp only [c2, hcV]
  rw [tgN_3 hg _ _ hj, obS, tgN_3 hg _ _ hi, obS]
  simp only [c3, hcV]
  rw [tgN_4 hg _ _ hj, obS, tgN_4 hg _ _ hi, obS]
  simp only [c4, hcV]
  rw [tgN_5 hg _ _ hj, obS, tgN_5 hg _ _ hi, obS]
  simp only [c5, hcV]
  rw [tgN_6 hg _ _ hj, obS, tgN_6 hg _ _ hi, obS]
  simp only [c6, hcV]
  simp (disch := omega) only [tgI_7 hg, tgI_8 hg, tgI_9 hg, tgI_10 hg, tgI_11 hg, tgI_12 hg, tgI_13 hg, tgI_14 hg, tgI_15 hg, tgI_16 hg, uj, obS, p7, p8, tp_9 hg, tp_10 hg, tp_11 hg, tp_12 hg, tp_13 hg, tp_14 hg, tp_15 hg, tp_16 hg, hT_same, hT_hT]
  refine congrArg (fun M => some (Sum.inl none, M)) (hT_eq R S (fun p hp => ?_) (fun hi2 p hp => ?_))
  · rw [H p hp, ← hW4]
    simp only [upd, cpB, cpW, hOf, hTl, true_and]
    refine iteS (fun e => by rw [e]) (fun e0 => ?_)
    refine iteS (fun e => by rw [e]) (fun e1 => ?_)
    refine iteS (fun e => by rw [e]) (fun e2 => ?_)
    refine iteS (fun e => by rw [e]) (fun e3 => ?_)
    refine iteS (fun e => by rw [e]) (fun e4 => ?_)
    refine iteS (fun e => by rw [e]) (fun e5 => ?_)
    refine iteS (fun e => by rw [e]) (fun e6 => ?_)
    refine iteS (fun e => by rw [e]) (fun e7 => ?_)
    refine iteS (fun _ => rfl) (fun d0 => ?_)
    refine iteS (fun _ => rfl) (fun d1 => ?_)
    refine iteS (fun _ => rfl) (fun d2 => ?_)
    refine iteS (fun _ => rfl) (fun d3 => ?_)
    refine iteS (fun _ => rfl) (fun d4 => ?_)
    refine iteS (fun _ => rfl) (fun d5 => ?_)
    refine iteS (fun _ => rfl) (fun d6 => ?_)
    refine iteS (fun _ => rfl) (fun d7 => ?_)
    refine iteS (fun _ => rfl) (fun d8 => ?_)
    omega
  · rw [hb hi2 p hp, ← hW4]
    simp only [upd, cpB, cpW, hOf, hTl, true_and]
    refine iteS (fun e => by omega) (fun e0 => ?_)
    refine iteS (fun e => by omega) (fun e1 => ?_)
    refine iteS (fun e => by omega) (fun e2 => ?_)
    refine iteS (fun e => by omega) (fun e3 => ?_)
    refine iteS (fun e => by omega) (fun e4 => ?_)
    refine iteS (fun e => by omega) (fun e5 => ?_)
    refine iteS (fun e => by omega) (fun e6 => ?_)
    refine iteS (fun e => by omega) (fun e7 => ?_)
    refine iteS (fun e => by omega) (fun d0 => ?_)
    refine iteS (fun e => by omega) (fun d1 => ?_)
    refine iteS (fun e => by omega) (fun d2 => ?_)
    refine iteS (fun e => by omega) (fun d3 => ?_)
    refine iteS (fun e => by omega) (fun d4 => ?_)
    refine iteS (fun e => by omega) (fun d5 => ?_)
    refine iteS (fun e => by omega) (fun d6 => ?_)
    refine iteS (fun e => by omega) (fun d7 => ?_)
    refine iteS (fun e => by omega) (fun d8 => ?_)
    rfl
