/-! rows of the component copied: book and tray, kept and back -/
set_option maxRecDepth 100000
def cpO (o n : Nat) (u t : Nat → Int32) : Nat → Int32 := fun p => if o ≤ p ∧ p < o + n then u p else t p
theorem hq_cp {A : hA} (hg : hG A) (R : sMem) (S : hS) {ka kb o n i j : Nat} (hi : (i = 0 ∧ j = 2) ∨ (i = 2 ∧ j = 0)) (hk : (o = 581 ∧ n = 12 ∧ ((i = 0 ∧ ka = 7 ∧ kb = 3) ∨ (i = 2 ∧ ka = 3 ∧ kb = 7))) ∨ (o = 871 ∧ n = 600 ∧ ((i = 0 ∧ ka = 8 ∧ kb = 4) ∨ (i = 2 ∧ ka = 4 ∧ kb = 8)))) : f_X0_copies (hRa A ka) (hRa A kb) (hMem A R S) = some (.inl none, hMem A R (hT S i (cpO o n (S.2.2.2.1 j) (S.2.2.2.1 i)))) := by
  have h2 : 2 < A.2.2 := by have := hg.2.2.2; omega
  have kK : ∀ k, k < 9 → k < hK A := fun k hk => hG.k A hg (by omega)
  have ea : hCell A S ka = sArr 0 n (hSl n o (S.2.2.2.1 j)) := by
    rcases hk with ⟨rfl, rfl, ⟨rfl, rfl, rfl⟩ | ⟨rfl, rfl, rfl⟩⟩ | ⟨rfl, rfl, ⟨rfl, rfl, rfl⟩ | ⟨rfl, rfl, rfl⟩⟩ <;> rcases hi with ⟨h1, rfl⟩ | ⟨h1, rfl⟩ <;> first | rfl | (exfalso; omega)
  have eb : ∀ w, hCell A (hT S i w) kb = sArr 0 n (hSl n o w) := fun w => by
    rcases hk with ⟨rfl, rfl, ⟨rfl, rfl, rfl⟩ | ⟨rfl, rfl, rfl⟩⟩ | ⟨rfl, rfl, ⟨rfl, rfl, rfl⟩ | ⟨rfl, rfl, rfl⟩⟩ <;> rfl
  have eb0 : hCell A S kb = sArr 0 n (hSl n o (S.2.2.2.1 i)) := by
    have := eb (S.2.2.2.1 i)
    rw [hT_self] at this
    exact this
  have on : (o = 581 ∧ n = 12) ∨ (o = 871 ∧ n = 600) := by omega
  have e1 : sCpI (hMem A R S) (hRa A ka) 0 (hRa A kb) 0 (nI n) = some (hMem A R (hT S i (cpO o n (S.2.2.2.1 j) (S.2.2.2.1 i)))) := by
    unfold sCpI
    rw [show (hMem A R S).2.2.2 (hRa A ka) = some (hCell A S ka) from hMem_at hg R S (kK ka (by omega)), show (hMem A R S).2.2.2 (hRa A kb) = some (hCell A S kb) from hMem_at hg R S (kK kb (by omega)), ea, eb0]
    have c0 : (0 : Int32).toNatClampNeg = 0 := by decide
    have n0 : ¬ (0 : Int32) < 0 := by decide
    simp only [sArr]
    rw [nI_clamp (by omega), c0, if_pos ⟨hg.2.1 _ (kK kb (by omega)), n0, n0, nI_pos (by omega), by omega, by omega⟩]
    refine congrArg some (hMem_up hg R S _ (k := kb) (kK kb (by omega)) ?_ (fun k hk2 hne => ?_))
    · rw [eb]
      refine congrArg (sArr 0 n) ?_
      funext p
      unfold va_cpy hSl cpO
      by_cases hp : p < n
      · have a1 : o ≤ o + p ∧ o + p < o + n := ⟨by omega, by omega⟩
        simp [hp, a1]
      · rw [if_neg hp, if_neg (by omega)]
        simp only [if_neg hp]
    · refine hT_gen ?_ ?_ ?_ ?_ ?_ ?_ ?_
      · intro _ hi0
        subst hi0
        unfold cpO
        rw [if_neg (by omega)]
      · intro _ hi0 p a b
        subst hi0
        unfold cpO
        rw [if_neg (by omega)]
      · intro _ hi0 p a b
        subst hi0
        unfold cpO
        rw [if_neg (by omega)]
      · intro _ hi0 p a b
        subst hi0
        unfold cpO
        rw [if_neg (by omega)]
      · intro _ hi0 p a b
        subst hi0
        unfold cpO
        rw [if_neg (by omega)]
      · intro _ p hp
        unfold cpO
        rw [if_neg (by omega)]
      · intro r2 hr2 hk3
        have hr3 : r2 = 0 ∨ r2 = 1 ∨ r2 = 2 ∨ r2 = 3 ∨ r2 = 4 ∨ r2 = 5 ∨ r2 = 6 := by omega
        refine ⟨fun p a b => ?_, fun h4 => ?_⟩
        · unfold cpO
          rw [if_neg]
          rcases hr3 with rfl | rfl | rfl | rfl | rfl | rfl | rfl <;> simp only [hOf, hTl] at a b <;> omega
        · unfold cpO
          rw [if_neg (by omega)]
  have hl : sLen (hMem A R S) (hRa A ka) = some (nI n) := by
    unfold sLen
    rw [show (hMem A R S).2.2.2 (hRa A ka) = some (hCell A S ka) from hMem_at hg R S (kK ka (by omega)), ea]
  unfold f_X0_copies
  rw [hl, obS, e1, obS]
