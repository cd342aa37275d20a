/-! the scarf: whose it is -/
set_option maxRecDepth 100000
theorem px_longAt {A : hA} {R : sMem} {S : hS} {g : Nat → Nat} {b L : Nat} {xs : Nat → Int32} (h : hInv A R S g b L xs) (m : Nat) {lo : Nat → Nat} (hlo : ∀ i, i < hN (S.2.2.2.1 0) → S.2.2.2.1 0 (19 + i) = nI (lo i) ∧ lo i ≤ 40) {i at_ fr : Nat} (hi : i < hN (S.2.2.2.1 0)) (ha : at_ ≤ 41) (hfr : fr ≤ 16) : p_X3_longAt m (nI i) (nI at_) (nI fr) S.2.2.2.2.2 = some (some (.int (nI (alN (lo i) (hSc (S.2.2.2.1 0)) at_ fr (fun p => S.2.2.2.1 0 (91 + 40 * i + p)) (fun k => S.2.2.2.1 0 (823 + k))))), S.2.2.2.2.2) := by
  have ht := h.t0
  have hn := h.act.n
  obtain ⟨e1, l1⟩ := hlo i hi
  have ws := h.act.1.2.2.2.2.2.2.1
  have e579 : S.2.2.2.1 0 579 = nI (hSc (S.2.2.2.1 0)) := ws.1
  have l579 : hSc (S.2.2.2.1 0) ≤ 16 := ws.2
  have q579 : ∀ s : mSt, qAld s 0 579 = some (s.2 0 579) := fun s => qld_0 s (p := 579) (by omega)
  have pm := fun (p : Nat) (hp : p < 40) => px_mark2 m S.2.2.2.2.2 (i := i) (p := p) (by omega) hp
  simp only [ht] at pm
  generalize hSc (S.2.2.2.1 0) = n at *
  have q8 : ∀ p, p < 16 → qAld S.2.2.2.2.2 0 (nI (823 + p)) = some (S.2.2.2.1 0 (823 + p)) := fun p hp => by rw [qld_0 _ (by omega), ht]
  have c823 : ∀ k, (823 : Int32) + nI fr + nI k = nI (823 + (fr + k)) := fun k => by
    show nI 823 + nI fr + nI k = _
    rw [nI_add, nI_add, Nat.add_assoc]
  refine lp_EN (fun f k => p_X3_longAt_L3 m (nI i) (nI at_) (nI fr) f (nI k) S.2.2.2.2.2) (alB (lo i) n at_ fr (fun p => S.2.2.2.1 0 (91 + 40 * i + p)) (fun k => S.2.2.2.1 0 (823 + k))) (fun k => some (some (.int (nI k)), S.2.2.2.2.2)) ?_ ?_ ?_
  · intro f k hk hp
    unfold alB at hp
    simp only [Bool.or_eq_false_iff, decide_eq_false_iff_not, Bool.not_eq_false', decide_eq_true_eq] at hp
    obtain ⟨p1, p2, p3⟩ := hp
    have c8 := c823 k
    have q9 := q8 (fr + k) (by omega)
    have m9 := pm (at_ + k) (by omega)
    simp (disch := omega) only [p_X3_longAt_L3, mRow_0, obS, qld_19, ht, e1, q579, e579, nI_add at_ k, nI_add fr k, nI_leI, p1, p2, ↓reduceIte, m9, pcI, c8, q9, if_pos p3, nI_1]
  · intro f k hk hp
    by_cases p1 : lo i ≤ at_ + k
    · simp (disch := omega) only [p_X3_longAt_L3, mRow_0, obS, qld_19, ht, e1, nI_add at_ k, nI_leI, p1, ↓reduceIte]
    · by_cases p2 : n ≤ fr + k
      · simp (disch := omega) only [p_X3_longAt_L3, mRow_0, obS, qld_19, ht, e1, q579, e579, nI_add at_ k, nI_add fr k, nI_leI, p1, p2, ↓reduceIte]
      · have p3 : ¬ S.2.2.2.1 0 (91 + 40 * i + (at_ + k)) = S.2.2.2.1 0 (823 + (fr + k)) := by
          unfold alB at hp
          simpa [p1, p2] using hp
        have c8 := c823 k
        have q9 := q8 (fr + k) (by omega)
        have m9 := pm (at_ + k) (by omega)
        simp (disch := omega) only [p_X3_longAt_L3, mRow_0, obS, qld_19, ht, e1, q579, e579, nI_add at_ k, nI_add fr k, nI_leI, p1, p2, ↓reduceIte, m9, pcI, c8, q9, if_neg p3]
  · unfold alB
    have : lo i ≤ at_ + 41 := by omega
    simp [this]
/-- the greatest of some -/
def lgA (c : Nat → Nat) : Nat → Nat
  | 0 => 0
  | k + 1 => max (lgA c k) (c k)
theorem lgA_s (c : Nat → Nat) (k : Nat) : lgA c (k + 1) = max (lgA c k) (c k) := rfl
theorem lgA_le {c : Nat → Nat} {b : Nat} : ∀ {n : Nat}, (∀ k, k < n → c k ≤ b) → lgA c n ≤ b
  | 0, _ => Nat.zero_le _
  | n + 1, h => by
    have := lgA_le (n := n) (fun k hk => h k (by omega))
    have := h n (by omega)
    rw [lgA_s]
    omega
def lgW (t : Nat → Int32) (i : Nat) : Nat := lgA (fun a => lgA (fun s => alN (hLo t i) (hSc t) a s (fun p => t (91 + 40 * i + p)) (fun k => t (823 + k))) (hSc t)) (hLo t i)
theorem lgW_le {t : Nat → Int32} (hw : wAct t) {i : Nat} (hi : i < hN t) : lgW t i ≤ 40 := lgA_le (fun a _ => lgA_le (fun s _ => alN_le (hw.2.1 i hi).1.2))
theorem f_longestIn {A : hA} {R : sMem} {S : hS} {g : Nat → Nat} {b L : Nat} {xs : Nat → Int32} (h : hInv A R S g b L xs) {i : Nat} (hi : i < hN (S.2.2.2.1 0)) : f_X0_longestIn (hX A) (nI i) (hMem A R S) = some (.inl (some (.int (nI (lgW (S.2.2.2.1 0) i)))), hMem A R S) := by
  have hg := h.1.1
  have hc := h.1.2.1
  have h3 : 0 < A.2.2 := by have := hg.2.2.2; omega
  have hn := h.act.n
  have hw := h.act
  have e1 : S.2.2.2.1 0 (19 + i) = nI (hLo (S.2.2.2.1 0) i) := (hw.2.1 i hi).1.1
  have l1 : hLo (S.2.2.2.1 0) i ≤ 40 := (hw.2.1 i hi).1.2
  obtain ⟨-, -, -, -, -, -, ⟨q6, r6, f6, b6, e6⟩, -⟩ := h.reps
  have l579 : hSc (S.2.2.2.1 0) ≤ 16 := hw.1.2.2.2.2.2.2.1.2
  have ln := hR_len hc S b6
  have al := fun a s (ha : a ≤ 41) (hs : s ≤ 100) => f_alike h (lo := fun i => hLo (S.2.2.2.1 0) i) (fun i hi => (hw.2.1 i hi).1) (i := i) (at_ := a) (fr := s) hi b6 (r := fun k => S.2.2.2.1 0 (823 + k)) e6 ha hs (by omega)
  have ab := fun a s => alN_le (lo := hLo (S.2.2.2.1 0) i) (len := hSc (S.2.2.2.1 0)) (at_ := a) (fr := s) (d := fun p => S.2.2.2.1 0 (91 + 40 * i + p)) (r := fun k => S.2.2.2.1 0 (823 + k)) l1
  unfold lgW
  generalize hC : (fun a s => alN (hLo (S.2.2.2.1 0) i) (hSc (S.2.2.2.1 0)) a s (fun p => S.2.2.2.1 0 (91 + 40 * i + p)) (fun k => S.2.2.2.1 0 (823 + k))) = C
  have eC : ∀ a s, alN (hLo (S.2.2.2.1 0) i) (hSc (S.2.2.2.1 0)) a s (fun p => S.2.2.2.1 0 (91 + 40 * i + p)) (fun k => S.2.2.2.1 0 (823 + k)) = C a s := fun a s => by rw [← hC]
  simp only [eC] at al ab ⊢
  generalize hSc (S.2.2.2.1 0) = n at *
  generalize hLo (S.2.2.2.1 0) i = l at *
  have bI : ∀ a k, lgA (fun s => C a s) k ≤ 40 := fun a k => lgA_le (fun s _ => ab a s)
  have bO : ∀ k, lgA (fun a => lgA (fun s => C a s) n) k ≤ 40 := fun k => lgA_le (fun a _ => bI a n)
  refine lk (fun f k (_ : Unit) => f_X0_longestIn_L4 (hX A) (nI i) f (nI (lgA (fun a => lgA (fun s => C a s) n) k)) (nI k) (hMem A R S)) (fun _ _ _ => none) l (fun _ _ => True) (fun o _ => o = some (.inl (some (.int (nI (lgA (fun a => lgA (fun s => C a s) n) l)))), hMem A R S)) ?_ ?_ (by omega) () trivial
  · intro f f' k _ hk _
    have c0 : ¬ l ≤ k := by omega
    refine Or.inl ⟨(), trivial, ?_, rfl⟩
    have IN := lk (fun q j (_ : Unit) => f_X0_longestIn_L20 (f_X0_longestIn_L4 (hX A) (nI i) f) (hX A) (nI i) (nI k) q (nI (max (lgA (fun a => lgA (fun s => C a s) n) k) (lgA (fun s => C k s) j))) (nI j) (hMem A R S)) (fun _ _ _ => none) n (fun _ _ => True) (fun o _ => o = f_X0_longestIn_L4 (hX A) (nI i) f (nI (lgA (fun a => lgA (fun s => C a s) n) (k + 1))) (nI (k + 1)) (hMem A R S)) ?_ ?_ (by omega) () trivial
    · have z : max (lgA (fun a => lgA (fun s => C a s) n) k) (lgA (fun s => C k s) 0) = lgA (fun a => lgA (fun s => C a s) n) k := Nat.max_zero _
      have IN' : f_X0_longestIn_L20 (f_X0_longestIn_L4 (hX A) (nI i) f) (hX A) (nI i) (nI k) sFuel (nI (max (lgA (fun a => lgA (fun s => C a s) n) k) (lgA (fun s => C k s) 0))) 0 (hMem A R S) = _ := IN
      rw [z] at IN'
      rw [← IN']
      simp (disch := omega) only [f_X0_longestIn_L4, xgN_23 hg, xgN_22 hg, xgI_21 hg, hx_chk hg, ht_chk hg, tgN_5 hg, trl_5 hg, tgN_3 hg, trl_3 hg, obS, e1, nI_leI, c0, ↓reduceIte]
    · intro q q' j _ hj _
      have c1 : ¬ n ≤ j := by omega
      have a9 := al k j (by omega) (by omega)
      have m1 := mx2 (a := max (lgA (fun a => lgA (fun s => C a s) n) k) (lgA (fun s => C k s) j)) (b := C k j) (by have := bO k; have := bI k j; omega) (by have := ab k j; omega)
      refine Or.inl ⟨(), trivial, ?_, rfl⟩
      rw [show lgA (fun s => C k s) (j + 1) = max (lgA (fun s => C k s) j) (C k j) from rfl, ← Nat.max_assoc, ← m1]
      simp (disch := omega) only [f_X0_longestIn_L20, xgN_34 hg, r6, hvN_ref, obS, ln, nI_leI, c1, ↓reduceIte, hx_chk hg, a9, hcI, nI_1]
    · intro q q' _ _
      have c1 : n ≤ n := Nat.le_refl _
      show f_X0_longestIn_L20 _ _ _ _ _ _ _ _ = _
      simp (disch := omega) only [f_X0_longestIn_L20, xgN_34 hg, r6, hvN_ref, obS, ln, nI_leI, c1, ↓reduceIte, nI_1]
      rfl
  · intro f f' _ _
    have c0 : l ≤ l := Nat.le_refl _
    show f_X0_longestIn_L4 _ _ _ _ _ _ = _
    simp (disch := omega) only [f_X0_longestIn_L4, xgN_23 hg, xgN_22 hg, xgI_21 hg, hx_chk hg, ht_chk hg, tgN_5 hg, trl_5 hg, tgN_3 hg, trl_3 hg, obS, e1, nI_leI, c0, ↓reduceIte]
theorem px_longestOf {A : hA} {R : sMem} {S : hS} {g : Nat → Nat} {b L : Nat} {xs : Nat → Int32} (h : hInv A R S g b L xs) (m : Nat) {i : Nat} (hi : i < hN (S.2.2.2.1 0)) : p_X3_longestOf m (nI i) S.2.2.2.2.2 = some (some (.int (nI (lgW (S.2.2.2.1 0) i))), S.2.2.2.2.2) := by
  have ht := h.t0
  have hn := h.act.n
  have hw := h.act
  have e1 : S.2.2.2.1 0 (19 + i) = nI (hLo (S.2.2.2.1 0) i) := (hw.2.1 i hi).1.1
  have l1 : hLo (S.2.2.2.1 0) i ≤ 40 := (hw.2.1 i hi).1.2
  have ws := hw.1.2.2.2.2.2.2.1
  have e579 : S.2.2.2.1 0 579 = nI (hSc (S.2.2.2.1 0)) := ws.1
  have l579 : hSc (S.2.2.2.1 0) ≤ 16 := ws.2
  have q579 : ∀ s : mSt, qAld s 0 579 = some (s.2 0 579) := fun s => qld_0 s (p := 579) (by omega)
  have al := fun a s (ha : a ≤ 41) (hs : s ≤ 16) => px_longAt h m (lo := fun i => hLo (S.2.2.2.1 0) i) (fun i hi => (hw.2.1 i hi).1) (i := i) (at_ := a) (fr := s) hi ha hs
  have ab := fun a s => alN_le (lo := hLo (S.2.2.2.1 0) i) (len := hSc (S.2.2.2.1 0)) (at_ := a) (fr := s) (d := fun p => S.2.2.2.1 0 (91 + 40 * i + p)) (r := fun k => S.2.2.2.1 0 (823 + k)) l1
  unfold lgW
  generalize hC : (fun a s => alN (hLo (S.2.2.2.1 0) i) (hSc (S.2.2.2.1 0)) a s (fun p => S.2.2.2.1 0 (91 + 40 * i + p)) (fun k => S.2.2.2.1 0 (823 + k))) = C
  have eC : ∀ a s, alN (hLo (S.2.2.2.1 0) i) (hSc (S.2.2.2.1 0)) a s (fun p => S.2.2.2.1 0 (91 + 40 * i + p)) (fun k => S.2.2.2.1 0 (823 + k)) = C a s := fun a s => by rw [← hC]
  simp only [eC] at al ab ⊢
  generalize hSc (S.2.2.2.1 0) = n at *
  generalize hLo (S.2.2.2.1 0) i = l at *
  have bI : ∀ a k, lgA (fun s => C a s) k ≤ 40 := fun a k => lgA_le (fun s _ => ab a s)
  have bO : ∀ k, lgA (fun a => lgA (fun s => C a s) n) k ≤ 40 := fun k => lgA_le (fun a _ => bI a n)
  refine lk (fun _ _ _ => none) (fun f k (_ : Unit) => p_X3_longestOf_L4 m (nI i) f (nI (lgA (fun a => lgA (fun s => C a s) n) k)) (nI k) S.2.2.2.2.2) l (fun _ _ => True) (fun _ o => o = some (some (.int (nI (lgA (fun a => lgA (fun s => C a s) n) l))), S.2.2.2.2.2)) ?_ ?_ (by omega) () trivial
  · intro f f' k _ hk _
    have c0 : ¬ l ≤ k := by omega
    refine Or.inl ⟨(), trivial, rfl, ?_⟩
    have IN := lk (fun _ _ _ => none) (fun q j (_ : Unit) => p_X3_longestOf_L20 (p_X3_longestOf_L4 m (nI i) f') m (nI i) (nI k) q (nI (max (lgA (fun a => lgA (fun s => C a s) n) k) (lgA (fun s => C k s) j))) (nI j) S.2.2.2.2.2) n (fun _ _ => True) (fun _ o => o = p_X3_longestOf_L4 m (nI i) f' (nI (lgA (fun a => lgA (fun s => C a s) n) (k + 1))) (nI (k + 1)) S.2.2.2.2.2) ?_ ?_ (by omega) () trivial
    · have z : max (lgA (fun a => lgA (fun s => C a s) n) k) (lgA (fun s => C k s) 0) = lgA (fun a => lgA (fun s => C a s) n) k := Nat.max_zero _
      have IN' : p_X3_longestOf_L20 (p_X3_longestOf_L4 m (nI i) f') m (nI i) (nI k) sFuel (nI (max (lgA (fun a => lgA (fun s => C a s) n) k) (lgA (fun s => C k s) 0))) 0 S.2.2.2.2.2 = _ := IN
      rw [z] at IN'
      rw [← IN']
      simp (disch := omega) only [p_X3_longestOf_L4, mRow_0, obS, qld_19, ht, e1, nI_leI, c0, ↓reduceIte]
    · intro q q' j _ hj _
      have c1 : ¬ n ≤ j := by omega
      have a9 := al k j (by omega) (by omega)
      have m1 := mx2' (a := max (lgA (fun a => lgA (fun s => C a s) n) k) (lgA (fun s => C k s) j)) (b := C k j) (by have := bO k; have := bI k j; omega) (by have := ab k j; omega)
      refine Or.inl ⟨(), trivial, rfl, ?_⟩
      rw [show lgA (fun s => C k s) (j + 1) = max (lgA (fun s => C k s) j) (C k j) from rfl, ← Nat.max_assoc, ← m1]
      simp (disch := omega) only [p_X3_longestOf_L20, mRow_0, obS, q579, ht, e579, nI_leI, c1, ↓reduceIte, a9, pcI, px_greater, nI_1]
    · intro q q' _ _
      have c1 : n ≤ n := Nat.le_refl _
      show p_X3_longestOf_L20 _ _ _ _ _ _ _ _ = _
      simp (disch := omega) only [p_X3_longestOf_L20, mRow_0, obS, q579, ht, e579, nI_leI, c1, ↓reduceIte, nI_1]
      rfl
  · intro f f' _ _
    have c0 : l ≤ l := Nat.le_refl _
    show p_X3_longestOf_L4 _ _ _ _ _ _ = _
    simp (disch := omega) only [p_X3_longestOf_L4, mRow_0, obS, qld_19, ht, e1, nI_leI, c0, ↓reduceIte]
theorem f_foundIn {A : hA} {R : sMem} {S : hS} {g : Nat → Nat} {b L : Nat} {xs : Nat → Int32} (h : hInv A R S g b L xs) {i : Nat} (hi : i < hN (S.2.2.2.1 0)) : ∃ R', f_X0_foundIn (hX A) (nI i) (hMem A R S) = some (.inl (some (.int (nI (lcs (fun k => S.2.2.2.1 0 (823 + k)) (fun p => S.2.2.2.1 0 (91 + 40 * i + p)) (hSc (S.2.2.2.1 0)) (hLo (S.2.2.2.1 0) i))))), hMem A R' S) ∧ hEx 1 20 R R' ∧ hCl A R' := by
  have hg := h.1.1
  have hc := h.1.2.1
  have h3 : 0 < A.2.2 := by have := hg.2.2.2; omega
  have hn := h.act.n
  have hw := h.act
  have hs : sFuel = 1000000 := rfl
  have e1 : S.2.2.2.1 0 (19 + i) = nI (hLo (S.2.2.2.1 0) i) := (hw.2.1 i hi).1.1
  have l1 : hLo (S.2.2.2.1 0) i ≤ 40 := (hw.2.1 i hi).1.2
  obtain ⟨-, -, -, -, -, -, ⟨q6, r6, f6, b6, e6⟩, -⟩ := h.reps
  have l579 : hSc (S.2.2.2.1 0) ≤ 16 := hw.1.2.2.2.2.2.2.1.2
  have l0 := hR_len hc S b6
  have fd := fun (R2 : sMem) p (hp : p < 40) => fx_mark hg R2 S (k := 0) h3 (i := i) (p := p) (by omega) hp
  have ed : ∀ p, S.2.2.2.1 0 (91 + 40 * i + p) = (fun p => S.2.2.2.1 0 (91 + 40 * i + p)) p := fun _ => rfl
  have es : ∀ k, k < hSc (S.2.2.2.1 0) → f6 k = (fun k => S.2.2.2.1 0 (823 + k)) k := e6
  generalize (fun p => S.2.2.2.1 0 (91 + 40 * i + p)) = d at *
  generalize (fun k => S.2.2.2.1 0 (823 + k)) = sc at *
  simp only [ed] at fd
  generalize hSc (S.2.2.2.1 0) = n at *
  generalize hLo (S.2.2.2.1 0) i = l at *
  have hb := hc.base hg
  have hc1 := hc.new (sArr 0 (n + 1) (fun _ => 0)) (n + 1)
  have x1 := hEx.new hc (sArr 0 (n + 1) (fun _ => 0)) (n + 1)
  have a1 := sNew_at R (sArr 0 (n + 1) (fun _ => 0)) (n + 1)
  have nA : ∀ K, sNewA (hMem A R S) 0 (nI (n + 1)) K = K R.2.1 (hMem A (sNew R (sArr 0 (n + 1) (fun _ => 0)) (n + 1)) S) := fun K => hNewA hc S (n := n + 1) (by omega) K
  generalize hR1 : sNew R (sArr 0 (n + 1) (fun _ => 0)) (n + 1) = R1 at *
  generalize hrr : R.2.1 = r at *
  have hRF : ∀ F : Nat → Int32, (sUp R1 r (sArr 0 (n + 1) F)).2.2.2 q6 = some (sArr 0 n f6) := fun F => by
    have hlt := hc.lt b6
    rw [sUp_ne _ _ (by omega)]
    exact x1.1 _ _ b6
  have ld := fun (F : Nat → Int32) p (hp : p < n + 1) => ar_ld (F := F) hc1 S a1 (by omega) hp
  have st := fun (F : Nat → Int32) p (hp : p < n + 1) x => ar_st (F := F) hg hc1 S a1 hb (by omega) hp x
  have ln := fun (F : Nat → Int32) => ar_len (F := F) hc1 S a1
  have ls := fun (F : Nat → Int32) p (hp : p < n) => hR_ld (hc1.up a1 (e := sArr 0 (n + 1) F)) S (hRF F) hp (by omega)
  have lS := fun (F : Nat → Int32) => hR_len (hc1.up a1 (e := sArr 0 (n + 1) F)) S (hRF F)
  have lb := fun x y => lcs_le sc d x y
  have J := lk (α := Nat → Int32) (fun f k F => f_X0_foundIn_L12 (hX A) (nI i) r f (nI k) (hMem A (sUp R1 r (sArr 0 (n + 1) F)) S)) (fun _ _ _ => none) l (fun k F => ∀ j, j ≤ n → F j = nI (lcs sc d j k)) (fun o _ => ∃ F, o = some (.inl (some (.int (nI (lcs sc d n l)))), hMem A (sUp R1 r (sArr 0 (n + 1) F)) S)) ?_ ?_ (by omega) (fun _ => 0) (fun j hj => by rw [lcs_0]; rfl)
  · obtain ⟨F, e⟩ := J
    have e' : f_X0_foundIn_L12 (hX A) (nI i) r sFuel 0 (hMem A (sUp R1 r (sArr 0 (n + 1) (fun _ => 0))) S) = _ := e
    rw [sUp_self R1 a1] at e'
    refine ⟨sUp R1 r (sArr 0 (n + 1) F), ?_, (hEx.up hc x1 (by omega) _).le (by omega) (by omega), hc1.up a1⟩
    simp only [f_X0_foundIn, xgN_34 hg, r6, hvN_ref, obS, l0, nI_1, nA, e']
  · intro f f' k F hk hF
    have c0 : ¬ l ≤ k := by omega
    have IN := lkS (α := (Nat → Int32) × Nat) (fun q j x => f_X0_foundIn_L31 (f_X0_foundIn_L12 (hX A) (nI i) r f) (hX A) (nI i) r (nI k) q (nI x.2) (nI j) (hMem A (sUp R1 r (sArr 0 (n + 1) x.1)) S)) (fun _ _ _ => none) (n + 1) (fun j x => 0 < j ∧ x.2 = lcs sc d (j - 1) k ∧ (∀ z, z < j → x.1 z = nI (lcs sc d z (k + 1))) ∧ ∀ z, j ≤ z → z ≤ n → x.1 z = nI (lcs sc d z k)) (fun o _ => ∃ F' : Nat → Int32, (∀ j, j ≤ n → F' j = nI (lcs sc d j (k + 1))) ∧ o = f_X0_foundIn_L12 (hX A) (nI i) r f (nI (k + 1)) (hMem A (sUp R1 r (sArr 0 (n + 1) F')) S)) ?_ ?_ n 1 sFuel sFuel (F, 0) (by omega) (by omega) (by omega) ⟨by omega, by rw [lcs_0'], fun z hz => by
      have : z = 0 := by omega
      subst this
      show F 0 = _
      rw [hF 0 (by omega), lcs_0', lcs_0'], fun z h1 h2 => hF z h2⟩
    · obtain ⟨F', h1, h2⟩ := IN
      refine Or.inl ⟨F', h1, ?_, rfl⟩
      rw [← h2]
      simp (disch := omega) only [f_X0_foundIn_L12, xgN_23 hg, xgN_22 hg, xgI_21 hg, hx_chk hg, ht_chk hg, tgN_5 hg, trl_5 hg, tgN_3 hg, trl_3 hg, obS, e1, nI_leI, c0, ↓reduceIte]
      rfl
    · intro q q' j x hj ⟨j0, hx1, hx2, hx3⟩
      have c1 : ¬ n + 1 ≤ j := by omega
      obtain ⟨j, rfl⟩ : ∃ z, j = z + 1 := ⟨j - 1, by omega⟩
      obtain ⟨F, bf⟩ := x
      simp only [Nat.add_sub_cancel] at hx1
      subst hx1
      dsimp only at hx2 hx3
      have lw := ld F (j + 1) (by omega)
      have lp := ld F j (by omega)
      rw [hx3 (j + 1) (by omega) (by omega)] at lw
      rw [hx2 j (by omega)] at lp
      have sw := fun y => st F (j + 1) (by omega) y
      have m1 := fd (sUp R1 r (sArr 0 (n + 1) F)) k (by omega)
      have s1 := ls F j (by omega)
      rw [es j (by omega)] at s1
      have pr : nI (j + 1) - 1 = nI j := nI_pred j
      have b1 := lb j k
      have b2 := lb (j + 1) k
      have b3 := lb j (k + 1)
      refine Or.inl ⟨(upd F (j + 1) (nI (lcs sc d (j + 1) (k + 1))), lcs sc d (j + 1) k), ⟨by omega, rfl, fun z hz => ?_, fun z h1 h2 => ?_⟩, ?_, rfl⟩
      · dsimp only
        by_cases c : z = j + 1
        · subst c; rw [upd_same]
        · rw [upd_ne _ _ c, hx2 z (by omega)]
      · dsimp only
        rw [upd_ne _ _ (by omega), hx3 z (by omega) h2]
      · by_cases c : sc j = d k
        · have val : nI (lcs sc d j k) + 1 = nI (lcs sc d (j + 1) (k + 1)) := by rw [lcs_s, if_pos c, nI_1]
          simp (disch := omega) only [f_X0_foundIn_L31, f_X0_foundIn_J86, ln, obS, nI_leI, c1, ↓reduceIte, lw, xgN_34 hg, r6, hvN_ref, pr, s1, xgN_23 hg, xgN_22 hg, xgI_21 hg, hx_chk hg, ht_chk hg, tgN_5 hg, trl_5 hg, tgN_3 hg, trl_3 hg, m1, hcI, if_pos c, val, sw, nI_1]
        · have val : (if nI (lcs sc d (j + 1) k) < nI (lcs sc d j (k + 1)) then nI (lcs sc d j (k + 1)) else nI (lcs sc d (j + 1) k)) = nI (lcs sc d (j + 1) (k + 1)) := by
            rw [lcs_s, if_neg c, mx2 (by omega) (by omega), Nat.max_comm]
          simp (disch := omega) only [f_X0_foundIn_L31, f_X0_foundIn_J86, ln, obS, nI_leI, c1, ↓reduceIte, lw, xgN_34 hg, r6, hvN_ref, pr, s1, xgN_23 hg, xgN_22 hg, xgI_21 hg, hx_chk hg, ht_chk hg, tgN_5 hg, trl_5 hg, tgN_3 hg, trl_3 hg, m1, hcI, if_neg c, lp, val, sw, nI_1]
    · intro q q' x ⟨_, hx1, hx2, hx3⟩
      have c1 : n + 1 ≤ n + 1 := Nat.le_refl _
      refine ⟨x.1, fun j hj => hx2 j (by omega), ?_⟩
      simp (disch := omega) only [f_X0_foundIn_L31, ln, obS, nI_leI, c1, ↓reduceIte, nI_1]
  · intro f f' F hF
    have c0 : l ≤ l := Nat.le_refl _
    have z := ld F n (by omega)
    rw [hF n (by omega)] at z
    refine ⟨F, ?_⟩
    simp (disch := omega) only [f_X0_foundIn_L12, xgN_23 hg, xgN_22 hg, xgI_21 hg, hx_chk hg, ht_chk hg, tgN_5 hg, trl_5 hg, tgN_3 hg, trl_3 hg, obS, e1, nI_leI, c0, ↓reduceIte, xgN_34 hg, r6, hvN_ref, lS, z]
theorem px_inOrder {A : hA} {R : sMem} {S : hS} {g : Nat → Nat} {b L : Nat} {xs : Nat → Int32} (h : hInv A R S g b L xs) (m : Nat) {i : Nat} (hi : i < hN (S.2.2.2.1 0)) : ∃ G : Nat → Int32, p_X3_inOrder m (nI i) S.2.2.2.2.2 = some (some (.int (nI (lcs (fun k => S.2.2.2.1 0 (823 + k)) (fun p => S.2.2.2.1 0 (91 + 40 * i + p)) (hSc (S.2.2.2.1 0)) (hLo (S.2.2.2.1 0) i)))), mRowSet S.2.2.2.2.2 12 G) := by
  have ht := h.t0
  have hn := h.act.n
  have hw := h.act
  have e1 : S.2.2.2.1 0 (19 + i) = nI (hLo (S.2.2.2.1 0) i) := (hw.2.1 i hi).1.1
  have l1 : hLo (S.2.2.2.1 0) i ≤ 40 := (hw.2.1 i hi).1.2
  have ws := hw.1.2.2.2.2.2.2.1
  have e579 : S.2.2.2.1 0 579 = nI (hSc (S.2.2.2.1 0)) := ws.1
  have l579 : hSc (S.2.2.2.1 0) ≤ 16 := ws.2
  have q579 : ∀ s : mSt, qAld s 0 579 = some (s.2 0 579) := fun s => qld_0 s (p := 579) (by omega)
  have r0 : ∀ G, (mRowSet S.2.2.2.2.2 12 G).2 0 = S.2.2.2.1 0 := fun G => by rw [mrs_ne _ _ (by omega), ht]
  have pd := fun G p (hp : p < 40) => px_mark2 m (mRowSet S.2.2.2.2.2 12 G) (i := i) (p := p) (by omega) hp
  simp only [r0] at pd
  have q8 : ∀ G p, p < 16 → qAld (mRowSet S.2.2.2.2.2 12 G) 0 (nI (823 + p)) = some (S.2.2.2.1 0 (823 + p)) := fun G p hp => by rw [qld_0 _ (by omega), r0]
  have c823 : ∀ k, (823 : Int32) + nI k = nI (823 + k) := fun k => nI_add 823 k
  have ed : ∀ p, S.2.2.2.1 0 (91 + 40 * i + p) = (fun p => S.2.2.2.1 0 (91 + 40 * i + p)) p := fun _ => rfl
  have es : ∀ k, S.2.2.2.1 0 (823 + k) = (fun k => S.2.2.2.1 0 (823 + k)) k := fun _ => rfl
  generalize (fun p => S.2.2.2.1 0 (91 + 40 * i + p)) = d at *
  generalize (fun k => S.2.2.2.1 0 (823 + k)) = sc at *
  simp only [ed] at pd
  simp only [es] at q8
  generalize hSc (S.2.2.2.1 0) = n at *
  generalize hLo (S.2.2.2.1 0) i = l at *
  rw [← lcs_rev]
  generalize hT : (fun s k => lcs (rvN n sc) (rvN l d) (n - s) (l - k)) = T
  have eT : ∀ s k, T s k = lcs (rvN n sc) (rvN l d) (n - s) (l - k) := fun s k => by rw [← hT]
  have bT : ∀ s k, T s k ≤ 16 := fun s k => by
    rw [eT]
    have := lcs_le (rvN n sc) (rvN l d) (n - s) (l - k)
    omega
  have J := lk (α := Nat → Int32) (fun _ _ _ => none) (fun f q G => p_X3_inOrder_L9 m (nI i) f (dnI n q) (mRowSet S.2.2.2.2.2 12 G)) (n + 1) (fun q G => ∀ s k, s ≤ n → n < s + q → k ≤ l → G (41 * s + k) = nI (T s k)) (fun _ p => ∃ G : Nat → Int32, p = some (some (.int (nI (T 0 0))), mRowSet S.2.2.2.2.2 12 G)) ?_ ?_ (by omega) (S.2.2.2.2.2.2 12) (fun s k h1 h2 h3 => by omega)
  · obtain ⟨G, e⟩ := J
    refine ⟨G, ?_⟩
    have e' : p_X3_inOrder_L9 m (nI i) sFuel (dnI n 0) (mRowSet S.2.2.2.2.2 12 (S.2.2.2.2.2.2 12)) = _ := e
    rw [mrs_self, dnI_in (by omega), eT] at e'
    unfold p_X3_inOrder
    rw [mRow_0, obS, q579, obS, ht, e579]
    exact e'
  · intro f f' q G hq hG
    have hsq : q ≤ n := by omega
    obtain ⟨s, hss⟩ : ∃ s, s = n - q := ⟨_, rfl⟩
    have nn : ¬ nI s < 0 := nI_pos (by omega)
    have IN := lk (α := Nat → Int32) (fun _ _ _ => none) (fun z y G => p_X3_inOrder_L23 (p_X3_inOrder_L9 m (nI i) f') m (nI i) (nI s) z (dnI l y) (mRowSet S.2.2.2.2.2 12 G)) (l + 1) (fun y G => (∀ s k, s ≤ n → n < s + q → k ≤ l → G (41 * s + k) = nI (T s k)) ∧ ∀ k, k ≤ l → l < k + y → G (41 * s + k) = nI (T s k)) (fun _ p => ∃ G : Nat → Int32, (∀ s k, s ≤ n → n < s + (q + 1) → k ≤ l → G (41 * s + k) = nI (T s k)) ∧ p = p_X3_inOrder_L9 m (nI i) f' (dnI n (q + 1)) (mRowSet S.2.2.2.2.2 12 G)) ?_ ?_ (by omega) G ⟨hG, fun k h1 h2 => by omega⟩
    · obtain ⟨G', h1, h2⟩ := IN
      refine Or.inl ⟨G', h1, rfl, ?_⟩
      rw [← h2]
      rw [dnI_in hsq, ← hss, dnI_in (show 0 ≤ l by omega)]
      simp (disch := omega) only [p_X3_inOrder_L9, if_neg nn, mRow_0, obS, qld_19, r0, e1]
      rfl
    · intro z z' y G hy ⟨hG1, hG2⟩
      have hk : y ≤ l := by omega
      obtain ⟨k, hkk⟩ : ∃ k, k = l - y := ⟨_, rfl⟩
      have nk : ¬ nI k < 0 := nI_pos (by omega)
      have cix : (41 : Int32) * nI s + nI k = nI (41 * s + k) := by
        show nI 41 * nI s + _ = _
        rw [pk_mul, nI_add]
      have dn := dnI_s (n := l) (r := y) hk
      rw [← hkk] at dn
      have n10 : ¬ (1 : Int32) = 0 := by decide
      have es1 : (nI s = nI n) = (s = n) := propext (nI_eq (by omega) (by omega))
      have ek1 : (nI k = nI l) = (k = l) := propext (nI_eq (by omega) (by omega))
      refine Or.inl ⟨upd G (41 * s + k) (nI (T s k)), ⟨fun i2 k2 h1 h2 h3 => ?_, fun k2 h1 h2 => ?_⟩, rfl, ?_⟩
      · rw [upd_ne _ _ (by omega), hG1 i2 k2 h1 h2 h3]
      · by_cases c : k2 = k
        · subst c; rw [upd_same]
        · rw [upd_ne _ _ (by omega), hG2 k2 h1 (by omega)]
      · rw [dnI_in hk, ← hkk]
        by_cases c1 : s = n
        · have v1 : T s k = 0 := by rw [eT, c1, Nat.sub_self, lcs_0']
          have z0 : (0 : Int32) = nI (T s k) := by rw [v1]; rfl
          simp (disch := omega) only [p_X3_inOrder_L23, p_X3_inOrder_J57, p_X3_inOrder_J88, p_X3_inOrder_J163, nk, mRow_0, mRow_30, obS, q579, r0, e579, eq_true (Eq.mpr es1 c1), n10, ↓reduceIte, cix, qst_12, mrs_same, mrs_mrs, dn]
          rw [← z0]
        · by_cases c2 : k = l
          · have v1 : T s k = 0 := by rw [eT, c2, Nat.sub_self, lcs_0]
            have z0 : (0 : Int32) = nI (T s k) := by rw [v1]; rfl
            simp (disch := omega) only [p_X3_inOrder_L23, p_X3_inOrder_J57, p_X3_inOrder_J88, p_X3_inOrder_J163, nk, mRow_0, mRow_30, obS, q579, qld_19, r0, e579, e1, eq_false (fun q => c1 (Eq.mp es1 q)), eq_true (Eq.mpr ek1 c2), n10, ↓reduceIte, cix, qst_12, mrs_same, mrs_mrs, dn]
            rw [← z0]
          · have g1 : G (41 * s + k + 42) = nI (T (s + 1) (k + 1)) := by
              have := hG1 (s + 1) (k + 1) (by omega) (by omega) (by omega)
              rwa [show 41 * (s + 1) + (k + 1) = 41 * s + k + 42 by omega] at this
            have g2 : G (41 * s + k + 41) = nI (T (s + 1) k) := by
              have := hG1 (s + 1) k (by omega) (by omega) (by omega)
              rwa [show 41 * (s + 1) + k = 41 * s + k + 41 by omega] at this
            have g3 : G (41 * s + k + 1) = nI (T s (k + 1)) := hG2 (k + 1) (by omega) (by omega)
            have i42 : nI (41 * s + k) + 42 = nI (41 * s + k + 42) := nI_add (41 * s + k) 42
            have i41 : nI (41 * s + k) + 41 = nI (41 * s + k + 41) := nI_add (41 * s + k) 41
            have i1 : nI (41 * s + k) + 1 = nI (41 * s + k + 1) := nI_1 _
            have t1 := bT (s + 1) (k + 1)
            have t2 := bT (s + 1) k
            have t3 := bT s (k + 1)
            have one : ∀ x : Nat, (1 : Int32) + nI x = nI (x + 1) := fun x => by
              rw [show (1 : Int32) + nI x = nI (1 + x) from nI_add 1 x, Nat.add_comm]
            have val : T s k = if sc s = d k then T (s + 1) (k + 1) + 1 else max (T (s + 1) k) (T s (k + 1)) := by
              rw [eT, eT, eT, eT, show n - s = (n - (s + 1)) + 1 by omega, show l - k = (l - (k + 1)) + 1 by omega, lcs_s]
              have ra : rvN n sc (n - (s + 1)) = sc s := by unfold rvN; congr 1; omega
              have rb : rvN l d (l - (k + 1)) = d k := by unfold rvN; congr 1; omega
              rw [ra, rb]
            by_cases c : sc s = d k
            · rw [if_pos c] at val
              rw [val]
              simp (disch := omega) only [p_X3_inOrder_L23, p_X3_inOrder_J57, p_X3_inOrder_J88, p_X3_inOrder_J163, nk, mRow_0, mRow_30, obS, q579, qld_19, r0, e579, e1, eq_false (fun q => c1 (Eq.mp es1 q)), eq_false (fun q => c2 (Eq.mp ek1 q)), ↓reduceIte, c823, q8, pd, pcI, eq_true c, n10, cix, i42, qld_12, mrs_same, g1, one, qst_12, mrs_mrs, dn]
            · rw [if_neg c] at val
              have l1' := mx2' (a := T (s + 1) k) (b := T s (k + 1)) (by omega) (by omega)
              rw [val]
              have z00 : (0 : Int32) = 0 := rfl
              have q41 : qAld (mRowSet S.2.2.2.2.2 12 G) 12 (nI (41 * s + k + 41)) = some (nI (T (s + 1) k)) := by rw [qld_12 _ (by omega), mrs_same, g2]
              have q1 : qAld (mRowSet S.2.2.2.2.2 12 G) 12 (nI (41 * s + k + 1)) = some (nI (T s (k + 1))) := by rw [qld_12 _ (by omega), mrs_same, g3]
              have s1 : qAst (mRowSet S.2.2.2.2.2 12 G) 12 (nI (41 * s + k)) (nI (max (T (s + 1) k) (T s (k + 1)))) = some (mRowSet S.2.2.2.2.2 12 (upd G (41 * s + k) (nI (max (T (s + 1) k) (T s (k + 1)))))) := by rw [qst_12 _ (by omega), mrs_same, mrs_mrs]
              have q823 := q8 G s (by omega)
              have pdk := pd G k (by omega)
              have qe1 : qAld (mRowSet S.2.2.2.2.2 12 G) 0 (19 + nI i) = some (nI l) := by rw [qld_19 _ (by omega), r0, e1]
              have qe2 : qAld (mRowSet S.2.2.2.2.2 12 G) 0 579 = some (nI n) := by rw [q579, r0, e579]
              rw [p_X3_inOrder_L23, if_neg nk, mRow_0, obS, qe2, obS, if_neg (fun q => c1 (Eq.mp es1 q)), obS, qe1, obS, if_neg (fun q => c2 (Eq.mp ek1 q))]
              unfold p_X3_inOrder_J57
              rw [if_pos z00, mRow_0, obS, c823, q823, obS, pdk, pcI, if_neg c]
              unfold p_X3_inOrder_J88
              rw [mRow_30, obS, if_pos z00, if_pos z00, obS, cix, i41, q41, obS, obS, i1, q1, obS, px_greater, pcI, l1']
              unfold p_X3_inOrder_J163
              rw [s1, obS, dn]
    · intro z z' G ⟨hG1, hG2⟩
      have nk : (-1 : Int32) < 0 := by decide
      have dn := dnI_s (n := n) (r := q) hsq
      rw [← hss] at dn
      refine ⟨G, fun i2 k2 h1 h2 h3 => ?_, ?_⟩
      · by_cases c : i2 = s
        · subst c
          exact hG2 k2 h3 (by omega)
        · exact hG1 i2 k2 h1 (by omega) h3
      · show p_X3_inOrder_L23 _ _ _ _ _ (dnI l (l + 1)) _ = _
        rw [dnI_end]
        simp (disch := omega) only [p_X3_inOrder_L23, if_pos nk, dn]
  · intro f f' G hG
    have nk : (-1 : Int32) < 0 := by decide
    have g0 := hG 0 0 (by omega) (by omega) (by omega)
    have q0 : qAld (mRowSet S.2.2.2.2.2 12 G) 12 0 = some (nI (T 0 0)) := by
      have := qld_12 (mRowSet S.2.2.2.2.2 12 G) (p := 0) (by omega)
      rw [mrs_same] at this
      have g0' : G 0 = nI (T 0 0) := g0
      rw [g0'] at this
      exact this
    refine ⟨G, ?_⟩
    show p_X3_inOrder_L9 _ _ _ (dnI n (n + 1)) _ = _
    rw [dnI_end]
    simp (disch := omega) only [p_X3_inOrder_L9, if_pos nk, mRow_30, obS, q0]
theorem j_whose {A : hA} {R : sMem} {S : hS} {g : Nat → Nat} {b L : Nat} {xs : Nat → Int32} (h : hInv A R S g b L xs) (v : Int32) : hOp A R S g b L xs (f_X0_whose (hX A) v) (f_X3_whose (A.2.1 9) v) := by
  have hg := h.1.1
  have hc := h.1.2.1
  have ht := h.t0
  have hw := h.act
  have hn := hw.n
  have hs : sFuel = 1000000 := rfl
  have e571 : S.2.2.2.1 0 571 = nI (hN (S.2.2.2.1 0)) := hw.1.1.1.1
  have hq : ∀ (R : sMem), R.1 ≤ A.2.1 9 → ∀ s : mSt, f_X3_whose (A.2.1 9) v (mPut R (A.2.1 9) s) = lft R (A.2.1 9) (p_X3_whose (A.2.1 9) v s) := fun R hR s => q_X3_whose R _ hR v s
  cases hv : inB v 0 2 with
  | false =>
    refine hOp.read0 h hq (v := -1) ?_ ?_
    · simp only [f_X0_whose, fx_isIn, hv, eq_self, ↓reduceIte, hcI, hcN, hcV, obS, if_true, if_false, b01_f]
    · simp only [p_X3_whose, px_isIn, hv, pcI, b01_f, ↓reduceIte]
  | true =>
    have hc1 := hc.new (sLam 8 [.ref (hX A)]) 1
    have x1 := hEx.new hc (sLam 8 [.ref (hX A)]) 1
    have a1 := sNew_at R (sLam 8 [.ref (hX A)]) 1
    have nL : ∀ K, sNewL (hMem A R S) 8 [.ref (hX A)] K = K R.2.1 (hMem A (sNew R (sLam 8 [.ref (hX A)]) 1) S) := fun K => by rw [hNewL hc S]; rfl
    generalize hR1 : sNew R (sLam 8 [.ref (hX A)]) 1 = R1 at *
    have h1 := h.more x1.1 hc1
    have fl := fun i (hi : i < hN (S.2.2.2.1 0)) => f_longestIn h1 hi
    have pl := fun i (hi : i < hN (S.2.2.2.1 0)) => px_longestOf h (A.2.1 9) hi
    have lb := fun i (hi : i < hN (S.2.2.2.1 0)) => lgW_le hw hi
    by_cases n0 : hN (S.2.2.2.1 0) = 0
    · -- no worms
      have z : S.2.2.2.1 0 571 = 0 := by rw [e571, n0]; rfl
      have fz : f_X0_leastBy 0 R.2.1 (hMem A R1 S) = some (.inl (some (.int (-1))), hMem A R1 S) := by
        unfold f_X0_leastBy
        obtain ⟨q, hq9⟩ : ∃ q, sFuel = q + 1 := ⟨999999, rfl⟩
        rw [hq9]
        have c1 : (0 : Int32) ≤ 0 := by decide
        have c2 : (0 : Int32) ≤ 1 := by decide
        simp only [f_X0_leastBy_L12, if_pos c1, if_pos c2]
      have pz : ∀ q, p_X3_whose_L15 (A.2.1 9) v (q + 1) (-1) 0 S.2.2.2.2.2 = some (some (.int (if v = 1 then -1 else 0)), S.2.2.2.2.2) := fun q => by
        have c1 : (0 : Int32) ≤ 0 := by decide
        by_cases v1 : v = 1
        · simp only [p_X3_whose_L15, mRow_0, obS, qld_571, ht, z, if_pos c1, if_pos v1]
        · simp only [p_X3_whose_L15, mRow_0, obS, qld_571, ht, z, if_pos c1, if_neg v1, ↓reduceIte]
      refine hOp.read h hq (v := if v = 1 then -1 else 0) (R' := R1) (S' := S) (s' := S.2.2.2.2.2) ?_ (hSame.refl S) (x1.le (by omega) (by omega)) hc1 ?_ (Sw.refl _)
      · by_cases v0 : v = 0
        · have v1 : ¬ v = 1 := by rw [v0]; decide
          simp only [f_X0_whose, f_X0_whose_J39, fx_isIn, hv, eq_self, ↓reduceIte, hcI, hcN, hcV, obS, if_true, if_false, b01_t, xgI_21 hg, z, nL, fz, if_pos v0, if_neg v1]
        · by_cases v1 : v = 1
          · simp only [f_X0_whose, f_X0_whose_J39, fx_isIn, hv, eq_self, ↓reduceIte, hcI, hcN, hcV, obS, if_true, if_false, b01_t, xgI_21 hg, z, nL, fz, if_neg v0, if_pos v1]
          · simp only [f_X0_whose, f_X0_whose_J39, fx_isIn, hv, eq_self, ↓reduceIte, hcI, hcN, hcV, obS, if_true, if_false, b01_t, xgI_21 hg, z, nL, fz, if_neg v0, if_neg v1]
      · obtain ⟨q, hq9⟩ : ∃ q, sFuel = q + 1 := ⟨999999, rfl⟩
        simp only [p_X3_whose, px_isIn, hv, pcI, b01_t, ↓reduceIte, hq9, pz]
    · have n1 : 0 < hN (S.2.2.2.1 0) := by omega
      generalize hT : lgW (S.2.2.2.1 0) = T at *
      generalize hG : (fun k => -(nI (T k))) = G
      have eG : ∀ k, G k = -(nI (T k)) := fun k => by rw [← hG]
      obtain ⟨M', lb1, lb2⟩ := f_leastBy (a := R.2.1) (n := hN (S.2.2.2.1 0)) G (fun _ M => M = hMem A R1 S) (fun c k M hk hM => by
        subst hM
        refine ⟨hMem A R1 S, ?_, rfl⟩
        have e : f_meas R.2.1 (nI k) (hMem A R1 S) = sChk (hMem A R1 S) 0 (hX A) (f_X0_lambda_whose_8 (hX A) (nI k) (hMem A R1 S)) := by
          unfold f_meas
          rw [hR_at hc1 S a1]
          rfl
        rw [e, hx_chk hg, eG]
        simp only [f_X0_lambda_whose_8, hx_chk hg, fl k hk, hcI]) n1 (by omega) (M := hMem A R1 S) rfl
      subst lb2
      have bl := lbV_lt G n1
      have gc : ∀ k q, k < hN (S.2.2.2.1 0) → q < hN (S.2.2.2.1 0) → (G q ≤ G k) = (T k ≤ T q) := fun k q h1 h2 => by
        rw [eG, eG]
        exact neg_leI (by have := lb q h2; omega) (by have := lb k h1; omega)
      generalize hB : lbV G (hN (S.2.2.2.1 0)) = B at *
      have fB := fl B bl
      have lB := lb B bl
      have nB : ¬ nI B = -1 := nI_m1 B (by omega)
      have ez : (nI (T B) = 0) = (T B = 0) := propext (nI_eq (b := 0) (by omega) (by omega))
      -- the model's best
      have PM := lk (α := Option Nat) (fun _ _ _ => none) (fun f k a => p_X3_whose_L15 (A.2.1 9) v f (bI a) (nI k) S.2.2.2.2.2) (hN (S.2.2.2.1 0)) (fun k a => (k = 0 ∧ a = none) ∨ (0 < k ∧ ((a = none ∧ T (lbV G k) = 0) ∨ (a = some (lbV G k) ∧ 0 < T (lbV G k))))) (fun _ p => ∃ f, p = p_X3_whose_L15 (A.2.1 9) v (f + 1) (bI (if T B = 0 then none else some B)) (nI (hN (S.2.2.2.1 0))) S.2.2.2.2.2) ?_ ?_ (by omega) none (Or.inl ⟨rfl, rfl⟩)
      · obtain ⟨f9, pm⟩ := PM
        have pm' : p_X3_whose_L15 (A.2.1 9) v sFuel (-1) 0 S.2.2.2.2.2 = _ := pm
        have c0 : hN (S.2.2.2.1 0) ≤ hN (S.2.2.2.1 0) := Nat.le_refl _
        have v012 : v = 0 ∨ v = 1 ∨ v = 2 := by
          obtain ⟨j, hj, rfl⟩ := inB_lit (k := 2) (by omega) hv
          have : j = 0 ∨ j = 1 ∨ j = 2 := by omega
          rcases this with rfl | rfl | rfl
          · exact Or.inl rfl
          · exact Or.inr (Or.inl rfl)
          · exact Or.inr (Or.inr rfl)
        have pB := pl B bl
        by_cases tB : T B = 0
        · rw [if_pos tB, bI_none] at pm'
          have tz : nI (T B) = 0 := by rw [tB]; rfl
          rw [tz] at fB pB
          have res : p_X3_whose (A.2.1 9) v S.2.2.2.2.2 = some (some (.int (if v = 1 then -1 else 0)), S.2.2.2.2.2) := by
            simp only [p_X3_whose, px_isIn, hv, pcI, b01_t, ↓reduceIte]
            rw [pm']
            by_cases v1 : v = 1
            · simp (disch := omega) only [p_X3_whose_L15, mRow_0, obS, qld_571, ht, e571, nI_leI, c0, ↓reduceIte, if_pos v1]
            · simp (disch := omega) only [p_X3_whose_L15, mRow_0, obS, qld_571, ht, e571, nI_leI, c0, ↓reduceIte, if_neg v1]
          refine hOp.read h hq (v := if v = 1 then -1 else 0) (R' := R1) (S' := S) (s' := S.2.2.2.2.2) ?_ (hSame.refl S) (x1.le (by omega) (by omega)) hc1 res (Sw.refl _)
          by_cases v0 : v = 0
          · have v1 : ¬ v = 1 := by rw [v0]; decide
            simp only [f_X0_whose, f_X0_whose_J39, fx_isIn, hv, eq_self, ↓reduceIte, hcI, hcN, hcV, obS, if_true, if_false, b01_t, xgI_21 hg, e571, nL, lb1, if_neg nB, hx_chk hg, fB, if_pos v0, if_neg v1]
          · by_cases v1 : v = 1
            · simp only [f_X0_whose, f_X0_whose_J39, fx_isIn, hv, eq_self, ↓reduceIte, hcI, hcN, hcV, obS, if_true, if_false, b01_t, xgI_21 hg, e571, nL, lb1, if_neg nB, hx_chk hg, fB, if_neg v0, if_pos v1]
            · simp only [f_X0_whose, f_X0_whose_J39, fx_isIn, hv, eq_self, ↓reduceIte, hcI, hcN, hcV, obS, if_true, if_false, b01_t, xgI_21 hg, e571, nL, lb1, if_neg nB, hx_chk hg, fB, if_neg v0, if_neg v1]
        · rw [if_neg tB, bI_some] at pm'
          have tz : ¬ nI (T B) = 0 := fun e => tB (Eq.mp ez e)
          rcases v012 with v0 | v1 | v2
          · refine hOp.read h hq (v := nI (T B)) (R' := R1) (S' := S) (s' := S.2.2.2.2.2) ?_ (hSame.refl S) (x1.le (by omega) (by omega)) hc1 ?_ (Sw.refl _)
            · simp only [f_X0_whose, f_X0_whose_J39, fx_isIn, hv, eq_self, ↓reduceIte, hcI, hcN, hcV, obS, if_true, if_false, b01_t, xgI_21 hg, e571, nL, lb1, if_neg nB, hx_chk hg, fB, if_pos v0]
            · have v1 : ¬ v = 1 := by rw [v0]; decide
              simp only [p_X3_whose, px_isIn, hv, pcI, b01_t, ↓reduceIte]
              rw [pm']
              simp (disch := omega) only [p_X3_whose_L15, mRow_0, obS, qld_571, ht, e571, nI_leI, c0, ↓reduceIte, if_neg v1, if_neg nB, if_pos v0, pB, pcI]
          · have v0 : ¬ v = 0 := by rw [v1]; decide
            refine hOp.read h hq (v := nI B) (R' := R1) (S' := S) (s' := S.2.2.2.2.2) ?_ (hSame.refl S) (x1.le (by omega) (by omega)) hc1 ?_ (Sw.refl _)
            · simp only [f_X0_whose, f_X0_whose_J39, fx_isIn, hv, eq_self, ↓reduceIte, hcI, hcN, hcV, obS, if_true, if_false, b01_t, xgI_21 hg, e571, nL, lb1, if_neg nB, hx_chk hg, fB, if_neg v0, if_pos v1, if_neg tz]
            · simp only [p_X3_whose, px_isIn, hv, pcI, b01_t, ↓reduceIte]
              rw [pm']
              simp (disch := omega) only [p_X3_whose_L15, mRow_0, obS, qld_571, ht, e571, nI_leI, c0, ↓reduceIte, if_pos v1]
          · have v0 : ¬ v = 0 := by rw [v2]; decide
            have v1 : ¬ v = 1 := by rw [v2]; decide
            obtain ⟨R2, fo, x2, hc2⟩ := f_foundIn h1 bl
            obtain ⟨Gm, po⟩ := px_inOrder h (A.2.1 9) bl
            refine hOp.read h hq (v := nI (lcs (fun k => S.2.2.2.1 0 (823 + k)) (fun p => S.2.2.2.1 0 (91 + 40 * B + p)) (hSc (S.2.2.2.1 0)) (hLo (S.2.2.2.1 0) B))) (R' := R2) (S' := S) (s' := mRowSet S.2.2.2.2.2 12 Gm) ?_ (hSame.refl S) ((x1.trans x2).le (by omega) (by omega)) hc2 ?_ ((Sw.refl _).row Gm (by omega))
            · simp only [f_X0_whose, f_X0_whose_J39, fx_isIn, hv, eq_self, ↓reduceIte, hcI, hcN, hcV, obS, if_true, if_false, b01_t, xgI_21 hg, e571, nL, lb1, if_neg nB, hx_chk hg, fB, if_neg v0, if_neg v1, if_neg tz, fo]
            · simp only [p_X3_whose, px_isIn, hv, pcI, b01_t, ↓reduceIte]
              rw [pm']
              simp (disch := omega) only [p_X3_whose_L15, mRow_0, obS, qld_571, ht, e571, nI_leI, c0, ↓reduceIte, if_neg v0, if_neg v1, if_neg nB, po, pcI]
      · intro f f' k a hk ha
        have c0 : ¬ hN (S.2.2.2.1 0) ≤ k := by omega
        have pk := pl k hk
        have lk1 := lb k hk
        rcases ha with ⟨rfl, rfl⟩ | ⟨k0, ⟨rfl, t0⟩ | ⟨rfl, t0⟩⟩
        · have l0 : lbV G (0 + 1) = 0 := rfl
          by_cases c : T 0 = 0
          · have c1 : nI (T 0) ≤ 0 := by rw [c]; decide
            refine Or.inl ⟨none, Or.inr ⟨by omega, Or.inl ⟨rfl, by rw [l0]; exact c⟩⟩, rfl, ?_⟩
            simp (disch := omega) only [p_X3_whose_L15, p_X3_whose_J46, mRow_0, obS, qld_571, ht, e571, nI_leI, c0, ↓reduceIte, pk, pcI, bI_none, if_pos c1, nI_1]
          · have c1 : ¬ nI (T 0) ≤ 0 := nI_nle (by omega) (by omega)
            refine Or.inl ⟨some 0, Or.inr ⟨by omega, Or.inr ⟨by rw [l0], by rw [l0]; omega⟩⟩, rfl, ?_⟩
            simp (disch := omega) only [p_X3_whose_L15, p_X3_whose_J46, mRow_0, obS, qld_571, ht, e571, nI_leI, c0, ↓reduceIte, pk, pcI, bI_none, bI_some, if_neg c1, nI_1]
        · have lt := lbV_lt G k0
          have g1 := gc k (lbV G k) hk (by omega)
          have ls := lbV_s G k0
          by_cases c : T k = 0
          · have c1 : nI (T k) ≤ 0 := by rw [c]; decide
            rw [if_pos (Eq.mpr g1 (by omega))] at ls
            refine Or.inl ⟨none, Or.inr ⟨by omega, Or.inl ⟨rfl, by rw [ls]; exact t0⟩⟩, rfl, ?_⟩
            simp (disch := omega) only [p_X3_whose_L15, p_X3_whose_J46, mRow_0, obS, qld_571, ht, e571, nI_leI, c0, ↓reduceIte, pk, pcI, bI_none, if_pos c1, nI_1]
          · have c1 : ¬ nI (T k) ≤ 0 := nI_nle (by omega) (by omega)
            rw [if_neg (fun q => by have := Eq.mp g1 q; omega)] at ls
            refine Or.inl ⟨some k, Or.inr ⟨by omega, Or.inr ⟨by rw [ls], by rw [ls]; omega⟩⟩, rfl, ?_⟩
            simp (disch := omega) only [p_X3_whose_L15, p_X3_whose_J46, mRow_0, obS, qld_571, ht, e571, nI_leI, c0, ↓reduceIte, pk, pcI, bI_none, bI_some, if_neg c1, nI_1]
        · have lt := lbV_lt G k0
          have g1 := gc k (lbV G k) hk (by omega)
          have ls := lbV_s G k0
          have nq : ¬ nI (lbV G k) = -1 := nI_m1 _ (by omega)
          have pq := pl (lbV G k) (by omega)
          have lq := lb (lbV G k) (by omega)
          by_cases c : T k ≤ T (lbV G k)
          · rw [if_pos (Eq.mpr g1 c)] at ls
            refine Or.inl ⟨some (lbV G k), Or.inr ⟨by omega, Or.inr ⟨by rw [ls], by rw [ls]; exact t0⟩⟩, rfl, ?_⟩
            simp (disch := omega) only [p_X3_whose_L15, p_X3_whose_J46, mRow_0, obS, qld_571, ht, e571, nI_leI, c0, ↓reduceIte, pk, pq, pcI, bI_some, if_neg nq, c, nI_1]
          · rw [if_neg (fun q => c (Eq.mp g1 q))] at ls
            refine Or.inl ⟨some k, Or.inr ⟨by omega, Or.inr ⟨by rw [ls], by rw [ls]; omega⟩⟩, rfl, ?_⟩
            simp (disch := omega) only [p_X3_whose_L15, p_X3_whose_J46, mRow_0, obS, qld_571, ht, e571, nI_leI, c0, ↓reduceIte, pk, pq, pcI, bI_some, if_neg nq, c, nI_1]
      · intro f f' a ha
        refine ⟨f', ?_⟩
        rcases ha with ⟨e, -⟩ | ⟨k0, ⟨rfl, t0⟩ | ⟨rfl, t0⟩⟩
        · omega
        · rw [hB] at t0
          rw [if_pos t0]
        · rw [hB] at t0 ⊢
          rw [if_neg (by omega)]
