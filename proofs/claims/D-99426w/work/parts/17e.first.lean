/-! the first memory: the script and the texts -/
set_option maxRecDepth 100000
noncomputable def pick (P : Nat → Prop) : Option Nat := @dite (Option Nat) (∃ j, P j) (Classical.propDecidable _) (fun h => some h.choose) (fun _ => none)
theorem pick_some {P : Nat → Prop} {j : Nat} (h : pick P = some j) : P j := by
  unfold pick at h
  split at h
  · rename_i he
    cases h
    exact he.choose_spec
  · cases h
theorem pick_ex {P : Nat → Prop} {i : Nat} (h : P i) : ∃ j, pick P = some j ∧ P j := by
  unfold pick
  have he : ∃ j, P j := ⟨i, h⟩
  rw [dif_pos he]
  exact ⟨_, rfl, he.choose_spec⟩
/-- the text whose place is q: where its bytes are -/
noncomputable def txK (ad : Nat → Nat × Nat) (q : Nat) : Option Nat := (pick fun j => j < 26 ∧ (ad j).1 = q).map fun j => (ad j).2
noncomputable def txMap (b L : Nat) (xs : Nat → Int32) (ad : Nat → Nat × Nat) (q : Nat) : Option sCell :=
  if q = b then some (sRw 0 L xs (txK ad q)) else match pick fun j => j < 26 ∧ (ad j).2 = q with
    | some j => some (sRw 1 (txLen j) (fun i => (txByt j).getD i 0) (txK ad q))
    | none => (txK ad q).map fun v => sStr v
noncomputable def txM (B b L : Nat) (xs : Nat → Int32) (ad : Nat → Nat × Nat) : sMem := (B, B, 0, txMap b L xs ad)
theorem va_OF_eq {o n d : String} {v w : Value} {t : Nat} {A : Nat → Prop} {U : State} {H : Heap} (h : va_OF o n d v t A U H) (g : va_OF o n d w t A U H) : v = w := by
  obtain ⟨cf, k, i, f, cell, h1, h2, h3, h4, h5, -⟩ := h
  obtain ⟨cf', k', i', f', cell', g1, g2, g3, g4, g5, -⟩ := g
  cases h1.symm.trans g1
  cases h3.symm.trans g3
  exact Option.some.inj (h5.symm.trans g5)
theorem va_T_ty {t n n' : Nat} {f f' : Nat → Value} {A : Nat → Prop} {U : State} {H : Heap} {ty ty' : FieldType} (h : va_T ty t n f A U H) (g : va_T ty' t n' f' A U H) : ty = ty' := by
  obtain ⟨cell, h1, ⟨-, k, hk, comp, h2⟩, -⟩ := h
  obtain ⟨cell', g1, ⟨-, k', hk', comp', g2⟩, -⟩ := g
  cases h1.symm.trans g1
  cases hk.symm.trans hk'
  have := h2.symm.trans g2
  simp at this
  exact this.2
theorem va_T_eq {t n n' : Nat} {f f' : Nat → Value} {A : Nat → Prop} {U : State} {H : Heap} {ty : FieldType} (hn : n < 2 ^ 31) (hn' : n' < 2 ^ 31) (h : va_T ty t n f A U H) (g : va_T ty t n' f' A U H) : n = n' ∧ ∀ j, j < n → f j = f' j := by
  obtain ⟨cell, h1, -, -, h4, h5, h6, -⟩ := h
  obtain ⟨cell', g1, -, -, g4, g5, g6, -⟩ := g
  cases h1.symm.trans g1
  have e : n = n' := by
    have e1 : Int32.ofNat n = Int32.ofNat n' := h5.symm.trans g5
    have e2 := congrArg Int32.toInt e1
    rw [Int32.toInt_ofNat_of_lt hn, Int32.toInt_ofNat_of_lt hn'] at e2
    omega
  subst e
  exact ⟨rfl, fun j hj => Option.some.inj ((h6 j hj).symm.trans (g6 j hj))⟩
theorem txLen_small : ∀ j, j < 26 → txLen j < 100 ∧ (txByt j).length = txLen j := by decide
theorem txK_some {ad : Nat → Nat × Nat} {args : Array Value} {s : State} (hok : ∀ j : Nat, j < 26 → txOk j args s (ad j)) {q v : Nat} (h : txK ad q = some v) : sStrP v q s.heap.size s s.heap := by
  unfold txK at h
  rw [Option.map_eq_some_iff] at h
  obtain ⟨j, h1, rfl⟩ := h
  obtain ⟨h2, rfl⟩ := pick_some h1
  exact (hok j h2).2.1
theorem txK_at {ad : Nat → Nat × Nat} {args : Array Value} {s : State} (hok : ∀ j : Nat, j < 26 → txOk j args s (ad j)) {j : Nat} (hj : j < 26) : txK ad (ad j).1 = some (ad j).2 := by
  obtain ⟨i, h1, h2, h3⟩ := pick_ex (P := fun i => i < 26 ∧ (ad i).1 = (ad j).1) ⟨hj, rfl⟩
  unfold txK
  rw [h1]
  have h4 := (hok i h2).2.1.2.2
  rw [h3] at h4
  have := va_OF_eq h4 (hok j hj).2.1.2.2
  simp at this
  rw [Option.map_some, this]
theorem txM_mod {ad : Nat → Nat × Nat} {args : Array Value} {s : State} (G : sG) (hok : ∀ j : Nat, j < 26 → txOk j args s (ad j)) {b L : Nat} {xs : Nat → Int32} (hb : va_T .int b L (fun j => .int (xs j)) (sA s.heap.size) s s.heap) : sMod G s (txM s.heap.size b L xs ad) s.heap := by
  refine ⟨rfl, Nat.le_refl _, fun a e he => ?_⟩
  have h9 : txMap b L xs ad a = some e := he
  clear he
  unfold txMap at h9
  by_cases h : a = b
  · rw [if_pos h] at h9
    subst h
    rw [← Option.some.inj h9]
    exact ⟨hb, fun v hv => txK_some hok hv⟩
  · rw [if_neg h] at h9
    split at h9
    · rename_i j hj
      rw [← Option.some.inj h9]
      obtain ⟨h1, h2⟩ := pick_some hj
      rw [← h2]
      exact ⟨(hok j h1).2.2, fun v hv => txK_some hok hv⟩
    · rw [Option.map_eq_some_iff] at h9
      obtain ⟨v, h1, rfl⟩ := h9
      exact txK_some hok h1
theorem txM_script {B b L : Nat} {xs : Nat → Int32} {ad : Nat → Nat × Nat} : sInts (txM B b L xs ad) 0 b = some (L, xs) := by
  unfold sInts txM txMap
  simp
theorem txM_text {ad : Nat → Nat × Nat} {args : Array Value} {s : State} (hok : ∀ j : Nat, j < 26 → txOk j args s (ad j)) {B b L : Nat} {xs : Nat → Int32} {j : Nat} (hj : j < 26) : sStrV (txM B b L xs ad) (ad j).1 = some (ad j).2 := by
  have h := txK_at hok hj
  unfold sStrV txM txMap
  by_cases hb : (ad j).1 = b
  · simp only [hb, if_true]
    rw [hb] at h
    exact h
  · simp only [if_neg hb]
    cases hp : pick fun i => i < 26 ∧ (ad i).2 = (ad j).1 with
    | some i => exact h
    | none => rw [h]; rfl
theorem txM_bytes {ad : Nat → Nat × Nat} {args : Array Value} {s : State} (hok : ∀ j : Nat, j < 26 → txOk j args s (ad j)) {B b L : Nat} {xs : Nat → Int32} (hb : va_T .int b L (fun j => .int (xs j)) (sA s.heap.size) s s.heap) {j : Nat} (hj : j < 26) : sInts (txM B b L xs ad) 1 (ad j).2 = some (txLen j, fun i => (txByt j).getD i 0) := by
  have hne : (ad j).2 ≠ b := by
    intro e
    have h := (hok j hj).2.2
    rw [e] at h
    have := va_T_ty h hb
    cases this
  obtain ⟨i, h1, h2, h3⟩ := pick_ex (P := fun i => i < 26 ∧ (ad i).2 = (ad j).2) ⟨hj, rfl⟩
  unfold sInts txM txMap
  simp only [if_neg hne, h1, if_true]
  have g := (hok i h2).2.2
  rw [h3] at g
  obtain ⟨l1, l2⟩ := txLen_small i h2
  obtain ⟨l3, l4⟩ := txLen_small j hj
  obtain ⟨e1, e2⟩ := va_T_eq (by omega) (by omega) g (hok j hj).2.2
  congr 2
  funext q
  by_cases hq : q < txLen i
  · have := e2 q hq
    simp at this
    simpa using this
  · rw [List.getD_eq_getElem?_getD, List.getD_eq_getElem?_getD, List.getElem?_eq_none (by omega), List.getElem?_eq_none (by omega)]
