/-! a Throwable made without a stack trace -/
set_option maxRecDepth 100000
def f_J7_init_2 (v0 : Nat) (M : sMem) : Option (sRes × sMem) := (sFs M 4 v0).bind fun fs => if M.1 ≤ v0 ∧ 3 < fs.length then some (.inl none, sUp M v0 (sObj 4 ((((fs.set 0 .null).set 1 .null).set 2 .null).set 3 .null))) else none
theorem sUp_up (M : sMem) (a : Nat) (e1 e2 : sCell) : sUp (sUp M a e1) a e2 = sUp M a e2 := by
  unfold sUp
  simp only [Prod.mk.injEq, true_and]
  funext q
  by_cases h : q = a
  · simp [h]
  · simp [h]
theorem sFs_up (M : sMem) (a ci : Nat) (fs : List Value) : sFs (sUp M a (sObj ci fs)) ci a = some fs := by
  unfold sFs sUp
  simp [sObj]
theorem tf_put (M : sMem) (v0 k : Nat) (X : Value) (hk : k < 4) : (sPut M 4 k v0 X).bind (f_J7_init_2 v0) = if M.1 ≤ v0 ∧ (∃ fs, sFs M 4 v0 = some fs ∧ k < fs.length) then f_J7_init_2 v0 M else none := by
  unfold sPut
  cases h : sFs M 4 v0 with
  | none => simp
  | some fs =>
    simp only [Option.some.injEq, exists_eq_left']
    by_cases h1 : M.1 ≤ v0 ∧ k < fs.length
    · rw [if_pos h1, if_pos h1, Option.bind_some]
      unfold f_J7_init_2
      rw [sFs_up, h, Option.bind_some, Option.bind_some, sUp_up, List.length_set]
      have e : ((((fs.set k X).set 0 .null).set 1 .null).set 2 .null).set 3 .null = (((fs.set 0 .null).set 1 .null).set 2 .null).set 3 .null := by
        apply List.ext_getElem?
        intro i
        simp only [List.getElem?_set, List.length_set]
        rcases (by omega : k = 0 ∨ k = 1 ∨ k = 2 ∨ k = 3) with rfl | rfl | rfl | rfl <;> repeat' split <;> simp_all
      rw [e]
      rfl
    · rw [if_neg h1, if_neg h1]
      rfl
theorem tf_put' (M : sMem) (v0 k : Nat) (X : Value) (hk : k < 4) : f_J7_init_2 v0 M = none ∨ f_J7_init_2 v0 M = (sPut M 4 k v0 X).bind (f_J7_init_2 v0) := by
  by_cases h : M.1 ≤ v0 ∧ (∃ fs, sFs M 4 v0 = some fs ∧ k < fs.length)
  · right
    rw [tf_put M v0 k X hk, if_pos h]
  · left
    unfold f_J7_init_2
    cases h1 : sFs M 4 v0 with
    | none => rfl
    | some fs =>
      rw [Option.bind_some, if_neg]
      rintro ⟨h2, h3⟩
      exact h ⟨h2, fs, h1, by omega⟩
theorem tf_end (M : sMem) (v0 : Nat) : f_J7_init_2 v0 M = none ∨ f_J7_init_2 v0 M = (sPut M 4 1 v0 .null).bind fun M4 => (sPut M4 4 3 v0 .null).bind fun M5 => (sPut M5 4 0 v0 .null).bind fun M6 => (sPut M6 4 2 v0 .null).bind fun M7 => some (.inl none, M7) := by
  unfold f_J7_init_2
  cases h : sFs M 4 v0 with
  | none => exact Or.inl rfl
  | some fs =>
    rw [Option.bind_some]
    by_cases h1 : M.1 ≤ v0 ∧ 3 < fs.length
    · right
      rw [if_pos h1]
      have hb : M.1 ≤ v0 := h1.1
      unfold sPut
      simp only [h, sFs_up, sUp_up, Option.bind_some, List.length_set]
      have c1 : ∀ e, (sUp M v0 e).1 = M.1 := fun _ => rfl
      rw [if_pos ⟨h1.1, by omega⟩]
      simp only [Option.bind_some, sFs_up, List.length_set, c1]
      rw [if_pos ⟨h1.1, by omega⟩]
      simp only [Option.bind_some, sFs_up, sUp_up, List.length_set, c1]
      rw [if_pos ⟨h1.1, by omega⟩]
      simp only [Option.bind_some, sFs_up, sUp_up, List.length_set, c1]
      rw [if_pos ⟨h1.1, by omega⟩]
      simp only [Option.bind_some, sUp_up]
      have e : (((fs.set 0 .null).set 1 .null).set 2 .null).set 3 .null = (((fs.set 1 .null).set 3 .null).set 0 .null).set 2 Value.null := by
        apply List.ext_getElem?
        intro i
        simp only [List.getElem?_set, List.length_set]
        by_cases g0 : 0 = i <;> by_cases g1 : 1 = i <;> by_cases g2 : 2 = i <;> by_cases g3 : 3 = i <;> simp [g0, g1, g2, g3] <;> omega
      rw [e]
    · left
      rw [if_neg h1]
theorem w_J7_init_2 (l : Launch) (G : sG) (d : Nat) (hd : 1 ≤ d) (v0 : Nat) (M : sMem) : sEv l G yJ7_init_2 (ws_ yJ7_init_2 cJ7_init_2 5 none) d [.ref v0, .null, .null, .int 0, .int 0] M (f_J7_init_2 v0 M) := by
  refine sEv.of [some (.ref v0), some .null, some .null, some (.int 0), some (.int 0)] (by decide) (Nat.le_of_ble_eq_true rfl) (fun _ h => h) ?_
  show AW l G RJ7 yJ7_init_2 cJ7_init_2 5 none [] d 0 [some (.ref v0), some .null, some .null, some (.int 0), some (.int 0)] [] M (f_J7_init_2 v0 M)
  refine r_aload_n (pc := 0) dJ7_init_2_0 rfl ?_
  refine r_objInit (pc := 1) q702 q188 q189 hd (Nat.le_of_ble_eq_true rfl) dJ7_init_2_1 ?_
  refine r_aload_n (pc := 4) dJ7_init_2_4 rfl ?_
  refine r_aload_n (pc := 5) dJ7_init_2_5 rfl ?_
  rcases tf_put' M v0 0 (.ref v0) (by decide) with h | h <;> rw [h]
  · exact AW.no
  refine r_put (pc := 6) (k := 0) sC4 (Nat.le_of_ble_eq_true rfl) q731 rfl rfl rfl dJ7_init_2_6 fun M1 => ?_
  refine r_aload_n (pc := 9) dJ7_init_2_9 rfl ?_
  have g1 : ∀ (X : Value), X = .null ∨ (∃ t, X = .ref t) → AW l G RJ7 yJ7_init_2 cJ7_init_2 5 none [] d 13 [some (.ref v0), some .null, some .null, some (.int 0), some (.int 0)] [X, .ref v0] M1 (f_J7_init_2 v0 M1) := by
    intro X hX
    have n1 : narrow (tyX4 1) X = X := by rcases hX with rfl | ⟨t, rfl⟩ <;> rfl
    have n2 : fits (tyX4 1) X = true := by rcases hX with rfl | ⟨t, rfl⟩ <;> rfl
    clear h
    rcases tf_put' M1 v0 1 X (by decide) with h | h <;> rw [h]
    · exact AW.no
    refine r_put (pc := 13) (k := 1) sC4 (Nat.le_of_ble_eq_true rfl) q732 rfl n1 n2 dJ7_init_2_13 fun M2 => ?_
    refine r_aload_n (pc := 16) dJ7_init_2_16 rfl ?_
    have g2 : ∀ (Y : Value), Y = .null ∨ (∃ t, Y = .ref t) → AW l G RJ7 yJ7_init_2 cJ7_init_2 5 none [] d 20 [some (.ref v0), some .null, some .null, some (.int 0), some (.int 0)] [Y, .ref v0] M2 (f_J7_init_2 v0 M2) := by
      intro Y hY
      have n3 : narrow (tyX4 2) Y = Y := by rcases hY with rfl | ⟨t, rfl⟩ <;> rfl
      have n4 : fits (tyX4 2) Y = true := by rcases hY with rfl | ⟨t, rfl⟩ <;> rfl
      clear h
      rcases tf_put' M2 v0 2 Y (by decide) with h | h <;> rw [h]
      · exact AW.no
      refine r_put (pc := 20) (k := 2) sC4 (Nat.le_of_ble_eq_true rfl) q733 rfl n3 n4 dJ7_init_2_20 fun M3 => ?_
      refine r_iload (pc := 23) dJ7_init_2_23 rfl ?_
      have e0 : f_J7_init_2 v0 M3 = if (0 : Int32) = 0 then f_J7_init_2 v0 M3 else none := by rw [if_pos rfl]
      rw [e0]
      refine r_if_eq (pc := 25) 36 dJ7_init_2_25 (by decide) ?_ AW.no
      refine r_aload_n (pc := 36) dJ7_init_2_36 rfl ?_
      refine r_null (pc := 37) dJ7_init_2_37 ?_
      clear h e0
      rcases tf_end M3 v0 with h | h <;> rw [h]
      · exact AW.no
      refine r_put (pc := 38) (k := 1) sC4 (Nat.le_of_ble_eq_true rfl) q732 rfl rfl rfl dJ7_init_2_38 fun M4 => ?_
      refine r_aload_n (pc := 41) dJ7_init_2_41 rfl ?_
      refine r_aload_nN (pc := 42) dJ7_init_2_42 rfl ?_
      refine r_put (pc := 43) (k := 3) sC4 (Nat.le_of_ble_eq_true rfl) q730 rfl rfl rfl dJ7_init_2_43 fun M5 => ?_
      refine r_aload_n (pc := 46) dJ7_init_2_46 rfl ?_
      refine r_aload_nN (pc := 47) dJ7_init_2_47 rfl ?_
      refine r_put (pc := 48) (k := 0) sC4 (Nat.le_of_ble_eq_true rfl) q731 rfl rfl rfl dJ7_init_2_48 fun M6 => ?_
      refine r_iload_n (pc := 51) dJ7_init_2_51 rfl ?_
      have e1 : ((sPut M6 4 2 v0 .null).bind fun M7 => some ((.inl none : sRes), M7)) = if (0 : Int32) = 0 then ((sPut M6 4 2 v0 .null).bind fun M7 => some (.inl none, M7)) else none := by rw [if_pos rfl]
      rw [e1]
      refine r_if_ne (pc := 52) 60 dJ7_init_2_52 (by decide) ?_ AW.no
      refine r_aload_n (pc := 55) dJ7_init_2_55 rfl ?_
      refine r_null (pc := 56) dJ7_init_2_56 ?_
      refine r_put (pc := 57) (k := 2) sC4 (Nat.le_of_ble_eq_true rfl) q733 rfl rfl rfl dJ7_init_2_57 fun M7 => ?_
      exact r_vret rfl dJ7_init_2_60
    refine r_zq (pc := 17) (fun B s H h => h.2.2.2.2) q705 dJ7_init_2_17 (g2 _ (Or.inl rfl)) (fun t => g2 _ (Or.inr ⟨t, rfl⟩))
  refine r_zq (pc := 10) (fun B s H h => h.2.2.2.1) q703 dJ7_init_2_10 (g1 _ (Or.inl rfl)) (fun t => g1 _ (Or.inr ⟨t, rfl⟩))
theorem cyS_J7_init_2 : yJ7_init_2.cls ≠ "java/lang/invoke/MethodHandle" ∧ yJ7_init_2.cls ≠ "java/lang/invoke/VarHandle" ∧ (parseMethodDescriptor yJ7_init_2.desc).map (fun q => q.parameters.length) = some 4 := by decide +kernel
theorem cyS_J8_init : yJ8_init.cls ≠ "java/lang/invoke/MethodHandle" ∧ yJ8_init.cls ≠ "java/lang/invoke/VarHandle" ∧ (parseMethodDescriptor yJ8_init.desc).map (fun q => q.parameters.length) = some 4 := by decide +kernel
def f_J8_init (v0 : Nat) (M : sMem) : Option (sRes × sMem) := sCallV (f_J7_init_2 v0 M) fun M2 => some (.inl none, M2)
theorem w_J8_init (l : Launch) (G : sG) (d : Nat) (hd : 2 ≤ d) (v0 : Nat) (M : sMem) : sEv l G yJ8_init (ws_ yJ8_init cJ8_init 5 none) d [.ref v0, .null, .null, .int 0, .int 0] M (f_J8_init v0 M) := by
  refine sEv.of [some (.ref v0), some .null, some .null, some (.int 0), some (.int 0)] (by decide) (Nat.le_of_ble_eq_true rfl) (fun _ h => h) ?_
  show AW l G RJ8 yJ8_init cJ8_init 5 none [] d 0 [some (.ref v0), some .null, some .null, some (.int 0), some (.int 0)] [] M (f_J8_init v0 M)
  unfold f_J8_init
  refine r_aload_n (pc := 0) dJ8_init_0 rfl ?_
  refine r_aload_nN (pc := 1) dJ8_init_1 rfl ?_
  refine r_aload_nN (pc := 2) dJ8_init_2 rfl ?_
  refine r_iload_n (pc := 3) dJ8_init_3 rfl ?_
  refine r_iload (pc := 4) dJ8_init_4 rfl ?_
  refine r_callI (pc := 6) [.null, .null, .int 0, .int 0] (lw_meth q724) q169 q722 q723 rfl cyS_J7_init_2 (w_J7_init_2 l G 1 (Nat.le_refl _) v0 M) (Nat.le_trans (Nat.le_of_ble_eq_true rfl) hd) (Nat.le_of_ble_eq_true rfl) rfl rfl (Nat.le_of_ble_eq_true rfl) rfl dJ8_init_6 (sKV fun M2 => ?_)
  exact r_vret rfl dJ8_init_9
