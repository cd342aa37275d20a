/-! calls of the objects that lambdas make, by their sites; written by gen.py -/
set_option maxRecDepth 100000
def sLamC (z : Bool) (l : Launch) (G : sG) (d' : Nat) (F : Nat → Int32 → sMem → Option (sRes × sMem)) (xi : MethodName) : Prop := ∀ {own : String} {nm : MethodName} {cc : ByteArray} {mL : Nat} {ret : Option FieldType} {hh : List (Nat × Nat × Nat × Nat)} {d pc : Nat} {L : List (Option Value)} {st : List Value} {M : sMem} {idx count a : Nat} {x : Int32} {K : Int32 → sMem → Option (sRes × sMem)}, Cond.methodLink own idx xi ∈ lw_all → d' + 2 ≤ d → (st.map fun v => v.category).sum ≤ 8 → decode cc pc = .ok (.invokeinterface idx count, 5) → (∀ v M1, AW l G own nm cc mL ret hh d (pc + 5) L (.int v :: st) M1 (K v M1)) → AW l G own nm cc mL ret hh d pc L (.int x :: .ref a :: st) M (sCallL z (F a x M) K)
abbrev xi_cond : MethodName := ⟨"SilkClerks$Condition", "holds", "(I)Z"⟩
theorem cyM_X0_lambda_goes_0 : yX0_lambda_goes_0.cls ≠ "java/lang/invoke/MethodHandle" ∧ yX0_lambda_goes_0.cls ≠ "java/lang/invoke/VarHandle" := ⟨cyS_X0_lambda_goes_0.1, cyS_X0_lambda_goes_0.2.1⟩
theorem cyM_X0_lambda_threaded_2 : yX0_lambda_threaded_2.cls ≠ "java/lang/invoke/MethodHandle" ∧ yX0_lambda_threaded_2.cls ≠ "java/lang/invoke/VarHandle" := ⟨cyS_X0_lambda_threaded_2.1, cyS_X0_lambda_threaded_2.2.1⟩
theorem cyM_X0_lambda_cuts_3 : yX0_lambda_cuts_3.cls ≠ "java/lang/invoke/MethodHandle" ∧ yX0_lambda_cuts_3.cls ≠ "java/lang/invoke/VarHandle" := ⟨cyS_X0_lambda_cuts_3.1, cyS_X0_lambda_cuts_3.2.1⟩
theorem cyM_X0_lambda_answered_6 : yX0_lambda_answered_6.cls ≠ "java/lang/invoke/MethodHandle" ∧ yX0_lambda_answered_6.cls ≠ "java/lang/invoke/VarHandle" := ⟨cyS_X0_lambda_answered_6.1, cyS_X0_lambda_answered_6.2.1⟩
theorem cyM_X0_lambda_gaps_7 : yX0_lambda_gaps_7.cls ≠ "java/lang/invoke/MethodHandle" ∧ yX0_lambda_gaps_7.cls ≠ "java/lang/invoke/VarHandle" := ⟨cyS_X0_lambda_gaps_7.1, cyS_X0_lambda_gaps_7.2.1⟩
theorem cyM_X0_lambda_pull_10 : yX0_lambda_pull_10.cls ≠ "java/lang/invoke/MethodHandle" ∧ yX0_lambda_pull_10.cls ≠ "java/lang/invoke/VarHandle" := ⟨cyS_X0_lambda_pull_10.1, cyS_X0_lambda_pull_10.2.1⟩
def f_cond (a : Nat) (x : Int32) (M : sMem) : Option (sRes × sMem) := match M.2.2.2 a with
  | some (.inr (.inr (.inl (2, [.ref r0])))) => f_X0_lambda_goes_0 r0 x M
  | some (.inr (.inr (.inl (4, [.ref r0])))) => sChk M 0 r0 (f_X0_lambda_threaded_2 r0 x M)
  | some (.inr (.inr (.inl (5, [.ref r0])))) => sChk M 0 r0 (f_X0_lambda_cuts_3 r0 x M)
  | some (.inr (.inr (.inl (6, [.ref r0, .ref r1, .int r2])))) => sChk M 0 r0 (f_X0_lambda_answered_6 r0 r1 r2 x M)
  | some (.inr (.inr (.inl (7, [.ref r0, .int r1])))) => sChk M 0 r0 (f_X0_lambda_gaps_7 r0 r1 x M)
  | some (.inr (.inr (.inl (10, [.ref r0, .int r1, .int r2])))) => sChk M 0 r0 (f_X0_lambda_pull_10 r0 r1 r2 x M)
  | _ => none
theorem w_cond (l : Launch) (G : sG) (d0 : Nat) (hd : 5 ≤ d0) : sLamC true l G d0 f_cond xi_cond := by
  intro own nm cc mL ret hh d pc L st M idx count a x K h1 h2 h3 h4 kk
  unfold f_cond
  split
  · rename_i r0 he
    exact r_callL (by decide) lsk_2 he rfl ⟨rfl, rfl, by decide +kernel⟩ (by decide) (by decide +kernel) nw_q1139 h1 cyM_X0_lambda_goes_0 (by decide +kernel) q1132 q155 (Or.inr ⟨rfl, q1131⟩) (w_X0_lambda_goes_0 l G 5 (Nat.le_of_ble_eq_true rfl) r0 x M) (Nat.le_trans (Nat.add_le_add_right hd 2) h2) (Nat.le_of_ble_eq_true rfl) rfl h3 h4 kk
  · rename_i r0 he
    unfold sChk
    cases hfs : sFs M 0 r0 with
    | none => exact AW.no
    | some fs => exact r_callL (by decide) lsk_4 he rfl ⟨rfl, rfl, by decide +kernel⟩ (by decide) (by decide +kernel) nw_q1139 h1 cyM_X0_lambda_threaded_2 (by decide +kernel) q1214 q155 (Or.inl ⟨rfl, ⟨r0, fs, [], rfl, sFs_spec hfs⟩, q1213, qs49⟩) (w_X0_lambda_threaded_2 l G 5 (Nat.le_of_ble_eq_true rfl) r0 x M) (Nat.le_trans (Nat.add_le_add_right hd 2) h2) (Nat.le_of_ble_eq_true rfl) rfl h3 h4 kk
  · rename_i r0 he
    unfold sChk
    cases hfs : sFs M 0 r0 with
    | none => exact AW.no
    | some fs => exact r_callL (by decide) lsk_5 he rfl ⟨rfl, rfl, by decide +kernel⟩ (by decide) (by decide +kernel) nw_q1139 h1 cyM_X0_lambda_cuts_3 (by decide +kernel) q1249 q155 (Or.inl ⟨rfl, ⟨r0, fs, [], rfl, sFs_spec hfs⟩, q1248, qs55⟩) (w_X0_lambda_cuts_3 l G 5 (Nat.le_of_ble_eq_true rfl) r0 x M) (Nat.le_trans (Nat.add_le_add_right hd 2) h2) (Nat.le_of_ble_eq_true rfl) rfl h3 h4 kk
  · rename_i r0 r1 r2 he
    unfold sChk
    cases hfs : sFs M 0 r0 with
    | none => exact AW.no
    | some fs => exact r_callL (by decide) lsk_6 he rfl ⟨rfl, rfl, by decide +kernel⟩ (by decide) (by decide +kernel) nw_q1139 h1 cyM_X0_lambda_answered_6 (by decide +kernel) q1291 q155 (Or.inl ⟨rfl, ⟨r0, fs, [.ref r1, .int r2], rfl, sFs_spec hfs⟩, q1290, qs62⟩) (w_X0_lambda_answered_6 l G 5 (Nat.le_of_ble_eq_true rfl) r0 r1 r2 x M) (Nat.le_trans (Nat.add_le_add_right hd 2) h2) (Nat.le_of_ble_eq_true rfl) rfl h3 h4 kk
  · rename_i r0 r1 he
    unfold sChk
    cases hfs : sFs M 0 r0 with
    | none => exact AW.no
    | some fs => exact r_callL (by decide) lsk_7 he rfl ⟨rfl, rfl, by decide +kernel⟩ (by decide) (by decide +kernel) nw_q1139 h1 cyM_X0_lambda_gaps_7 (by decide +kernel) q1298 q155 (Or.inl ⟨rfl, ⟨r0, fs, [.int r1], rfl, sFs_spec hfs⟩, q1297, qs63⟩) (w_X0_lambda_gaps_7 l G 5 (Nat.le_of_ble_eq_true rfl) r0 r1 x M) (Nat.le_trans (Nat.add_le_add_right hd 2) h2) (Nat.le_of_ble_eq_true rfl) rfl h3 h4 kk
  · rename_i r0 r1 r2 he
    unfold sChk
    cases hfs : sFs M 0 r0 with
    | none => exact AW.no
    | some fs => exact r_callL (by decide) lsk_10 he rfl ⟨rfl, rfl, by decide +kernel⟩ (by decide) (by decide +kernel) nw_q1139 h1 cyM_X0_lambda_pull_10 (by decide +kernel) q1376 q155 (Or.inl ⟨rfl, ⟨r0, fs, [.int r1, .int r2], rfl, sFs_spec hfs⟩, q1375, qs71⟩) (w_X0_lambda_pull_10 l G 5 (Nat.le_of_ble_eq_true rfl) r0 r1 r2 x M) (Nat.le_trans (Nat.add_le_add_right hd 2) h2) (Nat.le_of_ble_eq_true rfl) rfl h3 h4 kk
  · exact AW.no
abbrev xi_meas : MethodName := ⟨"SilkClerks$Measure", "of", "(I)I"⟩
theorem cyM_X0_lambda_new_4 : yX0_lambda_new_4.cls ≠ "java/lang/invoke/MethodHandle" ∧ yX0_lambda_new_4.cls ≠ "java/lang/invoke/VarHandle" := ⟨cyS_X0_lambda_new_4.1, cyS_X0_lambda_new_4.2.1⟩
theorem cyM_X0_lambda_new_5 : yX0_lambda_new_5.cls ≠ "java/lang/invoke/MethodHandle" ∧ yX0_lambda_new_5.cls ≠ "java/lang/invoke/VarHandle" := ⟨cyS_X0_lambda_new_5.1, cyS_X0_lambda_new_5.2.1⟩
theorem cyM_X0_lambda_fits_1 : yX0_lambda_fits_1.cls ≠ "java/lang/invoke/MethodHandle" ∧ yX0_lambda_fits_1.cls ≠ "java/lang/invoke/VarHandle" := ⟨cyS_X0_lambda_fits_1.1, cyS_X0_lambda_fits_1.2.1⟩
theorem cyM_X0_lambda_whose_8 : yX0_lambda_whose_8.cls ≠ "java/lang/invoke/MethodHandle" ∧ yX0_lambda_whose_8.cls ≠ "java/lang/invoke/VarHandle" := ⟨cyS_X0_lambda_whose_8.1, cyS_X0_lambda_whose_8.2.1⟩
theorem cyM_X0_lambda_tally_9 : yX0_lambda_tally_9.cls ≠ "java/lang/invoke/MethodHandle" ∧ yX0_lambda_tally_9.cls ≠ "java/lang/invoke/VarHandle" := ⟨cyS_X0_lambda_tally_9.1, cyS_X0_lambda_tally_9.2.1⟩
def f_meas (a : Nat) (x : Int32) (M : sMem) : Option (sRes × sMem) := match M.2.2.2 a with
  | some (.inr (.inr (.inl (0, [.ref r0])))) => sChk M 0 r0 (f_X0_lambda_new_4 r0 x M)
  | some (.inr (.inr (.inl (1, [.ref r0])))) => sChk M 0 r0 (f_X0_lambda_new_5 r0 x M)
  | some (.inr (.inr (.inl (3, [.ref r0, .ref r1])))) => sChk M 0 r0 (f_X0_lambda_fits_1 r0 r1 x M)
  | some (.inr (.inr (.inl (8, [.ref r0])))) => sChk M 0 r0 (f_X0_lambda_whose_8 r0 x M)
  | some (.inr (.inr (.inl (9, [.ref r0])))) => f_X0_lambda_tally_9 r0 x M
  | _ => none
theorem w_meas (l : Launch) (G : sG) (d0 : Nat) (hd : 4 ≤ d0) : sLamC false l G d0 f_meas xi_meas := by
  intro own nm cc mL ret hh d pc L st M idx count a x K h1 h2 h3 h4 kk
  unfold f_meas
  split
  · rename_i r0 he
    unfold sChk
    cases hfs : sFs M 0 r0 with
    | none => exact AW.no
    | some fs => exact r_callL (by decide) lsk_0 he rfl ⟨rfl, rfl, by decide +kernel⟩ (by decide) (by decide +kernel) nw_q1203 h1 cyM_X0_lambda_new_4 (by decide +kernel) q335 q155 (Or.inl ⟨rfl, ⟨r0, fs, [], rfl, sFs_spec hfs⟩, q334, qs0⟩) (w_X0_lambda_new_4 l G 4 (Nat.le_of_ble_eq_true rfl) r0 x M) (Nat.le_trans (Nat.add_le_add_right hd 2) h2) (Nat.le_of_ble_eq_true rfl) rfl h3 h4 kk
  · rename_i r0 he
    unfold sChk
    cases hfs : sFs M 0 r0 with
    | none => exact AW.no
    | some fs => exact r_callL (by decide) lsk_1 he rfl ⟨rfl, rfl, by decide +kernel⟩ (by decide) (by decide +kernel) nw_q1203 h1 cyM_X0_lambda_new_5 (by decide +kernel) q342 q155 (Or.inl ⟨rfl, ⟨r0, fs, [], rfl, sFs_spec hfs⟩, q341, qs1⟩) (w_X0_lambda_new_5 l G 4 (Nat.le_of_ble_eq_true rfl) r0 x M) (Nat.le_trans (Nat.add_le_add_right hd 2) h2) (Nat.le_of_ble_eq_true rfl) rfl h3 h4 kk
  · rename_i r0 r1 he
    unfold sChk
    cases hfs : sFs M 0 r0 with
    | none => exact AW.no
    | some fs => exact r_callL (by decide) lsk_3 he rfl ⟨rfl, rfl, by decide +kernel⟩ (by decide) (by decide +kernel) nw_q1203 h1 cyM_X0_lambda_fits_1 (by decide +kernel) q1192 q155 (Or.inl ⟨rfl, ⟨r0, fs, [.ref r1], rfl, sFs_spec hfs⟩, q1191, qs46⟩) (w_X0_lambda_fits_1 l G 4 (Nat.le_of_ble_eq_true rfl) r0 r1 x M) (Nat.le_trans (Nat.add_le_add_right hd 2) h2) (Nat.le_of_ble_eq_true rfl) rfl h3 h4 kk
  · rename_i r0 he
    unfold sChk
    cases hfs : sFs M 0 r0 with
    | none => exact AW.no
    | some fs => exact r_callL (by decide) lsk_8 he rfl ⟨rfl, rfl, by decide +kernel⟩ (by decide) (by decide +kernel) nw_q1203 h1 cyM_X0_lambda_whose_8 (by decide +kernel) q1309 q155 (Or.inl ⟨rfl, ⟨r0, fs, [], rfl, sFs_spec hfs⟩, q1308, qs64⟩) (w_X0_lambda_whose_8 l G 4 (Nat.le_of_ble_eq_true rfl) r0 x M) (Nat.le_trans (Nat.add_le_add_right hd 2) h2) (Nat.le_of_ble_eq_true rfl) rfl h3 h4 kk
  · rename_i r0 he
    exact r_callL (by decide) lsk_9 he rfl ⟨rfl, rfl, by decide +kernel⟩ (by decide) (by decide +kernel) nw_q1203 h1 cyM_X0_lambda_tally_9 (by decide +kernel) q1353 q155 (Or.inr ⟨rfl, q1352⟩) (w_X0_lambda_tally_9 l G 4 (Nat.le_of_ble_eq_true rfl) r0 x M) (Nat.le_trans (Nat.add_le_add_right hd 2) h2) (Nat.le_of_ble_eq_true rfl) rfl h3 h4 kk
  · exact AW.no
