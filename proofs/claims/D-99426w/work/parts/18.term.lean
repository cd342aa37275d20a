/-! a char field's first value; a method found by the receiver's class, named by an abstract one -/
set_option maxRecDepth 100000
def sPutC (M : sMem) (ci k a : Nat) (x : Int32) : Option sMem := if (x.toUInt32 % 65536).toInt32 = x then sPut M ci k a (.int x) else none
abbrev yX6_of : MethodName := ⟨"SilkClerks$Term", "of", "([I)I"⟩
section RT
variable {l : Launch} {G : sG} {own : String} {nm : MethodName} {cc : ByteArray} {mL : Nat} {ret : Option FieldType} {hh : List (Nat × Nat × Nat × Nat)} {d pc pc' : Nat} {L L' : List (Option Value)} {st st0 st' : List Value} {M : sMem} {o o1 o2 : Option (sRes × sMem)}
theorem r_putFC {i ci k a N : Nat} {C : String} {T : u_T} {ty : Nat → FieldType} {x : Int32} {K : sMem → Option (sRes × sMem)} (hc : sCls ci C T N ty) (hk : k < N) (hq : Cond.fieldLink own i (T k).1 (T k).2.1 (T k).2.2.1 ∈ lw_all) (hfin : (T k).2.2.2 = true) (hnm : nm.name = "<init>") (hdecl : (T k).1 = own) (hty : ty k = .char) (hd : decode cc pc = .ok (.putfield i, 3)) (kk : ∀ M1, AW l G own nm cc mL ret hh d (pc + 3) L st M1 (K M1)) : AW l G own nm cc mL ret hh d pc L (.int x :: .ref a :: st) M ((sPutC M ci k a x).bind K) := by
  unfold sPutC
  by_cases h : (x.toUInt32 % 65536).toInt32 = x
  · rw [if_pos h]
    exact r_putF hc hk hq hfin hnm hdecl (by rw [hty, ← h]; exact pk_nc x) (by rw [hty, ← h]; exact pk_fc x) hd kk
  · rw [if_neg h]; exact AW.no
/-- a call of an abstract method's name: the class's own method runs -/
theorem r_callU {K : Option Value → sMem → Option (sRes × sMem)} {i ci n d' a maxL : Nat} {C owner : String} {T : u_T} {N : Nat} {ty : Nat → FieldType} {x y : MethodName} {b : ByteArray} {rt : Option FieldType} {fs : List Value} (av : List Value) (hc : sCls ci C T N ty) (hw : GoodIn lw_all (va_wsU own i C owner x y (ws_ y b maxL rt))) (hz : Cond.declares ⟨owner, x.name, x.desc⟩ ∈ sNW) (hy : owner ≠ "java/lang/invoke/MethodHandle" ∧ owner ≠ "java/lang/invoke/VarHandle" ∧ (parseMethodDescriptor x.desc).map (fun q => q.parameters.length) = some n)
    (hfs : M.2.2.2 a = some (sObj ci fs)) (hEv : sEv l G y (ws_ y b maxL rt) d' (.ref a :: av) M o1) (hd' : d' + 1 ≤ d) (hmx : maxL ≤ 45) (hn : av.length = n) (hst : st0 = av.reverse ++ .ref a :: st) (hrm : (st.map fun v => v.category).sum ≤ 8) (hcov : sCov hh pc = true) (hd : decode cc pc = .ok (.invokevirtual i, 3))
    (kk : ∀ v M1, AW l G own nm cc mL ret hh d (pc + 3) L (v.toList ++ st) M1 (K v M1)) : AW l G own nm cc mL ret hh d pc L st0 M (sCall o1 K) := by
  refine AW.call hEv hcov (fun p e9 R s m args below meth c H locs k n9 ls mc ms Qc XC hMet hE hM hl pre g1 g2 => ?_) kk
  obtain ⟨hx9, hb9, hml, -, -, hown, hmn, hts, -, hfr, hlo, hK, -, -, -, hKN, -⟩ := hE
  exact vq_runU (As := av) (rest := st) ⟨hx9, hb9, hml, hown, hts⟩ hMet (va_cwA n hts hw rfl rfl rfl (hKN _ hz) hy ⟨by show d' + 1 ≤ _; omega, by show 8 + (maxL + 11) + (64 * d' + 3200) ≤ _; omega⟩) ⟨sPc_blind _, va_recv hK (hM.obj hfs) hc.1 (q0 := 0) rfl, pre⟩ rfl hn hl.1 hst (by show 2 * 0 + _ ≤ 8; omega) hd ⟨g1, g2⟩
/-- what F says of x.of(tray): by the class of x, that class's method answers it -/
def sTerm (l : Launch) (G : sG) (d : Nat) (F : Nat → Nat → sMem → Option (sRes × sMem)) : Prop := ∀ (t a : Nat) (M : sMem), F t a M = none ∨ ∃ (ci : Nat) (fs : List Value), M.2.2.2 t = some (sObj ci fs) ∧
  ((ci = 6 ∧ sEv l G yX7_of (ws_ yX7_of cX7_of 2 (some .int)) d [.ref t, .ref a] M (F t a M)) ∨ (ci = 7 ∧ sEv l G yX8_of (ws_ yX8_of cX8_of 2 (some .int)) d [.ref t, .ref a] M (F t a M)) ∨ (ci = 8 ∧ sEv l G yX9_of (ws_ yX9_of cX9_of 4 (some .int)) d [.ref t, .ref a] M (F t a M)) ∨ (ci = 9 ∧ sEv l G yX10_of (ws_ yX10_of cX10_of 2 (some .int)) d [.ref t, .ref a] M (F t a M)))
theorem lw_U {own : String} {idx : Nat} {C owner : String} {x y : MethodName} {b : ByteArray} {L : Nat} {r : Option FieldType} (h1 : Cond.methodLink own idx x ∈ lw_all) (h2 : Cond.sameMethod x.cls owner x.name x.desc ∈ lw_all) (h3 : Cond.selects C x y ∈ lw_all) (h4 : Cond.instanceMethod y ∈ lw_all) (h5 : Cond.initialized y.cls ∈ lw_all) (h6 : Cond.code y b L r ∈ lw_all) : GoodIn lw_all (va_wsU own idx C owner x y (ws_ y b L r)) := by
  refine lw_app ?_ (lw_meth h6)
  intro w hw
  simp only [List.mem_cons, List.not_mem_nil, or_false] at hw
  rcases hw with e | e | e | e | e
  · rw [e]; exact h1
  · rw [e]; exact h2
  · rw [e]; exact h3
  · rw [e]; exact h4
  · rw [e]; exact h5
theorem cyT_of : ("SilkClerks$Term" ≠ "java/lang/invoke/MethodHandle" ∧ "SilkClerks$Term" ≠ "java/lang/invoke/VarHandle" ∧ (parseMethodDescriptor yX6_of.desc).map (fun q => q.parameters.length) = some 1) := by decide +kernel
theorem r_callTerm {K : Option Value → sMem → Option (sRes × sMem)} {F : Nat → Nat → sMem → Option (sRes × sMem)} {i d' t a : Nat} (hl9 : Cond.methodLink own i yX6_of ∈ lw_all) (hF : sTerm l G d' F) (hd' : d' + 1 ≤ d) (hrm : (st.map fun v => v.category).sum ≤ 8) (hcov : sCov hh pc = true) (hd : decode cc pc = .ok (.invokevirtual i, 3))
    (kk : ∀ v M1, AW l G own nm cc mL ret hh d (pc + 3) L (v.toList ++ st) M1 (K v M1)) : AW l G own nm cc mL ret hh d pc L (.ref a :: .ref t :: st) M (sCall (F t a M) K) := by
  rcases hF t a M with h | ⟨ci, fs, h1, ⟨rfl, h2⟩ | ⟨rfl, h2⟩ | ⟨rfl, h2⟩ | ⟨rfl, h2⟩⟩
  · rw [h]; exact AW.no
  · exact r_callU [.ref a] sC6 (lw_U hl9 q981 q993 q986 q175 q987) nw_q980 cyT_of h1 h2 hd' (Nat.le_of_ble_eq_true rfl) rfl rfl hrm hcov hd kk
  · exact r_callU [.ref a] sC7 (lw_U hl9 q981 q995 q991 q176 q992) nw_q980 cyT_of h1 h2 hd' (Nat.le_of_ble_eq_true rfl) rfl rfl hrm hcov hd kk
  · exact r_callU [.ref a] sC8 (lw_U hl9 q981 q994 q988 q177 q989) nw_q980 cyT_of h1 h2 hd' (Nat.le_of_ble_eq_true rfl) rfl rfl hrm hcov hd kk
  · exact r_callU [.ref a] sC9 (lw_U hl9 q981 q982 q983 q178 q984) nw_q980 cyT_of h1 h2 hd' (Nat.le_of_ble_eq_true rfl) rfl rfl hrm hcov hd kk
end RT
