/-! a call of a method with handlers -/
set_option maxRecDepth 100000
section RW9
variable {l : Launch} {G : sG} {own : String} {nm : MethodName} {cc : ByteArray} {mL : Nat} {ret : Option FieldType} {hh : List (Nat × Nat × Nat × Nat)} {d pc pc' : Nat} {L L' : List (Option Value)} {st st0 st' : List Value} {M : sMem} {o o1 o2 : Option (sRes × sMem)}
/-- x.m(..), the class of x known -/
theorem r_callVW {K : Option Value → sMem → Option (sRes × sMem)} {i ci n d' a maxL : Nat} {C : String} {T : u_T} {N : Nat} {ty : Nat → FieldType} {y : MethodName} {b : ByteArray} {rt : Option FieldType} {h2 : List (Nat × Nat × Nat × Nat)} (av : List Value) (hc : sCls ci C T N ty) (hw : GoodIn lw_all (wsV own i C y (wsW_ y b maxL rt h2))) (hy : y.cls = C ∧ y.cls ≠ "java/lang/invoke/MethodHandle" ∧ y.cls ≠ "java/lang/invoke/VarHandle" ∧ (parseMethodDescriptor y.desc).map (fun q => q.parameters.length) = some n)
    (hEv : sEv l G y (wsW_ y b maxL rt h2) d' (.ref a :: av) M o1) (hd' : d' + 1 ≤ d) (hmx : maxL ≤ 45) (hn : av.length = n) (hst : st0 = av.reverse ++ .ref a :: st) (hrm : (st.map fun v => v.category).sum ≤ 8) (hcov : sCov hh pc = true) (hd : decode cc pc = .ok (.invokevirtual i, 3))
    (kk : ∀ v M1, AW l G own nm cc mL ret hh d (pc + 3) L (v.toList ++ st) M1 (K v M1)) : AW l G own nm cc mL ret hh d pc L st0 M (sChk M ci a (sCall o1 K)) := by
  refine AW.bind fun fs hfs => ?_
  have hfs := sFs_spec hfs
  refine AW.call hEv hcov (fun p e9 R s m args below meth c H locs k n9 ls mc ms Qc XC hMet hE hM hl pre g1 g2 => ?_) kk
  obtain ⟨hx9, hb9, hml, -, -, hown, hmn, hts, -, hfr, hlo, hK, -⟩ := hE
  exact vq_runVX (As := av) (rest := st) ⟨hx9, hb9, hml, hown, hts⟩ hMet (vq_cwVW n hts hw rfl rfl rfl hy ⟨by show d' + 1 ≤ _; omega, by show 8 + (maxL + 11) + (64 * d' + 3200) ≤ _; omega⟩) ⟨sPc_blind _, va_recv hK (hM.obj hfs) hc.1 (q0 := 0) rfl, pre⟩ rfl hn hl.1 hst (by show 2 * 0 + _ ≤ 8; omega) hd ⟨g1, g2⟩
end RW9


