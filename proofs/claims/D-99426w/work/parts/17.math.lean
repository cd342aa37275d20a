/-! rows: Math.min, Math.max -/
set_option maxRecDepth 100000
section RMM
variable {l : Launch} {G : sG} {own : String} {nm : MethodName} {cc : ByteArray} {mL : Nat} {ret : Option FieldType} {hh : List (Nat × Nat × Nat × Nat)} {d pc pc' : Nat} {L L' : List (Option Value)} {st st0 st' : List Value} {M : sMem} {o o1 o2 : Option (sRes × sMem)}
theorem r_mmin {i : Nat} {x y : Int32} (hq : Cond.methodLink own i Lib.Math.min.name ∈ lw_all) (h1 : Cond.static Lib.Math.min.name ∈ lw_all) (h2 : Cond.initialized "java/lang/Math" ∈ lw_all) (h3 : Cond.code Lib.Math.min.name Lib.Math.min.code 2 (some .int) ∈ lw_all) (h1d : 1 ≤ d) (hrm : (st.map fun v => v.category).sum ≤ 8) (hd : decode cc pc = .ok (.invokestatic i, 3)) (k : AW l G own nm cc mL ret hh d (pc + 3) L (.int (if y < x then y else x) :: st) M o) : AW l G own nm cc mL ret hh d pc L (.int y :: .int x :: st) M o := by
  intro r M' ho
  obtain ⟨hm, k⟩ := k r M' ho
  refine ⟨hm, fun p e R s m args below meth c H locs k9 n9 ls hE hM hS hl g1 g2 => ?_⟩
  have g := k p e R s m args below meth c H locs k9 n9 ls hE hM hS hl g1 g2
  obtain ⟨hx9, hb9, hml, -, -, hown, hmn, hts, -, hfr, hlo, hK⟩ := hE
  exact va_mmin hx9 hb9 (by rw [hml]; exact hl.1.symm) hown (hts _ hq) (hts _ h1) (hts _ h2) (hts _ h3) (by omega) (by omega) (by omega) (by omega) hd g
theorem r_mmax {i : Nat} {x y : Int32} (hq : Cond.methodLink own i Lib.Math.max.name ∈ lw_all) (h1 : Cond.static Lib.Math.max.name ∈ lw_all) (h2 : Cond.initialized "java/lang/Math" ∈ lw_all) (h3 : Cond.code Lib.Math.max.name Lib.Math.max.code 2 (some .int) ∈ lw_all) (h1d : 1 ≤ d) (hrm : (st.map fun v => v.category).sum ≤ 8) (hd : decode cc pc = .ok (.invokestatic i, 3)) (k : AW l G own nm cc mL ret hh d (pc + 3) L (.int (if x < y then y else x) :: st) M o) : AW l G own nm cc mL ret hh d pc L (.int y :: .int x :: st) M o := by
  intro r M' ho
  obtain ⟨hm, k⟩ := k r M' ho
  refine ⟨hm, fun p e R s m args below meth c H locs k9 n9 ls hE hM hS hl g1 g2 => ?_⟩
  have g := k p e R s m args below meth c H locs k9 n9 ls hE hM hS hl g1 g2
  obtain ⟨hx9, hb9, hml, -, -, hown, hmn, hts, -, hfr, hlo, hK⟩ := hE
  exact va_mmax hx9 hb9 (by rw [hml]; exact hl.1.symm) hown (hts _ hq) (hts _ h1) (hts _ h2) (hts _ h3) (by omega) (by omega) (by omega) (by omega) hd g
end RMM
