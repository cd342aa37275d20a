/-! calls by the kind of their answer -/
set_option maxRecDepth 100000
def sLe : List (Option Value) → List (Option Value) → Prop
  | [], _ => True
  | _ :: _, [] => False
  | none :: t, _ :: u => sLe t u
  | some v :: t, w :: u => w = some v ∧ sLe t u
theorem sLe_spec : ∀ (L' L : List (Option Value)), sLe L' L → ∀ (j : Nat) (v : Value), L'[j]? = some (some v) → L[j]? = some (some v)
  | [], _, _, j, v, h => by simp at h
  | _ :: _, [], h, _, _, _ => h.elim
  | none :: t, w :: u, h, j, v, hj => by
    cases j with
    | zero => simp at hj
    | succ j =>
      rw [List.getElem?_cons_succ] at hj ⊢
      exact sLe_spec t u h j v hj
  | some x :: t, w :: u, h, j, v, hj => by
    cases j with
    | zero =>
      rw [List.getElem?_cons_zero] at hj ⊢
      rw [h.1]
      exact hj
    | succ j =>
      rw [List.getElem?_cons_succ] at hj ⊢
      exact sLe_spec t u h.2 j v hj
section RK
variable {l : Launch} {G : sG} {own : String} {nm : MethodName} {cc : ByteArray} {mL : Nat} {ret : Option FieldType} {hh : List (Nat × Nat × Nat × Nat)} {d pc pc' : Nat} {L L' : List (Option Value)} {st st0 st' : List Value} {M : sMem} {o o1 o2 : Option (sRes × sMem)}
theorem r_le (L' : List (Option Value)) (h : sLe L' L) (k : AW l G own nm cc mL ret hh d pc L' st M o) : AW l G own nm cc mL ret hh d pc L st M o := r_weak L' (sLe_spec L' L h) k
theorem sKI {K : Int32 → sMem → Option (sRes × sMem)} (kk : ∀ x M1, AW l G own nm cc mL ret hh d pc L (.int x :: st) M1 (K x M1)) : ∀ v M1, AW l G own nm cc mL ret hh d pc L (v.toList ++ st) M1 (sCI K v M1) := fun v M1 => by
  cases v with
  | none => exact AW.no
  | some w => cases w <;> first | exact kk _ _ | exact AW.no
theorem sKNn {K : Nat → sMem → Option (sRes × sMem)} (kk : ∀ x M1, AW l G own nm cc mL ret hh d pc L (.ref x :: st) M1 (K x M1)) : ∀ v M1, AW l G own nm cc mL ret hh d pc L (v.toList ++ st) M1 (sCN K v M1) := fun v M1 => by
  cases v with
  | none => exact AW.no
  | some w => cases w <;> first | exact kk _ _ | exact AW.no
theorem sKV {K : sMem → Option (sRes × sMem)} (kk : ∀ M1, AW l G own nm cc mL ret hh d pc L st M1 (K M1)) : ∀ v M1, AW l G own nm cc mL ret hh d pc L (v.toList ++ st) M1 (sCV K v M1) := fun v M1 => by
  cases v with
  | none => exact kk _
  | some w => exact AW.no
end RK
