/-! the start: the context and the first memory; printed by mkstart.py -/
set_option maxRecDepth 100000
def txLen (j : Nat) : Nat := [3, 4, 2, 3, 10, 4, 4, 5, 4, 5, 6, 2, 4, 4, 5, 2, 3, 4, 4, 4, 5, 4, 5, 6, 4, 5].getD j 0
def txByt (j : Nat) : List Int32 := [[100, 97, 121], [119, 104, 101, 110], [111, 114], [110, 111, 116], [59, 43, 45, 42, 47, 40, 41, 60, 61, 62], [102, 97, 99, 116], [108, 101, 97, 102], [119, 111, 114, 116, 104], [101, 97, 116, 115], [115, 108, 105, 112, 115], [115, 116, 114, 111, 110, 103], [111, 110], [102, 101, 101, 100], [119, 105, 116, 104], [113, 117, 101, 114, 121], [98, 121], [97, 110, 100], [119, 111, 114, 109], [116, 114, 97, 121], [108, 97, 122, 121], [101, 97, 116, 101, 110], [108, 111, 110, 103], [110, 111, 105, 115, 101], [108, 101, 97, 118, 101, 115], [109, 97, 114, 107], [112, 108, 97, 99, 101]].getD j []
def txTm (j : Nat) : Term := match j with
  | 0 => (Jvm.Term.string "SilkClerks" (101 : Nat))
  | 1 => (Jvm.Term.string "SilkClerks" (106 : Nat))
  | 2 => (Jvm.Term.string "SilkClerks" (108 : Nat))
  | 3 => (Jvm.Term.string "SilkClerks" (110 : Nat))
  | 4 => (Jvm.Term.string "SilkClerks" (284 : Nat))
  | 5 => (Jvm.Term.string "SilkClerks" (55 : Nat))
  | 6 => (Jvm.Term.string "SilkClerks" (57 : Nat))
  | 7 => (Jvm.Term.string "SilkClerks" (59 : Nat))
  | 8 => (Jvm.Term.string "SilkClerks" (61 : Nat))
  | 9 => (Jvm.Term.string "SilkClerks" (63 : Nat))
  | 10 => (Jvm.Term.string "SilkClerks" (65 : Nat))
  | 11 => (Jvm.Term.string "SilkClerks" (67 : Nat))
  | 12 => (Jvm.Term.string "SilkClerks" (69 : Nat))
  | 13 => (Jvm.Term.string "SilkClerks" (71 : Nat))
  | 14 => (Jvm.Term.string "SilkClerks" (73 : Nat))
  | 15 => (Jvm.Term.string "SilkClerks" (75 : Nat))
  | 16 => (Jvm.Term.string "SilkClerks" (77 : Nat))
  | 17 => (Jvm.Term.string "SilkClerks" (83 : Nat))
  | 18 => (Jvm.Term.string "SilkClerks" (85 : Nat))
  | 19 => (Jvm.Term.string "SilkClerks" (87 : Nat))
  | 20 => (Jvm.Term.string "SilkClerks" (89 : Nat))
  | 21 => (Jvm.Term.string "SilkClerks" (91 : Nat))
  | 22 => (Jvm.Term.string "SilkClerks" (93 : Nat))
  | 23 => (Jvm.Term.string "SilkClerks" (95 : Nat))
  | 24 => (Jvm.Term.string "SilkClerks" (97 : Nat))
  | _ => (Jvm.Term.string "SilkClerks" (99 : Nat))
def txOk (j : Nat) (args : Array Value) (s : State) (q : Nat × Nat) : Prop := (txTm j).eval args s none [] s = some (.ref q.1) ∧ sStrP q.2 q.1 s.heap.size s s.heap ∧ va_T .byte q.2 (txLen j) (fun i => .int ((txByt j).getD i 0)) (sA s.heap.size) s s.heap
theorem tx_0 {args : Array Value} {s : State} (hs : ∀ w ∈ nvL, w.before args s = true) : ∃ q : Nat × Nat, txOk 0 args s q := by
  have hA : ∀ a : Nat, a < s.heap.size → ¬ sA s.heap.size a := fun a h => Nat.not_le.mpr h
  obtain ⟨a, c, cA, kA, q1, q2, q3, q4, q5, q6, -⟩ := Cond.exactly_spec (hs _ nv_285)
  obtain ⟨t, ht, hT⟩ := va_Tof (N := 3) (f := fun i => .int ((txByt 0).getD i 0)) (A := sA s.heap.size) (by decide) (hs _ nv_287) (va_eqt (hs _ nv_288)) (fun i hi => by
    match i, hi with
    | 0, _ => exact va_eqt (hs _ nv_289)
    | 1, _ => exact va_eqt (hs _ nv_290)
    | 2, _ => exact va_eqt (hs _ nv_291)
    | i + 3, hi => exact absurd hi (by omega)) hA
  exact ⟨(a, t), q1, ⟨⟨cA, q3, q5, by rw [q6]; exact q2, hA a (Array.getElem?_eq_some_iff.mp q3).1⟩, vk_OFof q1 (va_eqt (hs _ nv_286)) hA, vk_OFof q1 ht hA⟩, hT⟩
theorem tx_1 {args : Array Value} {s : State} (hs : ∀ w ∈ nvL, w.before args s = true) : ∃ q : Nat × Nat, txOk 1 args s q := by
  have hA : ∀ a : Nat, a < s.heap.size → ¬ sA s.heap.size a := fun a h => Nat.not_le.mpr h
  obtain ⟨a, c, cA, kA, q1, q2, q3, q4, q5, q6, -⟩ := Cond.exactly_spec (hs _ nv_292)
  obtain ⟨t, ht, hT⟩ := va_Tof (N := 4) (f := fun i => .int ((txByt 1).getD i 0)) (A := sA s.heap.size) (by decide) (hs _ nv_294) (va_eqt (hs _ nv_295)) (fun i hi => by
    match i, hi with
    | 0, _ => exact va_eqt (hs _ nv_296)
    | 1, _ => exact va_eqt (hs _ nv_297)
    | 2, _ => exact va_eqt (hs _ nv_298)
    | 3, _ => exact va_eqt (hs _ nv_299)
    | i + 4, hi => exact absurd hi (by omega)) hA
  exact ⟨(a, t), q1, ⟨⟨cA, q3, q5, by rw [q6]; exact q2, hA a (Array.getElem?_eq_some_iff.mp q3).1⟩, vk_OFof q1 (va_eqt (hs _ nv_293)) hA, vk_OFof q1 ht hA⟩, hT⟩
theorem tx_2 {args : Array Value} {s : State} (hs : ∀ w ∈ nvL, w.before args s = true) : ∃ q : Nat × Nat, txOk 2 args s q := by
  have hA : ∀ a : Nat, a < s.heap.size → ¬ sA s.heap.size a := fun a h => Nat.not_le.mpr h
  obtain ⟨a, c, cA, kA, q1, q2, q3, q4, q5, q6, -⟩ := Cond.exactly_spec (hs _ nv_300)
  obtain ⟨t, ht, hT⟩ := va_Tof (N := 2) (f := fun i => .int ((txByt 2).getD i 0)) (A := sA s.heap.size) (by decide) (hs _ nv_302) (va_eqt (hs _ nv_303)) (fun i hi => by
    match i, hi with
    | 0, _ => exact va_eqt (hs _ nv_304)
    | 1, _ => exact va_eqt (hs _ nv_305)
    | i + 2, hi => exact absurd hi (by omega)) hA
  exact ⟨(a, t), q1, ⟨⟨cA, q3, q5, by rw [q6]; exact q2, hA a (Array.getElem?_eq_some_iff.mp q3).1⟩, vk_OFof q1 (va_eqt (hs _ nv_301)) hA, vk_OFof q1 ht hA⟩, hT⟩
theorem tx_3 {args : Array Value} {s : State} (hs : ∀ w ∈ nvL, w.before args s = true) : ∃ q : Nat × Nat, txOk 3 args s q := by
  have hA : ∀ a : Nat, a < s.heap.size → ¬ sA s.heap.size a := fun a h => Nat.not_le.mpr h
  obtain ⟨a, c, cA, kA, q1, q2, q3, q4, q5, q6, -⟩ := Cond.exactly_spec (hs _ nv_306)
  obtain ⟨t, ht, hT⟩ := va_Tof (N := 3) (f := fun i => .int ((txByt 3).getD i 0)) (A := sA s.heap.size) (by decide) (hs _ nv_308) (va_eqt (hs _ nv_309)) (fun i hi => by
    match i, hi with
    | 0, _ => exact va_eqt (hs _ nv_310)
    | 1, _ => exact va_eqt (hs _ nv_311)
    | 2, _ => exact va_eqt (hs _ nv_312)
    | i + 3, hi => exact absurd hi (by omega)) hA
  exact ⟨(a, t), q1, ⟨⟨cA, q3, q5, by rw [q6]; exact q2, hA a (Array.getElem?_eq_some_iff.mp q3).1⟩, vk_OFof q1 (va_eqt (hs _ nv_307)) hA, vk_OFof q1 ht hA⟩, hT⟩
theorem tx_4 {args : Array Value} {s : State} (hs : ∀ w ∈ nvL, w.before args s = true) : ∃ q : Nat × Nat, txOk 4 args s q := by
  have hA : ∀ a : Nat, a < s.heap.size → ¬ sA s.heap.size a := fun a h => Nat.not_le.mpr h
  obtain ⟨a, c, cA, kA, q1, q2, q3, q4, q5, q6, -⟩ := Cond.exactly_spec (hs _ nv_313)
  obtain ⟨t, ht, hT⟩ := va_Tof (N := 10) (f := fun i => .int ((txByt 4).getD i 0)) (A := sA s.heap.size) (by decide) (hs _ nv_315) (va_eqt (hs _ nv_316)) (fun i hi => by
    match i, hi with
    | 0, _ => exact va_eqt (hs _ nv_317)
    | 1, _ => exact va_eqt (hs _ nv_318)
    | 2, _ => exact va_eqt (hs _ nv_319)
    | 3, _ => exact va_eqt (hs _ nv_320)
    | 4, _ => exact va_eqt (hs _ nv_321)
    | 5, _ => exact va_eqt (hs _ nv_322)
    | 6, _ => exact va_eqt (hs _ nv_323)
    | 7, _ => exact va_eqt (hs _ nv_324)
    | 8, _ => exact va_eqt (hs _ nv_325)
    | 9, _ => exact va_eqt (hs _ nv_326)
    | i + 10, hi => exact absurd hi (by omega)) hA
  exact ⟨(a, t), q1, ⟨⟨cA, q3, q5, by rw [q6]; exact q2, hA a (Array.getElem?_eq_some_iff.mp q3).1⟩, vk_OFof q1 (va_eqt (hs _ nv_314)) hA, vk_OFof q1 ht hA⟩, hT⟩
theorem tx_5 {args : Array Value} {s : State} (hs : ∀ w ∈ nvL, w.before args s = true) : ∃ q : Nat × Nat, txOk 5 args s q := by
  have hA : ∀ a : Nat, a < s.heap.size → ¬ sA s.heap.size a := fun a h => Nat.not_le.mpr h
  obtain ⟨a, c, cA, kA, q1, q2, q3, q4, q5, q6, -⟩ := Cond.exactly_spec (hs _ nv_112)
  obtain ⟨t, ht, hT⟩ := va_Tof (N := 4) (f := fun i => .int ((txByt 5).getD i 0)) (A := sA s.heap.size) (by decide) (hs _ nv_114) (va_eqt (hs _ nv_115)) (fun i hi => by
    match i, hi with
    | 0, _ => exact va_eqt (hs _ nv_116)
    | 1, _ => exact va_eqt (hs _ nv_117)
    | 2, _ => exact va_eqt (hs _ nv_118)
    | 3, _ => exact va_eqt (hs _ nv_119)
    | i + 4, hi => exact absurd hi (by omega)) hA
  exact ⟨(a, t), q1, ⟨⟨cA, q3, q5, by rw [q6]; exact q2, hA a (Array.getElem?_eq_some_iff.mp q3).1⟩, vk_OFof q1 (va_eqt (hs _ nv_113)) hA, vk_OFof q1 ht hA⟩, hT⟩
theorem tx_6 {args : Array Value} {s : State} (hs : ∀ w ∈ nvL, w.before args s = true) : ∃ q : Nat × Nat, txOk 6 args s q := by
  have hA : ∀ a : Nat, a < s.heap.size → ¬ sA s.heap.size a := fun a h => Nat.not_le.mpr h
  obtain ⟨a, c, cA, kA, q1, q2, q3, q4, q5, q6, -⟩ := Cond.exactly_spec (hs _ nv_120)
  obtain ⟨t, ht, hT⟩ := va_Tof (N := 4) (f := fun i => .int ((txByt 6).getD i 0)) (A := sA s.heap.size) (by decide) (hs _ nv_122) (va_eqt (hs _ nv_123)) (fun i hi => by
    match i, hi with
    | 0, _ => exact va_eqt (hs _ nv_124)
    | 1, _ => exact va_eqt (hs _ nv_125)
    | 2, _ => exact va_eqt (hs _ nv_126)
    | 3, _ => exact va_eqt (hs _ nv_127)
    | i + 4, hi => exact absurd hi (by omega)) hA
  exact ⟨(a, t), q1, ⟨⟨cA, q3, q5, by rw [q6]; exact q2, hA a (Array.getElem?_eq_some_iff.mp q3).1⟩, vk_OFof q1 (va_eqt (hs _ nv_121)) hA, vk_OFof q1 ht hA⟩, hT⟩
theorem tx_7 {args : Array Value} {s : State} (hs : ∀ w ∈ nvL, w.before args s = true) : ∃ q : Nat × Nat, txOk 7 args s q := by
  have hA : ∀ a : Nat, a < s.heap.size → ¬ sA s.heap.size a := fun a h => Nat.not_le.mpr h
  obtain ⟨a, c, cA, kA, q1, q2, q3, q4, q5, q6, -⟩ := Cond.exactly_spec (hs _ nv_128)
  obtain ⟨t, ht, hT⟩ := va_Tof (N := 5) (f := fun i => .int ((txByt 7).getD i 0)) (A := sA s.heap.size) (by decide) (hs _ nv_130) (va_eqt (hs _ nv_131)) (fun i hi => by
    match i, hi with
    | 0, _ => exact va_eqt (hs _ nv_132)
    | 1, _ => exact va_eqt (hs _ nv_133)
    | 2, _ => exact va_eqt (hs _ nv_134)
    | 3, _ => exact va_eqt (hs _ nv_135)
    | 4, _ => exact va_eqt (hs _ nv_136)
    | i + 5, hi => exact absurd hi (by omega)) hA
  exact ⟨(a, t), q1, ⟨⟨cA, q3, q5, by rw [q6]; exact q2, hA a (Array.getElem?_eq_some_iff.mp q3).1⟩, vk_OFof q1 (va_eqt (hs _ nv_129)) hA, vk_OFof q1 ht hA⟩, hT⟩
theorem tx_8 {args : Array Value} {s : State} (hs : ∀ w ∈ nvL, w.before args s = true) : ∃ q : Nat × Nat, txOk 8 args s q := by
  have hA : ∀ a : Nat, a < s.heap.size → ¬ sA s.heap.size a := fun a h => Nat.not_le.mpr h
  obtain ⟨a, c, cA, kA, q1, q2, q3, q4, q5, q6, -⟩ := Cond.exactly_spec (hs _ nv_137)
  obtain ⟨t, ht, hT⟩ := va_Tof (N := 4) (f := fun i => .int ((txByt 8).getD i 0)) (A := sA s.heap.size) (by decide) (hs _ nv_139) (va_eqt (hs _ nv_140)) (fun i hi => by
    match i, hi with
    | 0, _ => exact va_eqt (hs _ nv_141)
    | 1, _ => exact va_eqt (hs _ nv_142)
    | 2, _ => exact va_eqt (hs _ nv_143)
    | 3, _ => exact va_eqt (hs _ nv_144)
    | i + 4, hi => exact absurd hi (by omega)) hA
  exact ⟨(a, t), q1, ⟨⟨cA, q3, q5, by rw [q6]; exact q2, hA a (Array.getElem?_eq_some_iff.mp q3).1⟩, vk_OFof q1 (va_eqt (hs _ nv_138)) hA, vk_OFof q1 ht hA⟩, hT⟩
theorem tx_9 {args : Array Value} {s : State} (hs : ∀ w ∈ nvL, w.before args s = true) : ∃ q : Nat × Nat, txOk 9 args s q := by
  have hA : ∀ a : Nat, a < s.heap.size → ¬ sA s.heap.size a := fun a h => Nat.not_le.mpr h
  obtain ⟨a, c, cA, kA, q1, q2, q3, q4, q5, q6, -⟩ := Cond.exactly_spec (hs _ nv_145)
  obtain ⟨t, ht, hT⟩ := va_Tof (N := 5) (f := fun i => .int ((txByt 9).getD i 0)) (A := sA s.heap.size) (by decide) (hs _ nv_147) (va_eqt (hs _ nv_148)) (fun i hi => by
    match i, hi with
    | 0, _ => exact va_eqt (hs _ nv_149)
    | 1, _ => exact va_eqt (hs _ nv_150)
    | 2, _ => exact va_eqt (hs _ nv_151)
    | 3, _ => exact va_eqt (hs _ nv_152)
    | 4, _ => exact va_eqt (hs _ nv_153)
    | i + 5, hi => exact absurd hi (by omega)) hA
  exact ⟨(a, t), q1, ⟨⟨cA, q3, q5, by rw [q6]; exact q2, hA a (Array.getElem?_eq_some_iff.mp q3).1⟩, vk_OFof q1 (va_eqt (hs _ nv_146)) hA, vk_OFof q1 ht hA⟩, hT⟩
theorem tx_10 {args : Array Value} {s : State} (hs : ∀ w ∈ nvL, w.before args s = true) : ∃ q : Nat × Nat, txOk 10 args s q := by
  have hA : ∀ a : Nat, a < s.heap.size → ¬ sA s.heap.size a := fun a h => Nat.not_le.mpr h
  obtain ⟨a, c, cA, kA, q1, q2, q3, q4, q5, q6, -⟩ := Cond.exactly_spec (hs _ nv_154)
  obtain ⟨t, ht, hT⟩ := va_Tof (N := 6) (f := fun i => .int ((txByt 10).getD i 0)) (A := sA s.heap.size) (by decide) (hs _ nv_156) (va_eqt (hs _ nv_157)) (fun i hi => by
    match i, hi with
    | 0, _ => exact va_eqt (hs _ nv_158)
    | 1, _ => exact va_eqt (hs _ nv_159)
    | 2, _ => exact va_eqt (hs _ nv_160)
    | 3, _ => exact va_eqt (hs _ nv_161)
    | 4, _ => exact va_eqt (hs _ nv_162)
    | 5, _ => exact va_eqt (hs _ nv_163)
    | i + 6, hi => exact absurd hi (by omega)) hA
  exact ⟨(a, t), q1, ⟨⟨cA, q3, q5, by rw [q6]; exact q2, hA a (Array.getElem?_eq_some_iff.mp q3).1⟩, vk_OFof q1 (va_eqt (hs _ nv_155)) hA, vk_OFof q1 ht hA⟩, hT⟩
theorem tx_11 {args : Array Value} {s : State} (hs : ∀ w ∈ nvL, w.before args s = true) : ∃ q : Nat × Nat, txOk 11 args s q := by
  have hA : ∀ a : Nat, a < s.heap.size → ¬ sA s.heap.size a := fun a h => Nat.not_le.mpr h
  obtain ⟨a, c, cA, kA, q1, q2, q3, q4, q5, q6, -⟩ := Cond.exactly_spec (hs _ nv_164)
  obtain ⟨t, ht, hT⟩ := va_Tof (N := 2) (f := fun i => .int ((txByt 11).getD i 0)) (A := sA s.heap.size) (by decide) (hs _ nv_166) (va_eqt (hs _ nv_167)) (fun i hi => by
    match i, hi with
    | 0, _ => exact va_eqt (hs _ nv_168)
    | 1, _ => exact va_eqt (hs _ nv_169)
    | i + 2, hi => exact absurd hi (by omega)) hA
  exact ⟨(a, t), q1, ⟨⟨cA, q3, q5, by rw [q6]; exact q2, hA a (Array.getElem?_eq_some_iff.mp q3).1⟩, vk_OFof q1 (va_eqt (hs _ nv_165)) hA, vk_OFof q1 ht hA⟩, hT⟩
theorem tx_12 {args : Array Value} {s : State} (hs : ∀ w ∈ nvL, w.before args s = true) : ∃ q : Nat × Nat, txOk 12 args s q := by
  have hA : ∀ a : Nat, a < s.heap.size → ¬ sA s.heap.size a := fun a h => Nat.not_le.mpr h
  obtain ⟨a, c, cA, kA, q1, q2, q3, q4, q5, q6, -⟩ := Cond.exactly_spec (hs _ nv_170)
  obtain ⟨t, ht, hT⟩ := va_Tof (N := 4) (f := fun i => .int ((txByt 12).getD i 0)) (A := sA s.heap.size) (by decide) (hs _ nv_172) (va_eqt (hs _ nv_173)) (fun i hi => by
    match i, hi with
    | 0, _ => exact va_eqt (hs _ nv_174)
    | 1, _ => exact va_eqt (hs _ nv_175)
    | 2, _ => exact va_eqt (hs _ nv_176)
    | 3, _ => exact va_eqt (hs _ nv_177)
    | i + 4, hi => exact absurd hi (by omega)) hA
  exact ⟨(a, t), q1, ⟨⟨cA, q3, q5, by rw [q6]; exact q2, hA a (Array.getElem?_eq_some_iff.mp q3).1⟩, vk_OFof q1 (va_eqt (hs _ nv_171)) hA, vk_OFof q1 ht hA⟩, hT⟩
theorem tx_13 {args : Array Value} {s : State} (hs : ∀ w ∈ nvL, w.before args s = true) : ∃ q : Nat × Nat, txOk 13 args s q := by
  have hA : ∀ a : Nat, a < s.heap.size → ¬ sA s.heap.size a := fun a h => Nat.not_le.mpr h
  obtain ⟨a, c, cA, kA, q1, q2, q3, q4, q5, q6, -⟩ := Cond.exactly_spec (hs _ nv_178)
  obtain ⟨t, ht, hT⟩ := va_Tof (N := 4) (f := fun i => .int ((txByt 13).getD i 0)) (A := sA s.heap.size) (by decide) (hs _ nv_180) (va_eqt (hs _ nv_181)) (fun i hi => by
    match i, hi with
    | 0, _ => exact va_eqt (hs _ nv_182)
    | 1, _ => exact va_eqt (hs _ nv_183)
    | 2, _ => exact va_eqt (hs _ nv_184)
    | 3, _ => exact va_eqt (hs _ nv_185)
    | i + 4, hi => exact absurd hi (by omega)) hA
  exact ⟨(a, t), q1, ⟨⟨cA, q3, q5, by rw [q6]; exact q2, hA a (Array.getElem?_eq_some_iff.mp q3).1⟩, vk_OFof q1 (va_eqt (hs _ nv_179)) hA, vk_OFof q1 ht hA⟩, hT⟩
theorem tx_14 {args : Array Value} {s : State} (hs : ∀ w ∈ nvL, w.before args s = true) : ∃ q : Nat × Nat, txOk 14 args s q := by
  have hA : ∀ a : Nat, a < s.heap.size → ¬ sA s.heap.size a := fun a h => Nat.not_le.mpr h
  obtain ⟨a, c, cA, kA, q1, q2, q3, q4, q5, q6, -⟩ := Cond.exactly_spec (hs _ nv_186)
  obtain ⟨t, ht, hT⟩ := va_Tof (N := 5) (f := fun i => .int ((txByt 14).getD i 0)) (A := sA s.heap.size) (by decide) (hs _ nv_188) (va_eqt (hs _ nv_189)) (fun i hi => by
    match i, hi with
    | 0, _ => exact va_eqt (hs _ nv_190)
    | 1, _ => exact va_eqt (hs _ nv_191)
    | 2, _ => exact va_eqt (hs _ nv_192)
    | 3, _ => exact va_eqt (hs _ nv_193)
    | 4, _ => exact va_eqt (hs _ nv_194)
    | i + 5, hi => exact absurd hi (by omega)) hA
  exact ⟨(a, t), q1, ⟨⟨cA, q3, q5, by rw [q6]; exact q2, hA a (Array.getElem?_eq_some_iff.mp q3).1⟩, vk_OFof q1 (va_eqt (hs _ nv_187)) hA, vk_OFof q1 ht hA⟩, hT⟩
theorem tx_15 {args : Array Value} {s : State} (hs : ∀ w ∈ nvL, w.before args s = true) : ∃ q : Nat × Nat, txOk 15 args s q := by
  have hA : ∀ a : Nat, a < s.heap.size → ¬ sA s.heap.size a := fun a h => Nat.not_le.mpr h
  obtain ⟨a, c, cA, kA, q1, q2, q3, q4, q5, q6, -⟩ := Cond.exactly_spec (hs _ nv_195)
  obtain ⟨t, ht, hT⟩ := va_Tof (N := 2) (f := fun i => .int ((txByt 15).getD i 0)) (A := sA s.heap.size) (by decide) (hs _ nv_197) (va_eqt (hs _ nv_198)) (fun i hi => by
    match i, hi with
    | 0, _ => exact va_eqt (hs _ nv_199)
    | 1, _ => exact va_eqt (hs _ nv_200)
    | i + 2, hi => exact absurd hi (by omega)) hA
  exact ⟨(a, t), q1, ⟨⟨cA, q3, q5, by rw [q6]; exact q2, hA a (Array.getElem?_eq_some_iff.mp q3).1⟩, vk_OFof q1 (va_eqt (hs _ nv_196)) hA, vk_OFof q1 ht hA⟩, hT⟩
theorem tx_16 {args : Array Value} {s : State} (hs : ∀ w ∈ nvL, w.before args s = true) : ∃ q : Nat × Nat, txOk 16 args s q := by
  have hA : ∀ a : Nat, a < s.heap.size → ¬ sA s.heap.size a := fun a h => Nat.not_le.mpr h
  obtain ⟨a, c, cA, kA, q1, q2, q3, q4, q5, q6, -⟩ := Cond.exactly_spec (hs _ nv_201)
  obtain ⟨t, ht, hT⟩ := va_Tof (N := 3) (f := fun i => .int ((txByt 16).getD i 0)) (A := sA s.heap.size) (by decide) (hs _ nv_203) (va_eqt (hs _ nv_204)) (fun i hi => by
    match i, hi with
    | 0, _ => exact va_eqt (hs _ nv_205)
    | 1, _ => exact va_eqt (hs _ nv_206)
    | 2, _ => exact va_eqt (hs _ nv_207)
    | i + 3, hi => exact absurd hi (by omega)) hA
  exact ⟨(a, t), q1, ⟨⟨cA, q3, q5, by rw [q6]; exact q2, hA a (Array.getElem?_eq_some_iff.mp q3).1⟩, vk_OFof q1 (va_eqt (hs _ nv_202)) hA, vk_OFof q1 ht hA⟩, hT⟩
theorem tx_17 {args : Array Value} {s : State} (hs : ∀ w ∈ nvL, w.before args s = true) : ∃ q : Nat × Nat, txOk 17 args s q := by
  have hA : ∀ a : Nat, a < s.heap.size → ¬ sA s.heap.size a := fun a h => Nat.not_le.mpr h
  obtain ⟨a, c, cA, kA, q1, q2, q3, q4, q5, q6, -⟩ := Cond.exactly_spec (hs _ nv_208)
  obtain ⟨t, ht, hT⟩ := va_Tof (N := 4) (f := fun i => .int ((txByt 17).getD i 0)) (A := sA s.heap.size) (by decide) (hs _ nv_210) (va_eqt (hs _ nv_211)) (fun i hi => by
    match i, hi with
    | 0, _ => exact va_eqt (hs _ nv_212)
    | 1, _ => exact va_eqt (hs _ nv_213)
    | 2, _ => exact va_eqt (hs _ nv_214)
    | 3, _ => exact va_eqt (hs _ nv_215)
    | i + 4, hi => exact absurd hi (by omega)) hA
  exact ⟨(a, t), q1, ⟨⟨cA, q3, q5, by rw [q6]; exact q2, hA a (Array.getElem?_eq_some_iff.mp q3).1⟩, vk_OFof q1 (va_eqt (hs _ nv_209)) hA, vk_OFof q1 ht hA⟩, hT⟩
theorem tx_18 {args : Array Value} {s : State} (hs : ∀ w ∈ nvL, w.before args s = true) : ∃ q : Nat × Nat, txOk 18 args s q := by
  have hA : ∀ a : Nat, a < s.heap.size → ¬ sA s.heap.size a := fun a h => Nat.not_le.mpr h
  obtain ⟨a, c, cA, kA, q1, q2, q3, q4, q5, q6, -⟩ := Cond.exactly_spec (hs _ nv_216)
  obtain ⟨t, ht, hT⟩ := va_Tof (N := 4) (f := fun i => .int ((txByt 18).getD i 0)) (A := sA s.heap.size) (by decide) (hs _ nv_218) (va_eqt (hs _ nv_219)) (fun i hi => by
    match i, hi with
    | 0, _ => exact va_eqt (hs _ nv_220)
    | 1, _ => exact va_eqt (hs _ nv_221)
    | 2, _ => exact va_eqt (hs _ nv_222)
    | 3, _ => exact va_eqt (hs _ nv_223)
    | i + 4, hi => exact absurd hi (by omega)) hA
  exact ⟨(a, t), q1, ⟨⟨cA, q3, q5, by rw [q6]; exact q2, hA a (Array.getElem?_eq_some_iff.mp q3).1⟩, vk_OFof q1 (va_eqt (hs _ nv_217)) hA, vk_OFof q1 ht hA⟩, hT⟩
theorem tx_19 {args : Array Value} {s : State} (hs : ∀ w ∈ nvL, w.before args s = true) : ∃ q : Nat × Nat, txOk 19 args s q := by
  have hA : ∀ a : Nat, a < s.heap.size → ¬ sA s.heap.size a := fun a h => Nat.not_le.mpr h
  obtain ⟨a, c, cA, kA, q1, q2, q3, q4, q5, q6, -⟩ := Cond.exactly_spec (hs _ nv_224)
  obtain ⟨t, ht, hT⟩ := va_Tof (N := 4) (f := fun i => .int ((txByt 19).getD i 0)) (A := sA s.heap.size) (by decide) (hs _ nv_226) (va_eqt (hs _ nv_227)) (fun i hi => by
    match i, hi with
    | 0, _ => exact va_eqt (hs _ nv_228)
    | 1, _ => exact va_eqt (hs _ nv_229)
    | 2, _ => exact va_eqt (hs _ nv_230)
    | 3, _ => exact va_eqt (hs _ nv_231)
    | i + 4, hi => exact absurd hi (by omega)) hA
  exact ⟨(a, t), q1, ⟨⟨cA, q3, q5, by rw [q6]; exact q2, hA a (Array.getElem?_eq_some_iff.mp q3).1⟩, vk_OFof q1 (va_eqt (hs _ nv_225)) hA, vk_OFof q1 ht hA⟩, hT⟩
theorem tx_20 {args : Array Value} {s : State} (hs : ∀ w ∈ nvL, w.before args s = true) : ∃ q : Nat × Nat, txOk 20 args s q := by
  have hA : ∀ a : Nat, a < s.heap.size → ¬ sA s.heap.size a := fun a h => Nat.not_le.mpr h
  obtain ⟨a, c, cA, kA, q1, q2, q3, q4, q5, q6, -⟩ := Cond.exactly_spec (hs _ nv_232)
  obtain ⟨t, ht, hT⟩ := va_Tof (N := 5) (f := fun i => .int ((txByt 20).getD i 0)) (A := sA s.heap.size) (by decide) (hs _ nv_234) (va_eqt (hs _ nv_235)) (fun i hi => by
    match i, hi with
    | 0, _ => exact va_eqt (hs _ nv_236)
    | 1, _ => exact va_eqt (hs _ nv_237)
    | 2, _ => exact va_eqt (hs _ nv_238)
    | 3, _ => exact va_eqt (hs _ nv_239)
    | 4, _ => exact va_eqt (hs _ nv_240)
    | i + 5, hi => exact absurd hi (by omega)) hA
  exact ⟨(a, t), q1, ⟨⟨cA, q3, q5, by rw [q6]; exact q2, hA a (Array.getElem?_eq_some_iff.mp q3).1⟩, vk_OFof q1 (va_eqt (hs _ nv_233)) hA, vk_OFof q1 ht hA⟩, hT⟩
theorem tx_21 {args : Array Value} {s : State} (hs : ∀ w ∈ nvL, w.before args s = true) : ∃ q : Nat × Nat, txOk 21 args s q := by
  have hA : ∀ a : Nat, a < s.heap.size → ¬ sA s.heap.size a := fun a h => Nat.not_le.mpr h
  obtain ⟨a, c, cA, kA, q1, q2, q3, q4, q5, q6, -⟩ := Cond.exactly_spec (hs _ nv_241)
  obtain ⟨t, ht, hT⟩ := va_Tof (N := 4) (f := fun i => .int ((txByt 21).getD i 0)) (A := sA s.heap.size) (by decide) (hs _ nv_243) (va_eqt (hs _ nv_244)) (fun i hi => by
    match i, hi with
    | 0, _ => exact va_eqt (hs _ nv_245)
    | 1, _ => exact va_eqt (hs _ nv_246)
    | 2, _ => exact va_eqt (hs _ nv_247)
    | 3, _ => exact va_eqt (hs _ nv_248)
    | i + 4, hi => exact absurd hi (by omega)) hA
  exact ⟨(a, t), q1, ⟨⟨cA, q3, q5, by rw [q6]; exact q2, hA a (Array.getElem?_eq_some_iff.mp q3).1⟩, vk_OFof q1 (va_eqt (hs _ nv_242)) hA, vk_OFof q1 ht hA⟩, hT⟩
theorem tx_22 {args : Array Value} {s : State} (hs : ∀ w ∈ nvL, w.before args s = true) : ∃ q : Nat × Nat, txOk 22 args s q := by
  have hA : ∀ a : Nat, a < s.heap.size → ¬ sA s.heap.size a := fun a h => Nat.not_le.mpr h
  obtain ⟨a, c, cA, kA, q1, q2, q3, q4, q5, q6, -⟩ := Cond.exactly_spec (hs _ nv_249)
  obtain ⟨t, ht, hT⟩ := va_Tof (N := 5) (f := fun i => .int ((txByt 22).getD i 0)) (A := sA s.heap.size) (by decide) (hs _ nv_251) (va_eqt (hs _ nv_252)) (fun i hi => by
    match i, hi with
    | 0, _ => exact va_eqt (hs _ nv_253)
    | 1, _ => exact va_eqt (hs _ nv_254)
    | 2, _ => exact va_eqt (hs _ nv_255)
    | 3, _ => exact va_eqt (hs _ nv_256)
    | 4, _ => exact va_eqt (hs _ nv_257)
    | i + 5, hi => exact absurd hi (by omega)) hA
  exact ⟨(a, t), q1, ⟨⟨cA, q3, q5, by rw [q6]; exact q2, hA a (Array.getElem?_eq_some_iff.mp q3).1⟩, vk_OFof q1 (va_eqt (hs _ nv_250)) hA, vk_OFof q1 ht hA⟩, hT⟩
theorem tx_23 {args : Array Value} {s : State} (hs : ∀ w ∈ nvL, w.before args s = true) : ∃ q : Nat × Nat, txOk 23 args s q := by
  have hA : ∀ a : Nat, a < s.heap.size → ¬ sA s.heap.size a := fun a h => Nat.not_le.mpr h
  obtain ⟨a, c, cA, kA, q1, q2, q3, q4, q5, q6, -⟩ := Cond.exactly_spec (hs _ nv_258)
  obtain ⟨t, ht, hT⟩ := va_Tof (N := 6) (f := fun i => .int ((txByt 23).getD i 0)) (A := sA s.heap.size) (by decide) (hs _ nv_260) (va_eqt (hs _ nv_261)) (fun i hi => by
    match i, hi with
    | 0, _ => exact va_eqt (hs _ nv_262)
    | 1, _ => exact va_eqt (hs _ nv_263)
    | 2, _ => exact va_eqt (hs _ nv_264)
    | 3, _ => exact va_eqt (hs _ nv_265)
    | 4, _ => exact va_eqt (hs _ nv_266)
    | 5, _ => exact va_eqt (hs _ nv_267)
    | i + 6, hi => exact absurd hi (by omega)) hA
  exact ⟨(a, t), q1, ⟨⟨cA, q3, q5, by rw [q6]; exact q2, hA a (Array.getElem?_eq_some_iff.mp q3).1⟩, vk_OFof q1 (va_eqt (hs _ nv_259)) hA, vk_OFof q1 ht hA⟩, hT⟩
theorem tx_24 {args : Array Value} {s : State} (hs : ∀ w ∈ nvL, w.before args s = true) : ∃ q : Nat × Nat, txOk 24 args s q := by
  have hA : ∀ a : Nat, a < s.heap.size → ¬ sA s.heap.size a := fun a h => Nat.not_le.mpr h
  obtain ⟨a, c, cA, kA, q1, q2, q3, q4, q5, q6, -⟩ := Cond.exactly_spec (hs _ nv_268)
  obtain ⟨t, ht, hT⟩ := va_Tof (N := 4) (f := fun i => .int ((txByt 24).getD i 0)) (A := sA s.heap.size) (by decide) (hs _ nv_270) (va_eqt (hs _ nv_271)) (fun i hi => by
    match i, hi with
    | 0, _ => exact va_eqt (hs _ nv_272)
    | 1, _ => exact va_eqt (hs _ nv_273)
    | 2, _ => exact va_eqt (hs _ nv_274)
    | 3, _ => exact va_eqt (hs _ nv_275)
    | i + 4, hi => exact absurd hi (by omega)) hA
  exact ⟨(a, t), q1, ⟨⟨cA, q3, q5, by rw [q6]; exact q2, hA a (Array.getElem?_eq_some_iff.mp q3).1⟩, vk_OFof q1 (va_eqt (hs _ nv_269)) hA, vk_OFof q1 ht hA⟩, hT⟩
theorem tx_25 {args : Array Value} {s : State} (hs : ∀ w ∈ nvL, w.before args s = true) : ∃ q : Nat × Nat, txOk 25 args s q := by
  have hA : ∀ a : Nat, a < s.heap.size → ¬ sA s.heap.size a := fun a h => Nat.not_le.mpr h
  obtain ⟨a, c, cA, kA, q1, q2, q3, q4, q5, q6, -⟩ := Cond.exactly_spec (hs _ nv_276)
  obtain ⟨t, ht, hT⟩ := va_Tof (N := 5) (f := fun i => .int ((txByt 25).getD i 0)) (A := sA s.heap.size) (by decide) (hs _ nv_278) (va_eqt (hs _ nv_279)) (fun i hi => by
    match i, hi with
    | 0, _ => exact va_eqt (hs _ nv_280)
    | 1, _ => exact va_eqt (hs _ nv_281)
    | 2, _ => exact va_eqt (hs _ nv_282)
    | 3, _ => exact va_eqt (hs _ nv_283)
    | 4, _ => exact va_eqt (hs _ nv_284)
    | i + 5, hi => exact absurd hi (by omega)) hA
  exact ⟨(a, t), q1, ⟨⟨cA, q3, q5, by rw [q6]; exact q2, hA a (Array.getElem?_eq_some_iff.mp q3).1⟩, vk_OFof q1 (va_eqt (hs _ nv_277)) hA, vk_OFof q1 ht hA⟩, hT⟩
theorem tx_all {args : Array Value} {s : State} (hs : ∀ w ∈ nvL, w.before args s = true) : ∃ ad : Nat → Nat × Nat, ∀ j : Nat, j < 26 → txOk j args s (ad j) := by
  have h : ∀ j : Nat, ∃ q : Nat × Nat, j < 26 → txOk j args s q := by
    intro j
    match j with
    | 0 => obtain ⟨q, h⟩ := tx_0 hs; exact ⟨q, fun _ => h⟩
    | 1 => obtain ⟨q, h⟩ := tx_1 hs; exact ⟨q, fun _ => h⟩
    | 2 => obtain ⟨q, h⟩ := tx_2 hs; exact ⟨q, fun _ => h⟩
    | 3 => obtain ⟨q, h⟩ := tx_3 hs; exact ⟨q, fun _ => h⟩
    | 4 => obtain ⟨q, h⟩ := tx_4 hs; exact ⟨q, fun _ => h⟩
    | 5 => obtain ⟨q, h⟩ := tx_5 hs; exact ⟨q, fun _ => h⟩
    | 6 => obtain ⟨q, h⟩ := tx_6 hs; exact ⟨q, fun _ => h⟩
    | 7 => obtain ⟨q, h⟩ := tx_7 hs; exact ⟨q, fun _ => h⟩
    | 8 => obtain ⟨q, h⟩ := tx_8 hs; exact ⟨q, fun _ => h⟩
    | 9 => obtain ⟨q, h⟩ := tx_9 hs; exact ⟨q, fun _ => h⟩
    | 10 => obtain ⟨q, h⟩ := tx_10 hs; exact ⟨q, fun _ => h⟩
    | 11 => obtain ⟨q, h⟩ := tx_11 hs; exact ⟨q, fun _ => h⟩
    | 12 => obtain ⟨q, h⟩ := tx_12 hs; exact ⟨q, fun _ => h⟩
    | 13 => obtain ⟨q, h⟩ := tx_13 hs; exact ⟨q, fun _ => h⟩
    | 14 => obtain ⟨q, h⟩ := tx_14 hs; exact ⟨q, fun _ => h⟩
    | 15 => obtain ⟨q, h⟩ := tx_15 hs; exact ⟨q, fun _ => h⟩
    | 16 => obtain ⟨q, h⟩ := tx_16 hs; exact ⟨q, fun _ => h⟩
    | 17 => obtain ⟨q, h⟩ := tx_17 hs; exact ⟨q, fun _ => h⟩
    | 18 => obtain ⟨q, h⟩ := tx_18 hs; exact ⟨q, fun _ => h⟩
    | 19 => obtain ⟨q, h⟩ := tx_19 hs; exact ⟨q, fun _ => h⟩
    | 20 => obtain ⟨q, h⟩ := tx_20 hs; exact ⟨q, fun _ => h⟩
    | 21 => obtain ⟨q, h⟩ := tx_21 hs; exact ⟨q, fun _ => h⟩
    | 22 => obtain ⟨q, h⟩ := tx_22 hs; exact ⟨q, fun _ => h⟩
    | 23 => obtain ⟨q, h⟩ := tx_23 hs; exact ⟨q, fun _ => h⟩
    | 24 => obtain ⟨q, h⟩ := tx_24 hs; exact ⟨q, fun _ => h⟩
    | 25 => obtain ⟨q, h⟩ := tx_25 hs; exact ⟨q, fun _ => h⟩
    | j + 26 => exact ⟨(0, 0), fun h => absurd h (by omega)⟩
  exact Classical.axiomOfChoice h
