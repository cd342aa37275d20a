/-! SilkClerksModel -/
set_option maxRecDepth 100000
def RX3 : String := "SilkClerksModel"
def TX3 : u_T := fun k => match k with
  | 0 => ("SilkClerksModel", "w", "[I", true)
  | 1 => ("SilkClerksModel", "kept", "[I", true)
  | 2 => ("SilkClerksModel", "back", "[I", true)
  | 3 => ("SilkClerksModel", "lying", "[I", true)
  | 4 => ("SilkClerksModel", "backMany", "I", false)
  | 5 => ("SilkClerksModel", "hasImage", "Z", false)
  | 6 => ("SilkClerksModel", "freshLine", "[I", true)
  | 7 => ("SilkClerksModel", "freshStep", "[I", true)
  | 8 => ("SilkClerksModel", "freshRow", "[I", true)
  | 9 => ("SilkClerksModel", "tape", "[I", true)
  | 10 => ("SilkClerksModel", "pile", "[I", true)
  | 11 => ("SilkClerksModel", "facts", "[I", true)
  | 12 => ("SilkClerksModel", "reading", "I", false)
  | 13 => ("SilkClerksModel", "lines", "I", false)
  | 14 => ("SilkClerksModel", "steps", "I", false)
  | 15 => ("SilkClerksModel", "rows", "I", false)
  | 16 => ("SilkClerksModel", "taped", "I", false)
  | 17 => ("SilkClerksModel", "at", "I", false)
  | 18 => ("SilkClerksModel", "token", "I", false)
  | 19 => ("SilkClerksModel", "tokenAt", "I", false)
  | 20 => ("SilkClerksModel", "value", "I", false)
  | 21 => ("SilkClerksModel", "wrong", "I", false)
  | 22 => ("SilkClerksModel", "wrongAt", "I", false)
  | 23 => ("SilkClerksModel", "faultKind", "I", false)
  | 24 => ("SilkClerksModel", "depth", "I", false)
  | 25 => ("SilkClerksModel", "faultPlace", "I", false)
  | 26 => ("SilkClerksModel", "numbered", "I", false)
  | 27 => ("SilkClerksModel", "isTrue", "Z", false)
  | 28 => ("SilkClerksModel", "alike", "[I", true)
  | 29 => ("SilkClerksModel", "lasts", "[I", true)
  | 30 => ("SilkClerksModel", "turned", "[I", true)
  | 31 => ("SilkClerksModel", "traysFor", "[I", true)
  | _ => ("SilkClerksModel", "waysBy", "[I", true)
def tyX3 : Nat → FieldType := fun k => match k with
  | 0 => .array .int
  | 1 => .array .int
  | 2 => .array .int
  | 3 => .array .int
  | 4 => .int
  | 5 => .boolean
  | 6 => .array .int
  | 7 => .array .int
  | 8 => .array .int
  | 9 => .array .int
  | 10 => .array .int
  | 11 => .array .int
  | 12 => .int
  | 13 => .int
  | 14 => .int
  | 15 => .int
  | 16 => .int
  | 17 => .int
  | 18 => .int
  | 19 => .int
  | 20 => .int
  | 21 => .int
  | 22 => .int
  | 23 => .int
  | 24 => .int
  | 25 => .int
  | 26 => .int
  | 27 => .boolean
  | 28 => .array .int
  | 29 => .array .int
  | 30 => .array .int
  | 31 => .array .int
  | _ => .array .int
abbrev wsX30 : List Cond := u_ws RX3 TX3 33
set_option maxRecDepth 100000 in
theorem nmX3 : ∀ a, a < 33 → ∀ b, b < 33 → a ≠ b → (TX3 a).2.1 ≠ (TX3 b).2.1 := by decide +kernel
set_option maxRecDepth 100000 in
theorem tyX3_ok : ∀ k, k < 33 → parseFieldDescriptor (TX3 k).2.2.1 = some (tyX3 k) := by decide +kernel
abbrev cX3_init : ByteArray := prog_17_method_1_code
def yX3_init : MethodName := ⟨RX3, "<init>", "()V"⟩
def dkwX3_init_6 : List UInt8 := [180, 0, 7, 4, 16, 100, 79, 177]
abbrev dktX3_init_6 : List UInt8 := dkwX3_init_6 ++ []
def dkwX3_init_5 : List UInt8 := [188, 10, 181, 0, 50, 42, 16, 16, 188, 10, 181, 0, 53, 42, 17, 16, 0, 188, 10, 181, 0, 56, 42]
abbrev dktX3_init_5 : List UInt8 := dkwX3_init_5 ++ dktX3_init_6
def dkwX3_init_4 : List UInt8 := [181, 0, 40, 42, 16, 9, 188, 10, 181, 0, 44, 42, 17, 16, 0, 188, 10, 181, 0, 47, 42, 17, 6, 145]
abbrev dktX3_init_4 : List UInt8 := dkwX3_init_4 ++ dktX3_init_5
def dkwX3_init_3 : List UInt8 := [188, 10, 181, 0, 31, 42, 17, 1, 164, 188, 10, 181, 0, 34, 42, 16, 11, 188, 10, 181, 0, 37, 42, 2]
abbrev dktX3_init_3 : List UInt8 := dkwX3_init_3 ++ dktX3_init_4
def dkwX3_init_2 : List UInt8 := [181, 0, 22, 42, 17, 3, 52, 188, 10, 181, 0, 25, 42, 16, 90, 188, 10, 181, 0, 28, 42, 17, 1, 144]
abbrev dktX3_init_2 : List UInt8 := dkwX3_init_2 ++ dktX3_init_3
def dkwX3_init_1 : List UInt8 := [17, 13, 98, 188, 10, 181, 0, 16, 42, 17, 2, 59, 188, 10, 181, 0, 19, 42, 16, 64, 188, 10]
abbrev dktX3_init_1 : List UInt8 := dkwX3_init_1 ++ dktX3_init_2
def dkwX3_init_0 : List UInt8 := [42, 183, 0, 1, 42, 17, 9, 51, 188, 10, 181, 0, 7, 42, 17, 9, 51, 188, 10, 181, 0, 13, 42]
abbrev dktX3_init_0 : List UInt8 := dkwX3_init_0 ++ dktX3_init_1
theorem dksX3_init_0 : cX3_init.data.toList.drop 0 = dktX3_init_0 := by decide +kernel
theorem dksX3_init_1 : cX3_init.data.toList.drop 23 = dktX3_init_1 := dk_seg dksX3_init_0 23 rfl rfl
theorem dksX3_init_2 : cX3_init.data.toList.drop 45 = dktX3_init_2 := dk_seg dksX3_init_1 22 rfl rfl
theorem dksX3_init_3 : cX3_init.data.toList.drop 69 = dktX3_init_3 := dk_seg dksX3_init_2 24 rfl rfl
theorem dksX3_init_4 : cX3_init.data.toList.drop 93 = dktX3_init_4 := dk_seg dksX3_init_3 24 rfl rfl
theorem dksX3_init_5 : cX3_init.data.toList.drop 117 = dktX3_init_5 := dk_seg dksX3_init_4 24 rfl rfl
theorem dksX3_init_6 : cX3_init.data.toList.drop 140 = dktX3_init_6 := dk_seg dksX3_init_5 23 rfl rfl
theorem dX3_init_0 : decode cX3_init 0 = .ok (.aload_n 0, 1) := dk_42 (dk_at dksX3_init_0 0 rfl rfl)
theorem dX3_init_1 : decode cX3_init 1 = .ok (.invokespecial 1, 3) := dk_183 0 1 (dk_at dksX3_init_0 1 rfl rfl)
theorem dX3_init_4 : decode cX3_init 4 = .ok (.aload_n 0, 1) := dk_42 (dk_at dksX3_init_0 4 rfl rfl)
theorem dX3_init_5 : decode cX3_init 5 = .ok (.sipush 2355, 3) := dk_17 9 51 (dk_at dksX3_init_0 5 rfl rfl)
theorem dX3_init_8 : decode cX3_init 8 = .ok (.newarray .int, 2) := dk_188_10 (dk_at dksX3_init_0 8 rfl rfl)
theorem dX3_init_10 : decode cX3_init 10 = .ok (.putfield 7, 3) := dk_181 0 7 (dk_at dksX3_init_0 10 rfl rfl)
theorem dX3_init_13 : decode cX3_init 13 = .ok (.aload_n 0, 1) := dk_42 (dk_at dksX3_init_0 13 rfl rfl)
theorem dX3_init_14 : decode cX3_init 14 = .ok (.sipush 2355, 3) := dk_17 9 51 (dk_at dksX3_init_0 14 rfl rfl)
theorem dX3_init_17 : decode cX3_init 17 = .ok (.newarray .int, 2) := dk_188_10 (dk_at dksX3_init_0 17 rfl rfl)
theorem dX3_init_19 : decode cX3_init 19 = .ok (.putfield 13, 3) := dk_181 0 13 (dk_at dksX3_init_0 19 rfl rfl)
theorem dX3_init_22 : decode cX3_init 22 = .ok (.aload_n 0, 1) := dk_42 (dk_at dksX3_init_0 22 rfl rfl)
theorem dX3_init_23 : decode cX3_init 23 = .ok (.sipush 3426, 3) := dk_17 13 98 (dk_at dksX3_init_1 0 rfl rfl)
theorem dX3_init_26 : decode cX3_init 26 = .ok (.newarray .int, 2) := dk_188_10 (dk_at dksX3_init_1 3 rfl rfl)
theorem dX3_init_28 : decode cX3_init 28 = .ok (.putfield 16, 3) := dk_181 0 16 (dk_at dksX3_init_1 5 rfl rfl)
theorem dX3_init_31 : decode cX3_init 31 = .ok (.aload_n 0, 1) := dk_42 (dk_at dksX3_init_1 8 rfl rfl)
theorem dX3_init_32 : decode cX3_init 32 = .ok (.sipush 571, 3) := dk_17 2 59 (dk_at dksX3_init_1 9 rfl rfl)
theorem dX3_init_35 : decode cX3_init 35 = .ok (.newarray .int, 2) := dk_188_10 (dk_at dksX3_init_1 12 rfl rfl)
theorem dX3_init_37 : decode cX3_init 37 = .ok (.putfield 19, 3) := dk_181 0 19 (dk_at dksX3_init_1 14 rfl rfl)
theorem dX3_init_40 : decode cX3_init 40 = .ok (.aload_n 0, 1) := dk_42 (dk_at dksX3_init_1 17 rfl rfl)
theorem dX3_init_41 : decode cX3_init 41 = .ok (.bipush 64, 2) := dk_16 64 (dk_at dksX3_init_1 18 rfl rfl)
theorem dX3_init_43 : decode cX3_init 43 = .ok (.newarray .int, 2) := dk_188_10 (dk_at dksX3_init_1 20 rfl rfl)
theorem dX3_init_45 : decode cX3_init 45 = .ok (.putfield 22, 3) := dk_181 0 22 (dk_at dksX3_init_2 0 rfl rfl)
theorem dX3_init_48 : decode cX3_init 48 = .ok (.aload_n 0, 1) := dk_42 (dk_at dksX3_init_2 3 rfl rfl)
theorem dX3_init_49 : decode cX3_init 49 = .ok (.sipush 820, 3) := dk_17 3 52 (dk_at dksX3_init_2 4 rfl rfl)
theorem dX3_init_52 : decode cX3_init 52 = .ok (.newarray .int, 2) := dk_188_10 (dk_at dksX3_init_2 7 rfl rfl)
theorem dX3_init_54 : decode cX3_init 54 = .ok (.putfield 25, 3) := dk_181 0 25 (dk_at dksX3_init_2 9 rfl rfl)
theorem dX3_init_57 : decode cX3_init 57 = .ok (.aload_n 0, 1) := dk_42 (dk_at dksX3_init_2 12 rfl rfl)
theorem dX3_init_58 : decode cX3_init 58 = .ok (.bipush 90, 2) := dk_16 90 (dk_at dksX3_init_2 13 rfl rfl)
theorem dX3_init_60 : decode cX3_init 60 = .ok (.newarray .int, 2) := dk_188_10 (dk_at dksX3_init_2 15 rfl rfl)
theorem dX3_init_62 : decode cX3_init 62 = .ok (.putfield 28, 3) := dk_181 0 28 (dk_at dksX3_init_2 17 rfl rfl)
theorem dX3_init_65 : decode cX3_init 65 = .ok (.aload_n 0, 1) := dk_42 (dk_at dksX3_init_2 20 rfl rfl)
theorem dX3_init_66 : decode cX3_init 66 = .ok (.sipush 400, 3) := dk_17 1 144 (dk_at dksX3_init_2 21 rfl rfl)
theorem dX3_init_69 : decode cX3_init 69 = .ok (.newarray .int, 2) := dk_188_10 (dk_at dksX3_init_3 0 rfl rfl)
theorem dX3_init_71 : decode cX3_init 71 = .ok (.putfield 31, 3) := dk_181 0 31 (dk_at dksX3_init_3 2 rfl rfl)
theorem dX3_init_74 : decode cX3_init 74 = .ok (.aload_n 0, 1) := dk_42 (dk_at dksX3_init_3 5 rfl rfl)
theorem dX3_init_75 : decode cX3_init 75 = .ok (.sipush 420, 3) := dk_17 1 164 (dk_at dksX3_init_3 6 rfl rfl)
theorem dX3_init_78 : decode cX3_init 78 = .ok (.newarray .int, 2) := dk_188_10 (dk_at dksX3_init_3 9 rfl rfl)
theorem dX3_init_80 : decode cX3_init 80 = .ok (.putfield 34, 3) := dk_181 0 34 (dk_at dksX3_init_3 11 rfl rfl)
theorem dX3_init_83 : decode cX3_init 83 = .ok (.aload_n 0, 1) := dk_42 (dk_at dksX3_init_3 14 rfl rfl)
theorem dX3_init_84 : decode cX3_init 84 = .ok (.bipush 11, 2) := dk_16 11 (dk_at dksX3_init_3 15 rfl rfl)
theorem dX3_init_86 : decode cX3_init 86 = .ok (.newarray .int, 2) := dk_188_10 (dk_at dksX3_init_3 17 rfl rfl)
theorem dX3_init_88 : decode cX3_init 88 = .ok (.putfield 37, 3) := dk_181 0 37 (dk_at dksX3_init_3 19 rfl rfl)
theorem dX3_init_91 : decode cX3_init 91 = .ok (.aload_n 0, 1) := dk_42 (dk_at dksX3_init_3 22 rfl rfl)
theorem dX3_init_92 : decode cX3_init 92 = .ok (.iconst (-1), 1) := dk_2 (dk_at dksX3_init_3 23 rfl rfl)
theorem dX3_init_93 : decode cX3_init 93 = .ok (.putfield 40, 3) := dk_181 0 40 (dk_at dksX3_init_4 0 rfl rfl)
theorem dX3_init_96 : decode cX3_init 96 = .ok (.aload_n 0, 1) := dk_42 (dk_at dksX3_init_4 3 rfl rfl)
theorem dX3_init_97 : decode cX3_init 97 = .ok (.bipush 9, 2) := dk_16 9 (dk_at dksX3_init_4 4 rfl rfl)
theorem dX3_init_99 : decode cX3_init 99 = .ok (.newarray .int, 2) := dk_188_10 (dk_at dksX3_init_4 6 rfl rfl)
theorem dX3_init_101 : decode cX3_init 101 = .ok (.putfield 44, 3) := dk_181 0 44 (dk_at dksX3_init_4 8 rfl rfl)
theorem dX3_init_104 : decode cX3_init 104 = .ok (.aload_n 0, 1) := dk_42 (dk_at dksX3_init_4 11 rfl rfl)
theorem dX3_init_105 : decode cX3_init 105 = .ok (.sipush 4096, 3) := dk_17 16 0 (dk_at dksX3_init_4 12 rfl rfl)
theorem dX3_init_108 : decode cX3_init 108 = .ok (.newarray .int, 2) := dk_188_10 (dk_at dksX3_init_4 15 rfl rfl)
theorem dX3_init_110 : decode cX3_init 110 = .ok (.putfield 47, 3) := dk_181 0 47 (dk_at dksX3_init_4 17 rfl rfl)
theorem dX3_init_113 : decode cX3_init 113 = .ok (.aload_n 0, 1) := dk_42 (dk_at dksX3_init_4 20 rfl rfl)
theorem dX3_init_114 : decode cX3_init 114 = .ok (.sipush 1681, 3) := dk_17 6 145 (dk_at dksX3_init_4 21 rfl rfl)
theorem dX3_init_117 : decode cX3_init 117 = .ok (.newarray .int, 2) := dk_188_10 (dk_at dksX3_init_5 0 rfl rfl)
theorem dX3_init_119 : decode cX3_init 119 = .ok (.putfield 50, 3) := dk_181 0 50 (dk_at dksX3_init_5 2 rfl rfl)
theorem dX3_init_122 : decode cX3_init 122 = .ok (.aload_n 0, 1) := dk_42 (dk_at dksX3_init_5 5 rfl rfl)
theorem dX3_init_123 : decode cX3_init 123 = .ok (.bipush 16, 2) := dk_16 16 (dk_at dksX3_init_5 6 rfl rfl)
theorem dX3_init_125 : decode cX3_init 125 = .ok (.newarray .int, 2) := dk_188_10 (dk_at dksX3_init_5 8 rfl rfl)
theorem dX3_init_127 : decode cX3_init 127 = .ok (.putfield 53, 3) := dk_181 0 53 (dk_at dksX3_init_5 10 rfl rfl)
theorem dX3_init_130 : decode cX3_init 130 = .ok (.aload_n 0, 1) := dk_42 (dk_at dksX3_init_5 13 rfl rfl)
theorem dX3_init_131 : decode cX3_init 131 = .ok (.sipush 4096, 3) := dk_17 16 0 (dk_at dksX3_init_5 14 rfl rfl)
theorem dX3_init_134 : decode cX3_init 134 = .ok (.newarray .int, 2) := dk_188_10 (dk_at dksX3_init_5 17 rfl rfl)
theorem dX3_init_136 : decode cX3_init 136 = .ok (.putfield 56, 3) := dk_181 0 56 (dk_at dksX3_init_5 19 rfl rfl)
theorem dX3_init_139 : decode cX3_init 139 = .ok (.aload_n 0, 1) := dk_42 (dk_at dksX3_init_5 22 rfl rfl)
theorem dX3_init_140 : decode cX3_init 140 = .ok (.getfield 7, 3) := dk_180 0 7 (dk_at dksX3_init_6 0 rfl rfl)
theorem dX3_init_143 : decode cX3_init 143 = .ok (.iconst 1, 1) := dk_4 (dk_at dksX3_init_6 3 rfl rfl)
theorem dX3_init_144 : decode cX3_init 144 = .ok (.bipush 100, 2) := dk_16 100 (dk_at dksX3_init_6 4 rfl rfl)
theorem dX3_init_146 : decode cX3_init 146 = .ok (.iastore, 1) := dk_79 (dk_at dksX3_init_6 6 rfl rfl)
theorem dX3_init_147 : decode cX3_init 147 = .ok (.return_, 1) := dk_177 (dk_at dksX3_init_6 7 rfl rfl)
abbrev cX3_state : ByteArray := prog_17_method_13_code
def yX3_state : MethodName := ⟨RX3, "state", "(I)I"⟩
def dkwX3_state_0 : List UInt8 := [42, 180, 0, 7, 8, 46, 61, 42, 180, 0, 7, 8, 27, 79, 42, 182, 0, 66, 28, 172]
abbrev dktX3_state_0 : List UInt8 := dkwX3_state_0 ++ []
theorem dksX3_state_0 : cX3_state.data.toList.drop 0 = dktX3_state_0 := by decide +kernel
theorem dX3_state_0 : decode cX3_state 0 = .ok (.aload_n 0, 1) := dk_42 (dk_at dksX3_state_0 0 rfl rfl)
theorem dX3_state_1 : decode cX3_state 1 = .ok (.getfield 7, 3) := dk_180 0 7 (dk_at dksX3_state_0 1 rfl rfl)
theorem dX3_state_4 : decode cX3_state 4 = .ok (.iconst 5, 1) := dk_8 (dk_at dksX3_state_0 4 rfl rfl)
theorem dX3_state_5 : decode cX3_state 5 = .ok (.iaload, 1) := dk_46 (dk_at dksX3_state_0 5 rfl rfl)
theorem dX3_state_6 : decode cX3_state 6 = .ok (.istore_n 2, 1) := dk_61 (dk_at dksX3_state_0 6 rfl rfl)
theorem dX3_state_7 : decode cX3_state 7 = .ok (.aload_n 0, 1) := dk_42 (dk_at dksX3_state_0 7 rfl rfl)
theorem dX3_state_8 : decode cX3_state 8 = .ok (.getfield 7, 3) := dk_180 0 7 (dk_at dksX3_state_0 8 rfl rfl)
theorem dX3_state_11 : decode cX3_state 11 = .ok (.iconst 5, 1) := dk_8 (dk_at dksX3_state_0 11 rfl rfl)
theorem dX3_state_12 : decode cX3_state 12 = .ok (.iload_n 1, 1) := dk_27 (dk_at dksX3_state_0 12 rfl rfl)
theorem dX3_state_13 : decode cX3_state 13 = .ok (.iastore, 1) := dk_79 (dk_at dksX3_state_0 13 rfl rfl)
theorem dX3_state_14 : decode cX3_state 14 = .ok (.aload_n 0, 1) := dk_42 (dk_at dksX3_state_0 14 rfl rfl)
theorem dX3_state_15 : decode cX3_state 15 = .ok (.invokevirtual 66, 3) := dk_182 0 66 (dk_at dksX3_state_0 15 rfl rfl)
theorem dX3_state_18 : decode cX3_state 18 = .ok (.iload_n 2, 1) := dk_28 (dk_at dksX3_state_0 18 rfl rfl)
theorem dX3_state_19 : decode cX3_state 19 = .ok (.ireturn, 1) := dk_172 (dk_at dksX3_state_0 19 rfl rfl)
abbrev cX3_forgets : ByteArray := prog_17_method_12_code
def yX3_forgets : MethodName := ⟨RX3, "forgets", "()V"⟩
def dkwX3_forgets_0 : List UInt8 := [42, 3, 181, 0, 63, 177]
abbrev dktX3_forgets_0 : List UInt8 := dkwX3_forgets_0 ++ []
theorem dksX3_forgets_0 : cX3_forgets.data.toList.drop 0 = dktX3_forgets_0 := by decide +kernel
theorem dX3_forgets_0 : decode cX3_forgets 0 = .ok (.aload_n 0, 1) := dk_42 (dk_at dksX3_forgets_0 0 rfl rfl)
theorem dX3_forgets_1 : decode cX3_forgets 1 = .ok (.iconst 0, 1) := dk_3 (dk_at dksX3_forgets_0 1 rfl rfl)
theorem dX3_forgets_2 : decode cX3_forgets 2 = .ok (.putfield 63, 3) := dk_181 0 63 (dk_at dksX3_forgets_0 2 rfl rfl)
theorem dX3_forgets_5 : decode cX3_forgets 5 = .ok (.return_, 1) := dk_177 (dk_at dksX3_forgets_0 5 rfl rfl)
abbrev cX3_worm : ByteArray := prog_17_method_15_code
def yX3_worm : MethodName := ⟨RX3, "worm", "(II)I"⟩
def dkwX3_worm_6 : List UInt8 := [46, 4, 96, 79, 42, 182, 0, 66, 29, 172]
abbrev dktX3_worm_6 : List UInt8 := dkwX3_worm_6 ++ []
def dkwX3_worm_5 : List UInt8 := [16, 67, 29, 96, 3, 79, 42, 180, 0, 7, 16, 79, 29, 96, 3, 79, 42, 180, 0, 7, 17, 2, 59, 92]
abbrev dktX3_worm_5 : List UInt8 := dkwX3_worm_5 ++ dktX3_worm_6
def dkwX3_worm_4 : List UInt8 := [42, 180, 0, 7, 16, 43, 29, 96, 2, 79, 42, 180, 0, 7, 16, 55, 29, 96, 3, 79, 42, 180, 0, 7]
abbrev dktX3_worm_4 : List UInt8 := dkwX3_worm_4 ++ dktX3_worm_5
def dkwX3_worm_3 : List UInt8 := [29, 96, 3, 79, 42, 180, 0, 7, 16, 19, 29, 96, 3, 79, 42, 180, 0, 7, 16, 31, 29, 96, 3, 79]
abbrev dktX3_worm_3 : List UInt8 := dkwX3_worm_3 ++ dktX3_worm_4
def dkwX3_worm_2 : List UInt8 := [17, 2, 69, 29, 96, 27, 79, 42, 180, 0, 7, 17, 2, 81, 29, 96, 28, 79, 42, 180, 0, 7, 16, 7]
abbrev dktX3_worm_2 : List UInt8 := dkwX3_worm_2 ++ dktX3_worm_3
def dkwX3_worm_1 : List UInt8 := [17, 2, 59, 46, 16, 12, 160, 0, 5, 2, 172, 42, 180, 0, 7, 17, 2, 59, 46, 62, 42, 180, 0, 7]
abbrev dktX3_worm_1 : List UInt8 := dkwX3_worm_1 ++ dktX3_worm_2
def dkwX3_worm_0 : List UInt8 := [27, 3, 6, 184, 0, 59, 153, 0, 26, 28, 3, 16, 9, 184, 0, 59, 153, 0, 16, 42, 180, 0, 7]
abbrev dktX3_worm_0 : List UInt8 := dkwX3_worm_0 ++ dktX3_worm_1
theorem dksX3_worm_0 : cX3_worm.data.toList.drop 0 = dktX3_worm_0 := by decide +kernel
theorem dksX3_worm_1 : cX3_worm.data.toList.drop 23 = dktX3_worm_1 := dk_seg dksX3_worm_0 23 rfl rfl
theorem dksX3_worm_2 : cX3_worm.data.toList.drop 47 = dktX3_worm_2 := dk_seg dksX3_worm_1 24 rfl rfl
theorem dksX3_worm_3 : cX3_worm.data.toList.drop 71 = dktX3_worm_3 := dk_seg dksX3_worm_2 24 rfl rfl
theorem dksX3_worm_4 : cX3_worm.data.toList.drop 95 = dktX3_worm_4 := dk_seg dksX3_worm_3 24 rfl rfl
theorem dksX3_worm_5 : cX3_worm.data.toList.drop 119 = dktX3_worm_5 := dk_seg dksX3_worm_4 24 rfl rfl
theorem dksX3_worm_6 : cX3_worm.data.toList.drop 143 = dktX3_worm_6 := dk_seg dksX3_worm_5 24 rfl rfl
theorem dX3_worm_0 : decode cX3_worm 0 = .ok (.iload_n 1, 1) := dk_27 (dk_at dksX3_worm_0 0 rfl rfl)
theorem dX3_worm_1 : decode cX3_worm 1 = .ok (.iconst 0, 1) := dk_3 (dk_at dksX3_worm_0 1 rfl rfl)
theorem dX3_worm_2 : decode cX3_worm 2 = .ok (.iconst 3, 1) := dk_6 (dk_at dksX3_worm_0 2 rfl rfl)
theorem dX3_worm_3 : decode cX3_worm 3 = .ok (.invokestatic 59, 3) := dk_184 0 59 (dk_at dksX3_worm_0 3 rfl rfl)
theorem dX3_worm_6 : decode cX3_worm 6 = .ok (.ifCond .eq 26, 3) := dk_153 0 26 (dk_at dksX3_worm_0 6 rfl rfl)
theorem dX3_worm_9 : decode cX3_worm 9 = .ok (.iload_n 2, 1) := dk_28 (dk_at dksX3_worm_0 9 rfl rfl)
theorem dX3_worm_10 : decode cX3_worm 10 = .ok (.iconst 0, 1) := dk_3 (dk_at dksX3_worm_0 10 rfl rfl)
theorem dX3_worm_11 : decode cX3_worm 11 = .ok (.bipush 9, 2) := dk_16 9 (dk_at dksX3_worm_0 11 rfl rfl)
theorem dX3_worm_13 : decode cX3_worm 13 = .ok (.invokestatic 59, 3) := dk_184 0 59 (dk_at dksX3_worm_0 13 rfl rfl)
theorem dX3_worm_16 : decode cX3_worm 16 = .ok (.ifCond .eq 16, 3) := dk_153 0 16 (dk_at dksX3_worm_0 16 rfl rfl)
theorem dX3_worm_19 : decode cX3_worm 19 = .ok (.aload_n 0, 1) := dk_42 (dk_at dksX3_worm_0 19 rfl rfl)
theorem dX3_worm_20 : decode cX3_worm 20 = .ok (.getfield 7, 3) := dk_180 0 7 (dk_at dksX3_worm_0 20 rfl rfl)
theorem dX3_worm_23 : decode cX3_worm 23 = .ok (.sipush 571, 3) := dk_17 2 59 (dk_at dksX3_worm_1 0 rfl rfl)
theorem dX3_worm_26 : decode cX3_worm 26 = .ok (.iaload, 1) := dk_46 (dk_at dksX3_worm_1 3 rfl rfl)
theorem dX3_worm_27 : decode cX3_worm 27 = .ok (.bipush 12, 2) := dk_16 12 (dk_at dksX3_worm_1 4 rfl rfl)
theorem dX3_worm_29 : decode cX3_worm 29 = .ok (.if_icmp .ne 5, 3) := dk_160 0 5 (dk_at dksX3_worm_1 6 rfl rfl)
theorem dX3_worm_32 : decode cX3_worm 32 = .ok (.iconst (-1), 1) := dk_2 (dk_at dksX3_worm_1 9 rfl rfl)
theorem dX3_worm_33 : decode cX3_worm 33 = .ok (.ireturn, 1) := dk_172 (dk_at dksX3_worm_1 10 rfl rfl)
theorem dX3_worm_34 : decode cX3_worm 34 = .ok (.aload_n 0, 1) := dk_42 (dk_at dksX3_worm_1 11 rfl rfl)
theorem dX3_worm_35 : decode cX3_worm 35 = .ok (.getfield 7, 3) := dk_180 0 7 (dk_at dksX3_worm_1 12 rfl rfl)
theorem dX3_worm_38 : decode cX3_worm 38 = .ok (.sipush 571, 3) := dk_17 2 59 (dk_at dksX3_worm_1 15 rfl rfl)
theorem dX3_worm_41 : decode cX3_worm 41 = .ok (.iaload, 1) := dk_46 (dk_at dksX3_worm_1 18 rfl rfl)
theorem dX3_worm_42 : decode cX3_worm 42 = .ok (.istore_n 3, 1) := dk_62 (dk_at dksX3_worm_1 19 rfl rfl)
theorem dX3_worm_43 : decode cX3_worm 43 = .ok (.aload_n 0, 1) := dk_42 (dk_at dksX3_worm_1 20 rfl rfl)
theorem dX3_worm_44 : decode cX3_worm 44 = .ok (.getfield 7, 3) := dk_180 0 7 (dk_at dksX3_worm_1 21 rfl rfl)
theorem dX3_worm_47 : decode cX3_worm 47 = .ok (.sipush 581, 3) := dk_17 2 69 (dk_at dksX3_worm_2 0 rfl rfl)
theorem dX3_worm_50 : decode cX3_worm 50 = .ok (.iload_n 3, 1) := dk_29 (dk_at dksX3_worm_2 3 rfl rfl)
theorem dX3_worm_51 : decode cX3_worm 51 = .ok (.iadd, 1) := dk_96 (dk_at dksX3_worm_2 4 rfl rfl)
theorem dX3_worm_52 : decode cX3_worm 52 = .ok (.iload_n 1, 1) := dk_27 (dk_at dksX3_worm_2 5 rfl rfl)
theorem dX3_worm_53 : decode cX3_worm 53 = .ok (.iastore, 1) := dk_79 (dk_at dksX3_worm_2 6 rfl rfl)
theorem dX3_worm_54 : decode cX3_worm 54 = .ok (.aload_n 0, 1) := dk_42 (dk_at dksX3_worm_2 7 rfl rfl)
theorem dX3_worm_55 : decode cX3_worm 55 = .ok (.getfield 7, 3) := dk_180 0 7 (dk_at dksX3_worm_2 8 rfl rfl)
theorem dX3_worm_58 : decode cX3_worm 58 = .ok (.sipush 593, 3) := dk_17 2 81 (dk_at dksX3_worm_2 11 rfl rfl)
theorem dX3_worm_61 : decode cX3_worm 61 = .ok (.iload_n 3, 1) := dk_29 (dk_at dksX3_worm_2 14 rfl rfl)
theorem dX3_worm_62 : decode cX3_worm 62 = .ok (.iadd, 1) := dk_96 (dk_at dksX3_worm_2 15 rfl rfl)
theorem dX3_worm_63 : decode cX3_worm 63 = .ok (.iload_n 2, 1) := dk_28 (dk_at dksX3_worm_2 16 rfl rfl)
theorem dX3_worm_64 : decode cX3_worm 64 = .ok (.iastore, 1) := dk_79 (dk_at dksX3_worm_2 17 rfl rfl)
theorem dX3_worm_65 : decode cX3_worm 65 = .ok (.aload_n 0, 1) := dk_42 (dk_at dksX3_worm_2 18 rfl rfl)
theorem dX3_worm_66 : decode cX3_worm 66 = .ok (.getfield 7, 3) := dk_180 0 7 (dk_at dksX3_worm_2 19 rfl rfl)
theorem dX3_worm_69 : decode cX3_worm 69 = .ok (.bipush 7, 2) := dk_16 7 (dk_at dksX3_worm_2 22 rfl rfl)
theorem dX3_worm_71 : decode cX3_worm 71 = .ok (.iload_n 3, 1) := dk_29 (dk_at dksX3_worm_3 0 rfl rfl)
theorem dX3_worm_72 : decode cX3_worm 72 = .ok (.iadd, 1) := dk_96 (dk_at dksX3_worm_3 1 rfl rfl)
theorem dX3_worm_73 : decode cX3_worm 73 = .ok (.iconst 0, 1) := dk_3 (dk_at dksX3_worm_3 2 rfl rfl)
theorem dX3_worm_74 : decode cX3_worm 74 = .ok (.iastore, 1) := dk_79 (dk_at dksX3_worm_3 3 rfl rfl)
theorem dX3_worm_75 : decode cX3_worm 75 = .ok (.aload_n 0, 1) := dk_42 (dk_at dksX3_worm_3 4 rfl rfl)
theorem dX3_worm_76 : decode cX3_worm 76 = .ok (.getfield 7, 3) := dk_180 0 7 (dk_at dksX3_worm_3 5 rfl rfl)
theorem dX3_worm_79 : decode cX3_worm 79 = .ok (.bipush 19, 2) := dk_16 19 (dk_at dksX3_worm_3 8 rfl rfl)
theorem dX3_worm_81 : decode cX3_worm 81 = .ok (.iload_n 3, 1) := dk_29 (dk_at dksX3_worm_3 10 rfl rfl)
theorem dX3_worm_82 : decode cX3_worm 82 = .ok (.iadd, 1) := dk_96 (dk_at dksX3_worm_3 11 rfl rfl)
theorem dX3_worm_83 : decode cX3_worm 83 = .ok (.iconst 0, 1) := dk_3 (dk_at dksX3_worm_3 12 rfl rfl)
theorem dX3_worm_84 : decode cX3_worm 84 = .ok (.iastore, 1) := dk_79 (dk_at dksX3_worm_3 13 rfl rfl)
theorem dX3_worm_85 : decode cX3_worm 85 = .ok (.aload_n 0, 1) := dk_42 (dk_at dksX3_worm_3 14 rfl rfl)
theorem dX3_worm_86 : decode cX3_worm 86 = .ok (.getfield 7, 3) := dk_180 0 7 (dk_at dksX3_worm_3 15 rfl rfl)
theorem dX3_worm_89 : decode cX3_worm 89 = .ok (.bipush 31, 2) := dk_16 31 (dk_at dksX3_worm_3 18 rfl rfl)
theorem dX3_worm_91 : decode cX3_worm 91 = .ok (.iload_n 3, 1) := dk_29 (dk_at dksX3_worm_3 20 rfl rfl)
theorem dX3_worm_92 : decode cX3_worm 92 = .ok (.iadd, 1) := dk_96 (dk_at dksX3_worm_3 21 rfl rfl)
theorem dX3_worm_93 : decode cX3_worm 93 = .ok (.iconst 0, 1) := dk_3 (dk_at dksX3_worm_3 22 rfl rfl)
theorem dX3_worm_94 : decode cX3_worm 94 = .ok (.iastore, 1) := dk_79 (dk_at dksX3_worm_3 23 rfl rfl)
theorem dX3_worm_95 : decode cX3_worm 95 = .ok (.aload_n 0, 1) := dk_42 (dk_at dksX3_worm_4 0 rfl rfl)
theorem dX3_worm_96 : decode cX3_worm 96 = .ok (.getfield 7, 3) := dk_180 0 7 (dk_at dksX3_worm_4 1 rfl rfl)
theorem dX3_worm_99 : decode cX3_worm 99 = .ok (.bipush 43, 2) := dk_16 43 (dk_at dksX3_worm_4 4 rfl rfl)
theorem dX3_worm_101 : decode cX3_worm 101 = .ok (.iload_n 3, 1) := dk_29 (dk_at dksX3_worm_4 6 rfl rfl)
theorem dX3_worm_102 : decode cX3_worm 102 = .ok (.iadd, 1) := dk_96 (dk_at dksX3_worm_4 7 rfl rfl)
theorem dX3_worm_103 : decode cX3_worm 103 = .ok (.iconst (-1), 1) := dk_2 (dk_at dksX3_worm_4 8 rfl rfl)
theorem dX3_worm_104 : decode cX3_worm 104 = .ok (.iastore, 1) := dk_79 (dk_at dksX3_worm_4 9 rfl rfl)
theorem dX3_worm_105 : decode cX3_worm 105 = .ok (.aload_n 0, 1) := dk_42 (dk_at dksX3_worm_4 10 rfl rfl)
theorem dX3_worm_106 : decode cX3_worm 106 = .ok (.getfield 7, 3) := dk_180 0 7 (dk_at dksX3_worm_4 11 rfl rfl)
theorem dX3_worm_109 : decode cX3_worm 109 = .ok (.bipush 55, 2) := dk_16 55 (dk_at dksX3_worm_4 14 rfl rfl)
theorem dX3_worm_111 : decode cX3_worm 111 = .ok (.iload_n 3, 1) := dk_29 (dk_at dksX3_worm_4 16 rfl rfl)
theorem dX3_worm_112 : decode cX3_worm 112 = .ok (.iadd, 1) := dk_96 (dk_at dksX3_worm_4 17 rfl rfl)
theorem dX3_worm_113 : decode cX3_worm 113 = .ok (.iconst 0, 1) := dk_3 (dk_at dksX3_worm_4 18 rfl rfl)
theorem dX3_worm_114 : decode cX3_worm 114 = .ok (.iastore, 1) := dk_79 (dk_at dksX3_worm_4 19 rfl rfl)
theorem dX3_worm_115 : decode cX3_worm 115 = .ok (.aload_n 0, 1) := dk_42 (dk_at dksX3_worm_4 20 rfl rfl)
theorem dX3_worm_116 : decode cX3_worm 116 = .ok (.getfield 7, 3) := dk_180 0 7 (dk_at dksX3_worm_4 21 rfl rfl)
theorem dX3_worm_119 : decode cX3_worm 119 = .ok (.bipush 67, 2) := dk_16 67 (dk_at dksX3_worm_5 0 rfl rfl)
theorem dX3_worm_121 : decode cX3_worm 121 = .ok (.iload_n 3, 1) := dk_29 (dk_at dksX3_worm_5 2 rfl rfl)
theorem dX3_worm_122 : decode cX3_worm 122 = .ok (.iadd, 1) := dk_96 (dk_at dksX3_worm_5 3 rfl rfl)
theorem dX3_worm_123 : decode cX3_worm 123 = .ok (.iconst 0, 1) := dk_3 (dk_at dksX3_worm_5 4 rfl rfl)
theorem dX3_worm_124 : decode cX3_worm 124 = .ok (.iastore, 1) := dk_79 (dk_at dksX3_worm_5 5 rfl rfl)
theorem dX3_worm_125 : decode cX3_worm 125 = .ok (.aload_n 0, 1) := dk_42 (dk_at dksX3_worm_5 6 rfl rfl)
theorem dX3_worm_126 : decode cX3_worm 126 = .ok (.getfield 7, 3) := dk_180 0 7 (dk_at dksX3_worm_5 7 rfl rfl)
theorem dX3_worm_129 : decode cX3_worm 129 = .ok (.bipush 79, 2) := dk_16 79 (dk_at dksX3_worm_5 10 rfl rfl)
theorem dX3_worm_131 : decode cX3_worm 131 = .ok (.iload_n 3, 1) := dk_29 (dk_at dksX3_worm_5 12 rfl rfl)
theorem dX3_worm_132 : decode cX3_worm 132 = .ok (.iadd, 1) := dk_96 (dk_at dksX3_worm_5 13 rfl rfl)
theorem dX3_worm_133 : decode cX3_worm 133 = .ok (.iconst 0, 1) := dk_3 (dk_at dksX3_worm_5 14 rfl rfl)
theorem dX3_worm_134 : decode cX3_worm 134 = .ok (.iastore, 1) := dk_79 (dk_at dksX3_worm_5 15 rfl rfl)
theorem dX3_worm_135 : decode cX3_worm 135 = .ok (.aload_n 0, 1) := dk_42 (dk_at dksX3_worm_5 16 rfl rfl)
theorem dX3_worm_136 : decode cX3_worm 136 = .ok (.getfield 7, 3) := dk_180 0 7 (dk_at dksX3_worm_5 17 rfl rfl)
theorem dX3_worm_139 : decode cX3_worm 139 = .ok (.sipush 571, 3) := dk_17 2 59 (dk_at dksX3_worm_5 20 rfl rfl)
theorem dX3_worm_142 : decode cX3_worm 142 = .ok (.dup2, 1) := dk_92 (dk_at dksX3_worm_5 23 rfl rfl)
theorem dX3_worm_143 : decode cX3_worm 143 = .ok (.iaload, 1) := dk_46 (dk_at dksX3_worm_6 0 rfl rfl)
theorem dX3_worm_144 : decode cX3_worm 144 = .ok (.iconst 1, 1) := dk_4 (dk_at dksX3_worm_6 1 rfl rfl)
theorem dX3_worm_145 : decode cX3_worm 145 = .ok (.iadd, 1) := dk_96 (dk_at dksX3_worm_6 2 rfl rfl)
theorem dX3_worm_146 : decode cX3_worm 146 = .ok (.iastore, 1) := dk_79 (dk_at dksX3_worm_6 3 rfl rfl)
theorem dX3_worm_147 : decode cX3_worm 147 = .ok (.aload_n 0, 1) := dk_42 (dk_at dksX3_worm_6 4 rfl rfl)
theorem dX3_worm_148 : decode cX3_worm 148 = .ok (.invokevirtual 66, 3) := dk_182 0 66 (dk_at dksX3_worm_6 5 rfl rfl)
theorem dX3_worm_151 : decode cX3_worm 151 = .ok (.iload_n 3, 1) := dk_29 (dk_at dksX3_worm_6 8 rfl rfl)
theorem dX3_worm_152 : decode cX3_worm 152 = .ok (.ireturn, 1) := dk_172 (dk_at dksX3_worm_6 9 rfl rfl)
abbrev cX3_isIn : ByteArray := prog_17_method_2_code
def yX3_isIn : MethodName := ⟨RX3, "isIn", "(III)Z"⟩
def dkwX3_isIn_0 : List UInt8 := [26, 27, 161, 0, 12, 26, 28, 163, 0, 7, 4, 167, 0, 4, 3, 172]
abbrev dktX3_isIn_0 : List UInt8 := dkwX3_isIn_0 ++ []
theorem dksX3_isIn_0 : cX3_isIn.data.toList.drop 0 = dktX3_isIn_0 := by decide +kernel
theorem dX3_isIn_0 : decode cX3_isIn 0 = .ok (.iload_n 0, 1) := dk_26 (dk_at dksX3_isIn_0 0 rfl rfl)
theorem dX3_isIn_1 : decode cX3_isIn 1 = .ok (.iload_n 1, 1) := dk_27 (dk_at dksX3_isIn_0 1 rfl rfl)
theorem dX3_isIn_2 : decode cX3_isIn 2 = .ok (.if_icmp .lt 12, 3) := dk_161 0 12 (dk_at dksX3_isIn_0 2 rfl rfl)
theorem dX3_isIn_5 : decode cX3_isIn 5 = .ok (.iload_n 0, 1) := dk_26 (dk_at dksX3_isIn_0 5 rfl rfl)
theorem dX3_isIn_6 : decode cX3_isIn 6 = .ok (.iload_n 2, 1) := dk_28 (dk_at dksX3_isIn_0 6 rfl rfl)
theorem dX3_isIn_7 : decode cX3_isIn 7 = .ok (.if_icmp .gt 7, 3) := dk_163 0 7 (dk_at dksX3_isIn_0 7 rfl rfl)
theorem dX3_isIn_10 : decode cX3_isIn 10 = .ok (.iconst 1, 1) := dk_4 (dk_at dksX3_isIn_0 10 rfl rfl)
theorem dX3_isIn_11 : decode cX3_isIn 11 = .ok (.goto 4, 3) := dk_167 0 4 (dk_at dksX3_isIn_0 11 rfl rfl)
theorem dX3_isIn_14 : decode cX3_isIn 14 = .ok (.iconst 0, 1) := dk_3 (dk_at dksX3_isIn_0 14 rfl rfl)
theorem dX3_isIn_15 : decode cX3_isIn 15 = .ok (.ireturn, 1) := dk_172 (dk_at dksX3_isIn_0 15 rfl rfl)
abbrev cX3_set : ByteArray := prog_17_method_16_code
def yX3_set : MethodName := ⟨RX3, "set", "(III)Z"⟩
def dkwX3_set_4 : List UInt8 := [160, 0, 11, 17, 2, 81, 28, 96, 167, 0, 7, 16, 7, 28, 96, 29, 79, 42, 182, 0, 66, 4, 172]
abbrev dktX3_set_4 : List UInt8 := dkwX3_set_4 ++ []
def dkwX3_set_3 : List UInt8 := [180, 0, 7, 27, 154, 0, 7, 4, 167, 0, 31, 27, 4, 160, 0, 9, 17, 2, 61, 167, 0, 20, 27, 5]
abbrev dktX3_set_3 : List UInt8 := dkwX3_set_3 ++ dktX3_set_4
def dkwX3_set_2 : List UInt8 := [3, 16, 9, 184, 0, 59, 153, 0, 7, 4, 167, 0, 4, 3, 54, 4, 21, 4, 154, 0, 5, 3, 172, 42]
abbrev dktX3_set_2 : List UInt8 := dkwX3_set_2 ++ dktX3_set_3
def dkwX3_set_1 : List UInt8 := [184, 0, 59, 167, 0, 35, 27, 5, 6, 184, 0, 59, 153, 0, 25, 42, 28, 182, 0, 71, 153, 0, 17, 29]
abbrev dktX3_set_1 : List UInt8 := dkwX3_set_1 ++ dktX3_set_2
def dkwX3_set_0 : List UInt8 := [27, 154, 0, 14, 29, 3, 17, 3, 231, 184, 0, 59, 167, 0, 50, 27, 4, 160, 0, 13, 29, 3, 16, 9]
abbrev dktX3_set_0 : List UInt8 := dkwX3_set_0 ++ dktX3_set_1
theorem dksX3_set_0 : cX3_set.data.toList.drop 0 = dktX3_set_0 := by decide +kernel
theorem dksX3_set_1 : cX3_set.data.toList.drop 24 = dktX3_set_1 := dk_seg dksX3_set_0 24 rfl rfl
theorem dksX3_set_2 : cX3_set.data.toList.drop 48 = dktX3_set_2 := dk_seg dksX3_set_1 24 rfl rfl
theorem dksX3_set_3 : cX3_set.data.toList.drop 72 = dktX3_set_3 := dk_seg dksX3_set_2 24 rfl rfl
theorem dksX3_set_4 : cX3_set.data.toList.drop 96 = dktX3_set_4 := dk_seg dksX3_set_3 24 rfl rfl
theorem dX3_set_0 : decode cX3_set 0 = .ok (.iload_n 1, 1) := dk_27 (dk_at dksX3_set_0 0 rfl rfl)
theorem dX3_set_1 : decode cX3_set 1 = .ok (.ifCond .ne 14, 3) := dk_154 0 14 (dk_at dksX3_set_0 1 rfl rfl)
theorem dX3_set_4 : decode cX3_set 4 = .ok (.iload_n 3, 1) := dk_29 (dk_at dksX3_set_0 4 rfl rfl)
theorem dX3_set_5 : decode cX3_set 5 = .ok (.iconst 0, 1) := dk_3 (dk_at dksX3_set_0 5 rfl rfl)
theorem dX3_set_6 : decode cX3_set 6 = .ok (.sipush 999, 3) := dk_17 3 231 (dk_at dksX3_set_0 6 rfl rfl)
theorem dX3_set_9 : decode cX3_set 9 = .ok (.invokestatic 59, 3) := dk_184 0 59 (dk_at dksX3_set_0 9 rfl rfl)
theorem dX3_set_12 : decode cX3_set 12 = .ok (.goto 50, 3) := dk_167 0 50 (dk_at dksX3_set_0 12 rfl rfl)
theorem dX3_set_15 : decode cX3_set 15 = .ok (.iload_n 1, 1) := dk_27 (dk_at dksX3_set_0 15 rfl rfl)
theorem dX3_set_16 : decode cX3_set 16 = .ok (.iconst 1, 1) := dk_4 (dk_at dksX3_set_0 16 rfl rfl)
theorem dX3_set_17 : decode cX3_set 17 = .ok (.if_icmp .ne 13, 3) := dk_160 0 13 (dk_at dksX3_set_0 17 rfl rfl)
theorem dX3_set_20 : decode cX3_set 20 = .ok (.iload_n 3, 1) := dk_29 (dk_at dksX3_set_0 20 rfl rfl)
theorem dX3_set_21 : decode cX3_set 21 = .ok (.iconst 0, 1) := dk_3 (dk_at dksX3_set_0 21 rfl rfl)
theorem dX3_set_22 : decode cX3_set 22 = .ok (.bipush 9, 2) := dk_16 9 (dk_at dksX3_set_0 22 rfl rfl)
theorem dX3_set_24 : decode cX3_set 24 = .ok (.invokestatic 59, 3) := dk_184 0 59 (dk_at dksX3_set_1 0 rfl rfl)
theorem dX3_set_27 : decode cX3_set 27 = .ok (.goto 35, 3) := dk_167 0 35 (dk_at dksX3_set_1 3 rfl rfl)
theorem dX3_set_30 : decode cX3_set 30 = .ok (.iload_n 1, 1) := dk_27 (dk_at dksX3_set_1 6 rfl rfl)
theorem dX3_set_31 : decode cX3_set 31 = .ok (.iconst 2, 1) := dk_5 (dk_at dksX3_set_1 7 rfl rfl)
theorem dX3_set_32 : decode cX3_set 32 = .ok (.iconst 3, 1) := dk_6 (dk_at dksX3_set_1 8 rfl rfl)
theorem dX3_set_33 : decode cX3_set 33 = .ok (.invokestatic 59, 3) := dk_184 0 59 (dk_at dksX3_set_1 9 rfl rfl)
theorem dX3_set_36 : decode cX3_set 36 = .ok (.ifCond .eq 25, 3) := dk_153 0 25 (dk_at dksX3_set_1 12 rfl rfl)
theorem dX3_set_39 : decode cX3_set 39 = .ok (.aload_n 0, 1) := dk_42 (dk_at dksX3_set_1 15 rfl rfl)
theorem dX3_set_40 : decode cX3_set 40 = .ok (.iload_n 2, 1) := dk_28 (dk_at dksX3_set_1 16 rfl rfl)
theorem dX3_set_41 : decode cX3_set 41 = .ok (.invokevirtual 71, 3) := dk_182 0 71 (dk_at dksX3_set_1 17 rfl rfl)
theorem dX3_set_44 : decode cX3_set 44 = .ok (.ifCond .eq 17, 3) := dk_153 0 17 (dk_at dksX3_set_1 20 rfl rfl)
theorem dX3_set_47 : decode cX3_set 47 = .ok (.iload_n 3, 1) := dk_29 (dk_at dksX3_set_1 23 rfl rfl)
theorem dX3_set_48 : decode cX3_set 48 = .ok (.iconst 0, 1) := dk_3 (dk_at dksX3_set_2 0 rfl rfl)
theorem dX3_set_49 : decode cX3_set 49 = .ok (.bipush 9, 2) := dk_16 9 (dk_at dksX3_set_2 1 rfl rfl)
theorem dX3_set_51 : decode cX3_set 51 = .ok (.invokestatic 59, 3) := dk_184 0 59 (dk_at dksX3_set_2 3 rfl rfl)
theorem dX3_set_54 : decode cX3_set 54 = .ok (.ifCond .eq 7, 3) := dk_153 0 7 (dk_at dksX3_set_2 6 rfl rfl)
theorem dX3_set_57 : decode cX3_set 57 = .ok (.iconst 1, 1) := dk_4 (dk_at dksX3_set_2 9 rfl rfl)
theorem dX3_set_58 : decode cX3_set 58 = .ok (.goto 4, 3) := dk_167 0 4 (dk_at dksX3_set_2 10 rfl rfl)
theorem dX3_set_61 : decode cX3_set 61 = .ok (.iconst 0, 1) := dk_3 (dk_at dksX3_set_2 13 rfl rfl)
theorem dX3_set_62 : decode cX3_set 62 = .ok (.istore 4, 2) := dk_54 4 (dk_at dksX3_set_2 14 rfl rfl)
theorem dX3_set_64 : decode cX3_set 64 = .ok (.iload 4, 2) := dk_21 4 (dk_at dksX3_set_2 16 rfl rfl)
theorem dX3_set_66 : decode cX3_set 66 = .ok (.ifCond .ne 5, 3) := dk_154 0 5 (dk_at dksX3_set_2 18 rfl rfl)
theorem dX3_set_69 : decode cX3_set 69 = .ok (.iconst 0, 1) := dk_3 (dk_at dksX3_set_2 21 rfl rfl)
theorem dX3_set_70 : decode cX3_set 70 = .ok (.ireturn, 1) := dk_172 (dk_at dksX3_set_2 22 rfl rfl)
theorem dX3_set_71 : decode cX3_set 71 = .ok (.aload_n 0, 1) := dk_42 (dk_at dksX3_set_2 23 rfl rfl)
theorem dX3_set_72 : decode cX3_set 72 = .ok (.getfield 7, 3) := dk_180 0 7 (dk_at dksX3_set_3 0 rfl rfl)
theorem dX3_set_75 : decode cX3_set 75 = .ok (.iload_n 1, 1) := dk_27 (dk_at dksX3_set_3 3 rfl rfl)
theorem dX3_set_76 : decode cX3_set 76 = .ok (.ifCond .ne 7, 3) := dk_154 0 7 (dk_at dksX3_set_3 4 rfl rfl)
theorem dX3_set_79 : decode cX3_set 79 = .ok (.iconst 1, 1) := dk_4 (dk_at dksX3_set_3 7 rfl rfl)
theorem dX3_set_80 : decode cX3_set 80 = .ok (.goto 31, 3) := dk_167 0 31 (dk_at dksX3_set_3 8 rfl rfl)
theorem dX3_set_83 : decode cX3_set 83 = .ok (.iload_n 1, 1) := dk_27 (dk_at dksX3_set_3 11 rfl rfl)
theorem dX3_set_84 : decode cX3_set 84 = .ok (.iconst 1, 1) := dk_4 (dk_at dksX3_set_3 12 rfl rfl)
theorem dX3_set_85 : decode cX3_set 85 = .ok (.if_icmp .ne 9, 3) := dk_160 0 9 (dk_at dksX3_set_3 13 rfl rfl)
theorem dX3_set_88 : decode cX3_set 88 = .ok (.sipush 573, 3) := dk_17 2 61 (dk_at dksX3_set_3 16 rfl rfl)
theorem dX3_set_91 : decode cX3_set 91 = .ok (.goto 20, 3) := dk_167 0 20 (dk_at dksX3_set_3 19 rfl rfl)
theorem dX3_set_94 : decode cX3_set 94 = .ok (.iload_n 1, 1) := dk_27 (dk_at dksX3_set_3 22 rfl rfl)
theorem dX3_set_95 : decode cX3_set 95 = .ok (.iconst 2, 1) := dk_5 (dk_at dksX3_set_3 23 rfl rfl)
theorem dX3_set_96 : decode cX3_set 96 = .ok (.if_icmp .ne 11, 3) := dk_160 0 11 (dk_at dksX3_set_4 0 rfl rfl)
theorem dX3_set_99 : decode cX3_set 99 = .ok (.sipush 593, 3) := dk_17 2 81 (dk_at dksX3_set_4 3 rfl rfl)
theorem dX3_set_102 : decode cX3_set 102 = .ok (.iload_n 2, 1) := dk_28 (dk_at dksX3_set_4 6 rfl rfl)
theorem dX3_set_103 : decode cX3_set 103 = .ok (.iadd, 1) := dk_96 (dk_at dksX3_set_4 7 rfl rfl)
theorem dX3_set_104 : decode cX3_set 104 = .ok (.goto 7, 3) := dk_167 0 7 (dk_at dksX3_set_4 8 rfl rfl)
theorem dX3_set_107 : decode cX3_set 107 = .ok (.bipush 7, 2) := dk_16 7 (dk_at dksX3_set_4 11 rfl rfl)
theorem dX3_set_109 : decode cX3_set 109 = .ok (.iload_n 2, 1) := dk_28 (dk_at dksX3_set_4 13 rfl rfl)
theorem dX3_set_110 : decode cX3_set 110 = .ok (.iadd, 1) := dk_96 (dk_at dksX3_set_4 14 rfl rfl)
theorem dX3_set_111 : decode cX3_set 111 = .ok (.iload_n 3, 1) := dk_29 (dk_at dksX3_set_4 15 rfl rfl)
theorem dX3_set_112 : decode cX3_set 112 = .ok (.iastore, 1) := dk_79 (dk_at dksX3_set_4 16 rfl rfl)
theorem dX3_set_113 : decode cX3_set 113 = .ok (.aload_n 0, 1) := dk_42 (dk_at dksX3_set_4 17 rfl rfl)
theorem dX3_set_114 : decode cX3_set 114 = .ok (.invokevirtual 66, 3) := dk_182 0 66 (dk_at dksX3_set_4 18 rfl rfl)
theorem dX3_set_117 : decode cX3_set 117 = .ok (.iconst 1, 1) := dk_4 (dk_at dksX3_set_4 21 rfl rfl)
theorem dX3_set_118 : decode cX3_set 118 = .ok (.ireturn, 1) := dk_172 (dk_at dksX3_set_4 22 rfl rfl)
abbrev cX3_isWorm : ByteArray := prog_17_method_5_code
def yX3_isWorm : MethodName := ⟨RX3, "isWorm", "(I)Z"⟩
def dkwX3_isWorm_0 : List UInt8 := [27, 3, 42, 180, 0, 7, 17, 2, 59, 46, 4, 100, 184, 0, 59, 172]
abbrev dktX3_isWorm_0 : List UInt8 := dkwX3_isWorm_0 ++ []
theorem dksX3_isWorm_0 : cX3_isWorm.data.toList.drop 0 = dktX3_isWorm_0 := by decide +kernel
theorem dX3_isWorm_0 : decode cX3_isWorm 0 = .ok (.iload_n 1, 1) := dk_27 (dk_at dksX3_isWorm_0 0 rfl rfl)
theorem dX3_isWorm_1 : decode cX3_isWorm 1 = .ok (.iconst 0, 1) := dk_3 (dk_at dksX3_isWorm_0 1 rfl rfl)
theorem dX3_isWorm_2 : decode cX3_isWorm 2 = .ok (.aload_n 0, 1) := dk_42 (dk_at dksX3_isWorm_0 2 rfl rfl)
theorem dX3_isWorm_3 : decode cX3_isWorm 3 = .ok (.getfield 7, 3) := dk_180 0 7 (dk_at dksX3_isWorm_0 3 rfl rfl)
theorem dX3_isWorm_6 : decode cX3_isWorm 6 = .ok (.sipush 571, 3) := dk_17 2 59 (dk_at dksX3_isWorm_0 6 rfl rfl)
theorem dX3_isWorm_9 : decode cX3_isWorm 9 = .ok (.iaload, 1) := dk_46 (dk_at dksX3_isWorm_0 9 rfl rfl)
theorem dX3_isWorm_10 : decode cX3_isWorm 10 = .ok (.iconst 1, 1) := dk_4 (dk_at dksX3_isWorm_0 10 rfl rfl)
theorem dX3_isWorm_11 : decode cX3_isWorm 11 = .ok (.isub, 1) := dk_100 (dk_at dksX3_isWorm_0 11 rfl rfl)
theorem dX3_isWorm_12 : decode cX3_isWorm 12 = .ok (.invokestatic 59, 3) := dk_184 0 59 (dk_at dksX3_isWorm_0 12 rfl rfl)
theorem dX3_isWorm_15 : decode cX3_isWorm 15 = .ok (.ireturn, 1) := dk_172 (dk_at dksX3_isWorm_0 15 rfl rfl)
abbrev cX3_feed : ByteArray := prog_17_method_17_code
def yX3_feed : MethodName := ⟨RX3, "feed", "(IIIII)I"⟩
def dkwX3_feed_5 : List UInt8 := [180, 0, 75, 172]
abbrev dktX3_feed_5 : List UInt8 := dkwX3_feed_5 ++ []
def dkwX3_feed_4 : List UInt8 := [122, 17, 0, 255, 126, 79, 42, 89, 180, 0, 75, 4, 96, 181, 0, 75, 132, 6, 1, 167, 255, 162, 42]
abbrev dktX3_feed_4 : List UInt8 := dkwX3_feed_4 ++ dktX3_feed_5
def dkwX3_feed_3 : List UInt8 := [21, 5, 54, 7, 42, 180, 0, 31, 42, 180, 0, 75, 21, 7, 16, 24, 16, 8, 21, 6, 7, 112, 104, 100]
abbrev dktX3_feed_3 : List UInt8 := dkwX3_feed_3 ++ dktX3_feed_4
def dkwX3_feed_2 : List UInt8 := [21, 6, 16, 12, 162, 0, 7, 29, 167, 0, 17, 21, 6, 16, 16, 162, 0, 8, 21, 4, 167, 0, 5]
abbrev dktX3_feed_2 : List UInt8 := dkwX3_feed_2 ++ dktX3_feed_3
def dkwX3_feed_1 : List UInt8 := [162, 0, 93, 21, 6, 7, 162, 0, 7, 27, 167, 0, 39, 21, 6, 16, 8, 162, 0, 7, 28, 167, 0, 28]
abbrev dktX3_feed_1 : List UInt8 := dkwX3_feed_1 ++ dktX3_feed_2
def dkwX3_feed_0 : List UInt8 := [42, 180, 0, 75, 16, 20, 96, 17, 1, 144, 164, 0, 5, 2, 172, 3, 54, 6, 21, 6, 16, 20]
abbrev dktX3_feed_0 : List UInt8 := dkwX3_feed_0 ++ dktX3_feed_1
theorem dksX3_feed_0 : cX3_feed.data.toList.drop 0 = dktX3_feed_0 := by decide +kernel
theorem dksX3_feed_1 : cX3_feed.data.toList.drop 22 = dktX3_feed_1 := dk_seg dksX3_feed_0 22 rfl rfl
theorem dksX3_feed_2 : cX3_feed.data.toList.drop 46 = dktX3_feed_2 := dk_seg dksX3_feed_1 24 rfl rfl
theorem dksX3_feed_3 : cX3_feed.data.toList.drop 69 = dktX3_feed_3 := dk_seg dksX3_feed_2 23 rfl rfl
theorem dksX3_feed_4 : cX3_feed.data.toList.drop 93 = dktX3_feed_4 := dk_seg dksX3_feed_3 24 rfl rfl
theorem dksX3_feed_5 : cX3_feed.data.toList.drop 116 = dktX3_feed_5 := dk_seg dksX3_feed_4 23 rfl rfl
theorem dX3_feed_0 : decode cX3_feed 0 = .ok (.aload_n 0, 1) := dk_42 (dk_at dksX3_feed_0 0 rfl rfl)
theorem dX3_feed_1 : decode cX3_feed 1 = .ok (.getfield 75, 3) := dk_180 0 75 (dk_at dksX3_feed_0 1 rfl rfl)
theorem dX3_feed_4 : decode cX3_feed 4 = .ok (.bipush 20, 2) := dk_16 20 (dk_at dksX3_feed_0 4 rfl rfl)
theorem dX3_feed_6 : decode cX3_feed 6 = .ok (.iadd, 1) := dk_96 (dk_at dksX3_feed_0 6 rfl rfl)
theorem dX3_feed_7 : decode cX3_feed 7 = .ok (.sipush 400, 3) := dk_17 1 144 (dk_at dksX3_feed_0 7 rfl rfl)
theorem dX3_feed_10 : decode cX3_feed 10 = .ok (.if_icmp .le 5, 3) := dk_164 0 5 (dk_at dksX3_feed_0 10 rfl rfl)
theorem dX3_feed_13 : decode cX3_feed 13 = .ok (.iconst (-1), 1) := dk_2 (dk_at dksX3_feed_0 13 rfl rfl)
theorem dX3_feed_14 : decode cX3_feed 14 = .ok (.ireturn, 1) := dk_172 (dk_at dksX3_feed_0 14 rfl rfl)
theorem dX3_feed_15 : decode cX3_feed 15 = .ok (.iconst 0, 1) := dk_3 (dk_at dksX3_feed_0 15 rfl rfl)
theorem dX3_feed_16 : decode cX3_feed 16 = .ok (.istore 6, 2) := dk_54 6 (dk_at dksX3_feed_0 16 rfl rfl)
theorem dX3_feed_18 : decode cX3_feed 18 = .ok (.iload 6, 2) := dk_21 6 (dk_at dksX3_feed_0 18 rfl rfl)
theorem dX3_feed_20 : decode cX3_feed 20 = .ok (.bipush 20, 2) := dk_16 20 (dk_at dksX3_feed_0 20 rfl rfl)
theorem dX3_feed_22 : decode cX3_feed 22 = .ok (.if_icmp .ge 93, 3) := dk_162 0 93 (dk_at dksX3_feed_1 0 rfl rfl)
theorem dX3_feed_25 : decode cX3_feed 25 = .ok (.iload 6, 2) := dk_21 6 (dk_at dksX3_feed_1 3 rfl rfl)
theorem dX3_feed_27 : decode cX3_feed 27 = .ok (.iconst 4, 1) := dk_7 (dk_at dksX3_feed_1 5 rfl rfl)
theorem dX3_feed_28 : decode cX3_feed 28 = .ok (.if_icmp .ge 7, 3) := dk_162 0 7 (dk_at dksX3_feed_1 6 rfl rfl)
theorem dX3_feed_31 : decode cX3_feed 31 = .ok (.iload_n 1, 1) := dk_27 (dk_at dksX3_feed_1 9 rfl rfl)
theorem dX3_feed_32 : decode cX3_feed 32 = .ok (.goto 39, 3) := dk_167 0 39 (dk_at dksX3_feed_1 10 rfl rfl)
theorem dX3_feed_35 : decode cX3_feed 35 = .ok (.iload 6, 2) := dk_21 6 (dk_at dksX3_feed_1 13 rfl rfl)
theorem dX3_feed_37 : decode cX3_feed 37 = .ok (.bipush 8, 2) := dk_16 8 (dk_at dksX3_feed_1 15 rfl rfl)
theorem dX3_feed_39 : decode cX3_feed 39 = .ok (.if_icmp .ge 7, 3) := dk_162 0 7 (dk_at dksX3_feed_1 17 rfl rfl)
theorem dX3_feed_42 : decode cX3_feed 42 = .ok (.iload_n 2, 1) := dk_28 (dk_at dksX3_feed_1 20 rfl rfl)
theorem dX3_feed_43 : decode cX3_feed 43 = .ok (.goto 28, 3) := dk_167 0 28 (dk_at dksX3_feed_1 21 rfl rfl)
theorem dX3_feed_46 : decode cX3_feed 46 = .ok (.iload 6, 2) := dk_21 6 (dk_at dksX3_feed_2 0 rfl rfl)
theorem dX3_feed_48 : decode cX3_feed 48 = .ok (.bipush 12, 2) := dk_16 12 (dk_at dksX3_feed_2 2 rfl rfl)
theorem dX3_feed_50 : decode cX3_feed 50 = .ok (.if_icmp .ge 7, 3) := dk_162 0 7 (dk_at dksX3_feed_2 4 rfl rfl)
theorem dX3_feed_53 : decode cX3_feed 53 = .ok (.iload_n 3, 1) := dk_29 (dk_at dksX3_feed_2 7 rfl rfl)
theorem dX3_feed_54 : decode cX3_feed 54 = .ok (.goto 17, 3) := dk_167 0 17 (dk_at dksX3_feed_2 8 rfl rfl)
theorem dX3_feed_57 : decode cX3_feed 57 = .ok (.iload 6, 2) := dk_21 6 (dk_at dksX3_feed_2 11 rfl rfl)
theorem dX3_feed_59 : decode cX3_feed 59 = .ok (.bipush 16, 2) := dk_16 16 (dk_at dksX3_feed_2 13 rfl rfl)
theorem dX3_feed_61 : decode cX3_feed 61 = .ok (.if_icmp .ge 8, 3) := dk_162 0 8 (dk_at dksX3_feed_2 15 rfl rfl)
theorem dX3_feed_64 : decode cX3_feed 64 = .ok (.iload 4, 2) := dk_21 4 (dk_at dksX3_feed_2 18 rfl rfl)
theorem dX3_feed_66 : decode cX3_feed 66 = .ok (.goto 5, 3) := dk_167 0 5 (dk_at dksX3_feed_2 20 rfl rfl)
theorem dX3_feed_69 : decode cX3_feed 69 = .ok (.iload 5, 2) := dk_21 5 (dk_at dksX3_feed_3 0 rfl rfl)
theorem dX3_feed_71 : decode cX3_feed 71 = .ok (.istore 7, 2) := dk_54 7 (dk_at dksX3_feed_3 2 rfl rfl)
theorem dX3_feed_73 : decode cX3_feed 73 = .ok (.aload_n 0, 1) := dk_42 (dk_at dksX3_feed_3 4 rfl rfl)
theorem dX3_feed_74 : decode cX3_feed 74 = .ok (.getfield 31, 3) := dk_180 0 31 (dk_at dksX3_feed_3 5 rfl rfl)
theorem dX3_feed_77 : decode cX3_feed 77 = .ok (.aload_n 0, 1) := dk_42 (dk_at dksX3_feed_3 8 rfl rfl)
theorem dX3_feed_78 : decode cX3_feed 78 = .ok (.getfield 75, 3) := dk_180 0 75 (dk_at dksX3_feed_3 9 rfl rfl)
theorem dX3_feed_81 : decode cX3_feed 81 = .ok (.iload 7, 2) := dk_21 7 (dk_at dksX3_feed_3 12 rfl rfl)
theorem dX3_feed_83 : decode cX3_feed 83 = .ok (.bipush 24, 2) := dk_16 24 (dk_at dksX3_feed_3 14 rfl rfl)
theorem dX3_feed_85 : decode cX3_feed 85 = .ok (.bipush 8, 2) := dk_16 8 (dk_at dksX3_feed_3 16 rfl rfl)
theorem dX3_feed_87 : decode cX3_feed 87 = .ok (.iload 6, 2) := dk_21 6 (dk_at dksX3_feed_3 18 rfl rfl)
theorem dX3_feed_89 : decode cX3_feed 89 = .ok (.iconst 4, 1) := dk_7 (dk_at dksX3_feed_3 20 rfl rfl)
theorem dX3_feed_90 : decode cX3_feed 90 = .ok (.irem, 1) := dk_112 (dk_at dksX3_feed_3 21 rfl rfl)
theorem dX3_feed_91 : decode cX3_feed 91 = .ok (.imul, 1) := dk_104 (dk_at dksX3_feed_3 22 rfl rfl)
theorem dX3_feed_92 : decode cX3_feed 92 = .ok (.isub, 1) := dk_100 (dk_at dksX3_feed_3 23 rfl rfl)
theorem dX3_feed_93 : decode cX3_feed 93 = .ok (.ishr, 1) := dk_122 (dk_at dksX3_feed_4 0 rfl rfl)
theorem dX3_feed_94 : decode cX3_feed 94 = .ok (.sipush 255, 3) := dk_17 0 255 (dk_at dksX3_feed_4 1 rfl rfl)
theorem dX3_feed_97 : decode cX3_feed 97 = .ok (.iand, 1) := dk_126 (dk_at dksX3_feed_4 4 rfl rfl)
theorem dX3_feed_98 : decode cX3_feed 98 = .ok (.iastore, 1) := dk_79 (dk_at dksX3_feed_4 5 rfl rfl)
theorem dX3_feed_99 : decode cX3_feed 99 = .ok (.aload_n 0, 1) := dk_42 (dk_at dksX3_feed_4 6 rfl rfl)
theorem dX3_feed_100 : decode cX3_feed 100 = .ok (.dup, 1) := dk_89 (dk_at dksX3_feed_4 7 rfl rfl)
theorem dX3_feed_101 : decode cX3_feed 101 = .ok (.getfield 75, 3) := dk_180 0 75 (dk_at dksX3_feed_4 8 rfl rfl)
theorem dX3_feed_104 : decode cX3_feed 104 = .ok (.iconst 1, 1) := dk_4 (dk_at dksX3_feed_4 11 rfl rfl)
theorem dX3_feed_105 : decode cX3_feed 105 = .ok (.iadd, 1) := dk_96 (dk_at dksX3_feed_4 12 rfl rfl)
theorem dX3_feed_106 : decode cX3_feed 106 = .ok (.putfield 75, 3) := dk_181 0 75 (dk_at dksX3_feed_4 13 rfl rfl)
theorem dX3_feed_109 : decode cX3_feed 109 = .ok (.iinc 6 1, 3) := dk_132 6 1 (dk_at dksX3_feed_4 16 rfl rfl)
theorem dX3_feed_112 : decode cX3_feed 112 = .ok (.goto (-94), 3) := dk_167 255 162 (dk_at dksX3_feed_4 19 rfl rfl)
theorem dX3_feed_115 : decode cX3_feed 115 = .ok (.aload_n 0, 1) := dk_42 (dk_at dksX3_feed_4 22 rfl rfl)
theorem dX3_feed_116 : decode cX3_feed 116 = .ok (.getfield 75, 3) := dk_180 0 75 (dk_at dksX3_feed_5 0 rfl rfl)
theorem dX3_feed_119 : decode cX3_feed 119 = .ok (.ireturn, 1) := dk_172 (dk_at dksX3_feed_5 3 rfl rfl)
abbrev cX3_end : ByteArray := prog_17_method_18_code
def yX3_end : MethodName := ⟨RX3, "end", "(I)Z"⟩
def dkwX3_end_0 : List UInt8 := [27, 3, 42, 180, 0, 75, 184, 0, 59, 154, 0, 5, 3, 172, 42, 27, 181, 0, 75, 4, 172]
abbrev dktX3_end_0 : List UInt8 := dkwX3_end_0 ++ []
theorem dksX3_end_0 : cX3_end.data.toList.drop 0 = dktX3_end_0 := by decide +kernel
theorem dX3_end_0 : decode cX3_end 0 = .ok (.iload_n 1, 1) := dk_27 (dk_at dksX3_end_0 0 rfl rfl)
theorem dX3_end_1 : decode cX3_end 1 = .ok (.iconst 0, 1) := dk_3 (dk_at dksX3_end_0 1 rfl rfl)
theorem dX3_end_2 : decode cX3_end 2 = .ok (.aload_n 0, 1) := dk_42 (dk_at dksX3_end_0 2 rfl rfl)
theorem dX3_end_3 : decode cX3_end 3 = .ok (.getfield 75, 3) := dk_180 0 75 (dk_at dksX3_end_0 3 rfl rfl)
theorem dX3_end_6 : decode cX3_end 6 = .ok (.invokestatic 59, 3) := dk_184 0 59 (dk_at dksX3_end_0 6 rfl rfl)
theorem dX3_end_9 : decode cX3_end 9 = .ok (.ifCond .ne 5, 3) := dk_154 0 5 (dk_at dksX3_end_0 9 rfl rfl)
theorem dX3_end_12 : decode cX3_end 12 = .ok (.iconst 0, 1) := dk_3 (dk_at dksX3_end_0 12 rfl rfl)
theorem dX3_end_13 : decode cX3_end 13 = .ok (.ireturn, 1) := dk_172 (dk_at dksX3_end_0 13 rfl rfl)
theorem dX3_end_14 : decode cX3_end 14 = .ok (.aload_n 0, 1) := dk_42 (dk_at dksX3_end_0 14 rfl rfl)
theorem dX3_end_15 : decode cX3_end 15 = .ok (.iload_n 1, 1) := dk_27 (dk_at dksX3_end_0 15 rfl rfl)
theorem dX3_end_16 : decode cX3_end 16 = .ok (.putfield 75, 3) := dk_181 0 75 (dk_at dksX3_end_0 16 rfl rfl)
theorem dX3_end_19 : decode cX3_end 19 = .ok (.iconst 1, 1) := dk_4 (dk_at dksX3_end_0 19 rfl rfl)
theorem dX3_end_20 : decode cX3_end 20 = .ok (.ireturn, 1) := dk_172 (dk_at dksX3_end_0 20 rfl rfl)
abbrev cX3_text : ByteArray := prog_17_method_50_code
def yX3_text : MethodName := ⟨RX3, "text", "(I)I"⟩
def dkwX3_text_3 : List UInt8 := [42, 27, 182, 1, 24, 172, 42, 42, 180, 0, 176, 181, 1, 15, 42, 42, 180, 0, 179, 181, 0, 40, 2, 172]
abbrev dktX3_text_3 : List UInt8 := dkwX3_text_3 ++ []
def dkwX3_text_2 : List UInt8 := [160, 0, 10, 42, 182, 1, 18, 167, 0, 7, 42, 182, 1, 21, 61, 42, 3, 181, 0, 75, 28, 153, 0, 9]
abbrev dktX3_text_2 : List UInt8 := dkwX3_text_2 ++ dktX3_text_3
def dkwX3_text_1 : List UInt8 := [2, 172, 42, 3, 181, 0, 176, 42, 3, 181, 0, 78, 42, 27, 181, 0, 135, 42, 182, 0, 185, 27, 4]
abbrev dktX3_text_1 : List UInt8 := dkwX3_text_1 ++ dktX3_text_2
def dkwX3_text_0 : List UInt8 := [42, 3, 181, 1, 15, 42, 2, 181, 0, 40, 27, 3, 6, 184, 0, 59, 154, 0, 10, 42, 3, 181, 0, 75]
abbrev dktX3_text_0 : List UInt8 := dkwX3_text_0 ++ dktX3_text_1
theorem dksX3_text_0 : cX3_text.data.toList.drop 0 = dktX3_text_0 := by decide +kernel
theorem dksX3_text_1 : cX3_text.data.toList.drop 24 = dktX3_text_1 := dk_seg dksX3_text_0 24 rfl rfl
theorem dksX3_text_2 : cX3_text.data.toList.drop 47 = dktX3_text_2 := dk_seg dksX3_text_1 23 rfl rfl
theorem dksX3_text_3 : cX3_text.data.toList.drop 71 = dktX3_text_3 := dk_seg dksX3_text_2 24 rfl rfl
theorem dX3_text_0 : decode cX3_text 0 = .ok (.aload_n 0, 1) := dk_42 (dk_at dksX3_text_0 0 rfl rfl)
theorem dX3_text_1 : decode cX3_text 1 = .ok (.iconst 0, 1) := dk_3 (dk_at dksX3_text_0 1 rfl rfl)
theorem dX3_text_2 : decode cX3_text 2 = .ok (.putfield 271, 3) := dk_181 1 15 (dk_at dksX3_text_0 2 rfl rfl)
theorem dX3_text_5 : decode cX3_text 5 = .ok (.aload_n 0, 1) := dk_42 (dk_at dksX3_text_0 5 rfl rfl)
theorem dX3_text_6 : decode cX3_text 6 = .ok (.iconst (-1), 1) := dk_2 (dk_at dksX3_text_0 6 rfl rfl)
theorem dX3_text_7 : decode cX3_text 7 = .ok (.putfield 40, 3) := dk_181 0 40 (dk_at dksX3_text_0 7 rfl rfl)
theorem dX3_text_10 : decode cX3_text 10 = .ok (.iload_n 1, 1) := dk_27 (dk_at dksX3_text_0 10 rfl rfl)
theorem dX3_text_11 : decode cX3_text 11 = .ok (.iconst 0, 1) := dk_3 (dk_at dksX3_text_0 11 rfl rfl)
theorem dX3_text_12 : decode cX3_text 12 = .ok (.iconst 3, 1) := dk_6 (dk_at dksX3_text_0 12 rfl rfl)
theorem dX3_text_13 : decode cX3_text 13 = .ok (.invokestatic 59, 3) := dk_184 0 59 (dk_at dksX3_text_0 13 rfl rfl)
theorem dX3_text_16 : decode cX3_text 16 = .ok (.ifCond .ne 10, 3) := dk_154 0 10 (dk_at dksX3_text_0 16 rfl rfl)
theorem dX3_text_19 : decode cX3_text 19 = .ok (.aload_n 0, 1) := dk_42 (dk_at dksX3_text_0 19 rfl rfl)
theorem dX3_text_20 : decode cX3_text 20 = .ok (.iconst 0, 1) := dk_3 (dk_at dksX3_text_0 20 rfl rfl)
theorem dX3_text_21 : decode cX3_text 21 = .ok (.putfield 75, 3) := dk_181 0 75 (dk_at dksX3_text_0 21 rfl rfl)
theorem dX3_text_24 : decode cX3_text 24 = .ok (.iconst (-1), 1) := dk_2 (dk_at dksX3_text_1 0 rfl rfl)
theorem dX3_text_25 : decode cX3_text 25 = .ok (.ireturn, 1) := dk_172 (dk_at dksX3_text_1 1 rfl rfl)
theorem dX3_text_26 : decode cX3_text 26 = .ok (.aload_n 0, 1) := dk_42 (dk_at dksX3_text_1 2 rfl rfl)
theorem dX3_text_27 : decode cX3_text 27 = .ok (.iconst 0, 1) := dk_3 (dk_at dksX3_text_1 3 rfl rfl)
theorem dX3_text_28 : decode cX3_text 28 = .ok (.putfield 176, 3) := dk_181 0 176 (dk_at dksX3_text_1 4 rfl rfl)
theorem dX3_text_31 : decode cX3_text 31 = .ok (.aload_n 0, 1) := dk_42 (dk_at dksX3_text_1 7 rfl rfl)
theorem dX3_text_32 : decode cX3_text 32 = .ok (.iconst 0, 1) := dk_3 (dk_at dksX3_text_1 8 rfl rfl)
theorem dX3_text_33 : decode cX3_text 33 = .ok (.putfield 78, 3) := dk_181 0 78 (dk_at dksX3_text_1 9 rfl rfl)
theorem dX3_text_36 : decode cX3_text 36 = .ok (.aload_n 0, 1) := dk_42 (dk_at dksX3_text_1 12 rfl rfl)
theorem dX3_text_37 : decode cX3_text 37 = .ok (.iload_n 1, 1) := dk_27 (dk_at dksX3_text_1 13 rfl rfl)
theorem dX3_text_38 : decode cX3_text 38 = .ok (.putfield 135, 3) := dk_181 0 135 (dk_at dksX3_text_1 14 rfl rfl)
theorem dX3_text_41 : decode cX3_text 41 = .ok (.aload_n 0, 1) := dk_42 (dk_at dksX3_text_1 17 rfl rfl)
theorem dX3_text_42 : decode cX3_text 42 = .ok (.invokevirtual 185, 3) := dk_182 0 185 (dk_at dksX3_text_1 18 rfl rfl)
theorem dX3_text_45 : decode cX3_text 45 = .ok (.iload_n 1, 1) := dk_27 (dk_at dksX3_text_1 21 rfl rfl)
theorem dX3_text_46 : decode cX3_text 46 = .ok (.iconst 1, 1) := dk_4 (dk_at dksX3_text_1 22 rfl rfl)
theorem dX3_text_47 : decode cX3_text 47 = .ok (.if_icmp .ne 10, 3) := dk_160 0 10 (dk_at dksX3_text_2 0 rfl rfl)
theorem dX3_text_50 : decode cX3_text 50 = .ok (.aload_n 0, 1) := dk_42 (dk_at dksX3_text_2 3 rfl rfl)
theorem dX3_text_51 : decode cX3_text 51 = .ok (.invokevirtual 274, 3) := dk_182 1 18 (dk_at dksX3_text_2 4 rfl rfl)
theorem dX3_text_54 : decode cX3_text 54 = .ok (.goto 7, 3) := dk_167 0 7 (dk_at dksX3_text_2 7 rfl rfl)
theorem dX3_text_57 : decode cX3_text 57 = .ok (.aload_n 0, 1) := dk_42 (dk_at dksX3_text_2 10 rfl rfl)
theorem dX3_text_58 : decode cX3_text 58 = .ok (.invokevirtual 277, 3) := dk_182 1 21 (dk_at dksX3_text_2 11 rfl rfl)
theorem dX3_text_61 : decode cX3_text 61 = .ok (.istore_n 2, 1) := dk_61 (dk_at dksX3_text_2 14 rfl rfl)
theorem dX3_text_62 : decode cX3_text 62 = .ok (.aload_n 0, 1) := dk_42 (dk_at dksX3_text_2 15 rfl rfl)
theorem dX3_text_63 : decode cX3_text 63 = .ok (.iconst 0, 1) := dk_3 (dk_at dksX3_text_2 16 rfl rfl)
theorem dX3_text_64 : decode cX3_text 64 = .ok (.putfield 75, 3) := dk_181 0 75 (dk_at dksX3_text_2 17 rfl rfl)
theorem dX3_text_67 : decode cX3_text 67 = .ok (.iload_n 2, 1) := dk_28 (dk_at dksX3_text_2 20 rfl rfl)
theorem dX3_text_68 : decode cX3_text 68 = .ok (.ifCond .eq 9, 3) := dk_153 0 9 (dk_at dksX3_text_2 21 rfl rfl)
theorem dX3_text_71 : decode cX3_text 71 = .ok (.aload_n 0, 1) := dk_42 (dk_at dksX3_text_3 0 rfl rfl)
theorem dX3_text_72 : decode cX3_text 72 = .ok (.iload_n 1, 1) := dk_27 (dk_at dksX3_text_3 1 rfl rfl)
theorem dX3_text_73 : decode cX3_text 73 = .ok (.invokevirtual 280, 3) := dk_182 1 24 (dk_at dksX3_text_3 2 rfl rfl)
theorem dX3_text_76 : decode cX3_text 76 = .ok (.ireturn, 1) := dk_172 (dk_at dksX3_text_3 5 rfl rfl)
theorem dX3_text_77 : decode cX3_text 77 = .ok (.aload_n 0, 1) := dk_42 (dk_at dksX3_text_3 6 rfl rfl)
theorem dX3_text_78 : decode cX3_text 78 = .ok (.aload_n 0, 1) := dk_42 (dk_at dksX3_text_3 7 rfl rfl)
theorem dX3_text_79 : decode cX3_text 79 = .ok (.getfield 176, 3) := dk_180 0 176 (dk_at dksX3_text_3 8 rfl rfl)
theorem dX3_text_82 : decode cX3_text 82 = .ok (.putfield 271, 3) := dk_181 1 15 (dk_at dksX3_text_3 11 rfl rfl)
theorem dX3_text_85 : decode cX3_text 85 = .ok (.aload_n 0, 1) := dk_42 (dk_at dksX3_text_3 14 rfl rfl)
theorem dX3_text_86 : decode cX3_text 86 = .ok (.aload_n 0, 1) := dk_42 (dk_at dksX3_text_3 15 rfl rfl)
theorem dX3_text_87 : decode cX3_text 87 = .ok (.getfield 179, 3) := dk_180 0 179 (dk_at dksX3_text_3 16 rfl rfl)
theorem dX3_text_90 : decode cX3_text 90 = .ok (.putfield 40, 3) := dk_181 0 40 (dk_at dksX3_text_3 19 rfl rfl)
theorem dX3_text_93 : decode cX3_text 93 = .ok (.iconst (-1), 1) := dk_2 (dk_at dksX3_text_3 22 rfl rfl)
theorem dX3_text_94 : decode cX3_text 94 = .ok (.ireturn, 1) := dk_172 (dk_at dksX3_text_3 23 rfl rfl)
abbrev cX3_next0 : ByteArray := prog_17_method_26_code
def yX3_next0 : MethodName := ⟨RX3, "next0", "()V"⟩
def dkwX3_next0_13 : List UInt8 := [181, 0, 161, 177]
abbrev dktX3_next0_13 : List UInt8 := dkwX3_next0_13 ++ []
def dkwX3_next0_12 : List UInt8 := [16, 62, 160, 0, 7, 4, 167, 0, 4, 3, 61, 42, 28, 153, 0, 10, 16, 100, 27, 96, 167, 0, 4, 4]
abbrev dktX3_next0_12 : List UInt8 := dkwX3_next0_12 ++ dktX3_next0_13
def dkwX3_next0_11 : List UInt8 := [16, 40, 159, 0, 27, 27, 16, 41, 159, 0, 21, 27, 16, 60, 159, 0, 15, 27, 16, 61, 159, 0, 9, 27]
abbrev dktX3_next0_11 : List UInt8 := dkwX3_next0_11 ++ dktX3_next0_12
def dkwX3_next0_10 : List UInt8 := [16, 43, 159, 0, 51, 27, 16, 45, 159, 0, 45, 27, 16, 42, 159, 0, 39, 27, 16, 47, 159, 0, 33, 27]
abbrev dktX3_next0_10 : List UInt8 := dkwX3_next0_10 ++ dktX3_next0_11
def dkwX3_next0_9 : List UInt8 := [4, 181, 0, 161, 167, 0, 95, 42, 89, 180, 0, 78, 4, 96, 181, 0, 78, 27, 16, 59, 159, 0, 57, 27]
abbrev dktX3_next0_9 : List UInt8 := dkwX3_next0_9 ++ dktX3_next0_10
def dkwX3_next0_8 : List UInt8 := [181, 0, 78, 167, 255, 196, 42, 42, 180, 0, 78, 42, 180, 0, 81, 100, 8, 162, 0, 7, 5, 167, 0, 4]
abbrev dktX3_next0_8 : List UInt8 := dkwX3_next0_8 ++ dktX3_next0_9
def dkwX3_next0_7 : List UInt8 := [42, 42, 180, 0, 78, 182, 0, 157, 96, 16, 48, 100, 181, 0, 173, 42, 89, 180, 0, 78, 4, 96]
abbrev dktX3_next0_7 : List UInt8 := dkwX3_next0_7 ++ dktX3_next0_8
def dkwX3_next0_6 : List UInt8 := [153, 0, 52, 42, 180, 0, 78, 42, 180, 0, 81, 7, 96, 162, 0, 26, 42, 16, 10, 42, 180, 0, 173, 104]
abbrev dktX3_next0_6 : List UInt8 := dkwX3_next0_6 ++ dktX3_next0_7
def dkwX3_next0_5 : List UInt8 := [184, 0, 170, 153, 0, 96, 42, 3, 181, 0, 173, 42, 42, 180, 0, 78, 182, 0, 157, 184, 0, 170]
abbrev dktX3_next0_5 : List UInt8 := dkwX3_next0_5 ++ dktX3_next0_6
def dkwX3_next0_4 : List UInt8 := [180, 0, 78, 4, 96, 181, 0, 78, 167, 255, 232, 42, 42, 182, 0, 167, 181, 0, 161, 167, 0, 195, 27]
abbrev dktX3_next0_4 : List UInt8 := dkwX3_next0_4 ++ dktX3_next0_5
def dkwX3_next0_3 : List UInt8 := [184, 0, 164, 153, 0, 41, 42, 42, 180, 0, 78, 182, 0, 157, 184, 0, 164, 153, 0, 16, 42, 89]
abbrev dktX3_next0_3 : List UInt8 := dkwX3_next0_3 ++ dktX3_next0_4
def dkwX3_next0_2 : List UInt8 := [42, 42, 180, 0, 78, 182, 0, 157, 60, 27, 2, 160, 0, 11, 42, 3, 181, 0, 161, 167, 0, 240, 27]
abbrev dktX3_next0_2 : List UInt8 := dkwX3_next0_2 ++ dktX3_next0_3
def dkwX3_next0_1 : List UInt8 := [160, 0, 16, 42, 89, 180, 0, 78, 4, 96, 181, 0, 78, 167, 255, 220, 42, 42, 180, 0, 78, 181, 0, 81]
abbrev dktX3_next0_1 : List UInt8 := dkwX3_next0_1 ++ dktX3_next0_2
def dkwX3_next0_0 : List UInt8 := [42, 42, 180, 0, 78, 182, 0, 157, 16, 32, 159, 0, 16, 42, 42, 180, 0, 78, 182, 0, 157, 16, 10]
abbrev dktX3_next0_0 : List UInt8 := dkwX3_next0_0 ++ dktX3_next0_1
theorem dksX3_next0_0 : cX3_next0.data.toList.drop 0 = dktX3_next0_0 := by decide +kernel
theorem dksX3_next0_1 : cX3_next0.data.toList.drop 23 = dktX3_next0_1 := dk_seg dksX3_next0_0 23 rfl rfl
theorem dksX3_next0_2 : cX3_next0.data.toList.drop 47 = dktX3_next0_2 := dk_seg dksX3_next0_1 24 rfl rfl
theorem dksX3_next0_3 : cX3_next0.data.toList.drop 70 = dktX3_next0_3 := dk_seg dksX3_next0_2 23 rfl rfl
theorem dksX3_next0_4 : cX3_next0.data.toList.drop 92 = dktX3_next0_4 := dk_seg dksX3_next0_3 22 rfl rfl
theorem dksX3_next0_5 : cX3_next0.data.toList.drop 115 = dktX3_next0_5 := dk_seg dksX3_next0_4 23 rfl rfl
theorem dksX3_next0_6 : cX3_next0.data.toList.drop 137 = dktX3_next0_6 := dk_seg dksX3_next0_5 22 rfl rfl
theorem dksX3_next0_7 : cX3_next0.data.toList.drop 161 = dktX3_next0_7 := dk_seg dksX3_next0_6 24 rfl rfl
theorem dksX3_next0_8 : cX3_next0.data.toList.drop 183 = dktX3_next0_8 := dk_seg dksX3_next0_7 22 rfl rfl
theorem dksX3_next0_9 : cX3_next0.data.toList.drop 207 = dktX3_next0_9 := dk_seg dksX3_next0_8 24 rfl rfl
theorem dksX3_next0_10 : cX3_next0.data.toList.drop 231 = dktX3_next0_10 := dk_seg dksX3_next0_9 24 rfl rfl
theorem dksX3_next0_11 : cX3_next0.data.toList.drop 255 = dktX3_next0_11 := dk_seg dksX3_next0_10 24 rfl rfl
theorem dksX3_next0_12 : cX3_next0.data.toList.drop 279 = dktX3_next0_12 := dk_seg dksX3_next0_11 24 rfl rfl
theorem dksX3_next0_13 : cX3_next0.data.toList.drop 303 = dktX3_next0_13 := dk_seg dksX3_next0_12 24 rfl rfl
theorem dX3_next0_0 : decode cX3_next0 0 = .ok (.aload_n 0, 1) := dk_42 (dk_at dksX3_next0_0 0 rfl rfl)
theorem dX3_next0_1 : decode cX3_next0 1 = .ok (.aload_n 0, 1) := dk_42 (dk_at dksX3_next0_0 1 rfl rfl)
theorem dX3_next0_2 : decode cX3_next0 2 = .ok (.getfield 78, 3) := dk_180 0 78 (dk_at dksX3_next0_0 2 rfl rfl)
theorem dX3_next0_5 : decode cX3_next0 5 = .ok (.invokevirtual 157, 3) := dk_182 0 157 (dk_at dksX3_next0_0 5 rfl rfl)
theorem dX3_next0_8 : decode cX3_next0 8 = .ok (.bipush 32, 2) := dk_16 32 (dk_at dksX3_next0_0 8 rfl rfl)
theorem dX3_next0_10 : decode cX3_next0 10 = .ok (.if_icmp .eq 16, 3) := dk_159 0 16 (dk_at dksX3_next0_0 10 rfl rfl)
theorem dX3_next0_13 : decode cX3_next0 13 = .ok (.aload_n 0, 1) := dk_42 (dk_at dksX3_next0_0 13 rfl rfl)
theorem dX3_next0_14 : decode cX3_next0 14 = .ok (.aload_n 0, 1) := dk_42 (dk_at dksX3_next0_0 14 rfl rfl)
theorem dX3_next0_15 : decode cX3_next0 15 = .ok (.getfield 78, 3) := dk_180 0 78 (dk_at dksX3_next0_0 15 rfl rfl)
theorem dX3_next0_18 : decode cX3_next0 18 = .ok (.invokevirtual 157, 3) := dk_182 0 157 (dk_at dksX3_next0_0 18 rfl rfl)
theorem dX3_next0_21 : decode cX3_next0 21 = .ok (.bipush 10, 2) := dk_16 10 (dk_at dksX3_next0_0 21 rfl rfl)
theorem dX3_next0_23 : decode cX3_next0 23 = .ok (.if_icmp .ne 16, 3) := dk_160 0 16 (dk_at dksX3_next0_1 0 rfl rfl)
theorem dX3_next0_26 : decode cX3_next0 26 = .ok (.aload_n 0, 1) := dk_42 (dk_at dksX3_next0_1 3 rfl rfl)
theorem dX3_next0_27 : decode cX3_next0 27 = .ok (.dup, 1) := dk_89 (dk_at dksX3_next0_1 4 rfl rfl)
theorem dX3_next0_28 : decode cX3_next0 28 = .ok (.getfield 78, 3) := dk_180 0 78 (dk_at dksX3_next0_1 5 rfl rfl)
theorem dX3_next0_31 : decode cX3_next0 31 = .ok (.iconst 1, 1) := dk_4 (dk_at dksX3_next0_1 8 rfl rfl)
theorem dX3_next0_32 : decode cX3_next0 32 = .ok (.iadd, 1) := dk_96 (dk_at dksX3_next0_1 9 rfl rfl)
theorem dX3_next0_33 : decode cX3_next0 33 = .ok (.putfield 78, 3) := dk_181 0 78 (dk_at dksX3_next0_1 10 rfl rfl)
theorem dX3_next0_36 : decode cX3_next0 36 = .ok (.goto (-36), 3) := dk_167 255 220 (dk_at dksX3_next0_1 13 rfl rfl)
theorem dX3_next0_39 : decode cX3_next0 39 = .ok (.aload_n 0, 1) := dk_42 (dk_at dksX3_next0_1 16 rfl rfl)
theorem dX3_next0_40 : decode cX3_next0 40 = .ok (.aload_n 0, 1) := dk_42 (dk_at dksX3_next0_1 17 rfl rfl)
theorem dX3_next0_41 : decode cX3_next0 41 = .ok (.getfield 78, 3) := dk_180 0 78 (dk_at dksX3_next0_1 18 rfl rfl)
theorem dX3_next0_44 : decode cX3_next0 44 = .ok (.putfield 81, 3) := dk_181 0 81 (dk_at dksX3_next0_1 21 rfl rfl)
theorem dX3_next0_47 : decode cX3_next0 47 = .ok (.aload_n 0, 1) := dk_42 (dk_at dksX3_next0_2 0 rfl rfl)
theorem dX3_next0_48 : decode cX3_next0 48 = .ok (.aload_n 0, 1) := dk_42 (dk_at dksX3_next0_2 1 rfl rfl)
theorem dX3_next0_49 : decode cX3_next0 49 = .ok (.getfield 78, 3) := dk_180 0 78 (dk_at dksX3_next0_2 2 rfl rfl)
theorem dX3_next0_52 : decode cX3_next0 52 = .ok (.invokevirtual 157, 3) := dk_182 0 157 (dk_at dksX3_next0_2 5 rfl rfl)
theorem dX3_next0_55 : decode cX3_next0 55 = .ok (.istore_n 1, 1) := dk_60 (dk_at dksX3_next0_2 8 rfl rfl)
theorem dX3_next0_56 : decode cX3_next0 56 = .ok (.iload_n 1, 1) := dk_27 (dk_at dksX3_next0_2 9 rfl rfl)
theorem dX3_next0_57 : decode cX3_next0 57 = .ok (.iconst (-1), 1) := dk_2 (dk_at dksX3_next0_2 10 rfl rfl)
theorem dX3_next0_58 : decode cX3_next0 58 = .ok (.if_icmp .ne 11, 3) := dk_160 0 11 (dk_at dksX3_next0_2 11 rfl rfl)
theorem dX3_next0_61 : decode cX3_next0 61 = .ok (.aload_n 0, 1) := dk_42 (dk_at dksX3_next0_2 14 rfl rfl)
theorem dX3_next0_62 : decode cX3_next0 62 = .ok (.iconst 0, 1) := dk_3 (dk_at dksX3_next0_2 15 rfl rfl)
theorem dX3_next0_63 : decode cX3_next0 63 = .ok (.putfield 161, 3) := dk_181 0 161 (dk_at dksX3_next0_2 16 rfl rfl)
theorem dX3_next0_66 : decode cX3_next0 66 = .ok (.goto 240, 3) := dk_167 0 240 (dk_at dksX3_next0_2 19 rfl rfl)
theorem dX3_next0_69 : decode cX3_next0 69 = .ok (.iload_n 1, 1) := dk_27 (dk_at dksX3_next0_2 22 rfl rfl)
theorem dX3_next0_70 : decode cX3_next0 70 = .ok (.invokestatic 164, 3) := dk_184 0 164 (dk_at dksX3_next0_3 0 rfl rfl)
theorem dX3_next0_73 : decode cX3_next0 73 = .ok (.ifCond .eq 41, 3) := dk_153 0 41 (dk_at dksX3_next0_3 3 rfl rfl)
theorem dX3_next0_76 : decode cX3_next0 76 = .ok (.aload_n 0, 1) := dk_42 (dk_at dksX3_next0_3 6 rfl rfl)
theorem dX3_next0_77 : decode cX3_next0 77 = .ok (.aload_n 0, 1) := dk_42 (dk_at dksX3_next0_3 7 rfl rfl)
theorem dX3_next0_78 : decode cX3_next0 78 = .ok (.getfield 78, 3) := dk_180 0 78 (dk_at dksX3_next0_3 8 rfl rfl)
theorem dX3_next0_81 : decode cX3_next0 81 = .ok (.invokevirtual 157, 3) := dk_182 0 157 (dk_at dksX3_next0_3 11 rfl rfl)
theorem dX3_next0_84 : decode cX3_next0 84 = .ok (.invokestatic 164, 3) := dk_184 0 164 (dk_at dksX3_next0_3 14 rfl rfl)
theorem dX3_next0_87 : decode cX3_next0 87 = .ok (.ifCond .eq 16, 3) := dk_153 0 16 (dk_at dksX3_next0_3 17 rfl rfl)
theorem dX3_next0_90 : decode cX3_next0 90 = .ok (.aload_n 0, 1) := dk_42 (dk_at dksX3_next0_3 20 rfl rfl)
theorem dX3_next0_91 : decode cX3_next0 91 = .ok (.dup, 1) := dk_89 (dk_at dksX3_next0_3 21 rfl rfl)
theorem dX3_next0_92 : decode cX3_next0 92 = .ok (.getfield 78, 3) := dk_180 0 78 (dk_at dksX3_next0_4 0 rfl rfl)
theorem dX3_next0_95 : decode cX3_next0 95 = .ok (.iconst 1, 1) := dk_4 (dk_at dksX3_next0_4 3 rfl rfl)
theorem dX3_next0_96 : decode cX3_next0 96 = .ok (.iadd, 1) := dk_96 (dk_at dksX3_next0_4 4 rfl rfl)
theorem dX3_next0_97 : decode cX3_next0 97 = .ok (.putfield 78, 3) := dk_181 0 78 (dk_at dksX3_next0_4 5 rfl rfl)
theorem dX3_next0_100 : decode cX3_next0 100 = .ok (.goto (-24), 3) := dk_167 255 232 (dk_at dksX3_next0_4 8 rfl rfl)
theorem dX3_next0_103 : decode cX3_next0 103 = .ok (.aload_n 0, 1) := dk_42 (dk_at dksX3_next0_4 11 rfl rfl)
theorem dX3_next0_104 : decode cX3_next0 104 = .ok (.aload_n 0, 1) := dk_42 (dk_at dksX3_next0_4 12 rfl rfl)
theorem dX3_next0_105 : decode cX3_next0 105 = .ok (.invokevirtual 167, 3) := dk_182 0 167 (dk_at dksX3_next0_4 13 rfl rfl)
theorem dX3_next0_108 : decode cX3_next0 108 = .ok (.putfield 161, 3) := dk_181 0 161 (dk_at dksX3_next0_4 16 rfl rfl)
theorem dX3_next0_111 : decode cX3_next0 111 = .ok (.goto 195, 3) := dk_167 0 195 (dk_at dksX3_next0_4 19 rfl rfl)
theorem dX3_next0_114 : decode cX3_next0 114 = .ok (.iload_n 1, 1) := dk_27 (dk_at dksX3_next0_4 22 rfl rfl)
theorem dX3_next0_115 : decode cX3_next0 115 = .ok (.invokestatic 170, 3) := dk_184 0 170 (dk_at dksX3_next0_5 0 rfl rfl)
theorem dX3_next0_118 : decode cX3_next0 118 = .ok (.ifCond .eq 96, 3) := dk_153 0 96 (dk_at dksX3_next0_5 3 rfl rfl)
theorem dX3_next0_121 : decode cX3_next0 121 = .ok (.aload_n 0, 1) := dk_42 (dk_at dksX3_next0_5 6 rfl rfl)
theorem dX3_next0_122 : decode cX3_next0 122 = .ok (.iconst 0, 1) := dk_3 (dk_at dksX3_next0_5 7 rfl rfl)
theorem dX3_next0_123 : decode cX3_next0 123 = .ok (.putfield 173, 3) := dk_181 0 173 (dk_at dksX3_next0_5 8 rfl rfl)
theorem dX3_next0_126 : decode cX3_next0 126 = .ok (.aload_n 0, 1) := dk_42 (dk_at dksX3_next0_5 11 rfl rfl)
theorem dX3_next0_127 : decode cX3_next0 127 = .ok (.aload_n 0, 1) := dk_42 (dk_at dksX3_next0_5 12 rfl rfl)
theorem dX3_next0_128 : decode cX3_next0 128 = .ok (.getfield 78, 3) := dk_180 0 78 (dk_at dksX3_next0_5 13 rfl rfl)
theorem dX3_next0_131 : decode cX3_next0 131 = .ok (.invokevirtual 157, 3) := dk_182 0 157 (dk_at dksX3_next0_5 16 rfl rfl)
theorem dX3_next0_134 : decode cX3_next0 134 = .ok (.invokestatic 170, 3) := dk_184 0 170 (dk_at dksX3_next0_5 19 rfl rfl)
theorem dX3_next0_137 : decode cX3_next0 137 = .ok (.ifCond .eq 52, 3) := dk_153 0 52 (dk_at dksX3_next0_6 0 rfl rfl)
theorem dX3_next0_140 : decode cX3_next0 140 = .ok (.aload_n 0, 1) := dk_42 (dk_at dksX3_next0_6 3 rfl rfl)
theorem dX3_next0_141 : decode cX3_next0 141 = .ok (.getfield 78, 3) := dk_180 0 78 (dk_at dksX3_next0_6 4 rfl rfl)
theorem dX3_next0_144 : decode cX3_next0 144 = .ok (.aload_n 0, 1) := dk_42 (dk_at dksX3_next0_6 7 rfl rfl)
theorem dX3_next0_145 : decode cX3_next0 145 = .ok (.getfield 81, 3) := dk_180 0 81 (dk_at dksX3_next0_6 8 rfl rfl)
theorem dX3_next0_148 : decode cX3_next0 148 = .ok (.iconst 4, 1) := dk_7 (dk_at dksX3_next0_6 11 rfl rfl)
theorem dX3_next0_149 : decode cX3_next0 149 = .ok (.iadd, 1) := dk_96 (dk_at dksX3_next0_6 12 rfl rfl)
theorem dX3_next0_150 : decode cX3_next0 150 = .ok (.if_icmp .ge 26, 3) := dk_162 0 26 (dk_at dksX3_next0_6 13 rfl rfl)
theorem dX3_next0_153 : decode cX3_next0 153 = .ok (.aload_n 0, 1) := dk_42 (dk_at dksX3_next0_6 16 rfl rfl)
theorem dX3_next0_154 : decode cX3_next0 154 = .ok (.bipush 10, 2) := dk_16 10 (dk_at dksX3_next0_6 17 rfl rfl)
theorem dX3_next0_156 : decode cX3_next0 156 = .ok (.aload_n 0, 1) := dk_42 (dk_at dksX3_next0_6 19 rfl rfl)
theorem dX3_next0_157 : decode cX3_next0 157 = .ok (.getfield 173, 3) := dk_180 0 173 (dk_at dksX3_next0_6 20 rfl rfl)
theorem dX3_next0_160 : decode cX3_next0 160 = .ok (.imul, 1) := dk_104 (dk_at dksX3_next0_6 23 rfl rfl)
theorem dX3_next0_161 : decode cX3_next0 161 = .ok (.aload_n 0, 1) := dk_42 (dk_at dksX3_next0_7 0 rfl rfl)
theorem dX3_next0_162 : decode cX3_next0 162 = .ok (.aload_n 0, 1) := dk_42 (dk_at dksX3_next0_7 1 rfl rfl)
theorem dX3_next0_163 : decode cX3_next0 163 = .ok (.getfield 78, 3) := dk_180 0 78 (dk_at dksX3_next0_7 2 rfl rfl)
theorem dX3_next0_166 : decode cX3_next0 166 = .ok (.invokevirtual 157, 3) := dk_182 0 157 (dk_at dksX3_next0_7 5 rfl rfl)
theorem dX3_next0_169 : decode cX3_next0 169 = .ok (.iadd, 1) := dk_96 (dk_at dksX3_next0_7 8 rfl rfl)
theorem dX3_next0_170 : decode cX3_next0 170 = .ok (.bipush 48, 2) := dk_16 48 (dk_at dksX3_next0_7 9 rfl rfl)
theorem dX3_next0_172 : decode cX3_next0 172 = .ok (.isub, 1) := dk_100 (dk_at dksX3_next0_7 11 rfl rfl)
theorem dX3_next0_173 : decode cX3_next0 173 = .ok (.putfield 173, 3) := dk_181 0 173 (dk_at dksX3_next0_7 12 rfl rfl)
theorem dX3_next0_176 : decode cX3_next0 176 = .ok (.aload_n 0, 1) := dk_42 (dk_at dksX3_next0_7 15 rfl rfl)
theorem dX3_next0_177 : decode cX3_next0 177 = .ok (.dup, 1) := dk_89 (dk_at dksX3_next0_7 16 rfl rfl)
theorem dX3_next0_178 : decode cX3_next0 178 = .ok (.getfield 78, 3) := dk_180 0 78 (dk_at dksX3_next0_7 17 rfl rfl)
theorem dX3_next0_181 : decode cX3_next0 181 = .ok (.iconst 1, 1) := dk_4 (dk_at dksX3_next0_7 20 rfl rfl)
theorem dX3_next0_182 : decode cX3_next0 182 = .ok (.iadd, 1) := dk_96 (dk_at dksX3_next0_7 21 rfl rfl)
theorem dX3_next0_183 : decode cX3_next0 183 = .ok (.putfield 78, 3) := dk_181 0 78 (dk_at dksX3_next0_8 0 rfl rfl)
theorem dX3_next0_186 : decode cX3_next0 186 = .ok (.goto (-60), 3) := dk_167 255 196 (dk_at dksX3_next0_8 3 rfl rfl)
theorem dX3_next0_189 : decode cX3_next0 189 = .ok (.aload_n 0, 1) := dk_42 (dk_at dksX3_next0_8 6 rfl rfl)
theorem dX3_next0_190 : decode cX3_next0 190 = .ok (.aload_n 0, 1) := dk_42 (dk_at dksX3_next0_8 7 rfl rfl)
theorem dX3_next0_191 : decode cX3_next0 191 = .ok (.getfield 78, 3) := dk_180 0 78 (dk_at dksX3_next0_8 8 rfl rfl)
theorem dX3_next0_194 : decode cX3_next0 194 = .ok (.aload_n 0, 1) := dk_42 (dk_at dksX3_next0_8 11 rfl rfl)
theorem dX3_next0_195 : decode cX3_next0 195 = .ok (.getfield 81, 3) := dk_180 0 81 (dk_at dksX3_next0_8 12 rfl rfl)
theorem dX3_next0_198 : decode cX3_next0 198 = .ok (.isub, 1) := dk_100 (dk_at dksX3_next0_8 15 rfl rfl)
theorem dX3_next0_199 : decode cX3_next0 199 = .ok (.iconst 5, 1) := dk_8 (dk_at dksX3_next0_8 16 rfl rfl)
theorem dX3_next0_200 : decode cX3_next0 200 = .ok (.if_icmp .ge 7, 3) := dk_162 0 7 (dk_at dksX3_next0_8 17 rfl rfl)
theorem dX3_next0_203 : decode cX3_next0 203 = .ok (.iconst 2, 1) := dk_5 (dk_at dksX3_next0_8 20 rfl rfl)
theorem dX3_next0_204 : decode cX3_next0 204 = .ok (.goto 4, 3) := dk_167 0 4 (dk_at dksX3_next0_8 21 rfl rfl)
theorem dX3_next0_207 : decode cX3_next0 207 = .ok (.iconst 1, 1) := dk_4 (dk_at dksX3_next0_9 0 rfl rfl)
theorem dX3_next0_208 : decode cX3_next0 208 = .ok (.putfield 161, 3) := dk_181 0 161 (dk_at dksX3_next0_9 1 rfl rfl)
theorem dX3_next0_211 : decode cX3_next0 211 = .ok (.goto 95, 3) := dk_167 0 95 (dk_at dksX3_next0_9 4 rfl rfl)
theorem dX3_next0_214 : decode cX3_next0 214 = .ok (.aload_n 0, 1) := dk_42 (dk_at dksX3_next0_9 7 rfl rfl)
theorem dX3_next0_215 : decode cX3_next0 215 = .ok (.dup, 1) := dk_89 (dk_at dksX3_next0_9 8 rfl rfl)
theorem dX3_next0_216 : decode cX3_next0 216 = .ok (.getfield 78, 3) := dk_180 0 78 (dk_at dksX3_next0_9 9 rfl rfl)
theorem dX3_next0_219 : decode cX3_next0 219 = .ok (.iconst 1, 1) := dk_4 (dk_at dksX3_next0_9 12 rfl rfl)
theorem dX3_next0_220 : decode cX3_next0 220 = .ok (.iadd, 1) := dk_96 (dk_at dksX3_next0_9 13 rfl rfl)
theorem dX3_next0_221 : decode cX3_next0 221 = .ok (.putfield 78, 3) := dk_181 0 78 (dk_at dksX3_next0_9 14 rfl rfl)
theorem dX3_next0_224 : decode cX3_next0 224 = .ok (.iload_n 1, 1) := dk_27 (dk_at dksX3_next0_9 17 rfl rfl)
theorem dX3_next0_225 : decode cX3_next0 225 = .ok (.bipush 59, 2) := dk_16 59 (dk_at dksX3_next0_9 18 rfl rfl)
theorem dX3_next0_227 : decode cX3_next0 227 = .ok (.if_icmp .eq 57, 3) := dk_159 0 57 (dk_at dksX3_next0_9 20 rfl rfl)
theorem dX3_next0_230 : decode cX3_next0 230 = .ok (.iload_n 1, 1) := dk_27 (dk_at dksX3_next0_9 23 rfl rfl)
theorem dX3_next0_231 : decode cX3_next0 231 = .ok (.bipush 43, 2) := dk_16 43 (dk_at dksX3_next0_10 0 rfl rfl)
theorem dX3_next0_233 : decode cX3_next0 233 = .ok (.if_icmp .eq 51, 3) := dk_159 0 51 (dk_at dksX3_next0_10 2 rfl rfl)
theorem dX3_next0_236 : decode cX3_next0 236 = .ok (.iload_n 1, 1) := dk_27 (dk_at dksX3_next0_10 5 rfl rfl)
theorem dX3_next0_237 : decode cX3_next0 237 = .ok (.bipush 45, 2) := dk_16 45 (dk_at dksX3_next0_10 6 rfl rfl)
theorem dX3_next0_239 : decode cX3_next0 239 = .ok (.if_icmp .eq 45, 3) := dk_159 0 45 (dk_at dksX3_next0_10 8 rfl rfl)
theorem dX3_next0_242 : decode cX3_next0 242 = .ok (.iload_n 1, 1) := dk_27 (dk_at dksX3_next0_10 11 rfl rfl)
theorem dX3_next0_243 : decode cX3_next0 243 = .ok (.bipush 42, 2) := dk_16 42 (dk_at dksX3_next0_10 12 rfl rfl)
theorem dX3_next0_245 : decode cX3_next0 245 = .ok (.if_icmp .eq 39, 3) := dk_159 0 39 (dk_at dksX3_next0_10 14 rfl rfl)
theorem dX3_next0_248 : decode cX3_next0 248 = .ok (.iload_n 1, 1) := dk_27 (dk_at dksX3_next0_10 17 rfl rfl)
theorem dX3_next0_249 : decode cX3_next0 249 = .ok (.bipush 47, 2) := dk_16 47 (dk_at dksX3_next0_10 18 rfl rfl)
theorem dX3_next0_251 : decode cX3_next0 251 = .ok (.if_icmp .eq 33, 3) := dk_159 0 33 (dk_at dksX3_next0_10 20 rfl rfl)
theorem dX3_next0_254 : decode cX3_next0 254 = .ok (.iload_n 1, 1) := dk_27 (dk_at dksX3_next0_10 23 rfl rfl)
theorem dX3_next0_255 : decode cX3_next0 255 = .ok (.bipush 40, 2) := dk_16 40 (dk_at dksX3_next0_11 0 rfl rfl)
theorem dX3_next0_257 : decode cX3_next0 257 = .ok (.if_icmp .eq 27, 3) := dk_159 0 27 (dk_at dksX3_next0_11 2 rfl rfl)
theorem dX3_next0_260 : decode cX3_next0 260 = .ok (.iload_n 1, 1) := dk_27 (dk_at dksX3_next0_11 5 rfl rfl)
theorem dX3_next0_261 : decode cX3_next0 261 = .ok (.bipush 41, 2) := dk_16 41 (dk_at dksX3_next0_11 6 rfl rfl)
theorem dX3_next0_263 : decode cX3_next0 263 = .ok (.if_icmp .eq 21, 3) := dk_159 0 21 (dk_at dksX3_next0_11 8 rfl rfl)
theorem dX3_next0_266 : decode cX3_next0 266 = .ok (.iload_n 1, 1) := dk_27 (dk_at dksX3_next0_11 11 rfl rfl)
theorem dX3_next0_267 : decode cX3_next0 267 = .ok (.bipush 60, 2) := dk_16 60 (dk_at dksX3_next0_11 12 rfl rfl)
theorem dX3_next0_269 : decode cX3_next0 269 = .ok (.if_icmp .eq 15, 3) := dk_159 0 15 (dk_at dksX3_next0_11 14 rfl rfl)
theorem dX3_next0_272 : decode cX3_next0 272 = .ok (.iload_n 1, 1) := dk_27 (dk_at dksX3_next0_11 17 rfl rfl)
theorem dX3_next0_273 : decode cX3_next0 273 = .ok (.bipush 61, 2) := dk_16 61 (dk_at dksX3_next0_11 18 rfl rfl)
theorem dX3_next0_275 : decode cX3_next0 275 = .ok (.if_icmp .eq 9, 3) := dk_159 0 9 (dk_at dksX3_next0_11 20 rfl rfl)
theorem dX3_next0_278 : decode cX3_next0 278 = .ok (.iload_n 1, 1) := dk_27 (dk_at dksX3_next0_11 23 rfl rfl)
theorem dX3_next0_279 : decode cX3_next0 279 = .ok (.bipush 62, 2) := dk_16 62 (dk_at dksX3_next0_12 0 rfl rfl)
theorem dX3_next0_281 : decode cX3_next0 281 = .ok (.if_icmp .ne 7, 3) := dk_160 0 7 (dk_at dksX3_next0_12 2 rfl rfl)
theorem dX3_next0_284 : decode cX3_next0 284 = .ok (.iconst 1, 1) := dk_4 (dk_at dksX3_next0_12 5 rfl rfl)
theorem dX3_next0_285 : decode cX3_next0 285 = .ok (.goto 4, 3) := dk_167 0 4 (dk_at dksX3_next0_12 6 rfl rfl)
theorem dX3_next0_288 : decode cX3_next0 288 = .ok (.iconst 0, 1) := dk_3 (dk_at dksX3_next0_12 9 rfl rfl)
theorem dX3_next0_289 : decode cX3_next0 289 = .ok (.istore_n 2, 1) := dk_61 (dk_at dksX3_next0_12 10 rfl rfl)
theorem dX3_next0_290 : decode cX3_next0 290 = .ok (.aload_n 0, 1) := dk_42 (dk_at dksX3_next0_12 11 rfl rfl)
theorem dX3_next0_291 : decode cX3_next0 291 = .ok (.iload_n 2, 1) := dk_28 (dk_at dksX3_next0_12 12 rfl rfl)
theorem dX3_next0_292 : decode cX3_next0 292 = .ok (.ifCond .eq 10, 3) := dk_153 0 10 (dk_at dksX3_next0_12 13 rfl rfl)
theorem dX3_next0_295 : decode cX3_next0 295 = .ok (.bipush 100, 2) := dk_16 100 (dk_at dksX3_next0_12 16 rfl rfl)
theorem dX3_next0_297 : decode cX3_next0 297 = .ok (.iload_n 1, 1) := dk_27 (dk_at dksX3_next0_12 18 rfl rfl)
theorem dX3_next0_298 : decode cX3_next0 298 = .ok (.iadd, 1) := dk_96 (dk_at dksX3_next0_12 19 rfl rfl)
theorem dX3_next0_299 : decode cX3_next0 299 = .ok (.goto 4, 3) := dk_167 0 4 (dk_at dksX3_next0_12 20 rfl rfl)
theorem dX3_next0_302 : decode cX3_next0 302 = .ok (.iconst 1, 1) := dk_4 (dk_at dksX3_next0_12 23 rfl rfl)
theorem dX3_next0_303 : decode cX3_next0 303 = .ok (.putfield 161, 3) := dk_181 0 161 (dk_at dksX3_next0_13 0 rfl rfl)
theorem dX3_next0_306 : decode cX3_next0 306 = .ok (.return_, 1) := dk_177 (dk_at dksX3_next0_13 3 rfl rfl)
abbrev cX3_see : ByteArray := prog_17_method_19_code
def yX3_see : MethodName := ⟨RX3, "see", "(I)I"⟩
def dkwX3_see_0 : List UInt8 := [27, 42, 180, 0, 75, 162, 0, 12, 42, 180, 0, 31, 27, 46, 167, 0, 4, 2, 172]
abbrev dktX3_see_0 : List UInt8 := dkwX3_see_0 ++ []
theorem dksX3_see_0 : cX3_see.data.toList.drop 0 = dktX3_see_0 := by decide +kernel
theorem dX3_see_0 : decode cX3_see 0 = .ok (.iload_n 1, 1) := dk_27 (dk_at dksX3_see_0 0 rfl rfl)
theorem dX3_see_1 : decode cX3_see 1 = .ok (.aload_n 0, 1) := dk_42 (dk_at dksX3_see_0 1 rfl rfl)
theorem dX3_see_2 : decode cX3_see 2 = .ok (.getfield 75, 3) := dk_180 0 75 (dk_at dksX3_see_0 2 rfl rfl)
theorem dX3_see_5 : decode cX3_see 5 = .ok (.if_icmp .ge 12, 3) := dk_162 0 12 (dk_at dksX3_see_0 5 rfl rfl)
theorem dX3_see_8 : decode cX3_see 8 = .ok (.aload_n 0, 1) := dk_42 (dk_at dksX3_see_0 8 rfl rfl)
theorem dX3_see_9 : decode cX3_see 9 = .ok (.getfield 31, 3) := dk_180 0 31 (dk_at dksX3_see_0 9 rfl rfl)
theorem dX3_see_12 : decode cX3_see 12 = .ok (.iload_n 1, 1) := dk_27 (dk_at dksX3_see_0 12 rfl rfl)
theorem dX3_see_13 : decode cX3_see 13 = .ok (.iaload, 1) := dk_46 (dk_at dksX3_see_0 13 rfl rfl)
theorem dX3_see_14 : decode cX3_see 14 = .ok (.goto 4, 3) := dk_167 0 4 (dk_at dksX3_see_0 14 rfl rfl)
theorem dX3_see_17 : decode cX3_see 17 = .ok (.iconst (-1), 1) := dk_2 (dk_at dksX3_see_0 17 rfl rfl)
theorem dX3_see_18 : decode cX3_see 18 = .ok (.ireturn, 1) := dk_172 (dk_at dksX3_see_0 18 rfl rfl)
abbrev cX3_isLetter : ByteArray := prog_17_method_20_code
def yX3_isLetter : MethodName := ⟨RX3, "isLetter", "(I)Z"⟩
def dkwX3_isLetter_1 : List UInt8 := [167, 0, 4, 3, 172]
abbrev dktX3_isLetter_1 : List UInt8 := dkwX3_isLetter_1 ++ []
def dkwX3_isLetter_0 : List UInt8 := [26, 16, 97, 16, 122, 184, 0, 59, 154, 0, 14, 26, 16, 65, 16, 90, 184, 0, 59, 153, 0, 7, 4]
abbrev dktX3_isLetter_0 : List UInt8 := dkwX3_isLetter_0 ++ dktX3_isLetter_1
theorem dksX3_isLetter_0 : cX3_isLetter.data.toList.drop 0 = dktX3_isLetter_0 := by decide +kernel
theorem dksX3_isLetter_1 : cX3_isLetter.data.toList.drop 23 = dktX3_isLetter_1 := dk_seg dksX3_isLetter_0 23 rfl rfl
theorem dX3_isLetter_0 : decode cX3_isLetter 0 = .ok (.iload_n 0, 1) := dk_26 (dk_at dksX3_isLetter_0 0 rfl rfl)
theorem dX3_isLetter_1 : decode cX3_isLetter 1 = .ok (.bipush 97, 2) := dk_16 97 (dk_at dksX3_isLetter_0 1 rfl rfl)
theorem dX3_isLetter_3 : decode cX3_isLetter 3 = .ok (.bipush 122, 2) := dk_16 122 (dk_at dksX3_isLetter_0 3 rfl rfl)
theorem dX3_isLetter_5 : decode cX3_isLetter 5 = .ok (.invokestatic 59, 3) := dk_184 0 59 (dk_at dksX3_isLetter_0 5 rfl rfl)
theorem dX3_isLetter_8 : decode cX3_isLetter 8 = .ok (.ifCond .ne 14, 3) := dk_154 0 14 (dk_at dksX3_isLetter_0 8 rfl rfl)
theorem dX3_isLetter_11 : decode cX3_isLetter 11 = .ok (.iload_n 0, 1) := dk_26 (dk_at dksX3_isLetter_0 11 rfl rfl)
theorem dX3_isLetter_12 : decode cX3_isLetter 12 = .ok (.bipush 65, 2) := dk_16 65 (dk_at dksX3_isLetter_0 12 rfl rfl)
theorem dX3_isLetter_14 : decode cX3_isLetter 14 = .ok (.bipush 90, 2) := dk_16 90 (dk_at dksX3_isLetter_0 14 rfl rfl)
theorem dX3_isLetter_16 : decode cX3_isLetter 16 = .ok (.invokestatic 59, 3) := dk_184 0 59 (dk_at dksX3_isLetter_0 16 rfl rfl)
theorem dX3_isLetter_19 : decode cX3_isLetter 19 = .ok (.ifCond .eq 7, 3) := dk_153 0 7 (dk_at dksX3_isLetter_0 19 rfl rfl)
theorem dX3_isLetter_22 : decode cX3_isLetter 22 = .ok (.iconst 1, 1) := dk_4 (dk_at dksX3_isLetter_0 22 rfl rfl)
theorem dX3_isLetter_23 : decode cX3_isLetter 23 = .ok (.goto 4, 3) := dk_167 0 4 (dk_at dksX3_isLetter_1 0 rfl rfl)
theorem dX3_isLetter_26 : decode cX3_isLetter 26 = .ok (.iconst 0, 1) := dk_3 (dk_at dksX3_isLetter_1 3 rfl rfl)
theorem dX3_isLetter_27 : decode cX3_isLetter 27 = .ok (.ireturn, 1) := dk_172 (dk_at dksX3_isLetter_1 4 rfl rfl)
abbrev cX3_word : ByteArray := prog_17_method_25_code
def yX3_word : MethodName := ⟨RX3, "word", "()I"⟩
def dkwX3_word_7 : List UInt8 := [16, 14, 167, 0, 17, 42, 18, 122, 182, 0, 96, 153, 0, 7, 8, 167, 0, 4, 4, 172]
abbrev dktX3_word_7 : List UInt8 := dkwX3_word_7 ++ []
def dkwX3_word_6 : List UInt8 := [42, 18, 153, 182, 0, 96, 153, 0, 8, 16, 13, 167, 0, 31, 42, 18, 155, 182, 0, 96, 153, 0, 8]
abbrev dktX3_word_6 : List UInt8 := dkwX3_word_6 ++ dktX3_word_7
def dkwX3_word_5 : List UInt8 := [153, 0, 8, 16, 11, 167, 0, 18, 42, 18, 151, 182, 0, 96, 153, 0, 8, 16, 12, 167, 0, 4, 4, 172]
abbrev dktX3_word_5 : List UInt8 := dkwX3_word_5 ++ dktX3_word_6
def dkwX3_word_4 : List UInt8 := [182, 0, 144, 172, 42, 18, 147, 182, 0, 96, 153, 0, 8, 16, 10, 167, 0, 32, 42, 18, 149, 182, 0, 96]
abbrev dktX3_word_4 : List UInt8 := dkwX3_word_4 ++ dktX3_word_5
def dkwX3_word_3 : List UInt8 := [16, 8, 167, 0, 18, 42, 18, 142, 182, 0, 96, 153, 0, 8, 16, 9, 167, 0, 4, 4, 172, 42]
abbrev dktX3_word_3 : List UInt8 := dkwX3_word_3 ++ dktX3_word_4
def dkwX3_word_2 : List UInt8 := [42, 18, 138, 182, 0, 96, 153, 0, 8, 16, 7, 167, 0, 32, 42, 18, 140, 182, 0, 96, 153, 0, 8]
abbrev dktX3_word_2 : List UInt8 := dkwX3_word_2 ++ dktX3_word_3
def dkwX3_word_1 : List UInt8 := [170, 0, 0, 0, 0, 0, 0, 121, 0, 0, 0, 0, 0, 0, 0, 2, 0, 0, 0, 28, 0, 0, 0, 72, 0, 0, 0, 77]
abbrev dktX3_word_1 : List UInt8 := dkwX3_word_1 ++ dktX3_word_2
def dkwX3_word_0 : List UInt8 := [42, 180, 0, 135]
abbrev dktX3_word_0 : List UInt8 := dkwX3_word_0 ++ dktX3_word_1
theorem dksX3_word_0 : cX3_word.data.toList.drop 0 = dktX3_word_0 := by decide +kernel
theorem dksX3_word_1 : cX3_word.data.toList.drop 4 = dktX3_word_1 := dk_seg dksX3_word_0 4 rfl rfl
theorem dksX3_word_2 : cX3_word.data.toList.drop 32 = dktX3_word_2 := dk_seg dksX3_word_1 28 rfl rfl
theorem dksX3_word_3 : cX3_word.data.toList.drop 55 = dktX3_word_3 := dk_seg dksX3_word_2 23 rfl rfl
theorem dksX3_word_4 : cX3_word.data.toList.drop 77 = dktX3_word_4 := dk_seg dksX3_word_3 22 rfl rfl
theorem dksX3_word_5 : cX3_word.data.toList.drop 101 = dktX3_word_5 := dk_seg dksX3_word_4 24 rfl rfl
theorem dksX3_word_6 : cX3_word.data.toList.drop 125 = dktX3_word_6 := dk_seg dksX3_word_5 24 rfl rfl
theorem dksX3_word_7 : cX3_word.data.toList.drop 148 = dktX3_word_7 := dk_seg dksX3_word_6 23 rfl rfl
theorem dX3_word_0 : decode cX3_word 0 = .ok (.aload_n 0, 1) := dk_42 (dk_at dksX3_word_0 0 rfl rfl)
theorem dX3_word_1 : decode cX3_word 1 = .ok (.getfield 135, 3) := dk_180 0 135 (dk_at dksX3_word_0 1 rfl rfl)
theorem dX3_word_4 : decode cX3_word 4 = .ok (.tableswitch 121 0 2 #[28, 72, 77], 28) := by decide +kernel
theorem dX3_word_32 : decode cX3_word 32 = .ok (.aload_n 0, 1) := dk_42 (dk_at dksX3_word_2 0 rfl rfl)
theorem dX3_word_33 : decode cX3_word 33 = .ok (.ldc 138, 2) := dk_18 138 (dk_at dksX3_word_2 1 rfl rfl)
theorem dX3_word_35 : decode cX3_word 35 = .ok (.invokevirtual 96, 3) := dk_182 0 96 (dk_at dksX3_word_2 3 rfl rfl)
theorem dX3_word_38 : decode cX3_word 38 = .ok (.ifCond .eq 8, 3) := dk_153 0 8 (dk_at dksX3_word_2 6 rfl rfl)
theorem dX3_word_41 : decode cX3_word 41 = .ok (.bipush 7, 2) := dk_16 7 (dk_at dksX3_word_2 9 rfl rfl)
theorem dX3_word_43 : decode cX3_word 43 = .ok (.goto 32, 3) := dk_167 0 32 (dk_at dksX3_word_2 11 rfl rfl)
theorem dX3_word_46 : decode cX3_word 46 = .ok (.aload_n 0, 1) := dk_42 (dk_at dksX3_word_2 14 rfl rfl)
theorem dX3_word_47 : decode cX3_word 47 = .ok (.ldc 140, 2) := dk_18 140 (dk_at dksX3_word_2 15 rfl rfl)
theorem dX3_word_49 : decode cX3_word 49 = .ok (.invokevirtual 96, 3) := dk_182 0 96 (dk_at dksX3_word_2 17 rfl rfl)
theorem dX3_word_52 : decode cX3_word 52 = .ok (.ifCond .eq 8, 3) := dk_153 0 8 (dk_at dksX3_word_2 20 rfl rfl)
theorem dX3_word_55 : decode cX3_word 55 = .ok (.bipush 8, 2) := dk_16 8 (dk_at dksX3_word_3 0 rfl rfl)
theorem dX3_word_57 : decode cX3_word 57 = .ok (.goto 18, 3) := dk_167 0 18 (dk_at dksX3_word_3 2 rfl rfl)
theorem dX3_word_60 : decode cX3_word 60 = .ok (.aload_n 0, 1) := dk_42 (dk_at dksX3_word_3 5 rfl rfl)
theorem dX3_word_61 : decode cX3_word 61 = .ok (.ldc 142, 2) := dk_18 142 (dk_at dksX3_word_3 6 rfl rfl)
theorem dX3_word_63 : decode cX3_word 63 = .ok (.invokevirtual 96, 3) := dk_182 0 96 (dk_at dksX3_word_3 8 rfl rfl)
theorem dX3_word_66 : decode cX3_word 66 = .ok (.ifCond .eq 8, 3) := dk_153 0 8 (dk_at dksX3_word_3 11 rfl rfl)
theorem dX3_word_69 : decode cX3_word 69 = .ok (.bipush 9, 2) := dk_16 9 (dk_at dksX3_word_3 14 rfl rfl)
theorem dX3_word_71 : decode cX3_word 71 = .ok (.goto 4, 3) := dk_167 0 4 (dk_at dksX3_word_3 16 rfl rfl)
theorem dX3_word_74 : decode cX3_word 74 = .ok (.iconst 1, 1) := dk_4 (dk_at dksX3_word_3 19 rfl rfl)
theorem dX3_word_75 : decode cX3_word 75 = .ok (.ireturn, 1) := dk_172 (dk_at dksX3_word_3 20 rfl rfl)
theorem dX3_word_76 : decode cX3_word 76 = .ok (.aload_n 0, 1) := dk_42 (dk_at dksX3_word_3 21 rfl rfl)
theorem dX3_word_77 : decode cX3_word 77 = .ok (.invokevirtual 144, 3) := dk_182 0 144 (dk_at dksX3_word_4 0 rfl rfl)
theorem dX3_word_80 : decode cX3_word 80 = .ok (.ireturn, 1) := dk_172 (dk_at dksX3_word_4 3 rfl rfl)
theorem dX3_word_81 : decode cX3_word 81 = .ok (.aload_n 0, 1) := dk_42 (dk_at dksX3_word_4 4 rfl rfl)
theorem dX3_word_82 : decode cX3_word 82 = .ok (.ldc 147, 2) := dk_18 147 (dk_at dksX3_word_4 5 rfl rfl)
theorem dX3_word_84 : decode cX3_word 84 = .ok (.invokevirtual 96, 3) := dk_182 0 96 (dk_at dksX3_word_4 7 rfl rfl)
theorem dX3_word_87 : decode cX3_word 87 = .ok (.ifCond .eq 8, 3) := dk_153 0 8 (dk_at dksX3_word_4 10 rfl rfl)
theorem dX3_word_90 : decode cX3_word 90 = .ok (.bipush 10, 2) := dk_16 10 (dk_at dksX3_word_4 13 rfl rfl)
theorem dX3_word_92 : decode cX3_word 92 = .ok (.goto 32, 3) := dk_167 0 32 (dk_at dksX3_word_4 15 rfl rfl)
theorem dX3_word_95 : decode cX3_word 95 = .ok (.aload_n 0, 1) := dk_42 (dk_at dksX3_word_4 18 rfl rfl)
theorem dX3_word_96 : decode cX3_word 96 = .ok (.ldc 149, 2) := dk_18 149 (dk_at dksX3_word_4 19 rfl rfl)
theorem dX3_word_98 : decode cX3_word 98 = .ok (.invokevirtual 96, 3) := dk_182 0 96 (dk_at dksX3_word_4 21 rfl rfl)
theorem dX3_word_101 : decode cX3_word 101 = .ok (.ifCond .eq 8, 3) := dk_153 0 8 (dk_at dksX3_word_5 0 rfl rfl)
theorem dX3_word_104 : decode cX3_word 104 = .ok (.bipush 11, 2) := dk_16 11 (dk_at dksX3_word_5 3 rfl rfl)
theorem dX3_word_106 : decode cX3_word 106 = .ok (.goto 18, 3) := dk_167 0 18 (dk_at dksX3_word_5 5 rfl rfl)
theorem dX3_word_109 : decode cX3_word 109 = .ok (.aload_n 0, 1) := dk_42 (dk_at dksX3_word_5 8 rfl rfl)
theorem dX3_word_110 : decode cX3_word 110 = .ok (.ldc 151, 2) := dk_18 151 (dk_at dksX3_word_5 9 rfl rfl)
theorem dX3_word_112 : decode cX3_word 112 = .ok (.invokevirtual 96, 3) := dk_182 0 96 (dk_at dksX3_word_5 11 rfl rfl)
theorem dX3_word_115 : decode cX3_word 115 = .ok (.ifCond .eq 8, 3) := dk_153 0 8 (dk_at dksX3_word_5 14 rfl rfl)
theorem dX3_word_118 : decode cX3_word 118 = .ok (.bipush 12, 2) := dk_16 12 (dk_at dksX3_word_5 17 rfl rfl)
theorem dX3_word_120 : decode cX3_word 120 = .ok (.goto 4, 3) := dk_167 0 4 (dk_at dksX3_word_5 19 rfl rfl)
theorem dX3_word_123 : decode cX3_word 123 = .ok (.iconst 1, 1) := dk_4 (dk_at dksX3_word_5 22 rfl rfl)
theorem dX3_word_124 : decode cX3_word 124 = .ok (.ireturn, 1) := dk_172 (dk_at dksX3_word_5 23 rfl rfl)
theorem dX3_word_125 : decode cX3_word 125 = .ok (.aload_n 0, 1) := dk_42 (dk_at dksX3_word_6 0 rfl rfl)
theorem dX3_word_126 : decode cX3_word 126 = .ok (.ldc 153, 2) := dk_18 153 (dk_at dksX3_word_6 1 rfl rfl)
theorem dX3_word_128 : decode cX3_word 128 = .ok (.invokevirtual 96, 3) := dk_182 0 96 (dk_at dksX3_word_6 3 rfl rfl)
theorem dX3_word_131 : decode cX3_word 131 = .ok (.ifCond .eq 8, 3) := dk_153 0 8 (dk_at dksX3_word_6 6 rfl rfl)
theorem dX3_word_134 : decode cX3_word 134 = .ok (.bipush 13, 2) := dk_16 13 (dk_at dksX3_word_6 9 rfl rfl)
theorem dX3_word_136 : decode cX3_word 136 = .ok (.goto 31, 3) := dk_167 0 31 (dk_at dksX3_word_6 11 rfl rfl)
theorem dX3_word_139 : decode cX3_word 139 = .ok (.aload_n 0, 1) := dk_42 (dk_at dksX3_word_6 14 rfl rfl)
theorem dX3_word_140 : decode cX3_word 140 = .ok (.ldc 155, 2) := dk_18 155 (dk_at dksX3_word_6 15 rfl rfl)
theorem dX3_word_142 : decode cX3_word 142 = .ok (.invokevirtual 96, 3) := dk_182 0 96 (dk_at dksX3_word_6 17 rfl rfl)
theorem dX3_word_145 : decode cX3_word 145 = .ok (.ifCond .eq 8, 3) := dk_153 0 8 (dk_at dksX3_word_6 20 rfl rfl)
theorem dX3_word_148 : decode cX3_word 148 = .ok (.bipush 14, 2) := dk_16 14 (dk_at dksX3_word_7 0 rfl rfl)
theorem dX3_word_150 : decode cX3_word 150 = .ok (.goto 17, 3) := dk_167 0 17 (dk_at dksX3_word_7 2 rfl rfl)
theorem dX3_word_153 : decode cX3_word 153 = .ok (.aload_n 0, 1) := dk_42 (dk_at dksX3_word_7 5 rfl rfl)
theorem dX3_word_154 : decode cX3_word 154 = .ok (.ldc 122, 2) := dk_18 122 (dk_at dksX3_word_7 6 rfl rfl)
theorem dX3_word_156 : decode cX3_word 156 = .ok (.invokevirtual 96, 3) := dk_182 0 96 (dk_at dksX3_word_7 8 rfl rfl)
theorem dX3_word_159 : decode cX3_word 159 = .ok (.ifCond .eq 7, 3) := dk_153 0 7 (dk_at dksX3_word_7 11 rfl rfl)
theorem dX3_word_162 : decode cX3_word 162 = .ok (.iconst 5, 1) := dk_8 (dk_at dksX3_word_7 14 rfl rfl)
theorem dX3_word_163 : decode cX3_word 163 = .ok (.goto 4, 3) := dk_167 0 4 (dk_at dksX3_word_7 15 rfl rfl)
theorem dX3_word_166 : decode cX3_word 166 = .ok (.iconst 1, 1) := dk_4 (dk_at dksX3_word_7 18 rfl rfl)
theorem dX3_word_167 : decode cX3_word 167 = .ok (.ireturn, 1) := dk_172 (dk_at dksX3_word_7 19 rfl rfl)
abbrev cX3_is : ByteArray := prog_17_method_22_code
def yX3_is : MethodName := ⟨RX3, "is", "(Ljava/lang/String;)Z"⟩
def dkwX3_is_2 : List UInt8 := [29, 182, 0, 90, 160, 0, 7, 4, 167, 0, 4, 3, 61, 132, 3, 1, 167, 255, 216, 28, 172]
abbrev dktX3_is_2 : List UInt8 := dkwX3_is_2 ++ []
def dkwX3_is_1 : List UInt8 := [29, 43, 182, 0, 84, 162, 0, 38, 28, 153, 0, 34, 42, 180, 0, 31, 42, 180, 0, 81, 29, 96, 46, 43]
abbrev dktX3_is_1 : List UInt8 := dkwX3_is_1 ++ dktX3_is_2
def dkwX3_is_0 : List UInt8 := [42, 180, 0, 78, 42, 180, 0, 81, 100, 43, 182, 0, 84, 160, 0, 7, 4, 167, 0, 4, 3, 61, 3, 62]
abbrev dktX3_is_0 : List UInt8 := dkwX3_is_0 ++ dktX3_is_1
theorem dksX3_is_0 : cX3_is.data.toList.drop 0 = dktX3_is_0 := by decide +kernel
theorem dksX3_is_1 : cX3_is.data.toList.drop 24 = dktX3_is_1 := dk_seg dksX3_is_0 24 rfl rfl
theorem dksX3_is_2 : cX3_is.data.toList.drop 48 = dktX3_is_2 := dk_seg dksX3_is_1 24 rfl rfl
theorem dX3_is_0 : decode cX3_is 0 = .ok (.aload_n 0, 1) := dk_42 (dk_at dksX3_is_0 0 rfl rfl)
theorem dX3_is_1 : decode cX3_is 1 = .ok (.getfield 78, 3) := dk_180 0 78 (dk_at dksX3_is_0 1 rfl rfl)
theorem dX3_is_4 : decode cX3_is 4 = .ok (.aload_n 0, 1) := dk_42 (dk_at dksX3_is_0 4 rfl rfl)
theorem dX3_is_5 : decode cX3_is 5 = .ok (.getfield 81, 3) := dk_180 0 81 (dk_at dksX3_is_0 5 rfl rfl)
theorem dX3_is_8 : decode cX3_is 8 = .ok (.isub, 1) := dk_100 (dk_at dksX3_is_0 8 rfl rfl)
theorem dX3_is_9 : decode cX3_is 9 = .ok (.aload_n 1, 1) := dk_43 (dk_at dksX3_is_0 9 rfl rfl)
theorem dX3_is_10 : decode cX3_is 10 = .ok (.invokevirtual 84, 3) := dk_182 0 84 (dk_at dksX3_is_0 10 rfl rfl)
theorem dX3_is_13 : decode cX3_is 13 = .ok (.if_icmp .ne 7, 3) := dk_160 0 7 (dk_at dksX3_is_0 13 rfl rfl)
theorem dX3_is_16 : decode cX3_is 16 = .ok (.iconst 1, 1) := dk_4 (dk_at dksX3_is_0 16 rfl rfl)
theorem dX3_is_17 : decode cX3_is 17 = .ok (.goto 4, 3) := dk_167 0 4 (dk_at dksX3_is_0 17 rfl rfl)
theorem dX3_is_20 : decode cX3_is 20 = .ok (.iconst 0, 1) := dk_3 (dk_at dksX3_is_0 20 rfl rfl)
theorem dX3_is_21 : decode cX3_is 21 = .ok (.istore_n 2, 1) := dk_61 (dk_at dksX3_is_0 21 rfl rfl)
theorem dX3_is_22 : decode cX3_is 22 = .ok (.iconst 0, 1) := dk_3 (dk_at dksX3_is_0 22 rfl rfl)
theorem dX3_is_23 : decode cX3_is 23 = .ok (.istore_n 3, 1) := dk_62 (dk_at dksX3_is_0 23 rfl rfl)
theorem dX3_is_24 : decode cX3_is 24 = .ok (.iload_n 3, 1) := dk_29 (dk_at dksX3_is_1 0 rfl rfl)
theorem dX3_is_25 : decode cX3_is 25 = .ok (.aload_n 1, 1) := dk_43 (dk_at dksX3_is_1 1 rfl rfl)
theorem dX3_is_26 : decode cX3_is 26 = .ok (.invokevirtual 84, 3) := dk_182 0 84 (dk_at dksX3_is_1 2 rfl rfl)
theorem dX3_is_29 : decode cX3_is 29 = .ok (.if_icmp .ge 38, 3) := dk_162 0 38 (dk_at dksX3_is_1 5 rfl rfl)
theorem dX3_is_32 : decode cX3_is 32 = .ok (.iload_n 2, 1) := dk_28 (dk_at dksX3_is_1 8 rfl rfl)
theorem dX3_is_33 : decode cX3_is 33 = .ok (.ifCond .eq 34, 3) := dk_153 0 34 (dk_at dksX3_is_1 9 rfl rfl)
theorem dX3_is_36 : decode cX3_is 36 = .ok (.aload_n 0, 1) := dk_42 (dk_at dksX3_is_1 12 rfl rfl)
theorem dX3_is_37 : decode cX3_is 37 = .ok (.getfield 31, 3) := dk_180 0 31 (dk_at dksX3_is_1 13 rfl rfl)
theorem dX3_is_40 : decode cX3_is 40 = .ok (.aload_n 0, 1) := dk_42 (dk_at dksX3_is_1 16 rfl rfl)
theorem dX3_is_41 : decode cX3_is 41 = .ok (.getfield 81, 3) := dk_180 0 81 (dk_at dksX3_is_1 17 rfl rfl)
theorem dX3_is_44 : decode cX3_is 44 = .ok (.iload_n 3, 1) := dk_29 (dk_at dksX3_is_1 20 rfl rfl)
theorem dX3_is_45 : decode cX3_is 45 = .ok (.iadd, 1) := dk_96 (dk_at dksX3_is_1 21 rfl rfl)
theorem dX3_is_46 : decode cX3_is 46 = .ok (.iaload, 1) := dk_46 (dk_at dksX3_is_1 22 rfl rfl)
theorem dX3_is_47 : decode cX3_is 47 = .ok (.aload_n 1, 1) := dk_43 (dk_at dksX3_is_1 23 rfl rfl)
theorem dX3_is_48 : decode cX3_is 48 = .ok (.iload_n 3, 1) := dk_29 (dk_at dksX3_is_2 0 rfl rfl)
theorem dX3_is_49 : decode cX3_is 49 = .ok (.invokevirtual 90, 3) := dk_182 0 90 (dk_at dksX3_is_2 1 rfl rfl)
theorem dX3_is_52 : decode cX3_is 52 = .ok (.if_icmp .ne 7, 3) := dk_160 0 7 (dk_at dksX3_is_2 4 rfl rfl)
theorem dX3_is_55 : decode cX3_is 55 = .ok (.iconst 1, 1) := dk_4 (dk_at dksX3_is_2 7 rfl rfl)
theorem dX3_is_56 : decode cX3_is 56 = .ok (.goto 4, 3) := dk_167 0 4 (dk_at dksX3_is_2 8 rfl rfl)
theorem dX3_is_59 : decode cX3_is 59 = .ok (.iconst 0, 1) := dk_3 (dk_at dksX3_is_2 11 rfl rfl)
theorem dX3_is_60 : decode cX3_is 60 = .ok (.istore_n 2, 1) := dk_61 (dk_at dksX3_is_2 12 rfl rfl)
theorem dX3_is_61 : decode cX3_is 61 = .ok (.iinc 3 1, 3) := dk_132 3 1 (dk_at dksX3_is_2 13 rfl rfl)
theorem dX3_is_64 : decode cX3_is 64 = .ok (.goto (-40), 3) := dk_167 255 216 (dk_at dksX3_is_2 16 rfl rfl)
theorem dX3_is_67 : decode cX3_is 67 = .ok (.iload_n 2, 1) := dk_28 (dk_at dksX3_is_2 19 rfl rfl)
theorem dX3_is_68 : decode cX3_is 68 = .ok (.ireturn, 1) := dk_172 (dk_at dksX3_is_2 20 rfl rfl)
abbrev cX3_lawWord : ByteArray := prog_17_method_24_code
def yX3_lawWord : MethodName := ⟨RX3, "lawWord", "()I"⟩
def dkwX3_lawWord_3 : List UInt8 := [18, 130, 182, 0, 96, 153, 0, 8, 16, 22, 167, 0, 7, 42, 182, 0, 132, 172]
abbrev dktX3_lawWord_3 : List UInt8 := dkwX3_lawWord_3 ++ []
def dkwX3_lawWord_2 : List UInt8 := [18, 126, 182, 0, 96, 153, 0, 6, 16, 20, 172, 42, 18, 128, 182, 0, 96, 153, 0, 6, 16, 21, 172, 42]
abbrev dktX3_lawWord_2 : List UInt8 := dkwX3_lawWord_2 ++ dktX3_lawWord_3
def dkwX3_lawWord_1 : List UInt8 := [18, 122, 182, 0, 96, 153, 0, 5, 8, 172, 42, 18, 124, 182, 0, 96, 153, 0, 6, 16, 6, 172, 42]
abbrev dktX3_lawWord_1 : List UInt8 := dkwX3_lawWord_1 ++ dktX3_lawWord_2
def dkwX3_lawWord_0 : List UInt8 := [42, 18, 118, 182, 0, 96, 153, 0, 5, 6, 172, 42, 18, 120, 182, 0, 96, 153, 0, 5, 7, 172, 42]
abbrev dktX3_lawWord_0 : List UInt8 := dkwX3_lawWord_0 ++ dktX3_lawWord_1
theorem dksX3_lawWord_0 : cX3_lawWord.data.toList.drop 0 = dktX3_lawWord_0 := by decide +kernel
theorem dksX3_lawWord_1 : cX3_lawWord.data.toList.drop 23 = dktX3_lawWord_1 := dk_seg dksX3_lawWord_0 23 rfl rfl
theorem dksX3_lawWord_2 : cX3_lawWord.data.toList.drop 46 = dktX3_lawWord_2 := dk_seg dksX3_lawWord_1 23 rfl rfl
theorem dksX3_lawWord_3 : cX3_lawWord.data.toList.drop 70 = dktX3_lawWord_3 := dk_seg dksX3_lawWord_2 24 rfl rfl
theorem dX3_lawWord_0 : decode cX3_lawWord 0 = .ok (.aload_n 0, 1) := dk_42 (dk_at dksX3_lawWord_0 0 rfl rfl)
theorem dX3_lawWord_1 : decode cX3_lawWord 1 = .ok (.ldc 118, 2) := dk_18 118 (dk_at dksX3_lawWord_0 1 rfl rfl)
theorem dX3_lawWord_3 : decode cX3_lawWord 3 = .ok (.invokevirtual 96, 3) := dk_182 0 96 (dk_at dksX3_lawWord_0 3 rfl rfl)
theorem dX3_lawWord_6 : decode cX3_lawWord 6 = .ok (.ifCond .eq 5, 3) := dk_153 0 5 (dk_at dksX3_lawWord_0 6 rfl rfl)
theorem dX3_lawWord_9 : decode cX3_lawWord 9 = .ok (.iconst 3, 1) := dk_6 (dk_at dksX3_lawWord_0 9 rfl rfl)
theorem dX3_lawWord_10 : decode cX3_lawWord 10 = .ok (.ireturn, 1) := dk_172 (dk_at dksX3_lawWord_0 10 rfl rfl)
theorem dX3_lawWord_11 : decode cX3_lawWord 11 = .ok (.aload_n 0, 1) := dk_42 (dk_at dksX3_lawWord_0 11 rfl rfl)
theorem dX3_lawWord_12 : decode cX3_lawWord 12 = .ok (.ldc 120, 2) := dk_18 120 (dk_at dksX3_lawWord_0 12 rfl rfl)
theorem dX3_lawWord_14 : decode cX3_lawWord 14 = .ok (.invokevirtual 96, 3) := dk_182 0 96 (dk_at dksX3_lawWord_0 14 rfl rfl)
theorem dX3_lawWord_17 : decode cX3_lawWord 17 = .ok (.ifCond .eq 5, 3) := dk_153 0 5 (dk_at dksX3_lawWord_0 17 rfl rfl)
theorem dX3_lawWord_20 : decode cX3_lawWord 20 = .ok (.iconst 4, 1) := dk_7 (dk_at dksX3_lawWord_0 20 rfl rfl)
theorem dX3_lawWord_21 : decode cX3_lawWord 21 = .ok (.ireturn, 1) := dk_172 (dk_at dksX3_lawWord_0 21 rfl rfl)
theorem dX3_lawWord_22 : decode cX3_lawWord 22 = .ok (.aload_n 0, 1) := dk_42 (dk_at dksX3_lawWord_0 22 rfl rfl)
theorem dX3_lawWord_23 : decode cX3_lawWord 23 = .ok (.ldc 122, 2) := dk_18 122 (dk_at dksX3_lawWord_1 0 rfl rfl)
theorem dX3_lawWord_25 : decode cX3_lawWord 25 = .ok (.invokevirtual 96, 3) := dk_182 0 96 (dk_at dksX3_lawWord_1 2 rfl rfl)
theorem dX3_lawWord_28 : decode cX3_lawWord 28 = .ok (.ifCond .eq 5, 3) := dk_153 0 5 (dk_at dksX3_lawWord_1 5 rfl rfl)
theorem dX3_lawWord_31 : decode cX3_lawWord 31 = .ok (.iconst 5, 1) := dk_8 (dk_at dksX3_lawWord_1 8 rfl rfl)
theorem dX3_lawWord_32 : decode cX3_lawWord 32 = .ok (.ireturn, 1) := dk_172 (dk_at dksX3_lawWord_1 9 rfl rfl)
theorem dX3_lawWord_33 : decode cX3_lawWord 33 = .ok (.aload_n 0, 1) := dk_42 (dk_at dksX3_lawWord_1 10 rfl rfl)
theorem dX3_lawWord_34 : decode cX3_lawWord 34 = .ok (.ldc 124, 2) := dk_18 124 (dk_at dksX3_lawWord_1 11 rfl rfl)
theorem dX3_lawWord_36 : decode cX3_lawWord 36 = .ok (.invokevirtual 96, 3) := dk_182 0 96 (dk_at dksX3_lawWord_1 13 rfl rfl)
theorem dX3_lawWord_39 : decode cX3_lawWord 39 = .ok (.ifCond .eq 6, 3) := dk_153 0 6 (dk_at dksX3_lawWord_1 16 rfl rfl)
theorem dX3_lawWord_42 : decode cX3_lawWord 42 = .ok (.bipush 6, 2) := dk_16 6 (dk_at dksX3_lawWord_1 19 rfl rfl)
theorem dX3_lawWord_44 : decode cX3_lawWord 44 = .ok (.ireturn, 1) := dk_172 (dk_at dksX3_lawWord_1 21 rfl rfl)
theorem dX3_lawWord_45 : decode cX3_lawWord 45 = .ok (.aload_n 0, 1) := dk_42 (dk_at dksX3_lawWord_1 22 rfl rfl)
theorem dX3_lawWord_46 : decode cX3_lawWord 46 = .ok (.ldc 126, 2) := dk_18 126 (dk_at dksX3_lawWord_2 0 rfl rfl)
theorem dX3_lawWord_48 : decode cX3_lawWord 48 = .ok (.invokevirtual 96, 3) := dk_182 0 96 (dk_at dksX3_lawWord_2 2 rfl rfl)
theorem dX3_lawWord_51 : decode cX3_lawWord 51 = .ok (.ifCond .eq 6, 3) := dk_153 0 6 (dk_at dksX3_lawWord_2 5 rfl rfl)
theorem dX3_lawWord_54 : decode cX3_lawWord 54 = .ok (.bipush 20, 2) := dk_16 20 (dk_at dksX3_lawWord_2 8 rfl rfl)
theorem dX3_lawWord_56 : decode cX3_lawWord 56 = .ok (.ireturn, 1) := dk_172 (dk_at dksX3_lawWord_2 10 rfl rfl)
theorem dX3_lawWord_57 : decode cX3_lawWord 57 = .ok (.aload_n 0, 1) := dk_42 (dk_at dksX3_lawWord_2 11 rfl rfl)
theorem dX3_lawWord_58 : decode cX3_lawWord 58 = .ok (.ldc 128, 2) := dk_18 128 (dk_at dksX3_lawWord_2 12 rfl rfl)
theorem dX3_lawWord_60 : decode cX3_lawWord 60 = .ok (.invokevirtual 96, 3) := dk_182 0 96 (dk_at dksX3_lawWord_2 14 rfl rfl)
theorem dX3_lawWord_63 : decode cX3_lawWord 63 = .ok (.ifCond .eq 6, 3) := dk_153 0 6 (dk_at dksX3_lawWord_2 17 rfl rfl)
theorem dX3_lawWord_66 : decode cX3_lawWord 66 = .ok (.bipush 21, 2) := dk_16 21 (dk_at dksX3_lawWord_2 20 rfl rfl)
theorem dX3_lawWord_68 : decode cX3_lawWord 68 = .ok (.ireturn, 1) := dk_172 (dk_at dksX3_lawWord_2 22 rfl rfl)
theorem dX3_lawWord_69 : decode cX3_lawWord 69 = .ok (.aload_n 0, 1) := dk_42 (dk_at dksX3_lawWord_2 23 rfl rfl)
theorem dX3_lawWord_70 : decode cX3_lawWord 70 = .ok (.ldc 130, 2) := dk_18 130 (dk_at dksX3_lawWord_3 0 rfl rfl)
theorem dX3_lawWord_72 : decode cX3_lawWord 72 = .ok (.invokevirtual 96, 3) := dk_182 0 96 (dk_at dksX3_lawWord_3 2 rfl rfl)
theorem dX3_lawWord_75 : decode cX3_lawWord 75 = .ok (.ifCond .eq 8, 3) := dk_153 0 8 (dk_at dksX3_lawWord_3 5 rfl rfl)
theorem dX3_lawWord_78 : decode cX3_lawWord 78 = .ok (.bipush 22, 2) := dk_16 22 (dk_at dksX3_lawWord_3 8 rfl rfl)
theorem dX3_lawWord_80 : decode cX3_lawWord 80 = .ok (.goto 7, 3) := dk_167 0 7 (dk_at dksX3_lawWord_3 10 rfl rfl)
theorem dX3_lawWord_83 : decode cX3_lawWord 83 = .ok (.aload_n 0, 1) := dk_42 (dk_at dksX3_lawWord_3 13 rfl rfl)
theorem dX3_lawWord_84 : decode cX3_lawWord 84 = .ok (.invokevirtual 132, 3) := dk_182 0 132 (dk_at dksX3_lawWord_3 14 rfl rfl)
theorem dX3_lawWord_87 : decode cX3_lawWord 87 = .ok (.ireturn, 1) := dk_172 (dk_at dksX3_lawWord_3 17 rfl rfl)
abbrev cX3_asked : ByteArray := prog_17_method_23_code
def yX3_asked : MethodName := ⟨RX3, "asked", "()I"⟩
def dkwX3_asked_5 : List UInt8 := [167, 0, 4, 4, 172]
abbrev dktX3_asked_5 : List UInt8 := dkwX3_asked_5 ++ []
def dkwX3_asked_4 : List UInt8 := [42, 18, 114, 182, 0, 96, 153, 0, 6, 16, 49, 172, 42, 18, 116, 182, 0, 96, 153, 0, 8, 16, 50]
abbrev dktX3_asked_4 : List UInt8 := dkwX3_asked_4 ++ dktX3_asked_5
def dkwX3_asked_3 : List UInt8 := [42, 18, 110, 182, 0, 96, 153, 0, 6, 16, 47, 172, 42, 18, 112, 182, 0, 96, 153, 0, 6, 16, 48, 172]
abbrev dktX3_asked_3 : List UInt8 := dkwX3_asked_3 ++ dktX3_asked_4
def dkwX3_asked_2 : List UInt8 := [42, 18, 106, 182, 0, 96, 153, 0, 6, 16, 45, 172, 42, 18, 108, 182, 0, 96, 153, 0, 6, 16, 46, 172]
abbrev dktX3_asked_2 : List UInt8 := dkwX3_asked_2 ++ dktX3_asked_3
def dkwX3_asked_1 : List UInt8 := [42, 18, 102, 182, 0, 96, 153, 0, 6, 16, 43, 172, 42, 18, 104, 182, 0, 96, 153, 0, 6, 16, 44, 172]
abbrev dktX3_asked_1 : List UInt8 := dkwX3_asked_1 ++ dktX3_asked_2
def dkwX3_asked_0 : List UInt8 := [42, 18, 94, 182, 0, 96, 153, 0, 6, 16, 41, 172, 42, 18, 100, 182, 0, 96, 153, 0, 6, 16, 42, 172]
abbrev dktX3_asked_0 : List UInt8 := dkwX3_asked_0 ++ dktX3_asked_1
theorem dksX3_asked_0 : cX3_asked.data.toList.drop 0 = dktX3_asked_0 := by decide +kernel
theorem dksX3_asked_1 : cX3_asked.data.toList.drop 24 = dktX3_asked_1 := dk_seg dksX3_asked_0 24 rfl rfl
theorem dksX3_asked_2 : cX3_asked.data.toList.drop 48 = dktX3_asked_2 := dk_seg dksX3_asked_1 24 rfl rfl
theorem dksX3_asked_3 : cX3_asked.data.toList.drop 72 = dktX3_asked_3 := dk_seg dksX3_asked_2 24 rfl rfl
theorem dksX3_asked_4 : cX3_asked.data.toList.drop 96 = dktX3_asked_4 := dk_seg dksX3_asked_3 24 rfl rfl
theorem dksX3_asked_5 : cX3_asked.data.toList.drop 119 = dktX3_asked_5 := dk_seg dksX3_asked_4 23 rfl rfl
theorem dX3_asked_0 : decode cX3_asked 0 = .ok (.aload_n 0, 1) := dk_42 (dk_at dksX3_asked_0 0 rfl rfl)
theorem dX3_asked_1 : decode cX3_asked 1 = .ok (.ldc 94, 2) := dk_18 94 (dk_at dksX3_asked_0 1 rfl rfl)
theorem dX3_asked_3 : decode cX3_asked 3 = .ok (.invokevirtual 96, 3) := dk_182 0 96 (dk_at dksX3_asked_0 3 rfl rfl)
theorem dX3_asked_6 : decode cX3_asked 6 = .ok (.ifCond .eq 6, 3) := dk_153 0 6 (dk_at dksX3_asked_0 6 rfl rfl)
theorem dX3_asked_9 : decode cX3_asked 9 = .ok (.bipush 41, 2) := dk_16 41 (dk_at dksX3_asked_0 9 rfl rfl)
theorem dX3_asked_11 : decode cX3_asked 11 = .ok (.ireturn, 1) := dk_172 (dk_at dksX3_asked_0 11 rfl rfl)
theorem dX3_asked_12 : decode cX3_asked 12 = .ok (.aload_n 0, 1) := dk_42 (dk_at dksX3_asked_0 12 rfl rfl)
theorem dX3_asked_13 : decode cX3_asked 13 = .ok (.ldc 100, 2) := dk_18 100 (dk_at dksX3_asked_0 13 rfl rfl)
theorem dX3_asked_15 : decode cX3_asked 15 = .ok (.invokevirtual 96, 3) := dk_182 0 96 (dk_at dksX3_asked_0 15 rfl rfl)
theorem dX3_asked_18 : decode cX3_asked 18 = .ok (.ifCond .eq 6, 3) := dk_153 0 6 (dk_at dksX3_asked_0 18 rfl rfl)
theorem dX3_asked_21 : decode cX3_asked 21 = .ok (.bipush 42, 2) := dk_16 42 (dk_at dksX3_asked_0 21 rfl rfl)
theorem dX3_asked_23 : decode cX3_asked 23 = .ok (.ireturn, 1) := dk_172 (dk_at dksX3_asked_0 23 rfl rfl)
theorem dX3_asked_24 : decode cX3_asked 24 = .ok (.aload_n 0, 1) := dk_42 (dk_at dksX3_asked_1 0 rfl rfl)
theorem dX3_asked_25 : decode cX3_asked 25 = .ok (.ldc 102, 2) := dk_18 102 (dk_at dksX3_asked_1 1 rfl rfl)
theorem dX3_asked_27 : decode cX3_asked 27 = .ok (.invokevirtual 96, 3) := dk_182 0 96 (dk_at dksX3_asked_1 3 rfl rfl)
theorem dX3_asked_30 : decode cX3_asked 30 = .ok (.ifCond .eq 6, 3) := dk_153 0 6 (dk_at dksX3_asked_1 6 rfl rfl)
theorem dX3_asked_33 : decode cX3_asked 33 = .ok (.bipush 43, 2) := dk_16 43 (dk_at dksX3_asked_1 9 rfl rfl)
theorem dX3_asked_35 : decode cX3_asked 35 = .ok (.ireturn, 1) := dk_172 (dk_at dksX3_asked_1 11 rfl rfl)
theorem dX3_asked_36 : decode cX3_asked 36 = .ok (.aload_n 0, 1) := dk_42 (dk_at dksX3_asked_1 12 rfl rfl)
theorem dX3_asked_37 : decode cX3_asked 37 = .ok (.ldc 104, 2) := dk_18 104 (dk_at dksX3_asked_1 13 rfl rfl)
theorem dX3_asked_39 : decode cX3_asked 39 = .ok (.invokevirtual 96, 3) := dk_182 0 96 (dk_at dksX3_asked_1 15 rfl rfl)
theorem dX3_asked_42 : decode cX3_asked 42 = .ok (.ifCond .eq 6, 3) := dk_153 0 6 (dk_at dksX3_asked_1 18 rfl rfl)
theorem dX3_asked_45 : decode cX3_asked 45 = .ok (.bipush 44, 2) := dk_16 44 (dk_at dksX3_asked_1 21 rfl rfl)
theorem dX3_asked_47 : decode cX3_asked 47 = .ok (.ireturn, 1) := dk_172 (dk_at dksX3_asked_1 23 rfl rfl)
theorem dX3_asked_48 : decode cX3_asked 48 = .ok (.aload_n 0, 1) := dk_42 (dk_at dksX3_asked_2 0 rfl rfl)
theorem dX3_asked_49 : decode cX3_asked 49 = .ok (.ldc 106, 2) := dk_18 106 (dk_at dksX3_asked_2 1 rfl rfl)
theorem dX3_asked_51 : decode cX3_asked 51 = .ok (.invokevirtual 96, 3) := dk_182 0 96 (dk_at dksX3_asked_2 3 rfl rfl)
theorem dX3_asked_54 : decode cX3_asked 54 = .ok (.ifCond .eq 6, 3) := dk_153 0 6 (dk_at dksX3_asked_2 6 rfl rfl)
theorem dX3_asked_57 : decode cX3_asked 57 = .ok (.bipush 45, 2) := dk_16 45 (dk_at dksX3_asked_2 9 rfl rfl)
theorem dX3_asked_59 : decode cX3_asked 59 = .ok (.ireturn, 1) := dk_172 (dk_at dksX3_asked_2 11 rfl rfl)
theorem dX3_asked_60 : decode cX3_asked 60 = .ok (.aload_n 0, 1) := dk_42 (dk_at dksX3_asked_2 12 rfl rfl)
theorem dX3_asked_61 : decode cX3_asked 61 = .ok (.ldc 108, 2) := dk_18 108 (dk_at dksX3_asked_2 13 rfl rfl)
theorem dX3_asked_63 : decode cX3_asked 63 = .ok (.invokevirtual 96, 3) := dk_182 0 96 (dk_at dksX3_asked_2 15 rfl rfl)
theorem dX3_asked_66 : decode cX3_asked 66 = .ok (.ifCond .eq 6, 3) := dk_153 0 6 (dk_at dksX3_asked_2 18 rfl rfl)
theorem dX3_asked_69 : decode cX3_asked 69 = .ok (.bipush 46, 2) := dk_16 46 (dk_at dksX3_asked_2 21 rfl rfl)
theorem dX3_asked_71 : decode cX3_asked 71 = .ok (.ireturn, 1) := dk_172 (dk_at dksX3_asked_2 23 rfl rfl)
theorem dX3_asked_72 : decode cX3_asked 72 = .ok (.aload_n 0, 1) := dk_42 (dk_at dksX3_asked_3 0 rfl rfl)
theorem dX3_asked_73 : decode cX3_asked 73 = .ok (.ldc 110, 2) := dk_18 110 (dk_at dksX3_asked_3 1 rfl rfl)
theorem dX3_asked_75 : decode cX3_asked 75 = .ok (.invokevirtual 96, 3) := dk_182 0 96 (dk_at dksX3_asked_3 3 rfl rfl)
theorem dX3_asked_78 : decode cX3_asked 78 = .ok (.ifCond .eq 6, 3) := dk_153 0 6 (dk_at dksX3_asked_3 6 rfl rfl)
theorem dX3_asked_81 : decode cX3_asked 81 = .ok (.bipush 47, 2) := dk_16 47 (dk_at dksX3_asked_3 9 rfl rfl)
theorem dX3_asked_83 : decode cX3_asked 83 = .ok (.ireturn, 1) := dk_172 (dk_at dksX3_asked_3 11 rfl rfl)
theorem dX3_asked_84 : decode cX3_asked 84 = .ok (.aload_n 0, 1) := dk_42 (dk_at dksX3_asked_3 12 rfl rfl)
theorem dX3_asked_85 : decode cX3_asked 85 = .ok (.ldc 112, 2) := dk_18 112 (dk_at dksX3_asked_3 13 rfl rfl)
theorem dX3_asked_87 : decode cX3_asked 87 = .ok (.invokevirtual 96, 3) := dk_182 0 96 (dk_at dksX3_asked_3 15 rfl rfl)
theorem dX3_asked_90 : decode cX3_asked 90 = .ok (.ifCond .eq 6, 3) := dk_153 0 6 (dk_at dksX3_asked_3 18 rfl rfl)
theorem dX3_asked_93 : decode cX3_asked 93 = .ok (.bipush 48, 2) := dk_16 48 (dk_at dksX3_asked_3 21 rfl rfl)
theorem dX3_asked_95 : decode cX3_asked 95 = .ok (.ireturn, 1) := dk_172 (dk_at dksX3_asked_3 23 rfl rfl)
theorem dX3_asked_96 : decode cX3_asked 96 = .ok (.aload_n 0, 1) := dk_42 (dk_at dksX3_asked_4 0 rfl rfl)
theorem dX3_asked_97 : decode cX3_asked 97 = .ok (.ldc 114, 2) := dk_18 114 (dk_at dksX3_asked_4 1 rfl rfl)
theorem dX3_asked_99 : decode cX3_asked 99 = .ok (.invokevirtual 96, 3) := dk_182 0 96 (dk_at dksX3_asked_4 3 rfl rfl)
theorem dX3_asked_102 : decode cX3_asked 102 = .ok (.ifCond .eq 6, 3) := dk_153 0 6 (dk_at dksX3_asked_4 6 rfl rfl)
theorem dX3_asked_105 : decode cX3_asked 105 = .ok (.bipush 49, 2) := dk_16 49 (dk_at dksX3_asked_4 9 rfl rfl)
theorem dX3_asked_107 : decode cX3_asked 107 = .ok (.ireturn, 1) := dk_172 (dk_at dksX3_asked_4 11 rfl rfl)
theorem dX3_asked_108 : decode cX3_asked 108 = .ok (.aload_n 0, 1) := dk_42 (dk_at dksX3_asked_4 12 rfl rfl)
theorem dX3_asked_109 : decode cX3_asked 109 = .ok (.ldc 116, 2) := dk_18 116 (dk_at dksX3_asked_4 13 rfl rfl)
theorem dX3_asked_111 : decode cX3_asked 111 = .ok (.invokevirtual 96, 3) := dk_182 0 96 (dk_at dksX3_asked_4 15 rfl rfl)
theorem dX3_asked_114 : decode cX3_asked 114 = .ok (.ifCond .eq 8, 3) := dk_153 0 8 (dk_at dksX3_asked_4 18 rfl rfl)
theorem dX3_asked_117 : decode cX3_asked 117 = .ok (.bipush 50, 2) := dk_16 50 (dk_at dksX3_asked_4 21 rfl rfl)
theorem dX3_asked_119 : decode cX3_asked 119 = .ok (.goto 4, 3) := dk_167 0 4 (dk_at dksX3_asked_5 0 rfl rfl)
theorem dX3_asked_122 : decode cX3_asked 122 = .ok (.iconst 1, 1) := dk_4 (dk_at dksX3_asked_5 3 rfl rfl)
theorem dX3_asked_123 : decode cX3_asked 123 = .ok (.ireturn, 1) := dk_172 (dk_at dksX3_asked_5 4 rfl rfl)
abbrev cX3_isDigit : ByteArray := prog_17_method_21_code
def yX3_isDigit : MethodName := ⟨RX3, "isDigit", "(I)Z"⟩
def dkwX3_isDigit_0 : List UInt8 := [26, 16, 48, 16, 57, 184, 0, 59, 172]
abbrev dktX3_isDigit_0 : List UInt8 := dkwX3_isDigit_0 ++ []
theorem dksX3_isDigit_0 : cX3_isDigit.data.toList.drop 0 = dktX3_isDigit_0 := by decide +kernel
theorem dX3_isDigit_0 : decode cX3_isDigit 0 = .ok (.iload_n 0, 1) := dk_26 (dk_at dksX3_isDigit_0 0 rfl rfl)
theorem dX3_isDigit_1 : decode cX3_isDigit 1 = .ok (.bipush 48, 2) := dk_16 48 (dk_at dksX3_isDigit_0 1 rfl rfl)
theorem dX3_isDigit_3 : decode cX3_isDigit 3 = .ok (.bipush 57, 2) := dk_16 57 (dk_at dksX3_isDigit_0 3 rfl rfl)
theorem dX3_isDigit_5 : decode cX3_isDigit 5 = .ok (.invokestatic 59, 3) := dk_184 0 59 (dk_at dksX3_isDigit_0 5 rfl rfl)
theorem dX3_isDigit_8 : decode cX3_isDigit 8 = .ok (.ireturn, 1) := dk_172 (dk_at dksX3_isDigit_0 8 rfl rfl)
abbrev cX3_readsLaw : ByteArray := prog_17_method_38_code
def yX3_readsLaw : MethodName := ⟨RX3, "readsLaw", "()Z"⟩
def dkwX3_readsLaw_2 : List UInt8 := [167, 255, 222, 27, 172]
abbrev dktX3_readsLaw_2 : List UInt8 := dkwX3_readsLaw_2 ++ []
def dkwX3_readsLaw_1 : List UInt8 := [182, 0, 226, 60, 42, 89, 180, 0, 223, 27, 153, 0, 7, 4, 167, 0, 4, 3, 96, 181, 0, 223]
abbrev dktX3_readsLaw_1 : List UInt8 := dkwX3_readsLaw_1 ++ dktX3_readsLaw_2
def dkwX3_readsLaw_0 : List UInt8 := [42, 3, 181, 0, 223, 42, 3, 181, 0, 188, 4, 60, 27, 153, 0, 36, 42, 180, 0, 161, 153, 0, 29, 42]
abbrev dktX3_readsLaw_0 : List UInt8 := dkwX3_readsLaw_0 ++ dktX3_readsLaw_1
theorem dksX3_readsLaw_0 : cX3_readsLaw.data.toList.drop 0 = dktX3_readsLaw_0 := by decide +kernel
theorem dksX3_readsLaw_1 : cX3_readsLaw.data.toList.drop 24 = dktX3_readsLaw_1 := dk_seg dksX3_readsLaw_0 24 rfl rfl
theorem dksX3_readsLaw_2 : cX3_readsLaw.data.toList.drop 46 = dktX3_readsLaw_2 := dk_seg dksX3_readsLaw_1 22 rfl rfl
theorem dX3_readsLaw_0 : decode cX3_readsLaw 0 = .ok (.aload_n 0, 1) := dk_42 (dk_at dksX3_readsLaw_0 0 rfl rfl)
theorem dX3_readsLaw_1 : decode cX3_readsLaw 1 = .ok (.iconst 0, 1) := dk_3 (dk_at dksX3_readsLaw_0 1 rfl rfl)
theorem dX3_readsLaw_2 : decode cX3_readsLaw 2 = .ok (.putfield 223, 3) := dk_181 0 223 (dk_at dksX3_readsLaw_0 2 rfl rfl)
theorem dX3_readsLaw_5 : decode cX3_readsLaw 5 = .ok (.aload_n 0, 1) := dk_42 (dk_at dksX3_readsLaw_0 5 rfl rfl)
theorem dX3_readsLaw_6 : decode cX3_readsLaw 6 = .ok (.iconst 0, 1) := dk_3 (dk_at dksX3_readsLaw_0 6 rfl rfl)
theorem dX3_readsLaw_7 : decode cX3_readsLaw 7 = .ok (.putfield 188, 3) := dk_181 0 188 (dk_at dksX3_readsLaw_0 7 rfl rfl)
theorem dX3_readsLaw_10 : decode cX3_readsLaw 10 = .ok (.iconst 1, 1) := dk_4 (dk_at dksX3_readsLaw_0 10 rfl rfl)
theorem dX3_readsLaw_11 : decode cX3_readsLaw 11 = .ok (.istore_n 1, 1) := dk_60 (dk_at dksX3_readsLaw_0 11 rfl rfl)
theorem dX3_readsLaw_12 : decode cX3_readsLaw 12 = .ok (.iload_n 1, 1) := dk_27 (dk_at dksX3_readsLaw_0 12 rfl rfl)
theorem dX3_readsLaw_13 : decode cX3_readsLaw 13 = .ok (.ifCond .eq 36, 3) := dk_153 0 36 (dk_at dksX3_readsLaw_0 13 rfl rfl)
theorem dX3_readsLaw_16 : decode cX3_readsLaw 16 = .ok (.aload_n 0, 1) := dk_42 (dk_at dksX3_readsLaw_0 16 rfl rfl)
theorem dX3_readsLaw_17 : decode cX3_readsLaw 17 = .ok (.getfield 161, 3) := dk_180 0 161 (dk_at dksX3_readsLaw_0 17 rfl rfl)
theorem dX3_readsLaw_20 : decode cX3_readsLaw 20 = .ok (.ifCond .eq 29, 3) := dk_153 0 29 (dk_at dksX3_readsLaw_0 20 rfl rfl)
theorem dX3_readsLaw_23 : decode cX3_readsLaw 23 = .ok (.aload_n 0, 1) := dk_42 (dk_at dksX3_readsLaw_0 23 rfl rfl)
theorem dX3_readsLaw_24 : decode cX3_readsLaw 24 = .ok (.invokevirtual 226, 3) := dk_182 0 226 (dk_at dksX3_readsLaw_1 0 rfl rfl)
theorem dX3_readsLaw_27 : decode cX3_readsLaw 27 = .ok (.istore_n 1, 1) := dk_60 (dk_at dksX3_readsLaw_1 3 rfl rfl)
theorem dX3_readsLaw_28 : decode cX3_readsLaw 28 = .ok (.aload_n 0, 1) := dk_42 (dk_at dksX3_readsLaw_1 4 rfl rfl)
theorem dX3_readsLaw_29 : decode cX3_readsLaw 29 = .ok (.dup, 1) := dk_89 (dk_at dksX3_readsLaw_1 5 rfl rfl)
theorem dX3_readsLaw_30 : decode cX3_readsLaw 30 = .ok (.getfield 223, 3) := dk_180 0 223 (dk_at dksX3_readsLaw_1 6 rfl rfl)
theorem dX3_readsLaw_33 : decode cX3_readsLaw 33 = .ok (.iload_n 1, 1) := dk_27 (dk_at dksX3_readsLaw_1 9 rfl rfl)
theorem dX3_readsLaw_34 : decode cX3_readsLaw 34 = .ok (.ifCond .eq 7, 3) := dk_153 0 7 (dk_at dksX3_readsLaw_1 10 rfl rfl)
theorem dX3_readsLaw_37 : decode cX3_readsLaw 37 = .ok (.iconst 1, 1) := dk_4 (dk_at dksX3_readsLaw_1 13 rfl rfl)
theorem dX3_readsLaw_38 : decode cX3_readsLaw 38 = .ok (.goto 4, 3) := dk_167 0 4 (dk_at dksX3_readsLaw_1 14 rfl rfl)
theorem dX3_readsLaw_41 : decode cX3_readsLaw 41 = .ok (.iconst 0, 1) := dk_3 (dk_at dksX3_readsLaw_1 17 rfl rfl)
theorem dX3_readsLaw_42 : decode cX3_readsLaw 42 = .ok (.iadd, 1) := dk_96 (dk_at dksX3_readsLaw_1 18 rfl rfl)
theorem dX3_readsLaw_43 : decode cX3_readsLaw 43 = .ok (.putfield 223, 3) := dk_181 0 223 (dk_at dksX3_readsLaw_1 19 rfl rfl)
theorem dX3_readsLaw_46 : decode cX3_readsLaw 46 = .ok (.goto (-34), 3) := dk_167 255 222 (dk_at dksX3_readsLaw_2 0 rfl rfl)
theorem dX3_readsLaw_49 : decode cX3_readsLaw 49 = .ok (.iload_n 1, 1) := dk_27 (dk_at dksX3_readsLaw_2 3 rfl rfl)
theorem dX3_readsLaw_50 : decode cX3_readsLaw 50 = .ok (.ireturn, 1) := dk_172 (dk_at dksX3_readsLaw_2 4 rfl rfl)
abbrev cX3_aLine : ByteArray := prog_17_method_37_code
def yX3_aLine : MethodName := ⟨RX3, "aLine", "()Z"⟩
def dkwX3_aLine_6 : List UInt8 := [17, 0, 159, 182, 0, 217, 172]
abbrev dktX3_aLine_6 : List UInt8 := dkwX3_aLine_6 ++ []
def dkwX3_aLine_5 : List UInt8 := [154, 0, 5, 3, 172, 42, 180, 0, 22, 7, 42, 180, 0, 223, 104, 5, 96, 42, 180, 0, 188, 79, 42]
abbrev dktX3_aLine_5 : List UInt8 := dkwX3_aLine_5 ++ dktX3_aLine_6
def dkwX3_aLine_4 : List UInt8 := [104, 4, 96, 42, 180, 0, 188, 79, 42, 180, 0, 161, 6, 160, 0, 16, 42, 182, 0, 185, 42, 182, 0, 214]
abbrev dktX3_aLine_4 : List UInt8 := dkwX3_aLine_4 ++ dktX3_aLine_5
def dkwX3_aLine_3 : List UInt8 := [104, 42, 180, 0, 188, 79, 42, 182, 0, 220, 154, 0, 5, 3, 172, 42, 180, 0, 22, 7, 42, 180, 0, 223]
abbrev dktX3_aLine_3 : List UInt8 := dkwX3_aLine_3 ++ dktX3_aLine_4
def dkwX3_aLine_2 : List UInt8 := [180, 0, 223, 104, 6, 96, 42, 180, 0, 161, 79, 42, 182, 0, 185, 42, 180, 0, 22, 7, 42, 180, 0, 223]
abbrev dktX3_aLine_2 : List UInt8 := dkwX3_aLine_2 ++ dktX3_aLine_3
def dkwX3_aLine_1 : List UInt8 := [16, 16, 160, 0, 9, 42, 6, 182, 0, 182, 172, 42, 3, 181, 0, 191, 42, 180, 0, 22, 7, 42]
abbrev dktX3_aLine_1 : List UInt8 := dkwX3_aLine_1 ++ dktX3_aLine_2
def dkwX3_aLine_0 : List UInt8 := [42, 180, 0, 161, 16, 20, 16, 22, 184, 0, 59, 154, 0, 9, 42, 4, 182, 0, 182, 172, 42, 180, 0, 223]
abbrev dktX3_aLine_0 : List UInt8 := dkwX3_aLine_0 ++ dktX3_aLine_1
theorem dksX3_aLine_0 : cX3_aLine.data.toList.drop 0 = dktX3_aLine_0 := by decide +kernel
theorem dksX3_aLine_1 : cX3_aLine.data.toList.drop 24 = dktX3_aLine_1 := dk_seg dksX3_aLine_0 24 rfl rfl
theorem dksX3_aLine_2 : cX3_aLine.data.toList.drop 46 = dktX3_aLine_2 := dk_seg dksX3_aLine_1 22 rfl rfl
theorem dksX3_aLine_3 : cX3_aLine.data.toList.drop 70 = dktX3_aLine_3 := dk_seg dksX3_aLine_2 24 rfl rfl
theorem dksX3_aLine_4 : cX3_aLine.data.toList.drop 94 = dktX3_aLine_4 := dk_seg dksX3_aLine_3 24 rfl rfl
theorem dksX3_aLine_5 : cX3_aLine.data.toList.drop 118 = dktX3_aLine_5 := dk_seg dksX3_aLine_4 24 rfl rfl
theorem dksX3_aLine_6 : cX3_aLine.data.toList.drop 141 = dktX3_aLine_6 := dk_seg dksX3_aLine_5 23 rfl rfl
theorem dX3_aLine_0 : decode cX3_aLine 0 = .ok (.aload_n 0, 1) := dk_42 (dk_at dksX3_aLine_0 0 rfl rfl)
theorem dX3_aLine_1 : decode cX3_aLine 1 = .ok (.getfield 161, 3) := dk_180 0 161 (dk_at dksX3_aLine_0 1 rfl rfl)
theorem dX3_aLine_4 : decode cX3_aLine 4 = .ok (.bipush 20, 2) := dk_16 20 (dk_at dksX3_aLine_0 4 rfl rfl)
theorem dX3_aLine_6 : decode cX3_aLine 6 = .ok (.bipush 22, 2) := dk_16 22 (dk_at dksX3_aLine_0 6 rfl rfl)
theorem dX3_aLine_8 : decode cX3_aLine 8 = .ok (.invokestatic 59, 3) := dk_184 0 59 (dk_at dksX3_aLine_0 8 rfl rfl)
theorem dX3_aLine_11 : decode cX3_aLine 11 = .ok (.ifCond .ne 9, 3) := dk_154 0 9 (dk_at dksX3_aLine_0 11 rfl rfl)
theorem dX3_aLine_14 : decode cX3_aLine 14 = .ok (.aload_n 0, 1) := dk_42 (dk_at dksX3_aLine_0 14 rfl rfl)
theorem dX3_aLine_15 : decode cX3_aLine 15 = .ok (.iconst 1, 1) := dk_4 (dk_at dksX3_aLine_0 15 rfl rfl)
theorem dX3_aLine_16 : decode cX3_aLine 16 = .ok (.invokevirtual 182, 3) := dk_182 0 182 (dk_at dksX3_aLine_0 16 rfl rfl)
theorem dX3_aLine_19 : decode cX3_aLine 19 = .ok (.ireturn, 1) := dk_172 (dk_at dksX3_aLine_0 19 rfl rfl)
theorem dX3_aLine_20 : decode cX3_aLine 20 = .ok (.aload_n 0, 1) := dk_42 (dk_at dksX3_aLine_0 20 rfl rfl)
theorem dX3_aLine_21 : decode cX3_aLine 21 = .ok (.getfield 223, 3) := dk_180 0 223 (dk_at dksX3_aLine_0 21 rfl rfl)
theorem dX3_aLine_24 : decode cX3_aLine 24 = .ok (.bipush 16, 2) := dk_16 16 (dk_at dksX3_aLine_1 0 rfl rfl)
theorem dX3_aLine_26 : decode cX3_aLine 26 = .ok (.if_icmp .ne 9, 3) := dk_160 0 9 (dk_at dksX3_aLine_1 2 rfl rfl)
theorem dX3_aLine_29 : decode cX3_aLine 29 = .ok (.aload_n 0, 1) := dk_42 (dk_at dksX3_aLine_1 5 rfl rfl)
theorem dX3_aLine_30 : decode cX3_aLine 30 = .ok (.iconst 3, 1) := dk_6 (dk_at dksX3_aLine_1 6 rfl rfl)
theorem dX3_aLine_31 : decode cX3_aLine 31 = .ok (.invokevirtual 182, 3) := dk_182 0 182 (dk_at dksX3_aLine_1 7 rfl rfl)
theorem dX3_aLine_34 : decode cX3_aLine 34 = .ok (.ireturn, 1) := dk_172 (dk_at dksX3_aLine_1 10 rfl rfl)
theorem dX3_aLine_35 : decode cX3_aLine 35 = .ok (.aload_n 0, 1) := dk_42 (dk_at dksX3_aLine_1 11 rfl rfl)
theorem dX3_aLine_36 : decode cX3_aLine 36 = .ok (.iconst 0, 1) := dk_3 (dk_at dksX3_aLine_1 12 rfl rfl)
theorem dX3_aLine_37 : decode cX3_aLine 37 = .ok (.putfield 191, 3) := dk_181 0 191 (dk_at dksX3_aLine_1 13 rfl rfl)
theorem dX3_aLine_40 : decode cX3_aLine 40 = .ok (.aload_n 0, 1) := dk_42 (dk_at dksX3_aLine_1 16 rfl rfl)
theorem dX3_aLine_41 : decode cX3_aLine 41 = .ok (.getfield 22, 3) := dk_180 0 22 (dk_at dksX3_aLine_1 17 rfl rfl)
theorem dX3_aLine_44 : decode cX3_aLine 44 = .ok (.iconst 4, 1) := dk_7 (dk_at dksX3_aLine_1 20 rfl rfl)
theorem dX3_aLine_45 : decode cX3_aLine 45 = .ok (.aload_n 0, 1) := dk_42 (dk_at dksX3_aLine_1 21 rfl rfl)
theorem dX3_aLine_46 : decode cX3_aLine 46 = .ok (.getfield 223, 3) := dk_180 0 223 (dk_at dksX3_aLine_2 0 rfl rfl)
theorem dX3_aLine_49 : decode cX3_aLine 49 = .ok (.imul, 1) := dk_104 (dk_at dksX3_aLine_2 3 rfl rfl)
theorem dX3_aLine_50 : decode cX3_aLine 50 = .ok (.iconst 3, 1) := dk_6 (dk_at dksX3_aLine_2 4 rfl rfl)
theorem dX3_aLine_51 : decode cX3_aLine 51 = .ok (.iadd, 1) := dk_96 (dk_at dksX3_aLine_2 5 rfl rfl)
theorem dX3_aLine_52 : decode cX3_aLine 52 = .ok (.aload_n 0, 1) := dk_42 (dk_at dksX3_aLine_2 6 rfl rfl)
theorem dX3_aLine_53 : decode cX3_aLine 53 = .ok (.getfield 161, 3) := dk_180 0 161 (dk_at dksX3_aLine_2 7 rfl rfl)
theorem dX3_aLine_56 : decode cX3_aLine 56 = .ok (.iastore, 1) := dk_79 (dk_at dksX3_aLine_2 10 rfl rfl)
theorem dX3_aLine_57 : decode cX3_aLine 57 = .ok (.aload_n 0, 1) := dk_42 (dk_at dksX3_aLine_2 11 rfl rfl)
theorem dX3_aLine_58 : decode cX3_aLine 58 = .ok (.invokevirtual 185, 3) := dk_182 0 185 (dk_at dksX3_aLine_2 12 rfl rfl)
theorem dX3_aLine_61 : decode cX3_aLine 61 = .ok (.aload_n 0, 1) := dk_42 (dk_at dksX3_aLine_2 15 rfl rfl)
theorem dX3_aLine_62 : decode cX3_aLine 62 = .ok (.getfield 22, 3) := dk_180 0 22 (dk_at dksX3_aLine_2 16 rfl rfl)
theorem dX3_aLine_65 : decode cX3_aLine 65 = .ok (.iconst 4, 1) := dk_7 (dk_at dksX3_aLine_2 19 rfl rfl)
theorem dX3_aLine_66 : decode cX3_aLine 66 = .ok (.aload_n 0, 1) := dk_42 (dk_at dksX3_aLine_2 20 rfl rfl)
theorem dX3_aLine_67 : decode cX3_aLine 67 = .ok (.getfield 223, 3) := dk_180 0 223 (dk_at dksX3_aLine_2 21 rfl rfl)
theorem dX3_aLine_70 : decode cX3_aLine 70 = .ok (.imul, 1) := dk_104 (dk_at dksX3_aLine_3 0 rfl rfl)
theorem dX3_aLine_71 : decode cX3_aLine 71 = .ok (.aload_n 0, 1) := dk_42 (dk_at dksX3_aLine_3 1 rfl rfl)
theorem dX3_aLine_72 : decode cX3_aLine 72 = .ok (.getfield 188, 3) := dk_180 0 188 (dk_at dksX3_aLine_3 2 rfl rfl)
theorem dX3_aLine_75 : decode cX3_aLine 75 = .ok (.iastore, 1) := dk_79 (dk_at dksX3_aLine_3 5 rfl rfl)
theorem dX3_aLine_76 : decode cX3_aLine 76 = .ok (.aload_n 0, 1) := dk_42 (dk_at dksX3_aLine_3 6 rfl rfl)
theorem dX3_aLine_77 : decode cX3_aLine 77 = .ok (.invokevirtual 220, 3) := dk_182 0 220 (dk_at dksX3_aLine_3 7 rfl rfl)
theorem dX3_aLine_80 : decode cX3_aLine 80 = .ok (.ifCond .ne 5, 3) := dk_154 0 5 (dk_at dksX3_aLine_3 10 rfl rfl)
theorem dX3_aLine_83 : decode cX3_aLine 83 = .ok (.iconst 0, 1) := dk_3 (dk_at dksX3_aLine_3 13 rfl rfl)
theorem dX3_aLine_84 : decode cX3_aLine 84 = .ok (.ireturn, 1) := dk_172 (dk_at dksX3_aLine_3 14 rfl rfl)
theorem dX3_aLine_85 : decode cX3_aLine 85 = .ok (.aload_n 0, 1) := dk_42 (dk_at dksX3_aLine_3 15 rfl rfl)
theorem dX3_aLine_86 : decode cX3_aLine 86 = .ok (.getfield 22, 3) := dk_180 0 22 (dk_at dksX3_aLine_3 16 rfl rfl)
theorem dX3_aLine_89 : decode cX3_aLine 89 = .ok (.iconst 4, 1) := dk_7 (dk_at dksX3_aLine_3 19 rfl rfl)
theorem dX3_aLine_90 : decode cX3_aLine 90 = .ok (.aload_n 0, 1) := dk_42 (dk_at dksX3_aLine_3 20 rfl rfl)
theorem dX3_aLine_91 : decode cX3_aLine 91 = .ok (.getfield 223, 3) := dk_180 0 223 (dk_at dksX3_aLine_3 21 rfl rfl)
theorem dX3_aLine_94 : decode cX3_aLine 94 = .ok (.imul, 1) := dk_104 (dk_at dksX3_aLine_4 0 rfl rfl)
theorem dX3_aLine_95 : decode cX3_aLine 95 = .ok (.iconst 1, 1) := dk_4 (dk_at dksX3_aLine_4 1 rfl rfl)
theorem dX3_aLine_96 : decode cX3_aLine 96 = .ok (.iadd, 1) := dk_96 (dk_at dksX3_aLine_4 2 rfl rfl)
theorem dX3_aLine_97 : decode cX3_aLine 97 = .ok (.aload_n 0, 1) := dk_42 (dk_at dksX3_aLine_4 3 rfl rfl)
theorem dX3_aLine_98 : decode cX3_aLine 98 = .ok (.getfield 188, 3) := dk_180 0 188 (dk_at dksX3_aLine_4 4 rfl rfl)
theorem dX3_aLine_101 : decode cX3_aLine 101 = .ok (.iastore, 1) := dk_79 (dk_at dksX3_aLine_4 7 rfl rfl)
theorem dX3_aLine_102 : decode cX3_aLine 102 = .ok (.aload_n 0, 1) := dk_42 (dk_at dksX3_aLine_4 8 rfl rfl)
theorem dX3_aLine_103 : decode cX3_aLine 103 = .ok (.getfield 161, 3) := dk_180 0 161 (dk_at dksX3_aLine_4 9 rfl rfl)
theorem dX3_aLine_106 : decode cX3_aLine 106 = .ok (.iconst 3, 1) := dk_6 (dk_at dksX3_aLine_4 12 rfl rfl)
theorem dX3_aLine_107 : decode cX3_aLine 107 = .ok (.if_icmp .ne 16, 3) := dk_160 0 16 (dk_at dksX3_aLine_4 13 rfl rfl)
theorem dX3_aLine_110 : decode cX3_aLine 110 = .ok (.aload_n 0, 1) := dk_42 (dk_at dksX3_aLine_4 16 rfl rfl)
theorem dX3_aLine_111 : decode cX3_aLine 111 = .ok (.invokevirtual 185, 3) := dk_182 0 185 (dk_at dksX3_aLine_4 17 rfl rfl)
theorem dX3_aLine_114 : decode cX3_aLine 114 = .ok (.aload_n 0, 1) := dk_42 (dk_at dksX3_aLine_4 20 rfl rfl)
theorem dX3_aLine_115 : decode cX3_aLine 115 = .ok (.invokevirtual 214, 3) := dk_182 0 214 (dk_at dksX3_aLine_4 21 rfl rfl)
theorem dX3_aLine_118 : decode cX3_aLine 118 = .ok (.ifCond .ne 5, 3) := dk_154 0 5 (dk_at dksX3_aLine_5 0 rfl rfl)
theorem dX3_aLine_121 : decode cX3_aLine 121 = .ok (.iconst 0, 1) := dk_3 (dk_at dksX3_aLine_5 3 rfl rfl)
theorem dX3_aLine_122 : decode cX3_aLine 122 = .ok (.ireturn, 1) := dk_172 (dk_at dksX3_aLine_5 4 rfl rfl)
theorem dX3_aLine_123 : decode cX3_aLine 123 = .ok (.aload_n 0, 1) := dk_42 (dk_at dksX3_aLine_5 5 rfl rfl)
theorem dX3_aLine_124 : decode cX3_aLine 124 = .ok (.getfield 22, 3) := dk_180 0 22 (dk_at dksX3_aLine_5 6 rfl rfl)
theorem dX3_aLine_127 : decode cX3_aLine 127 = .ok (.iconst 4, 1) := dk_7 (dk_at dksX3_aLine_5 9 rfl rfl)
theorem dX3_aLine_128 : decode cX3_aLine 128 = .ok (.aload_n 0, 1) := dk_42 (dk_at dksX3_aLine_5 10 rfl rfl)
theorem dX3_aLine_129 : decode cX3_aLine 129 = .ok (.getfield 223, 3) := dk_180 0 223 (dk_at dksX3_aLine_5 11 rfl rfl)
theorem dX3_aLine_132 : decode cX3_aLine 132 = .ok (.imul, 1) := dk_104 (dk_at dksX3_aLine_5 14 rfl rfl)
theorem dX3_aLine_133 : decode cX3_aLine 133 = .ok (.iconst 2, 1) := dk_5 (dk_at dksX3_aLine_5 15 rfl rfl)
theorem dX3_aLine_134 : decode cX3_aLine 134 = .ok (.iadd, 1) := dk_96 (dk_at dksX3_aLine_5 16 rfl rfl)
theorem dX3_aLine_135 : decode cX3_aLine 135 = .ok (.aload_n 0, 1) := dk_42 (dk_at dksX3_aLine_5 17 rfl rfl)
theorem dX3_aLine_136 : decode cX3_aLine 136 = .ok (.getfield 188, 3) := dk_180 0 188 (dk_at dksX3_aLine_5 18 rfl rfl)
theorem dX3_aLine_139 : decode cX3_aLine 139 = .ok (.iastore, 1) := dk_79 (dk_at dksX3_aLine_5 21 rfl rfl)
theorem dX3_aLine_140 : decode cX3_aLine 140 = .ok (.aload_n 0, 1) := dk_42 (dk_at dksX3_aLine_5 22 rfl rfl)
theorem dX3_aLine_141 : decode cX3_aLine 141 = .ok (.sipush 159, 3) := dk_17 0 159 (dk_at dksX3_aLine_6 0 rfl rfl)
theorem dX3_aLine_144 : decode cX3_aLine 144 = .ok (.invokevirtual 217, 3) := dk_182 0 217 (dk_at dksX3_aLine_6 3 rfl rfl)
theorem dX3_aLine_147 : decode cX3_aLine 147 = .ok (.ireturn, 1) := dk_172 (dk_at dksX3_aLine_6 6 rfl rfl)
abbrev cX3_bad : ByteArray := prog_17_method_27_code
def yX3_bad : MethodName := ⟨RX3, "bad", "(I)Z"⟩
def dkwX3_bad_0 : List UInt8 := [42, 27, 181, 0, 176, 42, 42, 180, 0, 81, 181, 0, 179, 3, 172]
abbrev dktX3_bad_0 : List UInt8 := dkwX3_bad_0 ++ []
theorem dksX3_bad_0 : cX3_bad.data.toList.drop 0 = dktX3_bad_0 := by decide +kernel
theorem dX3_bad_0 : decode cX3_bad 0 = .ok (.aload_n 0, 1) := dk_42 (dk_at dksX3_bad_0 0 rfl rfl)
theorem dX3_bad_1 : decode cX3_bad 1 = .ok (.iload_n 1, 1) := dk_27 (dk_at dksX3_bad_0 1 rfl rfl)
theorem dX3_bad_2 : decode cX3_bad 2 = .ok (.putfield 176, 3) := dk_181 0 176 (dk_at dksX3_bad_0 2 rfl rfl)
theorem dX3_bad_5 : decode cX3_bad 5 = .ok (.aload_n 0, 1) := dk_42 (dk_at dksX3_bad_0 5 rfl rfl)
theorem dX3_bad_6 : decode cX3_bad 6 = .ok (.aload_n 0, 1) := dk_42 (dk_at dksX3_bad_0 6 rfl rfl)
theorem dX3_bad_7 : decode cX3_bad 7 = .ok (.getfield 81, 3) := dk_180 0 81 (dk_at dksX3_bad_0 7 rfl rfl)
theorem dX3_bad_10 : decode cX3_bad 10 = .ok (.putfield 179, 3) := dk_181 0 179 (dk_at dksX3_bad_0 10 rfl rfl)
theorem dX3_bad_13 : decode cX3_bad 13 = .ok (.iconst 0, 1) := dk_3 (dk_at dksX3_bad_0 13 rfl rfl)
theorem dX3_bad_14 : decode cX3_bad 14 = .ok (.ireturn, 1) := dk_172 (dk_at dksX3_bad_0 14 rfl rfl)
abbrev cX3_sumUp : ByteArray := prog_17_method_31_code
def yX3_sumUp : MethodName := ⟨RX3, "sumUp", "()Z"⟩
def dkwX3_sumUp_2 : List UInt8 := [42, 182, 0, 185, 42, 182, 0, 194, 154, 0, 5, 3, 172, 42, 27, 3, 182, 0, 198, 167, 255, 199, 4, 172]
abbrev dktX3_sumUp_2 : List UInt8 := dkwX3_sumUp_2 ++ []
def dkwX3_sumUp_1 : List UInt8 := [17, 0, 145, 160, 0, 43, 42, 180, 0, 161, 17, 0, 143, 160, 0, 8, 16, 23, 167, 0, 5, 16, 24, 60]
abbrev dktX3_sumUp_1 : List UInt8 := dkwX3_sumUp_1 ++ dktX3_sumUp_2
def dkwX3_sumUp_0 : List UInt8 := [42, 182, 0, 194, 154, 0, 5, 3, 172, 42, 180, 0, 161, 17, 0, 143, 159, 0, 13, 42, 180, 0, 161]
abbrev dktX3_sumUp_0 : List UInt8 := dkwX3_sumUp_0 ++ dktX3_sumUp_1
theorem dksX3_sumUp_0 : cX3_sumUp.data.toList.drop 0 = dktX3_sumUp_0 := by decide +kernel
theorem dksX3_sumUp_1 : cX3_sumUp.data.toList.drop 23 = dktX3_sumUp_1 := dk_seg dksX3_sumUp_0 23 rfl rfl
theorem dksX3_sumUp_2 : cX3_sumUp.data.toList.drop 47 = dktX3_sumUp_2 := dk_seg dksX3_sumUp_1 24 rfl rfl
theorem dX3_sumUp_0 : decode cX3_sumUp 0 = .ok (.aload_n 0, 1) := dk_42 (dk_at dksX3_sumUp_0 0 rfl rfl)
theorem dX3_sumUp_1 : decode cX3_sumUp 1 = .ok (.invokevirtual 194, 3) := dk_182 0 194 (dk_at dksX3_sumUp_0 1 rfl rfl)
theorem dX3_sumUp_4 : decode cX3_sumUp 4 = .ok (.ifCond .ne 5, 3) := dk_154 0 5 (dk_at dksX3_sumUp_0 4 rfl rfl)
theorem dX3_sumUp_7 : decode cX3_sumUp 7 = .ok (.iconst 0, 1) := dk_3 (dk_at dksX3_sumUp_0 7 rfl rfl)
theorem dX3_sumUp_8 : decode cX3_sumUp 8 = .ok (.ireturn, 1) := dk_172 (dk_at dksX3_sumUp_0 8 rfl rfl)
theorem dX3_sumUp_9 : decode cX3_sumUp 9 = .ok (.aload_n 0, 1) := dk_42 (dk_at dksX3_sumUp_0 9 rfl rfl)
theorem dX3_sumUp_10 : decode cX3_sumUp 10 = .ok (.getfield 161, 3) := dk_180 0 161 (dk_at dksX3_sumUp_0 10 rfl rfl)
theorem dX3_sumUp_13 : decode cX3_sumUp 13 = .ok (.sipush 143, 3) := dk_17 0 143 (dk_at dksX3_sumUp_0 13 rfl rfl)
theorem dX3_sumUp_16 : decode cX3_sumUp 16 = .ok (.if_icmp .eq 13, 3) := dk_159 0 13 (dk_at dksX3_sumUp_0 16 rfl rfl)
theorem dX3_sumUp_19 : decode cX3_sumUp 19 = .ok (.aload_n 0, 1) := dk_42 (dk_at dksX3_sumUp_0 19 rfl rfl)
theorem dX3_sumUp_20 : decode cX3_sumUp 20 = .ok (.getfield 161, 3) := dk_180 0 161 (dk_at dksX3_sumUp_0 20 rfl rfl)
theorem dX3_sumUp_23 : decode cX3_sumUp 23 = .ok (.sipush 145, 3) := dk_17 0 145 (dk_at dksX3_sumUp_1 0 rfl rfl)
theorem dX3_sumUp_26 : decode cX3_sumUp 26 = .ok (.if_icmp .ne 43, 3) := dk_160 0 43 (dk_at dksX3_sumUp_1 3 rfl rfl)
theorem dX3_sumUp_29 : decode cX3_sumUp 29 = .ok (.aload_n 0, 1) := dk_42 (dk_at dksX3_sumUp_1 6 rfl rfl)
theorem dX3_sumUp_30 : decode cX3_sumUp 30 = .ok (.getfield 161, 3) := dk_180 0 161 (dk_at dksX3_sumUp_1 7 rfl rfl)
theorem dX3_sumUp_33 : decode cX3_sumUp 33 = .ok (.sipush 143, 3) := dk_17 0 143 (dk_at dksX3_sumUp_1 10 rfl rfl)
theorem dX3_sumUp_36 : decode cX3_sumUp 36 = .ok (.if_icmp .ne 8, 3) := dk_160 0 8 (dk_at dksX3_sumUp_1 13 rfl rfl)
theorem dX3_sumUp_39 : decode cX3_sumUp 39 = .ok (.bipush 23, 2) := dk_16 23 (dk_at dksX3_sumUp_1 16 rfl rfl)
theorem dX3_sumUp_41 : decode cX3_sumUp 41 = .ok (.goto 5, 3) := dk_167 0 5 (dk_at dksX3_sumUp_1 18 rfl rfl)
theorem dX3_sumUp_44 : decode cX3_sumUp 44 = .ok (.bipush 24, 2) := dk_16 24 (dk_at dksX3_sumUp_1 21 rfl rfl)
theorem dX3_sumUp_46 : decode cX3_sumUp 46 = .ok (.istore_n 1, 1) := dk_60 (dk_at dksX3_sumUp_1 23 rfl rfl)
theorem dX3_sumUp_47 : decode cX3_sumUp 47 = .ok (.aload_n 0, 1) := dk_42 (dk_at dksX3_sumUp_2 0 rfl rfl)
theorem dX3_sumUp_48 : decode cX3_sumUp 48 = .ok (.invokevirtual 185, 3) := dk_182 0 185 (dk_at dksX3_sumUp_2 1 rfl rfl)
theorem dX3_sumUp_51 : decode cX3_sumUp 51 = .ok (.aload_n 0, 1) := dk_42 (dk_at dksX3_sumUp_2 4 rfl rfl)
theorem dX3_sumUp_52 : decode cX3_sumUp 52 = .ok (.invokevirtual 194, 3) := dk_182 0 194 (dk_at dksX3_sumUp_2 5 rfl rfl)
theorem dX3_sumUp_55 : decode cX3_sumUp 55 = .ok (.ifCond .ne 5, 3) := dk_154 0 5 (dk_at dksX3_sumUp_2 8 rfl rfl)
theorem dX3_sumUp_58 : decode cX3_sumUp 58 = .ok (.iconst 0, 1) := dk_3 (dk_at dksX3_sumUp_2 11 rfl rfl)
theorem dX3_sumUp_59 : decode cX3_sumUp 59 = .ok (.ireturn, 1) := dk_172 (dk_at dksX3_sumUp_2 12 rfl rfl)
theorem dX3_sumUp_60 : decode cX3_sumUp 60 = .ok (.aload_n 0, 1) := dk_42 (dk_at dksX3_sumUp_2 13 rfl rfl)
theorem dX3_sumUp_61 : decode cX3_sumUp 61 = .ok (.iload_n 1, 1) := dk_27 (dk_at dksX3_sumUp_2 14 rfl rfl)
theorem dX3_sumUp_62 : decode cX3_sumUp 62 = .ok (.iconst 0, 1) := dk_3 (dk_at dksX3_sumUp_2 15 rfl rfl)
theorem dX3_sumUp_63 : decode cX3_sumUp 63 = .ok (.invokevirtual 198, 3) := dk_182 0 198 (dk_at dksX3_sumUp_2 16 rfl rfl)
theorem dX3_sumUp_66 : decode cX3_sumUp 66 = .ok (.goto (-57), 3) := dk_167 255 199 (dk_at dksX3_sumUp_2 19 rfl rfl)
theorem dX3_sumUp_69 : decode cX3_sumUp 69 = .ok (.iconst 1, 1) := dk_4 (dk_at dksX3_sumUp_2 22 rfl rfl)
theorem dX3_sumUp_70 : decode cX3_sumUp 70 = .ok (.ireturn, 1) := dk_172 (dk_at dksX3_sumUp_2 23 rfl rfl)
abbrev cX3_product : ByteArray := prog_17_method_32_code
def yX3_product : MethodName := ⟨RX3, "product", "()Z"⟩
def dkwX3_product_5 : List UInt8 := [167, 255, 153, 4, 172]
abbrev dktX3_product_5 : List UInt8 := dkwX3_product_5 ++ []
def dkwX3_product_4 : List UInt8 := [182, 0, 198, 167, 0, 19, 42, 182, 0, 202, 154, 0, 5, 3, 172, 42, 16, 25, 3, 182, 0, 198]
abbrev dktX3_product_4 : List UInt8 := dkwX3_product_4 ++ dktX3_product_5
def dkwX3_product_3 : List UInt8 := [182, 0, 182, 172, 28, 154, 0, 9, 42, 5, 182, 0, 182, 172, 42, 182, 0, 185, 42, 16, 26, 28]
abbrev dktX3_product_3 : List UInt8 := dkwX3_product_3 ++ dktX3_product_4
def dkwX3_product_2 : List UInt8 := [182, 0, 185, 27, 153, 0, 46, 42, 180, 0, 173, 61, 42, 180, 0, 161, 5, 159, 0, 9, 42, 4]
abbrev dktX3_product_2 : List UInt8 := dkwX3_product_2 ++ dktX3_product_3
def dkwX3_product_1 : List UInt8 := [17, 0, 147, 160, 0, 89, 42, 180, 0, 161, 17, 0, 147, 160, 0, 7, 4, 167, 0, 4, 3, 60, 42]
abbrev dktX3_product_1 : List UInt8 := dkwX3_product_1 ++ dktX3_product_2
def dkwX3_product_0 : List UInt8 := [42, 182, 0, 202, 154, 0, 5, 3, 172, 42, 180, 0, 161, 17, 0, 142, 159, 0, 13, 42, 180, 0, 161]
abbrev dktX3_product_0 : List UInt8 := dkwX3_product_0 ++ dktX3_product_1
theorem dksX3_product_0 : cX3_product.data.toList.drop 0 = dktX3_product_0 := by decide +kernel
theorem dksX3_product_1 : cX3_product.data.toList.drop 23 = dktX3_product_1 := dk_seg dksX3_product_0 23 rfl rfl
theorem dksX3_product_2 : cX3_product.data.toList.drop 46 = dktX3_product_2 := dk_seg dksX3_product_1 23 rfl rfl
theorem dksX3_product_3 : cX3_product.data.toList.drop 68 = dktX3_product_3 := dk_seg dksX3_product_2 22 rfl rfl
theorem dksX3_product_4 : cX3_product.data.toList.drop 90 = dktX3_product_4 := dk_seg dksX3_product_3 22 rfl rfl
theorem dksX3_product_5 : cX3_product.data.toList.drop 112 = dktX3_product_5 := dk_seg dksX3_product_4 22 rfl rfl
theorem dX3_product_0 : decode cX3_product 0 = .ok (.aload_n 0, 1) := dk_42 (dk_at dksX3_product_0 0 rfl rfl)
theorem dX3_product_1 : decode cX3_product 1 = .ok (.invokevirtual 202, 3) := dk_182 0 202 (dk_at dksX3_product_0 1 rfl rfl)
theorem dX3_product_4 : decode cX3_product 4 = .ok (.ifCond .ne 5, 3) := dk_154 0 5 (dk_at dksX3_product_0 4 rfl rfl)
theorem dX3_product_7 : decode cX3_product 7 = .ok (.iconst 0, 1) := dk_3 (dk_at dksX3_product_0 7 rfl rfl)
theorem dX3_product_8 : decode cX3_product 8 = .ok (.ireturn, 1) := dk_172 (dk_at dksX3_product_0 8 rfl rfl)
theorem dX3_product_9 : decode cX3_product 9 = .ok (.aload_n 0, 1) := dk_42 (dk_at dksX3_product_0 9 rfl rfl)
theorem dX3_product_10 : decode cX3_product 10 = .ok (.getfield 161, 3) := dk_180 0 161 (dk_at dksX3_product_0 10 rfl rfl)
theorem dX3_product_13 : decode cX3_product 13 = .ok (.sipush 142, 3) := dk_17 0 142 (dk_at dksX3_product_0 13 rfl rfl)
theorem dX3_product_16 : decode cX3_product 16 = .ok (.if_icmp .eq 13, 3) := dk_159 0 13 (dk_at dksX3_product_0 16 rfl rfl)
theorem dX3_product_19 : decode cX3_product 19 = .ok (.aload_n 0, 1) := dk_42 (dk_at dksX3_product_0 19 rfl rfl)
theorem dX3_product_20 : decode cX3_product 20 = .ok (.getfield 161, 3) := dk_180 0 161 (dk_at dksX3_product_0 20 rfl rfl)
theorem dX3_product_23 : decode cX3_product 23 = .ok (.sipush 147, 3) := dk_17 0 147 (dk_at dksX3_product_1 0 rfl rfl)
theorem dX3_product_26 : decode cX3_product 26 = .ok (.if_icmp .ne 89, 3) := dk_160 0 89 (dk_at dksX3_product_1 3 rfl rfl)
theorem dX3_product_29 : decode cX3_product 29 = .ok (.aload_n 0, 1) := dk_42 (dk_at dksX3_product_1 6 rfl rfl)
theorem dX3_product_30 : decode cX3_product 30 = .ok (.getfield 161, 3) := dk_180 0 161 (dk_at dksX3_product_1 7 rfl rfl)
theorem dX3_product_33 : decode cX3_product 33 = .ok (.sipush 147, 3) := dk_17 0 147 (dk_at dksX3_product_1 10 rfl rfl)
theorem dX3_product_36 : decode cX3_product 36 = .ok (.if_icmp .ne 7, 3) := dk_160 0 7 (dk_at dksX3_product_1 13 rfl rfl)
theorem dX3_product_39 : decode cX3_product 39 = .ok (.iconst 1, 1) := dk_4 (dk_at dksX3_product_1 16 rfl rfl)
theorem dX3_product_40 : decode cX3_product 40 = .ok (.goto 4, 3) := dk_167 0 4 (dk_at dksX3_product_1 17 rfl rfl)
theorem dX3_product_43 : decode cX3_product 43 = .ok (.iconst 0, 1) := dk_3 (dk_at dksX3_product_1 20 rfl rfl)
theorem dX3_product_44 : decode cX3_product 44 = .ok (.istore_n 1, 1) := dk_60 (dk_at dksX3_product_1 21 rfl rfl)
theorem dX3_product_45 : decode cX3_product 45 = .ok (.aload_n 0, 1) := dk_42 (dk_at dksX3_product_1 22 rfl rfl)
theorem dX3_product_46 : decode cX3_product 46 = .ok (.invokevirtual 185, 3) := dk_182 0 185 (dk_at dksX3_product_2 0 rfl rfl)
theorem dX3_product_49 : decode cX3_product 49 = .ok (.iload_n 1, 1) := dk_27 (dk_at dksX3_product_2 3 rfl rfl)
theorem dX3_product_50 : decode cX3_product 50 = .ok (.ifCond .eq 46, 3) := dk_153 0 46 (dk_at dksX3_product_2 4 rfl rfl)
theorem dX3_product_53 : decode cX3_product 53 = .ok (.aload_n 0, 1) := dk_42 (dk_at dksX3_product_2 7 rfl rfl)
theorem dX3_product_54 : decode cX3_product 54 = .ok (.getfield 173, 3) := dk_180 0 173 (dk_at dksX3_product_2 8 rfl rfl)
theorem dX3_product_57 : decode cX3_product 57 = .ok (.istore_n 2, 1) := dk_61 (dk_at dksX3_product_2 11 rfl rfl)
theorem dX3_product_58 : decode cX3_product 58 = .ok (.aload_n 0, 1) := dk_42 (dk_at dksX3_product_2 12 rfl rfl)
theorem dX3_product_59 : decode cX3_product 59 = .ok (.getfield 161, 3) := dk_180 0 161 (dk_at dksX3_product_2 13 rfl rfl)
theorem dX3_product_62 : decode cX3_product 62 = .ok (.iconst 2, 1) := dk_5 (dk_at dksX3_product_2 16 rfl rfl)
theorem dX3_product_63 : decode cX3_product 63 = .ok (.if_icmp .eq 9, 3) := dk_159 0 9 (dk_at dksX3_product_2 17 rfl rfl)
theorem dX3_product_66 : decode cX3_product 66 = .ok (.aload_n 0, 1) := dk_42 (dk_at dksX3_product_2 20 rfl rfl)
theorem dX3_product_67 : decode cX3_product 67 = .ok (.iconst 1, 1) := dk_4 (dk_at dksX3_product_2 21 rfl rfl)
theorem dX3_product_68 : decode cX3_product 68 = .ok (.invokevirtual 182, 3) := dk_182 0 182 (dk_at dksX3_product_3 0 rfl rfl)
theorem dX3_product_71 : decode cX3_product 71 = .ok (.ireturn, 1) := dk_172 (dk_at dksX3_product_3 3 rfl rfl)
theorem dX3_product_72 : decode cX3_product 72 = .ok (.iload_n 2, 1) := dk_28 (dk_at dksX3_product_3 4 rfl rfl)
theorem dX3_product_73 : decode cX3_product 73 = .ok (.ifCond .ne 9, 3) := dk_154 0 9 (dk_at dksX3_product_3 5 rfl rfl)
theorem dX3_product_76 : decode cX3_product 76 = .ok (.aload_n 0, 1) := dk_42 (dk_at dksX3_product_3 8 rfl rfl)
theorem dX3_product_77 : decode cX3_product 77 = .ok (.iconst 2, 1) := dk_5 (dk_at dksX3_product_3 9 rfl rfl)
theorem dX3_product_78 : decode cX3_product 78 = .ok (.invokevirtual 182, 3) := dk_182 0 182 (dk_at dksX3_product_3 10 rfl rfl)
theorem dX3_product_81 : decode cX3_product 81 = .ok (.ireturn, 1) := dk_172 (dk_at dksX3_product_3 13 rfl rfl)
theorem dX3_product_82 : decode cX3_product 82 = .ok (.aload_n 0, 1) := dk_42 (dk_at dksX3_product_3 14 rfl rfl)
theorem dX3_product_83 : decode cX3_product 83 = .ok (.invokevirtual 185, 3) := dk_182 0 185 (dk_at dksX3_product_3 15 rfl rfl)
theorem dX3_product_86 : decode cX3_product 86 = .ok (.aload_n 0, 1) := dk_42 (dk_at dksX3_product_3 18 rfl rfl)
theorem dX3_product_87 : decode cX3_product 87 = .ok (.bipush 26, 2) := dk_16 26 (dk_at dksX3_product_3 19 rfl rfl)
theorem dX3_product_89 : decode cX3_product 89 = .ok (.iload_n 2, 1) := dk_28 (dk_at dksX3_product_3 21 rfl rfl)
theorem dX3_product_90 : decode cX3_product 90 = .ok (.invokevirtual 198, 3) := dk_182 0 198 (dk_at dksX3_product_4 0 rfl rfl)
theorem dX3_product_93 : decode cX3_product 93 = .ok (.goto 19, 3) := dk_167 0 19 (dk_at dksX3_product_4 3 rfl rfl)
theorem dX3_product_96 : decode cX3_product 96 = .ok (.aload_n 0, 1) := dk_42 (dk_at dksX3_product_4 6 rfl rfl)
theorem dX3_product_97 : decode cX3_product 97 = .ok (.invokevirtual 202, 3) := dk_182 0 202 (dk_at dksX3_product_4 7 rfl rfl)
theorem dX3_product_100 : decode cX3_product 100 = .ok (.ifCond .ne 5, 3) := dk_154 0 5 (dk_at dksX3_product_4 10 rfl rfl)
theorem dX3_product_103 : decode cX3_product 103 = .ok (.iconst 0, 1) := dk_3 (dk_at dksX3_product_4 13 rfl rfl)
theorem dX3_product_104 : decode cX3_product 104 = .ok (.ireturn, 1) := dk_172 (dk_at dksX3_product_4 14 rfl rfl)
theorem dX3_product_105 : decode cX3_product 105 = .ok (.aload_n 0, 1) := dk_42 (dk_at dksX3_product_4 15 rfl rfl)
theorem dX3_product_106 : decode cX3_product 106 = .ok (.bipush 25, 2) := dk_16 25 (dk_at dksX3_product_4 16 rfl rfl)
theorem dX3_product_108 : decode cX3_product 108 = .ok (.iconst 0, 1) := dk_3 (dk_at dksX3_product_4 18 rfl rfl)
theorem dX3_product_109 : decode cX3_product 109 = .ok (.invokevirtual 198, 3) := dk_182 0 198 (dk_at dksX3_product_4 19 rfl rfl)
theorem dX3_product_112 : decode cX3_product 112 = .ok (.goto (-103), 3) := dk_167 255 153 (dk_at dksX3_product_5 0 rfl rfl)
theorem dX3_product_115 : decode cX3_product 115 = .ok (.iconst 1, 1) := dk_4 (dk_at dksX3_product_5 3 rfl rfl)
theorem dX3_product_116 : decode cX3_product 116 = .ok (.ireturn, 1) := dk_172 (dk_at dksX3_product_5 4 rfl rfl)
abbrev cX3_unit : ByteArray := prog_17_method_33_code
def yX3_unit : MethodName := ⟨RX3, "unit", "()Z"⟩
def dkwX3_unit_2 : List UInt8 := [180, 0, 173, 182, 0, 198, 42, 182, 0, 185, 4, 172]
abbrev dktX3_unit_2 : List UInt8 := dkwX3_unit_2 ++ []
def dkwX3_unit_1 : List UInt8 := [42, 4, 182, 0, 182, 172, 42, 27, 153, 0, 13, 42, 180, 0, 161, 16, 40, 100, 167, 0, 4, 3, 42]
abbrev dktX3_unit_1 : List UInt8 := dkwX3_unit_1 ++ dktX3_unit_2
def dkwX3_unit_0 : List UInt8 := [42, 180, 0, 161, 16, 41, 16, 50, 184, 0, 59, 60, 42, 180, 0, 161, 5, 159, 0, 13, 27, 154, 0, 9]
abbrev dktX3_unit_0 : List UInt8 := dkwX3_unit_0 ++ dktX3_unit_1
theorem dksX3_unit_0 : cX3_unit.data.toList.drop 0 = dktX3_unit_0 := by decide +kernel
theorem dksX3_unit_1 : cX3_unit.data.toList.drop 24 = dktX3_unit_1 := dk_seg dksX3_unit_0 24 rfl rfl
theorem dksX3_unit_2 : cX3_unit.data.toList.drop 47 = dktX3_unit_2 := dk_seg dksX3_unit_1 23 rfl rfl
theorem dX3_unit_0 : decode cX3_unit 0 = .ok (.aload_n 0, 1) := dk_42 (dk_at dksX3_unit_0 0 rfl rfl)
theorem dX3_unit_1 : decode cX3_unit 1 = .ok (.getfield 161, 3) := dk_180 0 161 (dk_at dksX3_unit_0 1 rfl rfl)
theorem dX3_unit_4 : decode cX3_unit 4 = .ok (.bipush 41, 2) := dk_16 41 (dk_at dksX3_unit_0 4 rfl rfl)
theorem dX3_unit_6 : decode cX3_unit 6 = .ok (.bipush 50, 2) := dk_16 50 (dk_at dksX3_unit_0 6 rfl rfl)
theorem dX3_unit_8 : decode cX3_unit 8 = .ok (.invokestatic 59, 3) := dk_184 0 59 (dk_at dksX3_unit_0 8 rfl rfl)
theorem dX3_unit_11 : decode cX3_unit 11 = .ok (.istore_n 1, 1) := dk_60 (dk_at dksX3_unit_0 11 rfl rfl)
theorem dX3_unit_12 : decode cX3_unit 12 = .ok (.aload_n 0, 1) := dk_42 (dk_at dksX3_unit_0 12 rfl rfl)
theorem dX3_unit_13 : decode cX3_unit 13 = .ok (.getfield 161, 3) := dk_180 0 161 (dk_at dksX3_unit_0 13 rfl rfl)
theorem dX3_unit_16 : decode cX3_unit 16 = .ok (.iconst 2, 1) := dk_5 (dk_at dksX3_unit_0 16 rfl rfl)
theorem dX3_unit_17 : decode cX3_unit 17 = .ok (.if_icmp .eq 13, 3) := dk_159 0 13 (dk_at dksX3_unit_0 17 rfl rfl)
theorem dX3_unit_20 : decode cX3_unit 20 = .ok (.iload_n 1, 1) := dk_27 (dk_at dksX3_unit_0 20 rfl rfl)
theorem dX3_unit_21 : decode cX3_unit 21 = .ok (.ifCond .ne 9, 3) := dk_154 0 9 (dk_at dksX3_unit_0 21 rfl rfl)
theorem dX3_unit_24 : decode cX3_unit 24 = .ok (.aload_n 0, 1) := dk_42 (dk_at dksX3_unit_1 0 rfl rfl)
theorem dX3_unit_25 : decode cX3_unit 25 = .ok (.iconst 1, 1) := dk_4 (dk_at dksX3_unit_1 1 rfl rfl)
theorem dX3_unit_26 : decode cX3_unit 26 = .ok (.invokevirtual 182, 3) := dk_182 0 182 (dk_at dksX3_unit_1 2 rfl rfl)
theorem dX3_unit_29 : decode cX3_unit 29 = .ok (.ireturn, 1) := dk_172 (dk_at dksX3_unit_1 5 rfl rfl)
theorem dX3_unit_30 : decode cX3_unit 30 = .ok (.aload_n 0, 1) := dk_42 (dk_at dksX3_unit_1 6 rfl rfl)
theorem dX3_unit_31 : decode cX3_unit 31 = .ok (.iload_n 1, 1) := dk_27 (dk_at dksX3_unit_1 7 rfl rfl)
theorem dX3_unit_32 : decode cX3_unit 32 = .ok (.ifCond .eq 13, 3) := dk_153 0 13 (dk_at dksX3_unit_1 8 rfl rfl)
theorem dX3_unit_35 : decode cX3_unit 35 = .ok (.aload_n 0, 1) := dk_42 (dk_at dksX3_unit_1 11 rfl rfl)
theorem dX3_unit_36 : decode cX3_unit 36 = .ok (.getfield 161, 3) := dk_180 0 161 (dk_at dksX3_unit_1 12 rfl rfl)
theorem dX3_unit_39 : decode cX3_unit 39 = .ok (.bipush 40, 2) := dk_16 40 (dk_at dksX3_unit_1 15 rfl rfl)
theorem dX3_unit_41 : decode cX3_unit 41 = .ok (.isub, 1) := dk_100 (dk_at dksX3_unit_1 17 rfl rfl)
theorem dX3_unit_42 : decode cX3_unit 42 = .ok (.goto 4, 3) := dk_167 0 4 (dk_at dksX3_unit_1 18 rfl rfl)
theorem dX3_unit_45 : decode cX3_unit 45 = .ok (.iconst 0, 1) := dk_3 (dk_at dksX3_unit_1 21 rfl rfl)
theorem dX3_unit_46 : decode cX3_unit 46 = .ok (.aload_n 0, 1) := dk_42 (dk_at dksX3_unit_1 22 rfl rfl)
theorem dX3_unit_47 : decode cX3_unit 47 = .ok (.getfield 173, 3) := dk_180 0 173 (dk_at dksX3_unit_2 0 rfl rfl)
theorem dX3_unit_50 : decode cX3_unit 50 = .ok (.invokevirtual 198, 3) := dk_182 0 198 (dk_at dksX3_unit_2 3 rfl rfl)
theorem dX3_unit_53 : decode cX3_unit 53 = .ok (.aload_n 0, 1) := dk_42 (dk_at dksX3_unit_2 6 rfl rfl)
theorem dX3_unit_54 : decode cX3_unit 54 = .ok (.invokevirtual 185, 3) := dk_182 0 185 (dk_at dksX3_unit_2 7 rfl rfl)
theorem dX3_unit_57 : decode cX3_unit 57 = .ok (.iconst 1, 1) := dk_4 (dk_at dksX3_unit_2 10 rfl rfl)
theorem dX3_unit_58 : decode cX3_unit 58 = .ok (.ireturn, 1) := dk_172 (dk_at dksX3_unit_2 11 rfl rfl)
abbrev cX3_lay : ByteArray := prog_17_method_29_code
def yX3_lay : MethodName := ⟨RX3, "lay", "(II)V"⟩
def dkwX3_lay_1 : List UInt8 := [28, 79, 42, 89, 180, 0, 188, 4, 96, 181, 0, 188, 177]
abbrev dktX3_lay_1 : List UInt8 := dkwX3_lay_1 ++ []
def dkwX3_lay_0 : List UInt8 := [42, 180, 0, 25, 5, 42, 180, 0, 188, 104, 27, 79, 42, 180, 0, 25, 5, 42, 180, 0, 188, 104, 4, 96]
abbrev dktX3_lay_0 : List UInt8 := dkwX3_lay_0 ++ dktX3_lay_1
theorem dksX3_lay_0 : cX3_lay.data.toList.drop 0 = dktX3_lay_0 := by decide +kernel
theorem dksX3_lay_1 : cX3_lay.data.toList.drop 24 = dktX3_lay_1 := dk_seg dksX3_lay_0 24 rfl rfl
theorem dX3_lay_0 : decode cX3_lay 0 = .ok (.aload_n 0, 1) := dk_42 (dk_at dksX3_lay_0 0 rfl rfl)
theorem dX3_lay_1 : decode cX3_lay 1 = .ok (.getfield 25, 3) := dk_180 0 25 (dk_at dksX3_lay_0 1 rfl rfl)
theorem dX3_lay_4 : decode cX3_lay 4 = .ok (.iconst 2, 1) := dk_5 (dk_at dksX3_lay_0 4 rfl rfl)
theorem dX3_lay_5 : decode cX3_lay 5 = .ok (.aload_n 0, 1) := dk_42 (dk_at dksX3_lay_0 5 rfl rfl)
theorem dX3_lay_6 : decode cX3_lay 6 = .ok (.getfield 188, 3) := dk_180 0 188 (dk_at dksX3_lay_0 6 rfl rfl)
theorem dX3_lay_9 : decode cX3_lay 9 = .ok (.imul, 1) := dk_104 (dk_at dksX3_lay_0 9 rfl rfl)
theorem dX3_lay_10 : decode cX3_lay 10 = .ok (.iload_n 1, 1) := dk_27 (dk_at dksX3_lay_0 10 rfl rfl)
theorem dX3_lay_11 : decode cX3_lay 11 = .ok (.iastore, 1) := dk_79 (dk_at dksX3_lay_0 11 rfl rfl)
theorem dX3_lay_12 : decode cX3_lay 12 = .ok (.aload_n 0, 1) := dk_42 (dk_at dksX3_lay_0 12 rfl rfl)
theorem dX3_lay_13 : decode cX3_lay 13 = .ok (.getfield 25, 3) := dk_180 0 25 (dk_at dksX3_lay_0 13 rfl rfl)
theorem dX3_lay_16 : decode cX3_lay 16 = .ok (.iconst 2, 1) := dk_5 (dk_at dksX3_lay_0 16 rfl rfl)
theorem dX3_lay_17 : decode cX3_lay 17 = .ok (.aload_n 0, 1) := dk_42 (dk_at dksX3_lay_0 17 rfl rfl)
theorem dX3_lay_18 : decode cX3_lay 18 = .ok (.getfield 188, 3) := dk_180 0 188 (dk_at dksX3_lay_0 18 rfl rfl)
theorem dX3_lay_21 : decode cX3_lay 21 = .ok (.imul, 1) := dk_104 (dk_at dksX3_lay_0 21 rfl rfl)
theorem dX3_lay_22 : decode cX3_lay 22 = .ok (.iconst 1, 1) := dk_4 (dk_at dksX3_lay_0 22 rfl rfl)
theorem dX3_lay_23 : decode cX3_lay 23 = .ok (.iadd, 1) := dk_96 (dk_at dksX3_lay_0 23 rfl rfl)
theorem dX3_lay_24 : decode cX3_lay 24 = .ok (.iload_n 2, 1) := dk_28 (dk_at dksX3_lay_1 0 rfl rfl)
theorem dX3_lay_25 : decode cX3_lay 25 = .ok (.iastore, 1) := dk_79 (dk_at dksX3_lay_1 1 rfl rfl)
theorem dX3_lay_26 : decode cX3_lay 26 = .ok (.aload_n 0, 1) := dk_42 (dk_at dksX3_lay_1 2 rfl rfl)
theorem dX3_lay_27 : decode cX3_lay 27 = .ok (.dup, 1) := dk_89 (dk_at dksX3_lay_1 3 rfl rfl)
theorem dX3_lay_28 : decode cX3_lay 28 = .ok (.getfield 188, 3) := dk_180 0 188 (dk_at dksX3_lay_1 4 rfl rfl)
theorem dX3_lay_31 : decode cX3_lay 31 = .ok (.iconst 1, 1) := dk_4 (dk_at dksX3_lay_1 7 rfl rfl)
theorem dX3_lay_32 : decode cX3_lay 32 = .ok (.iadd, 1) := dk_96 (dk_at dksX3_lay_1 8 rfl rfl)
theorem dX3_lay_33 : decode cX3_lay 33 = .ok (.putfield 188, 3) := dk_181 0 188 (dk_at dksX3_lay_1 9 rfl rfl)
theorem dX3_lay_36 : decode cX3_lay 36 = .ok (.return_, 1) := dk_177 (dk_at dksX3_lay_1 12 rfl rfl)
abbrev cX3_any : ByteArray := prog_17_method_34_code
def yX3_any : MethodName := ⟨RX3, "any", "()Z"⟩
def dkwX3_any_1 : List UInt8 := [182, 0, 205, 154, 0, 5, 3, 172, 42, 16, 32, 3, 182, 0, 198, 167, 255, 228, 4, 172]
abbrev dktX3_any_1 : List UInt8 := dkwX3_any_1 ++ []
def dkwX3_any_0 : List UInt8 := [42, 182, 0, 205, 154, 0, 5, 3, 172, 42, 180, 0, 161, 7, 160, 0, 26, 42, 182, 0, 185, 42]
abbrev dktX3_any_0 : List UInt8 := dkwX3_any_0 ++ dktX3_any_1
theorem dksX3_any_0 : cX3_any.data.toList.drop 0 = dktX3_any_0 := by decide +kernel
theorem dksX3_any_1 : cX3_any.data.toList.drop 22 = dktX3_any_1 := dk_seg dksX3_any_0 22 rfl rfl
theorem dX3_any_0 : decode cX3_any 0 = .ok (.aload_n 0, 1) := dk_42 (dk_at dksX3_any_0 0 rfl rfl)
theorem dX3_any_1 : decode cX3_any 1 = .ok (.invokevirtual 205, 3) := dk_182 0 205 (dk_at dksX3_any_0 1 rfl rfl)
theorem dX3_any_4 : decode cX3_any 4 = .ok (.ifCond .ne 5, 3) := dk_154 0 5 (dk_at dksX3_any_0 4 rfl rfl)
theorem dX3_any_7 : decode cX3_any 7 = .ok (.iconst 0, 1) := dk_3 (dk_at dksX3_any_0 7 rfl rfl)
theorem dX3_any_8 : decode cX3_any 8 = .ok (.ireturn, 1) := dk_172 (dk_at dksX3_any_0 8 rfl rfl)
theorem dX3_any_9 : decode cX3_any 9 = .ok (.aload_n 0, 1) := dk_42 (dk_at dksX3_any_0 9 rfl rfl)
theorem dX3_any_10 : decode cX3_any 10 = .ok (.getfield 161, 3) := dk_180 0 161 (dk_at dksX3_any_0 10 rfl rfl)
theorem dX3_any_13 : decode cX3_any 13 = .ok (.iconst 4, 1) := dk_7 (dk_at dksX3_any_0 13 rfl rfl)
theorem dX3_any_14 : decode cX3_any 14 = .ok (.if_icmp .ne 26, 3) := dk_160 0 26 (dk_at dksX3_any_0 14 rfl rfl)
theorem dX3_any_17 : decode cX3_any 17 = .ok (.aload_n 0, 1) := dk_42 (dk_at dksX3_any_0 17 rfl rfl)
theorem dX3_any_18 : decode cX3_any 18 = .ok (.invokevirtual 185, 3) := dk_182 0 185 (dk_at dksX3_any_0 18 rfl rfl)
theorem dX3_any_21 : decode cX3_any 21 = .ok (.aload_n 0, 1) := dk_42 (dk_at dksX3_any_0 21 rfl rfl)
theorem dX3_any_22 : decode cX3_any 22 = .ok (.invokevirtual 205, 3) := dk_182 0 205 (dk_at dksX3_any_1 0 rfl rfl)
theorem dX3_any_25 : decode cX3_any 25 = .ok (.ifCond .ne 5, 3) := dk_154 0 5 (dk_at dksX3_any_1 3 rfl rfl)
theorem dX3_any_28 : decode cX3_any 28 = .ok (.iconst 0, 1) := dk_3 (dk_at dksX3_any_1 6 rfl rfl)
theorem dX3_any_29 : decode cX3_any 29 = .ok (.ireturn, 1) := dk_172 (dk_at dksX3_any_1 7 rfl rfl)
theorem dX3_any_30 : decode cX3_any 30 = .ok (.aload_n 0, 1) := dk_42 (dk_at dksX3_any_1 8 rfl rfl)
theorem dX3_any_31 : decode cX3_any 31 = .ok (.bipush 32, 2) := dk_16 32 (dk_at dksX3_any_1 9 rfl rfl)
theorem dX3_any_33 : decode cX3_any 33 = .ok (.iconst 0, 1) := dk_3 (dk_at dksX3_any_1 11 rfl rfl)
theorem dX3_any_34 : decode cX3_any 34 = .ok (.invokevirtual 198, 3) := dk_182 0 198 (dk_at dksX3_any_1 12 rfl rfl)
theorem dX3_any_37 : decode cX3_any 37 = .ok (.goto (-28), 3) := dk_167 255 228 (dk_at dksX3_any_1 15 rfl rfl)
theorem dX3_any_40 : decode cX3_any 40 = .ok (.iconst 1, 1) := dk_4 (dk_at dksX3_any_1 18 rfl rfl)
theorem dX3_any_41 : decode cX3_any 41 = .ok (.ireturn, 1) := dk_172 (dk_at dksX3_any_1 19 rfl rfl)
abbrev cX3_every : ByteArray := prog_17_method_35_code
def yX3_every : MethodName := ⟨RX3, "every", "()Z"⟩
def dkwX3_every_1 : List UInt8 := [182, 0, 208, 154, 0, 5, 3, 172, 42, 16, 31, 3, 182, 0, 198, 167, 255, 228, 4, 172]
abbrev dktX3_every_1 : List UInt8 := dkwX3_every_1 ++ []
def dkwX3_every_0 : List UInt8 := [42, 182, 0, 208, 154, 0, 5, 3, 172, 42, 180, 0, 161, 8, 160, 0, 26, 42, 182, 0, 185, 42]
abbrev dktX3_every_0 : List UInt8 := dkwX3_every_0 ++ dktX3_every_1
theorem dksX3_every_0 : cX3_every.data.toList.drop 0 = dktX3_every_0 := by decide +kernel
theorem dksX3_every_1 : cX3_every.data.toList.drop 22 = dktX3_every_1 := dk_seg dksX3_every_0 22 rfl rfl
theorem dX3_every_0 : decode cX3_every 0 = .ok (.aload_n 0, 1) := dk_42 (dk_at dksX3_every_0 0 rfl rfl)
theorem dX3_every_1 : decode cX3_every 1 = .ok (.invokevirtual 208, 3) := dk_182 0 208 (dk_at dksX3_every_0 1 rfl rfl)
theorem dX3_every_4 : decode cX3_every 4 = .ok (.ifCond .ne 5, 3) := dk_154 0 5 (dk_at dksX3_every_0 4 rfl rfl)
theorem dX3_every_7 : decode cX3_every 7 = .ok (.iconst 0, 1) := dk_3 (dk_at dksX3_every_0 7 rfl rfl)
theorem dX3_every_8 : decode cX3_every 8 = .ok (.ireturn, 1) := dk_172 (dk_at dksX3_every_0 8 rfl rfl)
theorem dX3_every_9 : decode cX3_every 9 = .ok (.aload_n 0, 1) := dk_42 (dk_at dksX3_every_0 9 rfl rfl)
theorem dX3_every_10 : decode cX3_every 10 = .ok (.getfield 161, 3) := dk_180 0 161 (dk_at dksX3_every_0 10 rfl rfl)
theorem dX3_every_13 : decode cX3_every 13 = .ok (.iconst 5, 1) := dk_8 (dk_at dksX3_every_0 13 rfl rfl)
theorem dX3_every_14 : decode cX3_every 14 = .ok (.if_icmp .ne 26, 3) := dk_160 0 26 (dk_at dksX3_every_0 14 rfl rfl)
theorem dX3_every_17 : decode cX3_every 17 = .ok (.aload_n 0, 1) := dk_42 (dk_at dksX3_every_0 17 rfl rfl)
theorem dX3_every_18 : decode cX3_every 18 = .ok (.invokevirtual 185, 3) := dk_182 0 185 (dk_at dksX3_every_0 18 rfl rfl)
theorem dX3_every_21 : decode cX3_every 21 = .ok (.aload_n 0, 1) := dk_42 (dk_at dksX3_every_0 21 rfl rfl)
theorem dX3_every_22 : decode cX3_every 22 = .ok (.invokevirtual 208, 3) := dk_182 0 208 (dk_at dksX3_every_1 0 rfl rfl)
theorem dX3_every_25 : decode cX3_every 25 = .ok (.ifCond .ne 5, 3) := dk_154 0 5 (dk_at dksX3_every_1 3 rfl rfl)
theorem dX3_every_28 : decode cX3_every 28 = .ok (.iconst 0, 1) := dk_3 (dk_at dksX3_every_1 6 rfl rfl)
theorem dX3_every_29 : decode cX3_every 29 = .ok (.ireturn, 1) := dk_172 (dk_at dksX3_every_1 7 rfl rfl)
theorem dX3_every_30 : decode cX3_every 30 = .ok (.aload_n 0, 1) := dk_42 (dk_at dksX3_every_1 8 rfl rfl)
theorem dX3_every_31 : decode cX3_every 31 = .ok (.bipush 31, 2) := dk_16 31 (dk_at dksX3_every_1 9 rfl rfl)
theorem dX3_every_33 : decode cX3_every 33 = .ok (.iconst 0, 1) := dk_3 (dk_at dksX3_every_1 11 rfl rfl)
theorem dX3_every_34 : decode cX3_every 34 = .ok (.invokevirtual 198, 3) := dk_182 0 198 (dk_at dksX3_every_1 12 rfl rfl)
theorem dX3_every_37 : decode cX3_every 37 = .ok (.goto (-28), 3) := dk_167 255 228 (dk_at dksX3_every_1 15 rfl rfl)
theorem dX3_every_40 : decode cX3_every 40 = .ok (.iconst 1, 1) := dk_4 (dk_at dksX3_every_1 18 rfl rfl)
theorem dX3_every_41 : decode cX3_every 41 = .ok (.ireturn, 1) := dk_172 (dk_at dksX3_every_1 19 rfl rfl)
abbrev cX3_oneTest : ByteArray := prog_17_method_36_code
def yX3_oneTest : MethodName := ⟨RX3, "oneTest", "()Z"⟩
def dkwX3_oneTest_7 : List UInt8 := [154, 0, 5, 3, 172, 42, 27, 3, 182, 0, 198, 4, 172]
abbrev dktX3_oneTest_7 : List UInt8 := dkwX3_oneTest_7 ++ []
def dkwX3_oneTest_6 : List UInt8 := [167, 0, 4, 2, 60, 27, 2, 160, 0, 9, 42, 4, 182, 0, 182, 172, 42, 182, 0, 185, 42, 182, 0, 220]
abbrev dktX3_oneTest_6 : List UInt8 := dkwX3_oneTest_6 ++ dktX3_oneTest_7
def dkwX3_oneTest_5 : List UInt8 := [17, 0, 161, 160, 0, 8, 16, 28, 167, 0, 19, 42, 180, 0, 161, 17, 0, 162, 160, 0, 8, 16, 29]
abbrev dktX3_oneTest_5 : List UInt8 := dkwX3_oneTest_5 ++ dktX3_oneTest_6
def dkwX3_oneTest_4 : List UInt8 := [154, 0, 5, 3, 172, 42, 180, 0, 161, 17, 0, 160, 160, 0, 8, 16, 27, 167, 0, 34, 42, 180, 0, 161]
abbrev dktX3_oneTest_4 : List UInt8 := dkwX3_oneTest_4 ++ dktX3_oneTest_5
def dkwX3_oneTest_3 : List UInt8 := [182, 0, 217, 154, 0, 5, 3, 172, 42, 89, 180, 0, 191, 4, 100, 181, 0, 191, 4, 172, 42, 182, 0, 220]
abbrev dktX3_oneTest_3 : List UInt8 := dkwX3_oneTest_3 ++ dktX3_oneTest_4
def dkwX3_oneTest_2 : List UInt8 := [17, 0, 140, 160, 0, 41, 42, 182, 0, 211, 153, 0, 20, 42, 182, 0, 214, 153, 0, 13, 42, 17, 0, 141]
abbrev dktX3_oneTest_2 : List UInt8 := dkwX3_oneTest_2 ++ dktX3_oneTest_3
def dkwX3_oneTest_1 : List UInt8 := [172, 42, 89, 180, 0, 191, 4, 100, 181, 0, 191, 42, 16, 30, 3, 182, 0, 198, 4, 172, 42, 180, 0, 161]
abbrev dktX3_oneTest_1 : List UInt8 := dkwX3_oneTest_1 ++ dktX3_oneTest_2
def dkwX3_oneTest_0 : List UInt8 := [42, 180, 0, 161, 16, 6, 160, 0, 38, 42, 182, 0, 211, 153, 0, 10, 42, 182, 0, 208, 154, 0, 5, 3]
abbrev dktX3_oneTest_0 : List UInt8 := dkwX3_oneTest_0 ++ dktX3_oneTest_1
theorem dksX3_oneTest_0 : cX3_oneTest.data.toList.drop 0 = dktX3_oneTest_0 := by decide +kernel
theorem dksX3_oneTest_1 : cX3_oneTest.data.toList.drop 24 = dktX3_oneTest_1 := dk_seg dksX3_oneTest_0 24 rfl rfl
theorem dksX3_oneTest_2 : cX3_oneTest.data.toList.drop 48 = dktX3_oneTest_2 := dk_seg dksX3_oneTest_1 24 rfl rfl
theorem dksX3_oneTest_3 : cX3_oneTest.data.toList.drop 72 = dktX3_oneTest_3 := dk_seg dksX3_oneTest_2 24 rfl rfl
theorem dksX3_oneTest_4 : cX3_oneTest.data.toList.drop 96 = dktX3_oneTest_4 := dk_seg dksX3_oneTest_3 24 rfl rfl
theorem dksX3_oneTest_5 : cX3_oneTest.data.toList.drop 120 = dktX3_oneTest_5 := dk_seg dksX3_oneTest_4 24 rfl rfl
theorem dksX3_oneTest_6 : cX3_oneTest.data.toList.drop 143 = dktX3_oneTest_6 := dk_seg dksX3_oneTest_5 23 rfl rfl
theorem dksX3_oneTest_7 : cX3_oneTest.data.toList.drop 167 = dktX3_oneTest_7 := dk_seg dksX3_oneTest_6 24 rfl rfl
theorem dX3_oneTest_0 : decode cX3_oneTest 0 = .ok (.aload_n 0, 1) := dk_42 (dk_at dksX3_oneTest_0 0 rfl rfl)
theorem dX3_oneTest_1 : decode cX3_oneTest 1 = .ok (.getfield 161, 3) := dk_180 0 161 (dk_at dksX3_oneTest_0 1 rfl rfl)
theorem dX3_oneTest_4 : decode cX3_oneTest 4 = .ok (.bipush 6, 2) := dk_16 6 (dk_at dksX3_oneTest_0 4 rfl rfl)
theorem dX3_oneTest_6 : decode cX3_oneTest 6 = .ok (.if_icmp .ne 38, 3) := dk_160 0 38 (dk_at dksX3_oneTest_0 6 rfl rfl)
theorem dX3_oneTest_9 : decode cX3_oneTest 9 = .ok (.aload_n 0, 1) := dk_42 (dk_at dksX3_oneTest_0 9 rfl rfl)
theorem dX3_oneTest_10 : decode cX3_oneTest 10 = .ok (.invokevirtual 211, 3) := dk_182 0 211 (dk_at dksX3_oneTest_0 10 rfl rfl)
theorem dX3_oneTest_13 : decode cX3_oneTest 13 = .ok (.ifCond .eq 10, 3) := dk_153 0 10 (dk_at dksX3_oneTest_0 13 rfl rfl)
theorem dX3_oneTest_16 : decode cX3_oneTest 16 = .ok (.aload_n 0, 1) := dk_42 (dk_at dksX3_oneTest_0 16 rfl rfl)
theorem dX3_oneTest_17 : decode cX3_oneTest 17 = .ok (.invokevirtual 208, 3) := dk_182 0 208 (dk_at dksX3_oneTest_0 17 rfl rfl)
theorem dX3_oneTest_20 : decode cX3_oneTest 20 = .ok (.ifCond .ne 5, 3) := dk_154 0 5 (dk_at dksX3_oneTest_0 20 rfl rfl)
theorem dX3_oneTest_23 : decode cX3_oneTest 23 = .ok (.iconst 0, 1) := dk_3 (dk_at dksX3_oneTest_0 23 rfl rfl)
theorem dX3_oneTest_24 : decode cX3_oneTest 24 = .ok (.ireturn, 1) := dk_172 (dk_at dksX3_oneTest_1 0 rfl rfl)
theorem dX3_oneTest_25 : decode cX3_oneTest 25 = .ok (.aload_n 0, 1) := dk_42 (dk_at dksX3_oneTest_1 1 rfl rfl)
theorem dX3_oneTest_26 : decode cX3_oneTest 26 = .ok (.dup, 1) := dk_89 (dk_at dksX3_oneTest_1 2 rfl rfl)
theorem dX3_oneTest_27 : decode cX3_oneTest 27 = .ok (.getfield 191, 3) := dk_180 0 191 (dk_at dksX3_oneTest_1 3 rfl rfl)
theorem dX3_oneTest_30 : decode cX3_oneTest 30 = .ok (.iconst 1, 1) := dk_4 (dk_at dksX3_oneTest_1 6 rfl rfl)
theorem dX3_oneTest_31 : decode cX3_oneTest 31 = .ok (.isub, 1) := dk_100 (dk_at dksX3_oneTest_1 7 rfl rfl)
theorem dX3_oneTest_32 : decode cX3_oneTest 32 = .ok (.putfield 191, 3) := dk_181 0 191 (dk_at dksX3_oneTest_1 8 rfl rfl)
theorem dX3_oneTest_35 : decode cX3_oneTest 35 = .ok (.aload_n 0, 1) := dk_42 (dk_at dksX3_oneTest_1 11 rfl rfl)
theorem dX3_oneTest_36 : decode cX3_oneTest 36 = .ok (.bipush 30, 2) := dk_16 30 (dk_at dksX3_oneTest_1 12 rfl rfl)
theorem dX3_oneTest_38 : decode cX3_oneTest 38 = .ok (.iconst 0, 1) := dk_3 (dk_at dksX3_oneTest_1 14 rfl rfl)
theorem dX3_oneTest_39 : decode cX3_oneTest 39 = .ok (.invokevirtual 198, 3) := dk_182 0 198 (dk_at dksX3_oneTest_1 15 rfl rfl)
theorem dX3_oneTest_42 : decode cX3_oneTest 42 = .ok (.iconst 1, 1) := dk_4 (dk_at dksX3_oneTest_1 18 rfl rfl)
theorem dX3_oneTest_43 : decode cX3_oneTest 43 = .ok (.ireturn, 1) := dk_172 (dk_at dksX3_oneTest_1 19 rfl rfl)
theorem dX3_oneTest_44 : decode cX3_oneTest 44 = .ok (.aload_n 0, 1) := dk_42 (dk_at dksX3_oneTest_1 20 rfl rfl)
theorem dX3_oneTest_45 : decode cX3_oneTest 45 = .ok (.getfield 161, 3) := dk_180 0 161 (dk_at dksX3_oneTest_1 21 rfl rfl)
theorem dX3_oneTest_48 : decode cX3_oneTest 48 = .ok (.sipush 140, 3) := dk_17 0 140 (dk_at dksX3_oneTest_2 0 rfl rfl)
theorem dX3_oneTest_51 : decode cX3_oneTest 51 = .ok (.if_icmp .ne 41, 3) := dk_160 0 41 (dk_at dksX3_oneTest_2 3 rfl rfl)
theorem dX3_oneTest_54 : decode cX3_oneTest 54 = .ok (.aload_n 0, 1) := dk_42 (dk_at dksX3_oneTest_2 6 rfl rfl)
theorem dX3_oneTest_55 : decode cX3_oneTest 55 = .ok (.invokevirtual 211, 3) := dk_182 0 211 (dk_at dksX3_oneTest_2 7 rfl rfl)
theorem dX3_oneTest_58 : decode cX3_oneTest 58 = .ok (.ifCond .eq 20, 3) := dk_153 0 20 (dk_at dksX3_oneTest_2 10 rfl rfl)
theorem dX3_oneTest_61 : decode cX3_oneTest 61 = .ok (.aload_n 0, 1) := dk_42 (dk_at dksX3_oneTest_2 13 rfl rfl)
theorem dX3_oneTest_62 : decode cX3_oneTest 62 = .ok (.invokevirtual 214, 3) := dk_182 0 214 (dk_at dksX3_oneTest_2 14 rfl rfl)
theorem dX3_oneTest_65 : decode cX3_oneTest 65 = .ok (.ifCond .eq 13, 3) := dk_153 0 13 (dk_at dksX3_oneTest_2 17 rfl rfl)
theorem dX3_oneTest_68 : decode cX3_oneTest 68 = .ok (.aload_n 0, 1) := dk_42 (dk_at dksX3_oneTest_2 20 rfl rfl)
theorem dX3_oneTest_69 : decode cX3_oneTest 69 = .ok (.sipush 141, 3) := dk_17 0 141 (dk_at dksX3_oneTest_2 21 rfl rfl)
theorem dX3_oneTest_72 : decode cX3_oneTest 72 = .ok (.invokevirtual 217, 3) := dk_182 0 217 (dk_at dksX3_oneTest_3 0 rfl rfl)
theorem dX3_oneTest_75 : decode cX3_oneTest 75 = .ok (.ifCond .ne 5, 3) := dk_154 0 5 (dk_at dksX3_oneTest_3 3 rfl rfl)
theorem dX3_oneTest_78 : decode cX3_oneTest 78 = .ok (.iconst 0, 1) := dk_3 (dk_at dksX3_oneTest_3 6 rfl rfl)
theorem dX3_oneTest_79 : decode cX3_oneTest 79 = .ok (.ireturn, 1) := dk_172 (dk_at dksX3_oneTest_3 7 rfl rfl)
theorem dX3_oneTest_80 : decode cX3_oneTest 80 = .ok (.aload_n 0, 1) := dk_42 (dk_at dksX3_oneTest_3 8 rfl rfl)
theorem dX3_oneTest_81 : decode cX3_oneTest 81 = .ok (.dup, 1) := dk_89 (dk_at dksX3_oneTest_3 9 rfl rfl)
theorem dX3_oneTest_82 : decode cX3_oneTest 82 = .ok (.getfield 191, 3) := dk_180 0 191 (dk_at dksX3_oneTest_3 10 rfl rfl)
theorem dX3_oneTest_85 : decode cX3_oneTest 85 = .ok (.iconst 1, 1) := dk_4 (dk_at dksX3_oneTest_3 13 rfl rfl)
theorem dX3_oneTest_86 : decode cX3_oneTest 86 = .ok (.isub, 1) := dk_100 (dk_at dksX3_oneTest_3 14 rfl rfl)
theorem dX3_oneTest_87 : decode cX3_oneTest 87 = .ok (.putfield 191, 3) := dk_181 0 191 (dk_at dksX3_oneTest_3 15 rfl rfl)
theorem dX3_oneTest_90 : decode cX3_oneTest 90 = .ok (.iconst 1, 1) := dk_4 (dk_at dksX3_oneTest_3 18 rfl rfl)
theorem dX3_oneTest_91 : decode cX3_oneTest 91 = .ok (.ireturn, 1) := dk_172 (dk_at dksX3_oneTest_3 19 rfl rfl)
theorem dX3_oneTest_92 : decode cX3_oneTest 92 = .ok (.aload_n 0, 1) := dk_42 (dk_at dksX3_oneTest_3 20 rfl rfl)
theorem dX3_oneTest_93 : decode cX3_oneTest 93 = .ok (.invokevirtual 220, 3) := dk_182 0 220 (dk_at dksX3_oneTest_3 21 rfl rfl)
theorem dX3_oneTest_96 : decode cX3_oneTest 96 = .ok (.ifCond .ne 5, 3) := dk_154 0 5 (dk_at dksX3_oneTest_4 0 rfl rfl)
theorem dX3_oneTest_99 : decode cX3_oneTest 99 = .ok (.iconst 0, 1) := dk_3 (dk_at dksX3_oneTest_4 3 rfl rfl)
theorem dX3_oneTest_100 : decode cX3_oneTest 100 = .ok (.ireturn, 1) := dk_172 (dk_at dksX3_oneTest_4 4 rfl rfl)
theorem dX3_oneTest_101 : decode cX3_oneTest 101 = .ok (.aload_n 0, 1) := dk_42 (dk_at dksX3_oneTest_4 5 rfl rfl)
theorem dX3_oneTest_102 : decode cX3_oneTest 102 = .ok (.getfield 161, 3) := dk_180 0 161 (dk_at dksX3_oneTest_4 6 rfl rfl)
theorem dX3_oneTest_105 : decode cX3_oneTest 105 = .ok (.sipush 160, 3) := dk_17 0 160 (dk_at dksX3_oneTest_4 9 rfl rfl)
theorem dX3_oneTest_108 : decode cX3_oneTest 108 = .ok (.if_icmp .ne 8, 3) := dk_160 0 8 (dk_at dksX3_oneTest_4 12 rfl rfl)
theorem dX3_oneTest_111 : decode cX3_oneTest 111 = .ok (.bipush 27, 2) := dk_16 27 (dk_at dksX3_oneTest_4 15 rfl rfl)
theorem dX3_oneTest_113 : decode cX3_oneTest 113 = .ok (.goto 34, 3) := dk_167 0 34 (dk_at dksX3_oneTest_4 17 rfl rfl)
theorem dX3_oneTest_116 : decode cX3_oneTest 116 = .ok (.aload_n 0, 1) := dk_42 (dk_at dksX3_oneTest_4 20 rfl rfl)
theorem dX3_oneTest_117 : decode cX3_oneTest 117 = .ok (.getfield 161, 3) := dk_180 0 161 (dk_at dksX3_oneTest_4 21 rfl rfl)
theorem dX3_oneTest_120 : decode cX3_oneTest 120 = .ok (.sipush 161, 3) := dk_17 0 161 (dk_at dksX3_oneTest_5 0 rfl rfl)
theorem dX3_oneTest_123 : decode cX3_oneTest 123 = .ok (.if_icmp .ne 8, 3) := dk_160 0 8 (dk_at dksX3_oneTest_5 3 rfl rfl)
theorem dX3_oneTest_126 : decode cX3_oneTest 126 = .ok (.bipush 28, 2) := dk_16 28 (dk_at dksX3_oneTest_5 6 rfl rfl)
theorem dX3_oneTest_128 : decode cX3_oneTest 128 = .ok (.goto 19, 3) := dk_167 0 19 (dk_at dksX3_oneTest_5 8 rfl rfl)
theorem dX3_oneTest_131 : decode cX3_oneTest 131 = .ok (.aload_n 0, 1) := dk_42 (dk_at dksX3_oneTest_5 11 rfl rfl)
theorem dX3_oneTest_132 : decode cX3_oneTest 132 = .ok (.getfield 161, 3) := dk_180 0 161 (dk_at dksX3_oneTest_5 12 rfl rfl)
theorem dX3_oneTest_135 : decode cX3_oneTest 135 = .ok (.sipush 162, 3) := dk_17 0 162 (dk_at dksX3_oneTest_5 15 rfl rfl)
theorem dX3_oneTest_138 : decode cX3_oneTest 138 = .ok (.if_icmp .ne 8, 3) := dk_160 0 8 (dk_at dksX3_oneTest_5 18 rfl rfl)
theorem dX3_oneTest_141 : decode cX3_oneTest 141 = .ok (.bipush 29, 2) := dk_16 29 (dk_at dksX3_oneTest_5 21 rfl rfl)
theorem dX3_oneTest_143 : decode cX3_oneTest 143 = .ok (.goto 4, 3) := dk_167 0 4 (dk_at dksX3_oneTest_6 0 rfl rfl)
theorem dX3_oneTest_146 : decode cX3_oneTest 146 = .ok (.iconst (-1), 1) := dk_2 (dk_at dksX3_oneTest_6 3 rfl rfl)
theorem dX3_oneTest_147 : decode cX3_oneTest 147 = .ok (.istore_n 1, 1) := dk_60 (dk_at dksX3_oneTest_6 4 rfl rfl)
theorem dX3_oneTest_148 : decode cX3_oneTest 148 = .ok (.iload_n 1, 1) := dk_27 (dk_at dksX3_oneTest_6 5 rfl rfl)
theorem dX3_oneTest_149 : decode cX3_oneTest 149 = .ok (.iconst (-1), 1) := dk_2 (dk_at dksX3_oneTest_6 6 rfl rfl)
theorem dX3_oneTest_150 : decode cX3_oneTest 150 = .ok (.if_icmp .ne 9, 3) := dk_160 0 9 (dk_at dksX3_oneTest_6 7 rfl rfl)
theorem dX3_oneTest_153 : decode cX3_oneTest 153 = .ok (.aload_n 0, 1) := dk_42 (dk_at dksX3_oneTest_6 10 rfl rfl)
theorem dX3_oneTest_154 : decode cX3_oneTest 154 = .ok (.iconst 1, 1) := dk_4 (dk_at dksX3_oneTest_6 11 rfl rfl)
theorem dX3_oneTest_155 : decode cX3_oneTest 155 = .ok (.invokevirtual 182, 3) := dk_182 0 182 (dk_at dksX3_oneTest_6 12 rfl rfl)
theorem dX3_oneTest_158 : decode cX3_oneTest 158 = .ok (.ireturn, 1) := dk_172 (dk_at dksX3_oneTest_6 15 rfl rfl)
theorem dX3_oneTest_159 : decode cX3_oneTest 159 = .ok (.aload_n 0, 1) := dk_42 (dk_at dksX3_oneTest_6 16 rfl rfl)
theorem dX3_oneTest_160 : decode cX3_oneTest 160 = .ok (.invokevirtual 185, 3) := dk_182 0 185 (dk_at dksX3_oneTest_6 17 rfl rfl)
theorem dX3_oneTest_163 : decode cX3_oneTest 163 = .ok (.aload_n 0, 1) := dk_42 (dk_at dksX3_oneTest_6 20 rfl rfl)
theorem dX3_oneTest_164 : decode cX3_oneTest 164 = .ok (.invokevirtual 220, 3) := dk_182 0 220 (dk_at dksX3_oneTest_6 21 rfl rfl)
theorem dX3_oneTest_167 : decode cX3_oneTest 167 = .ok (.ifCond .ne 5, 3) := dk_154 0 5 (dk_at dksX3_oneTest_7 0 rfl rfl)
theorem dX3_oneTest_170 : decode cX3_oneTest 170 = .ok (.iconst 0, 1) := dk_3 (dk_at dksX3_oneTest_7 3 rfl rfl)
theorem dX3_oneTest_171 : decode cX3_oneTest 171 = .ok (.ireturn, 1) := dk_172 (dk_at dksX3_oneTest_7 4 rfl rfl)
theorem dX3_oneTest_172 : decode cX3_oneTest 172 = .ok (.aload_n 0, 1) := dk_42 (dk_at dksX3_oneTest_7 5 rfl rfl)
theorem dX3_oneTest_173 : decode cX3_oneTest 173 = .ok (.iload_n 1, 1) := dk_27 (dk_at dksX3_oneTest_7 6 rfl rfl)
theorem dX3_oneTest_174 : decode cX3_oneTest 174 = .ok (.iconst 0, 1) := dk_3 (dk_at dksX3_oneTest_7 7 rfl rfl)
theorem dX3_oneTest_175 : decode cX3_oneTest 175 = .ok (.invokevirtual 198, 3) := dk_182 0 198 (dk_at dksX3_oneTest_7 8 rfl rfl)
theorem dX3_oneTest_178 : decode cX3_oneTest 178 = .ok (.iconst 1, 1) := dk_4 (dk_at dksX3_oneTest_7 11 rfl rfl)
theorem dX3_oneTest_179 : decode cX3_oneTest 179 = .ok (.ireturn, 1) := dk_172 (dk_at dksX3_oneTest_7 12 rfl rfl)
abbrev cX3_opens : ByteArray := prog_17_method_30_code
def yX3_opens : MethodName := ⟨RX3, "opens", "()Z"⟩
def dkwX3_opens_1 : List UInt8 := [181, 0, 191, 42, 182, 0, 185, 4, 172]
abbrev dktX3_opens_1 : List UInt8 := dkwX3_opens_1 ++ []
def dkwX3_opens_0 : List UInt8 := [42, 180, 0, 191, 16, 8, 160, 0, 9, 42, 6, 182, 0, 182, 172, 42, 89, 180, 0, 191, 4, 96]
abbrev dktX3_opens_0 : List UInt8 := dkwX3_opens_0 ++ dktX3_opens_1
theorem dksX3_opens_0 : cX3_opens.data.toList.drop 0 = dktX3_opens_0 := by decide +kernel
theorem dksX3_opens_1 : cX3_opens.data.toList.drop 22 = dktX3_opens_1 := dk_seg dksX3_opens_0 22 rfl rfl
theorem dX3_opens_0 : decode cX3_opens 0 = .ok (.aload_n 0, 1) := dk_42 (dk_at dksX3_opens_0 0 rfl rfl)
theorem dX3_opens_1 : decode cX3_opens 1 = .ok (.getfield 191, 3) := dk_180 0 191 (dk_at dksX3_opens_0 1 rfl rfl)
theorem dX3_opens_4 : decode cX3_opens 4 = .ok (.bipush 8, 2) := dk_16 8 (dk_at dksX3_opens_0 4 rfl rfl)
theorem dX3_opens_6 : decode cX3_opens 6 = .ok (.if_icmp .ne 9, 3) := dk_160 0 9 (dk_at dksX3_opens_0 6 rfl rfl)
theorem dX3_opens_9 : decode cX3_opens 9 = .ok (.aload_n 0, 1) := dk_42 (dk_at dksX3_opens_0 9 rfl rfl)
theorem dX3_opens_10 : decode cX3_opens 10 = .ok (.iconst 3, 1) := dk_6 (dk_at dksX3_opens_0 10 rfl rfl)
theorem dX3_opens_11 : decode cX3_opens 11 = .ok (.invokevirtual 182, 3) := dk_182 0 182 (dk_at dksX3_opens_0 11 rfl rfl)
theorem dX3_opens_14 : decode cX3_opens 14 = .ok (.ireturn, 1) := dk_172 (dk_at dksX3_opens_0 14 rfl rfl)
theorem dX3_opens_15 : decode cX3_opens 15 = .ok (.aload_n 0, 1) := dk_42 (dk_at dksX3_opens_0 15 rfl rfl)
theorem dX3_opens_16 : decode cX3_opens 16 = .ok (.dup, 1) := dk_89 (dk_at dksX3_opens_0 16 rfl rfl)
theorem dX3_opens_17 : decode cX3_opens 17 = .ok (.getfield 191, 3) := dk_180 0 191 (dk_at dksX3_opens_0 17 rfl rfl)
theorem dX3_opens_20 : decode cX3_opens 20 = .ok (.iconst 1, 1) := dk_4 (dk_at dksX3_opens_0 20 rfl rfl)
theorem dX3_opens_21 : decode cX3_opens 21 = .ok (.iadd, 1) := dk_96 (dk_at dksX3_opens_0 21 rfl rfl)
theorem dX3_opens_22 : decode cX3_opens 22 = .ok (.putfield 191, 3) := dk_181 0 191 (dk_at dksX3_opens_1 0 rfl rfl)
theorem dX3_opens_25 : decode cX3_opens 25 = .ok (.aload_n 0, 1) := dk_42 (dk_at dksX3_opens_1 3 rfl rfl)
theorem dX3_opens_26 : decode cX3_opens 26 = .ok (.invokevirtual 185, 3) := dk_182 0 185 (dk_at dksX3_opens_1 4 rfl rfl)
theorem dX3_opens_29 : decode cX3_opens 29 = .ok (.iconst 1, 1) := dk_4 (dk_at dksX3_opens_1 7 rfl rfl)
theorem dX3_opens_30 : decode cX3_opens 30 = .ok (.ireturn, 1) := dk_172 (dk_at dksX3_opens_1 8 rfl rfl)
abbrev cX3_need : ByteArray := prog_17_method_28_code
def yX3_need : MethodName := ⟨RX3, "need", "(I)Z"⟩
def dkwX3_need_0 : List UInt8 := [42, 180, 0, 161, 27, 159, 0, 9, 42, 4, 182, 0, 182, 172, 42, 182, 0, 185, 4, 172]
abbrev dktX3_need_0 : List UInt8 := dkwX3_need_0 ++ []
theorem dksX3_need_0 : cX3_need.data.toList.drop 0 = dktX3_need_0 := by decide +kernel
theorem dX3_need_0 : decode cX3_need 0 = .ok (.aload_n 0, 1) := dk_42 (dk_at dksX3_need_0 0 rfl rfl)
theorem dX3_need_1 : decode cX3_need 1 = .ok (.getfield 161, 3) := dk_180 0 161 (dk_at dksX3_need_0 1 rfl rfl)
theorem dX3_need_4 : decode cX3_need 4 = .ok (.iload_n 1, 1) := dk_27 (dk_at dksX3_need_0 4 rfl rfl)
theorem dX3_need_5 : decode cX3_need 5 = .ok (.if_icmp .eq 9, 3) := dk_159 0 9 (dk_at dksX3_need_0 5 rfl rfl)
theorem dX3_need_8 : decode cX3_need 8 = .ok (.aload_n 0, 1) := dk_42 (dk_at dksX3_need_0 8 rfl rfl)
theorem dX3_need_9 : decode cX3_need 9 = .ok (.iconst 1, 1) := dk_4 (dk_at dksX3_need_0 9 rfl rfl)
theorem dX3_need_10 : decode cX3_need 10 = .ok (.invokevirtual 182, 3) := dk_182 0 182 (dk_at dksX3_need_0 10 rfl rfl)
theorem dX3_need_13 : decode cX3_need 13 = .ok (.ireturn, 1) := dk_172 (dk_at dksX3_need_0 13 rfl rfl)
theorem dX3_need_14 : decode cX3_need 14 = .ok (.aload_n 0, 1) := dk_42 (dk_at dksX3_need_0 14 rfl rfl)
theorem dX3_need_15 : decode cX3_need 15 = .ok (.invokevirtual 185, 3) := dk_182 0 185 (dk_at dksX3_need_0 15 rfl rfl)
theorem dX3_need_18 : decode cX3_need 18 = .ok (.iconst 1, 1) := dk_4 (dk_at dksX3_need_0 18 rfl rfl)
theorem dX3_need_19 : decode cX3_need 19 = .ok (.ireturn, 1) := dk_172 (dk_at dksX3_need_0 19 rfl rfl)
abbrev cX3_readsRows : ByteArray := prog_17_method_46_code
def yX3_readsRows : MethodName := ⟨RX3, "readsRows", "()Z"⟩
def dkwX3_readsRows_4 : List UInt8 := [42, 89, 180, 0, 232, 28, 153, 0, 7, 4, 167, 0, 4, 3, 96, 181, 0, 232, 167, 255, 181, 28, 172]
abbrev dktX3_readsRows_4 : List UInt8 := dkwX3_readsRows_4 ++ []
def dkwX3_readsRows_3 : List UInt8 := [154, 0, 8, 16, 10, 167, 0, 5, 16, 16, 160, 0, 9, 42, 6, 182, 0, 182, 172, 42, 182, 1, 5, 61]
abbrev dktX3_readsRows_3 : List UInt8 := dkwX3_readsRows_3 ++ dktX3_readsRows_4
def dkwX3_readsRows_2 : List UInt8 := [42, 180, 0, 161, 27, 159, 0, 9, 42, 4, 182, 0, 182, 172, 42, 180, 0, 232, 42, 180, 0, 135]
abbrev dktX3_readsRows_2 : List UInt8 := dkwX3_readsRows_2 ++ dktX3_readsRows_3
def dkwX3_readsRows_1 : List UInt8 := [160, 0, 8, 16, 10, 167, 0, 5, 16, 13, 60, 4, 61, 28, 153, 0, 77, 42, 180, 0, 161, 153, 0, 70]
abbrev dktX3_readsRows_1 : List UInt8 := dkwX3_readsRows_1 ++ dktX3_readsRows_2
def dkwX3_readsRows_0 : List UInt8 := [42, 3, 181, 0, 232, 42, 180, 0, 135, 154, 0, 8, 16, 7, 167, 0, 18, 42, 180, 0, 135, 5]
abbrev dktX3_readsRows_0 : List UInt8 := dkwX3_readsRows_0 ++ dktX3_readsRows_1
theorem dksX3_readsRows_0 : cX3_readsRows.data.toList.drop 0 = dktX3_readsRows_0 := by decide +kernel
theorem dksX3_readsRows_1 : cX3_readsRows.data.toList.drop 22 = dktX3_readsRows_1 := dk_seg dksX3_readsRows_0 22 rfl rfl
theorem dksX3_readsRows_2 : cX3_readsRows.data.toList.drop 46 = dktX3_readsRows_2 := dk_seg dksX3_readsRows_1 24 rfl rfl
theorem dksX3_readsRows_3 : cX3_readsRows.data.toList.drop 68 = dktX3_readsRows_3 := dk_seg dksX3_readsRows_2 22 rfl rfl
theorem dksX3_readsRows_4 : cX3_readsRows.data.toList.drop 92 = dktX3_readsRows_4 := dk_seg dksX3_readsRows_3 24 rfl rfl
theorem dX3_readsRows_0 : decode cX3_readsRows 0 = .ok (.aload_n 0, 1) := dk_42 (dk_at dksX3_readsRows_0 0 rfl rfl)
theorem dX3_readsRows_1 : decode cX3_readsRows 1 = .ok (.iconst 0, 1) := dk_3 (dk_at dksX3_readsRows_0 1 rfl rfl)
theorem dX3_readsRows_2 : decode cX3_readsRows 2 = .ok (.putfield 232, 3) := dk_181 0 232 (dk_at dksX3_readsRows_0 2 rfl rfl)
theorem dX3_readsRows_5 : decode cX3_readsRows 5 = .ok (.aload_n 0, 1) := dk_42 (dk_at dksX3_readsRows_0 5 rfl rfl)
theorem dX3_readsRows_6 : decode cX3_readsRows 6 = .ok (.getfield 135, 3) := dk_180 0 135 (dk_at dksX3_readsRows_0 6 rfl rfl)
theorem dX3_readsRows_9 : decode cX3_readsRows 9 = .ok (.ifCond .ne 8, 3) := dk_154 0 8 (dk_at dksX3_readsRows_0 9 rfl rfl)
theorem dX3_readsRows_12 : decode cX3_readsRows 12 = .ok (.bipush 7, 2) := dk_16 7 (dk_at dksX3_readsRows_0 12 rfl rfl)
theorem dX3_readsRows_14 : decode cX3_readsRows 14 = .ok (.goto 18, 3) := dk_167 0 18 (dk_at dksX3_readsRows_0 14 rfl rfl)
theorem dX3_readsRows_17 : decode cX3_readsRows 17 = .ok (.aload_n 0, 1) := dk_42 (dk_at dksX3_readsRows_0 17 rfl rfl)
theorem dX3_readsRows_18 : decode cX3_readsRows 18 = .ok (.getfield 135, 3) := dk_180 0 135 (dk_at dksX3_readsRows_0 18 rfl rfl)
theorem dX3_readsRows_21 : decode cX3_readsRows 21 = .ok (.iconst 2, 1) := dk_5 (dk_at dksX3_readsRows_0 21 rfl rfl)
theorem dX3_readsRows_22 : decode cX3_readsRows 22 = .ok (.if_icmp .ne 8, 3) := dk_160 0 8 (dk_at dksX3_readsRows_1 0 rfl rfl)
theorem dX3_readsRows_25 : decode cX3_readsRows 25 = .ok (.bipush 10, 2) := dk_16 10 (dk_at dksX3_readsRows_1 3 rfl rfl)
theorem dX3_readsRows_27 : decode cX3_readsRows 27 = .ok (.goto 5, 3) := dk_167 0 5 (dk_at dksX3_readsRows_1 5 rfl rfl)
theorem dX3_readsRows_30 : decode cX3_readsRows 30 = .ok (.bipush 13, 2) := dk_16 13 (dk_at dksX3_readsRows_1 8 rfl rfl)
theorem dX3_readsRows_32 : decode cX3_readsRows 32 = .ok (.istore_n 1, 1) := dk_60 (dk_at dksX3_readsRows_1 10 rfl rfl)
theorem dX3_readsRows_33 : decode cX3_readsRows 33 = .ok (.iconst 1, 1) := dk_4 (dk_at dksX3_readsRows_1 11 rfl rfl)
theorem dX3_readsRows_34 : decode cX3_readsRows 34 = .ok (.istore_n 2, 1) := dk_61 (dk_at dksX3_readsRows_1 12 rfl rfl)
theorem dX3_readsRows_35 : decode cX3_readsRows 35 = .ok (.iload_n 2, 1) := dk_28 (dk_at dksX3_readsRows_1 13 rfl rfl)
theorem dX3_readsRows_36 : decode cX3_readsRows 36 = .ok (.ifCond .eq 77, 3) := dk_153 0 77 (dk_at dksX3_readsRows_1 14 rfl rfl)
theorem dX3_readsRows_39 : decode cX3_readsRows 39 = .ok (.aload_n 0, 1) := dk_42 (dk_at dksX3_readsRows_1 17 rfl rfl)
theorem dX3_readsRows_40 : decode cX3_readsRows 40 = .ok (.getfield 161, 3) := dk_180 0 161 (dk_at dksX3_readsRows_1 18 rfl rfl)
theorem dX3_readsRows_43 : decode cX3_readsRows 43 = .ok (.ifCond .eq 70, 3) := dk_153 0 70 (dk_at dksX3_readsRows_1 21 rfl rfl)
theorem dX3_readsRows_46 : decode cX3_readsRows 46 = .ok (.aload_n 0, 1) := dk_42 (dk_at dksX3_readsRows_2 0 rfl rfl)
theorem dX3_readsRows_47 : decode cX3_readsRows 47 = .ok (.getfield 161, 3) := dk_180 0 161 (dk_at dksX3_readsRows_2 1 rfl rfl)
theorem dX3_readsRows_50 : decode cX3_readsRows 50 = .ok (.iload_n 1, 1) := dk_27 (dk_at dksX3_readsRows_2 4 rfl rfl)
theorem dX3_readsRows_51 : decode cX3_readsRows 51 = .ok (.if_icmp .eq 9, 3) := dk_159 0 9 (dk_at dksX3_readsRows_2 5 rfl rfl)
theorem dX3_readsRows_54 : decode cX3_readsRows 54 = .ok (.aload_n 0, 1) := dk_42 (dk_at dksX3_readsRows_2 8 rfl rfl)
theorem dX3_readsRows_55 : decode cX3_readsRows 55 = .ok (.iconst 1, 1) := dk_4 (dk_at dksX3_readsRows_2 9 rfl rfl)
theorem dX3_readsRows_56 : decode cX3_readsRows 56 = .ok (.invokevirtual 182, 3) := dk_182 0 182 (dk_at dksX3_readsRows_2 10 rfl rfl)
theorem dX3_readsRows_59 : decode cX3_readsRows 59 = .ok (.ireturn, 1) := dk_172 (dk_at dksX3_readsRows_2 13 rfl rfl)
theorem dX3_readsRows_60 : decode cX3_readsRows 60 = .ok (.aload_n 0, 1) := dk_42 (dk_at dksX3_readsRows_2 14 rfl rfl)
theorem dX3_readsRows_61 : decode cX3_readsRows 61 = .ok (.getfield 232, 3) := dk_180 0 232 (dk_at dksX3_readsRows_2 15 rfl rfl)
theorem dX3_readsRows_64 : decode cX3_readsRows 64 = .ok (.aload_n 0, 1) := dk_42 (dk_at dksX3_readsRows_2 18 rfl rfl)
theorem dX3_readsRows_65 : decode cX3_readsRows 65 = .ok (.getfield 135, 3) := dk_180 0 135 (dk_at dksX3_readsRows_2 19 rfl rfl)
theorem dX3_readsRows_68 : decode cX3_readsRows 68 = .ok (.ifCond .ne 8, 3) := dk_154 0 8 (dk_at dksX3_readsRows_3 0 rfl rfl)
theorem dX3_readsRows_71 : decode cX3_readsRows 71 = .ok (.bipush 10, 2) := dk_16 10 (dk_at dksX3_readsRows_3 3 rfl rfl)
theorem dX3_readsRows_73 : decode cX3_readsRows 73 = .ok (.goto 5, 3) := dk_167 0 5 (dk_at dksX3_readsRows_3 5 rfl rfl)
theorem dX3_readsRows_76 : decode cX3_readsRows 76 = .ok (.bipush 16, 2) := dk_16 16 (dk_at dksX3_readsRows_3 8 rfl rfl)
theorem dX3_readsRows_78 : decode cX3_readsRows 78 = .ok (.if_icmp .ne 9, 3) := dk_160 0 9 (dk_at dksX3_readsRows_3 10 rfl rfl)
theorem dX3_readsRows_81 : decode cX3_readsRows 81 = .ok (.aload_n 0, 1) := dk_42 (dk_at dksX3_readsRows_3 13 rfl rfl)
theorem dX3_readsRows_82 : decode cX3_readsRows 82 = .ok (.iconst 3, 1) := dk_6 (dk_at dksX3_readsRows_3 14 rfl rfl)
theorem dX3_readsRows_83 : decode cX3_readsRows 83 = .ok (.invokevirtual 182, 3) := dk_182 0 182 (dk_at dksX3_readsRows_3 15 rfl rfl)
theorem dX3_readsRows_86 : decode cX3_readsRows 86 = .ok (.ireturn, 1) := dk_172 (dk_at dksX3_readsRows_3 18 rfl rfl)
theorem dX3_readsRows_87 : decode cX3_readsRows 87 = .ok (.aload_n 0, 1) := dk_42 (dk_at dksX3_readsRows_3 19 rfl rfl)
theorem dX3_readsRows_88 : decode cX3_readsRows 88 = .ok (.invokevirtual 261, 3) := dk_182 1 5 (dk_at dksX3_readsRows_3 20 rfl rfl)
theorem dX3_readsRows_91 : decode cX3_readsRows 91 = .ok (.istore_n 2, 1) := dk_61 (dk_at dksX3_readsRows_3 23 rfl rfl)
theorem dX3_readsRows_92 : decode cX3_readsRows 92 = .ok (.aload_n 0, 1) := dk_42 (dk_at dksX3_readsRows_4 0 rfl rfl)
theorem dX3_readsRows_93 : decode cX3_readsRows 93 = .ok (.dup, 1) := dk_89 (dk_at dksX3_readsRows_4 1 rfl rfl)
theorem dX3_readsRows_94 : decode cX3_readsRows 94 = .ok (.getfield 232, 3) := dk_180 0 232 (dk_at dksX3_readsRows_4 2 rfl rfl)
theorem dX3_readsRows_97 : decode cX3_readsRows 97 = .ok (.iload_n 2, 1) := dk_28 (dk_at dksX3_readsRows_4 5 rfl rfl)
theorem dX3_readsRows_98 : decode cX3_readsRows 98 = .ok (.ifCond .eq 7, 3) := dk_153 0 7 (dk_at dksX3_readsRows_4 6 rfl rfl)
theorem dX3_readsRows_101 : decode cX3_readsRows 101 = .ok (.iconst 1, 1) := dk_4 (dk_at dksX3_readsRows_4 9 rfl rfl)
theorem dX3_readsRows_102 : decode cX3_readsRows 102 = .ok (.goto 4, 3) := dk_167 0 4 (dk_at dksX3_readsRows_4 10 rfl rfl)
theorem dX3_readsRows_105 : decode cX3_readsRows 105 = .ok (.iconst 0, 1) := dk_3 (dk_at dksX3_readsRows_4 13 rfl rfl)
theorem dX3_readsRows_106 : decode cX3_readsRows 106 = .ok (.iadd, 1) := dk_96 (dk_at dksX3_readsRows_4 14 rfl rfl)
theorem dX3_readsRows_107 : decode cX3_readsRows 107 = .ok (.putfield 232, 3) := dk_181 0 232 (dk_at dksX3_readsRows_4 15 rfl rfl)
theorem dX3_readsRows_110 : decode cX3_readsRows 110 = .ok (.goto (-75), 3) := dk_167 255 181 (dk_at dksX3_readsRows_4 18 rfl rfl)
theorem dX3_readsRows_113 : decode cX3_readsRows 113 = .ok (.iload_n 2, 1) := dk_28 (dk_at dksX3_readsRows_4 21 rfl rfl)
theorem dX3_readsRows_114 : decode cX3_readsRows 114 = .ok (.ireturn, 1) := dk_172 (dk_at dksX3_readsRows_4 22 rfl rfl)
abbrev cX3_aRow : ByteArray := prog_17_method_45_code
def yX3_aRow : MethodName := ⟨RX3, "aRow", "()Z"⟩
def dkwX3_aRow_2 : List UInt8 := [182, 0, 217, 153, 0, 7, 4, 167, 0, 4, 3, 172]
abbrev dktX3_aRow_2 : List UInt8 := dkwX3_aRow_2 ++ []
def dkwX3_aRow_1 : List UInt8 := [160, 0, 13, 42, 182, 0, 255, 153, 0, 27, 167, 0, 10, 42, 182, 1, 2, 153, 0, 17, 42, 17, 0, 159]
abbrev dktX3_aRow_1 : List UInt8 := dkwX3_aRow_1 ++ dktX3_aRow_2
def dkwX3_aRow_0 : List UInt8 := [42, 180, 0, 135, 154, 0, 13, 42, 182, 0, 252, 153, 0, 45, 167, 0, 28, 42, 180, 0, 135, 5]
abbrev dktX3_aRow_0 : List UInt8 := dkwX3_aRow_0 ++ dktX3_aRow_1
theorem dksX3_aRow_0 : cX3_aRow.data.toList.drop 0 = dktX3_aRow_0 := by decide +kernel
theorem dksX3_aRow_1 : cX3_aRow.data.toList.drop 22 = dktX3_aRow_1 := dk_seg dksX3_aRow_0 22 rfl rfl
theorem dksX3_aRow_2 : cX3_aRow.data.toList.drop 46 = dktX3_aRow_2 := dk_seg dksX3_aRow_1 24 rfl rfl
theorem dX3_aRow_0 : decode cX3_aRow 0 = .ok (.aload_n 0, 1) := dk_42 (dk_at dksX3_aRow_0 0 rfl rfl)
theorem dX3_aRow_1 : decode cX3_aRow 1 = .ok (.getfield 135, 3) := dk_180 0 135 (dk_at dksX3_aRow_0 1 rfl rfl)
theorem dX3_aRow_4 : decode cX3_aRow 4 = .ok (.ifCond .ne 13, 3) := dk_154 0 13 (dk_at dksX3_aRow_0 4 rfl rfl)
theorem dX3_aRow_7 : decode cX3_aRow 7 = .ok (.aload_n 0, 1) := dk_42 (dk_at dksX3_aRow_0 7 rfl rfl)
theorem dX3_aRow_8 : decode cX3_aRow 8 = .ok (.invokevirtual 252, 3) := dk_182 0 252 (dk_at dksX3_aRow_0 8 rfl rfl)
theorem dX3_aRow_11 : decode cX3_aRow 11 = .ok (.ifCond .eq 45, 3) := dk_153 0 45 (dk_at dksX3_aRow_0 11 rfl rfl)
theorem dX3_aRow_14 : decode cX3_aRow 14 = .ok (.goto 28, 3) := dk_167 0 28 (dk_at dksX3_aRow_0 14 rfl rfl)
theorem dX3_aRow_17 : decode cX3_aRow 17 = .ok (.aload_n 0, 1) := dk_42 (dk_at dksX3_aRow_0 17 rfl rfl)
theorem dX3_aRow_18 : decode cX3_aRow 18 = .ok (.getfield 135, 3) := dk_180 0 135 (dk_at dksX3_aRow_0 18 rfl rfl)
theorem dX3_aRow_21 : decode cX3_aRow 21 = .ok (.iconst 2, 1) := dk_5 (dk_at dksX3_aRow_0 21 rfl rfl)
theorem dX3_aRow_22 : decode cX3_aRow 22 = .ok (.if_icmp .ne 13, 3) := dk_160 0 13 (dk_at dksX3_aRow_1 0 rfl rfl)
theorem dX3_aRow_25 : decode cX3_aRow 25 = .ok (.aload_n 0, 1) := dk_42 (dk_at dksX3_aRow_1 3 rfl rfl)
theorem dX3_aRow_26 : decode cX3_aRow 26 = .ok (.invokevirtual 255, 3) := dk_182 0 255 (dk_at dksX3_aRow_1 4 rfl rfl)
theorem dX3_aRow_29 : decode cX3_aRow 29 = .ok (.ifCond .eq 27, 3) := dk_153 0 27 (dk_at dksX3_aRow_1 7 rfl rfl)
theorem dX3_aRow_32 : decode cX3_aRow 32 = .ok (.goto 10, 3) := dk_167 0 10 (dk_at dksX3_aRow_1 10 rfl rfl)
theorem dX3_aRow_35 : decode cX3_aRow 35 = .ok (.aload_n 0, 1) := dk_42 (dk_at dksX3_aRow_1 13 rfl rfl)
theorem dX3_aRow_36 : decode cX3_aRow 36 = .ok (.invokevirtual 258, 3) := dk_182 1 2 (dk_at dksX3_aRow_1 14 rfl rfl)
theorem dX3_aRow_39 : decode cX3_aRow 39 = .ok (.ifCond .eq 17, 3) := dk_153 0 17 (dk_at dksX3_aRow_1 17 rfl rfl)
theorem dX3_aRow_42 : decode cX3_aRow 42 = .ok (.aload_n 0, 1) := dk_42 (dk_at dksX3_aRow_1 20 rfl rfl)
theorem dX3_aRow_43 : decode cX3_aRow 43 = .ok (.sipush 159, 3) := dk_17 0 159 (dk_at dksX3_aRow_1 21 rfl rfl)
theorem dX3_aRow_46 : decode cX3_aRow 46 = .ok (.invokevirtual 217, 3) := dk_182 0 217 (dk_at dksX3_aRow_2 0 rfl rfl)
theorem dX3_aRow_49 : decode cX3_aRow 49 = .ok (.ifCond .eq 7, 3) := dk_153 0 7 (dk_at dksX3_aRow_2 3 rfl rfl)
theorem dX3_aRow_52 : decode cX3_aRow 52 = .ok (.iconst 1, 1) := dk_4 (dk_at dksX3_aRow_2 6 rfl rfl)
theorem dX3_aRow_53 : decode cX3_aRow 53 = .ok (.goto 4, 3) := dk_167 0 4 (dk_at dksX3_aRow_2 7 rfl rfl)
theorem dX3_aRow_56 : decode cX3_aRow 56 = .ok (.iconst 0, 1) := dk_3 (dk_at dksX3_aRow_2 10 rfl rfl)
theorem dX3_aRow_57 : decode cX3_aRow 57 = .ok (.ireturn, 1) := dk_172 (dk_at dksX3_aRow_2 11 rfl rfl)
abbrev cX3_aFact : ByteArray := prog_17_method_41_code
def yX3_aFact : MethodName := ⟨RX3, "aFact", "()Z"⟩
def dkwX3_aFact_5 : List UInt8 := [27, 5, 96, 16, 9, 3, 16, 99, 182, 0, 239, 153, 0, 7, 4, 167, 0, 4, 3, 172]
abbrev dktX3_aFact_5 : List UInt8 := dkwX3_aFact_5 ++ []
def dkwX3_aFact_4 : List UInt8 := [180, 0, 28, 27, 3, 96, 28, 79, 42, 27, 4, 96, 16, 8, 4, 16, 20, 182, 0, 239, 153, 0, 22, 42]
abbrev dktX3_aFact_4 : List UInt8 := dkwX3_aFact_4 ++ dktX3_aFact_5
def dkwX3_aFact_3 : List UInt8 := [3, 172, 132, 2, 1, 42, 180, 0, 161, 5, 160, 0, 7, 4, 167, 0, 4, 3, 62, 167, 255, 181, 42]
abbrev dktX3_aFact_3 : List UInt8 := dkwX3_aFact_3 ++ dktX3_aFact_4
def dkwX3_aFact_2 : List UInt8 := [6, 182, 0, 182, 172, 42, 27, 6, 96, 28, 8, 184, 0, 235, 96, 3, 16, 7, 182, 0, 229, 154, 0, 5]
abbrev dktX3_aFact_2 : List UInt8 := dkwX3_aFact_2 ++ dktX3_aFact_3
def dkwX3_aFact_1 : List UInt8 := [5, 160, 0, 28, 42, 180, 0, 173, 3, 16, 7, 184, 0, 59, 153, 0, 15, 28, 16, 6, 160, 0, 9, 42]
abbrev dktX3_aFact_1 : List UInt8 := dkwX3_aFact_1 ++ dktX3_aFact_2
def dkwX3_aFact_0 : List UInt8 := [16, 9, 42, 180, 0, 232, 104, 60, 42, 182, 0, 185, 3, 61, 4, 62, 29, 153, 0, 77, 42, 180, 0, 161]
abbrev dktX3_aFact_0 : List UInt8 := dkwX3_aFact_0 ++ dktX3_aFact_1
theorem dksX3_aFact_0 : cX3_aFact.data.toList.drop 0 = dktX3_aFact_0 := by decide +kernel
theorem dksX3_aFact_1 : cX3_aFact.data.toList.drop 24 = dktX3_aFact_1 := dk_seg dksX3_aFact_0 24 rfl rfl
theorem dksX3_aFact_2 : cX3_aFact.data.toList.drop 48 = dktX3_aFact_2 := dk_seg dksX3_aFact_1 24 rfl rfl
theorem dksX3_aFact_3 : cX3_aFact.data.toList.drop 72 = dktX3_aFact_3 := dk_seg dksX3_aFact_2 24 rfl rfl
theorem dksX3_aFact_4 : cX3_aFact.data.toList.drop 95 = dktX3_aFact_4 := dk_seg dksX3_aFact_3 23 rfl rfl
theorem dksX3_aFact_5 : cX3_aFact.data.toList.drop 119 = dktX3_aFact_5 := dk_seg dksX3_aFact_4 24 rfl rfl
theorem dX3_aFact_0 : decode cX3_aFact 0 = .ok (.bipush 9, 2) := dk_16 9 (dk_at dksX3_aFact_0 0 rfl rfl)
theorem dX3_aFact_2 : decode cX3_aFact 2 = .ok (.aload_n 0, 1) := dk_42 (dk_at dksX3_aFact_0 2 rfl rfl)
theorem dX3_aFact_3 : decode cX3_aFact 3 = .ok (.getfield 232, 3) := dk_180 0 232 (dk_at dksX3_aFact_0 3 rfl rfl)
theorem dX3_aFact_6 : decode cX3_aFact 6 = .ok (.imul, 1) := dk_104 (dk_at dksX3_aFact_0 6 rfl rfl)
theorem dX3_aFact_7 : decode cX3_aFact 7 = .ok (.istore_n 1, 1) := dk_60 (dk_at dksX3_aFact_0 7 rfl rfl)
theorem dX3_aFact_8 : decode cX3_aFact 8 = .ok (.aload_n 0, 1) := dk_42 (dk_at dksX3_aFact_0 8 rfl rfl)
theorem dX3_aFact_9 : decode cX3_aFact 9 = .ok (.invokevirtual 185, 3) := dk_182 0 185 (dk_at dksX3_aFact_0 9 rfl rfl)
theorem dX3_aFact_12 : decode cX3_aFact 12 = .ok (.iconst 0, 1) := dk_3 (dk_at dksX3_aFact_0 12 rfl rfl)
theorem dX3_aFact_13 : decode cX3_aFact 13 = .ok (.istore_n 2, 1) := dk_61 (dk_at dksX3_aFact_0 13 rfl rfl)
theorem dX3_aFact_14 : decode cX3_aFact 14 = .ok (.iconst 1, 1) := dk_4 (dk_at dksX3_aFact_0 14 rfl rfl)
theorem dX3_aFact_15 : decode cX3_aFact 15 = .ok (.istore_n 3, 1) := dk_62 (dk_at dksX3_aFact_0 15 rfl rfl)
theorem dX3_aFact_16 : decode cX3_aFact 16 = .ok (.iload_n 3, 1) := dk_29 (dk_at dksX3_aFact_0 16 rfl rfl)
theorem dX3_aFact_17 : decode cX3_aFact 17 = .ok (.ifCond .eq 77, 3) := dk_153 0 77 (dk_at dksX3_aFact_0 17 rfl rfl)
theorem dX3_aFact_20 : decode cX3_aFact 20 = .ok (.aload_n 0, 1) := dk_42 (dk_at dksX3_aFact_0 20 rfl rfl)
theorem dX3_aFact_21 : decode cX3_aFact 21 = .ok (.getfield 161, 3) := dk_180 0 161 (dk_at dksX3_aFact_0 21 rfl rfl)
theorem dX3_aFact_24 : decode cX3_aFact 24 = .ok (.iconst 2, 1) := dk_5 (dk_at dksX3_aFact_1 0 rfl rfl)
theorem dX3_aFact_25 : decode cX3_aFact 25 = .ok (.if_icmp .ne 28, 3) := dk_160 0 28 (dk_at dksX3_aFact_1 1 rfl rfl)
theorem dX3_aFact_28 : decode cX3_aFact 28 = .ok (.aload_n 0, 1) := dk_42 (dk_at dksX3_aFact_1 4 rfl rfl)
theorem dX3_aFact_29 : decode cX3_aFact 29 = .ok (.getfield 173, 3) := dk_180 0 173 (dk_at dksX3_aFact_1 5 rfl rfl)
theorem dX3_aFact_32 : decode cX3_aFact 32 = .ok (.iconst 0, 1) := dk_3 (dk_at dksX3_aFact_1 8 rfl rfl)
theorem dX3_aFact_33 : decode cX3_aFact 33 = .ok (.bipush 7, 2) := dk_16 7 (dk_at dksX3_aFact_1 9 rfl rfl)
theorem dX3_aFact_35 : decode cX3_aFact 35 = .ok (.invokestatic 59, 3) := dk_184 0 59 (dk_at dksX3_aFact_1 11 rfl rfl)
theorem dX3_aFact_38 : decode cX3_aFact 38 = .ok (.ifCond .eq 15, 3) := dk_153 0 15 (dk_at dksX3_aFact_1 14 rfl rfl)
theorem dX3_aFact_41 : decode cX3_aFact 41 = .ok (.iload_n 2, 1) := dk_28 (dk_at dksX3_aFact_1 17 rfl rfl)
theorem dX3_aFact_42 : decode cX3_aFact 42 = .ok (.bipush 6, 2) := dk_16 6 (dk_at dksX3_aFact_1 18 rfl rfl)
theorem dX3_aFact_44 : decode cX3_aFact 44 = .ok (.if_icmp .ne 9, 3) := dk_160 0 9 (dk_at dksX3_aFact_1 20 rfl rfl)
theorem dX3_aFact_47 : decode cX3_aFact 47 = .ok (.aload_n 0, 1) := dk_42 (dk_at dksX3_aFact_1 23 rfl rfl)
theorem dX3_aFact_48 : decode cX3_aFact 48 = .ok (.iconst 3, 1) := dk_6 (dk_at dksX3_aFact_2 0 rfl rfl)
theorem dX3_aFact_49 : decode cX3_aFact 49 = .ok (.invokevirtual 182, 3) := dk_182 0 182 (dk_at dksX3_aFact_2 1 rfl rfl)
theorem dX3_aFact_52 : decode cX3_aFact 52 = .ok (.ireturn, 1) := dk_172 (dk_at dksX3_aFact_2 4 rfl rfl)
theorem dX3_aFact_53 : decode cX3_aFact 53 = .ok (.aload_n 0, 1) := dk_42 (dk_at dksX3_aFact_2 5 rfl rfl)
theorem dX3_aFact_54 : decode cX3_aFact 54 = .ok (.iload_n 1, 1) := dk_27 (dk_at dksX3_aFact_2 6 rfl rfl)
theorem dX3_aFact_55 : decode cX3_aFact 55 = .ok (.iconst 3, 1) := dk_6 (dk_at dksX3_aFact_2 7 rfl rfl)
theorem dX3_aFact_56 : decode cX3_aFact 56 = .ok (.iadd, 1) := dk_96 (dk_at dksX3_aFact_2 8 rfl rfl)
theorem dX3_aFact_57 : decode cX3_aFact 57 = .ok (.iload_n 2, 1) := dk_28 (dk_at dksX3_aFact_2 9 rfl rfl)
theorem dX3_aFact_58 : decode cX3_aFact 58 = .ok (.iconst 5, 1) := dk_8 (dk_at dksX3_aFact_2 10 rfl rfl)
theorem dX3_aFact_59 : decode cX3_aFact 59 = .ok (.invokestatic 235, 3) := dk_184 0 235 (dk_at dksX3_aFact_2 11 rfl rfl)
theorem dX3_aFact_62 : decode cX3_aFact 62 = .ok (.iadd, 1) := dk_96 (dk_at dksX3_aFact_2 14 rfl rfl)
theorem dX3_aFact_63 : decode cX3_aFact 63 = .ok (.iconst 0, 1) := dk_3 (dk_at dksX3_aFact_2 15 rfl rfl)
theorem dX3_aFact_64 : decode cX3_aFact 64 = .ok (.bipush 7, 2) := dk_16 7 (dk_at dksX3_aFact_2 16 rfl rfl)
theorem dX3_aFact_66 : decode cX3_aFact 66 = .ok (.invokevirtual 229, 3) := dk_182 0 229 (dk_at dksX3_aFact_2 18 rfl rfl)
theorem dX3_aFact_69 : decode cX3_aFact 69 = .ok (.ifCond .ne 5, 3) := dk_154 0 5 (dk_at dksX3_aFact_2 21 rfl rfl)
theorem dX3_aFact_72 : decode cX3_aFact 72 = .ok (.iconst 0, 1) := dk_3 (dk_at dksX3_aFact_3 0 rfl rfl)
theorem dX3_aFact_73 : decode cX3_aFact 73 = .ok (.ireturn, 1) := dk_172 (dk_at dksX3_aFact_3 1 rfl rfl)
theorem dX3_aFact_74 : decode cX3_aFact 74 = .ok (.iinc 2 1, 3) := dk_132 2 1 (dk_at dksX3_aFact_3 2 rfl rfl)
theorem dX3_aFact_77 : decode cX3_aFact 77 = .ok (.aload_n 0, 1) := dk_42 (dk_at dksX3_aFact_3 5 rfl rfl)
theorem dX3_aFact_78 : decode cX3_aFact 78 = .ok (.getfield 161, 3) := dk_180 0 161 (dk_at dksX3_aFact_3 6 rfl rfl)
theorem dX3_aFact_81 : decode cX3_aFact 81 = .ok (.iconst 2, 1) := dk_5 (dk_at dksX3_aFact_3 9 rfl rfl)
theorem dX3_aFact_82 : decode cX3_aFact 82 = .ok (.if_icmp .ne 7, 3) := dk_160 0 7 (dk_at dksX3_aFact_3 10 rfl rfl)
theorem dX3_aFact_85 : decode cX3_aFact 85 = .ok (.iconst 1, 1) := dk_4 (dk_at dksX3_aFact_3 13 rfl rfl)
theorem dX3_aFact_86 : decode cX3_aFact 86 = .ok (.goto 4, 3) := dk_167 0 4 (dk_at dksX3_aFact_3 14 rfl rfl)
theorem dX3_aFact_89 : decode cX3_aFact 89 = .ok (.iconst 0, 1) := dk_3 (dk_at dksX3_aFact_3 17 rfl rfl)
theorem dX3_aFact_90 : decode cX3_aFact 90 = .ok (.istore_n 3, 1) := dk_62 (dk_at dksX3_aFact_3 18 rfl rfl)
theorem dX3_aFact_91 : decode cX3_aFact 91 = .ok (.goto (-75), 3) := dk_167 255 181 (dk_at dksX3_aFact_3 19 rfl rfl)
theorem dX3_aFact_94 : decode cX3_aFact 94 = .ok (.aload_n 0, 1) := dk_42 (dk_at dksX3_aFact_3 22 rfl rfl)
theorem dX3_aFact_95 : decode cX3_aFact 95 = .ok (.getfield 28, 3) := dk_180 0 28 (dk_at dksX3_aFact_4 0 rfl rfl)
theorem dX3_aFact_98 : decode cX3_aFact 98 = .ok (.iload_n 1, 1) := dk_27 (dk_at dksX3_aFact_4 3 rfl rfl)
theorem dX3_aFact_99 : decode cX3_aFact 99 = .ok (.iconst 0, 1) := dk_3 (dk_at dksX3_aFact_4 4 rfl rfl)
theorem dX3_aFact_100 : decode cX3_aFact 100 = .ok (.iadd, 1) := dk_96 (dk_at dksX3_aFact_4 5 rfl rfl)
theorem dX3_aFact_101 : decode cX3_aFact 101 = .ok (.iload_n 2, 1) := dk_28 (dk_at dksX3_aFact_4 6 rfl rfl)
theorem dX3_aFact_102 : decode cX3_aFact 102 = .ok (.iastore, 1) := dk_79 (dk_at dksX3_aFact_4 7 rfl rfl)
theorem dX3_aFact_103 : decode cX3_aFact 103 = .ok (.aload_n 0, 1) := dk_42 (dk_at dksX3_aFact_4 8 rfl rfl)
theorem dX3_aFact_104 : decode cX3_aFact 104 = .ok (.iload_n 1, 1) := dk_27 (dk_at dksX3_aFact_4 9 rfl rfl)
theorem dX3_aFact_105 : decode cX3_aFact 105 = .ok (.iconst 1, 1) := dk_4 (dk_at dksX3_aFact_4 10 rfl rfl)
theorem dX3_aFact_106 : decode cX3_aFact 106 = .ok (.iadd, 1) := dk_96 (dk_at dksX3_aFact_4 11 rfl rfl)
theorem dX3_aFact_107 : decode cX3_aFact 107 = .ok (.bipush 8, 2) := dk_16 8 (dk_at dksX3_aFact_4 12 rfl rfl)
theorem dX3_aFact_109 : decode cX3_aFact 109 = .ok (.iconst 1, 1) := dk_4 (dk_at dksX3_aFact_4 14 rfl rfl)
theorem dX3_aFact_110 : decode cX3_aFact 110 = .ok (.bipush 20, 2) := dk_16 20 (dk_at dksX3_aFact_4 15 rfl rfl)
theorem dX3_aFact_112 : decode cX3_aFact 112 = .ok (.invokevirtual 239, 3) := dk_182 0 239 (dk_at dksX3_aFact_4 17 rfl rfl)
theorem dX3_aFact_115 : decode cX3_aFact 115 = .ok (.ifCond .eq 22, 3) := dk_153 0 22 (dk_at dksX3_aFact_4 20 rfl rfl)
theorem dX3_aFact_118 : decode cX3_aFact 118 = .ok (.aload_n 0, 1) := dk_42 (dk_at dksX3_aFact_4 23 rfl rfl)
theorem dX3_aFact_119 : decode cX3_aFact 119 = .ok (.iload_n 1, 1) := dk_27 (dk_at dksX3_aFact_5 0 rfl rfl)
theorem dX3_aFact_120 : decode cX3_aFact 120 = .ok (.iconst 2, 1) := dk_5 (dk_at dksX3_aFact_5 1 rfl rfl)
theorem dX3_aFact_121 : decode cX3_aFact 121 = .ok (.iadd, 1) := dk_96 (dk_at dksX3_aFact_5 2 rfl rfl)
theorem dX3_aFact_122 : decode cX3_aFact 122 = .ok (.bipush 9, 2) := dk_16 9 (dk_at dksX3_aFact_5 3 rfl rfl)
theorem dX3_aFact_124 : decode cX3_aFact 124 = .ok (.iconst 0, 1) := dk_3 (dk_at dksX3_aFact_5 5 rfl rfl)
theorem dX3_aFact_125 : decode cX3_aFact 125 = .ok (.bipush 99, 2) := dk_16 99 (dk_at dksX3_aFact_5 6 rfl rfl)
theorem dX3_aFact_127 : decode cX3_aFact 127 = .ok (.invokevirtual 239, 3) := dk_182 0 239 (dk_at dksX3_aFact_5 8 rfl rfl)
theorem dX3_aFact_130 : decode cX3_aFact 130 = .ok (.ifCond .eq 7, 3) := dk_153 0 7 (dk_at dksX3_aFact_5 11 rfl rfl)
theorem dX3_aFact_133 : decode cX3_aFact 133 = .ok (.iconst 1, 1) := dk_4 (dk_at dksX3_aFact_5 14 rfl rfl)
theorem dX3_aFact_134 : decode cX3_aFact 134 = .ok (.goto 4, 3) := dk_167 0 4 (dk_at dksX3_aFact_5 15 rfl rfl)
theorem dX3_aFact_137 : decode cX3_aFact 137 = .ok (.iconst 0, 1) := dk_3 (dk_at dksX3_aFact_5 18 rfl rfl)
theorem dX3_aFact_138 : decode cX3_aFact 138 = .ok (.ireturn, 1) := dk_172 (dk_at dksX3_aFact_5 19 rfl rfl)
abbrev cX3_lesser : ByteArray := prog_17_method_3_code
def yX3_lesser : MethodName := ⟨RX3, "lesser", "(II)I"⟩
def dkwX3_lesser_0 : List UInt8 := [26, 27, 162, 0, 7, 26, 167, 0, 4, 27, 172]
abbrev dktX3_lesser_0 : List UInt8 := dkwX3_lesser_0 ++ []
theorem dksX3_lesser_0 : cX3_lesser.data.toList.drop 0 = dktX3_lesser_0 := by decide +kernel
theorem dX3_lesser_0 : decode cX3_lesser 0 = .ok (.iload_n 0, 1) := dk_26 (dk_at dksX3_lesser_0 0 rfl rfl)
theorem dX3_lesser_1 : decode cX3_lesser 1 = .ok (.iload_n 1, 1) := dk_27 (dk_at dksX3_lesser_0 1 rfl rfl)
theorem dX3_lesser_2 : decode cX3_lesser 2 = .ok (.if_icmp .ge 7, 3) := dk_162 0 7 (dk_at dksX3_lesser_0 2 rfl rfl)
theorem dX3_lesser_5 : decode cX3_lesser 5 = .ok (.iload_n 0, 1) := dk_26 (dk_at dksX3_lesser_0 5 rfl rfl)
theorem dX3_lesser_6 : decode cX3_lesser 6 = .ok (.goto 4, 3) := dk_167 0 4 (dk_at dksX3_lesser_0 6 rfl rfl)
theorem dX3_lesser_9 : decode cX3_lesser 9 = .ok (.iload_n 1, 1) := dk_27 (dk_at dksX3_lesser_0 9 rfl rfl)
theorem dX3_lesser_10 : decode cX3_lesser 10 = .ok (.ireturn, 1) := dk_172 (dk_at dksX3_lesser_0 10 rfl rfl)
abbrev cX3_number : ByteArray := prog_17_method_39_code
def yX3_number : MethodName := ⟨RX3, "number", "(III)Z"⟩
def dkwX3_number_2 : List UInt8 := [172]
abbrev dktX3_number_2 : List UInt8 := dkwX3_number_2 ++ []
def dkwX3_number_1 : List UInt8 := [154, 0, 9, 42, 5, 182, 0, 182, 172, 42, 180, 0, 28, 27, 42, 180, 0, 173, 79, 42, 182, 0, 185, 4]
abbrev dktX3_number_1 : List UInt8 := dkwX3_number_1 ++ dktX3_number_2
def dkwX3_number_0 : List UInt8 := [42, 180, 0, 161, 5, 159, 0, 9, 42, 4, 182, 0, 182, 172, 42, 180, 0, 173, 28, 29, 184, 0, 59]
abbrev dktX3_number_0 : List UInt8 := dkwX3_number_0 ++ dktX3_number_1
theorem dksX3_number_0 : cX3_number.data.toList.drop 0 = dktX3_number_0 := by decide +kernel
theorem dksX3_number_1 : cX3_number.data.toList.drop 23 = dktX3_number_1 := dk_seg dksX3_number_0 23 rfl rfl
theorem dksX3_number_2 : cX3_number.data.toList.drop 47 = dktX3_number_2 := dk_seg dksX3_number_1 24 rfl rfl
theorem dX3_number_0 : decode cX3_number 0 = .ok (.aload_n 0, 1) := dk_42 (dk_at dksX3_number_0 0 rfl rfl)
theorem dX3_number_1 : decode cX3_number 1 = .ok (.getfield 161, 3) := dk_180 0 161 (dk_at dksX3_number_0 1 rfl rfl)
theorem dX3_number_4 : decode cX3_number 4 = .ok (.iconst 2, 1) := dk_5 (dk_at dksX3_number_0 4 rfl rfl)
theorem dX3_number_5 : decode cX3_number 5 = .ok (.if_icmp .eq 9, 3) := dk_159 0 9 (dk_at dksX3_number_0 5 rfl rfl)
theorem dX3_number_8 : decode cX3_number 8 = .ok (.aload_n 0, 1) := dk_42 (dk_at dksX3_number_0 8 rfl rfl)
theorem dX3_number_9 : decode cX3_number 9 = .ok (.iconst 1, 1) := dk_4 (dk_at dksX3_number_0 9 rfl rfl)
theorem dX3_number_10 : decode cX3_number 10 = .ok (.invokevirtual 182, 3) := dk_182 0 182 (dk_at dksX3_number_0 10 rfl rfl)
theorem dX3_number_13 : decode cX3_number 13 = .ok (.ireturn, 1) := dk_172 (dk_at dksX3_number_0 13 rfl rfl)
theorem dX3_number_14 : decode cX3_number 14 = .ok (.aload_n 0, 1) := dk_42 (dk_at dksX3_number_0 14 rfl rfl)
theorem dX3_number_15 : decode cX3_number 15 = .ok (.getfield 173, 3) := dk_180 0 173 (dk_at dksX3_number_0 15 rfl rfl)
theorem dX3_number_18 : decode cX3_number 18 = .ok (.iload_n 2, 1) := dk_28 (dk_at dksX3_number_0 18 rfl rfl)
theorem dX3_number_19 : decode cX3_number 19 = .ok (.iload_n 3, 1) := dk_29 (dk_at dksX3_number_0 19 rfl rfl)
theorem dX3_number_20 : decode cX3_number 20 = .ok (.invokestatic 59, 3) := dk_184 0 59 (dk_at dksX3_number_0 20 rfl rfl)
theorem dX3_number_23 : decode cX3_number 23 = .ok (.ifCond .ne 9, 3) := dk_154 0 9 (dk_at dksX3_number_1 0 rfl rfl)
theorem dX3_number_26 : decode cX3_number 26 = .ok (.aload_n 0, 1) := dk_42 (dk_at dksX3_number_1 3 rfl rfl)
theorem dX3_number_27 : decode cX3_number 27 = .ok (.iconst 2, 1) := dk_5 (dk_at dksX3_number_1 4 rfl rfl)
theorem dX3_number_28 : decode cX3_number 28 = .ok (.invokevirtual 182, 3) := dk_182 0 182 (dk_at dksX3_number_1 5 rfl rfl)
theorem dX3_number_31 : decode cX3_number 31 = .ok (.ireturn, 1) := dk_172 (dk_at dksX3_number_1 8 rfl rfl)
theorem dX3_number_32 : decode cX3_number 32 = .ok (.aload_n 0, 1) := dk_42 (dk_at dksX3_number_1 9 rfl rfl)
theorem dX3_number_33 : decode cX3_number 33 = .ok (.getfield 28, 3) := dk_180 0 28 (dk_at dksX3_number_1 10 rfl rfl)
theorem dX3_number_36 : decode cX3_number 36 = .ok (.iload_n 1, 1) := dk_27 (dk_at dksX3_number_1 13 rfl rfl)
theorem dX3_number_37 : decode cX3_number 37 = .ok (.aload_n 0, 1) := dk_42 (dk_at dksX3_number_1 14 rfl rfl)
theorem dX3_number_38 : decode cX3_number 38 = .ok (.getfield 173, 3) := dk_180 0 173 (dk_at dksX3_number_1 15 rfl rfl)
theorem dX3_number_41 : decode cX3_number 41 = .ok (.iastore, 1) := dk_79 (dk_at dksX3_number_1 18 rfl rfl)
theorem dX3_number_42 : decode cX3_number 42 = .ok (.aload_n 0, 1) := dk_42 (dk_at dksX3_number_1 19 rfl rfl)
theorem dX3_number_43 : decode cX3_number 43 = .ok (.invokevirtual 185, 3) := dk_182 0 185 (dk_at dksX3_number_1 20 rfl rfl)
theorem dX3_number_46 : decode cX3_number 46 = .ok (.iconst 1, 1) := dk_4 (dk_at dksX3_number_1 23 rfl rfl)
theorem dX3_number_47 : decode cX3_number 47 = .ok (.ireturn, 1) := dk_172 (dk_at dksX3_number_2 0 rfl rfl)
abbrev cX3_told : ByteArray := prog_17_method_40_code
def yX3_told : MethodName := ⟨RX3, "told", "(IIII)Z"⟩
def dkwX3_told_1 : List UInt8 := [172]
abbrev dktX3_told_1 : List UInt8 := dkwX3_told_1 ++ []
def dkwX3_told_0 : List UInt8 := [42, 28, 182, 0, 217, 153, 0, 18, 42, 27, 29, 21, 4, 182, 0, 229, 153, 0, 7, 4, 167, 0, 4, 3]
abbrev dktX3_told_0 : List UInt8 := dkwX3_told_0 ++ dktX3_told_1
theorem dksX3_told_0 : cX3_told.data.toList.drop 0 = dktX3_told_0 := by decide +kernel
theorem dksX3_told_1 : cX3_told.data.toList.drop 24 = dktX3_told_1 := dk_seg dksX3_told_0 24 rfl rfl
theorem dX3_told_0 : decode cX3_told 0 = .ok (.aload_n 0, 1) := dk_42 (dk_at dksX3_told_0 0 rfl rfl)
theorem dX3_told_1 : decode cX3_told 1 = .ok (.iload_n 2, 1) := dk_28 (dk_at dksX3_told_0 1 rfl rfl)
theorem dX3_told_2 : decode cX3_told 2 = .ok (.invokevirtual 217, 3) := dk_182 0 217 (dk_at dksX3_told_0 2 rfl rfl)
theorem dX3_told_5 : decode cX3_told 5 = .ok (.ifCond .eq 18, 3) := dk_153 0 18 (dk_at dksX3_told_0 5 rfl rfl)
theorem dX3_told_8 : decode cX3_told 8 = .ok (.aload_n 0, 1) := dk_42 (dk_at dksX3_told_0 8 rfl rfl)
theorem dX3_told_9 : decode cX3_told 9 = .ok (.iload_n 1, 1) := dk_27 (dk_at dksX3_told_0 9 rfl rfl)
theorem dX3_told_10 : decode cX3_told 10 = .ok (.iload_n 3, 1) := dk_29 (dk_at dksX3_told_0 10 rfl rfl)
theorem dX3_told_11 : decode cX3_told 11 = .ok (.iload 4, 2) := dk_21 4 (dk_at dksX3_told_0 11 rfl rfl)
theorem dX3_told_13 : decode cX3_told 13 = .ok (.invokevirtual 229, 3) := dk_182 0 229 (dk_at dksX3_told_0 13 rfl rfl)
theorem dX3_told_16 : decode cX3_told 16 = .ok (.ifCond .eq 7, 3) := dk_153 0 7 (dk_at dksX3_told_0 16 rfl rfl)
theorem dX3_told_19 : decode cX3_told 19 = .ok (.iconst 1, 1) := dk_4 (dk_at dksX3_told_0 19 rfl rfl)
theorem dX3_told_20 : decode cX3_told 20 = .ok (.goto 4, 3) := dk_167 0 4 (dk_at dksX3_told_0 20 rfl rfl)
theorem dX3_told_23 : decode cX3_told 23 = .ok (.iconst 0, 1) := dk_3 (dk_at dksX3_told_0 23 rfl rfl)
theorem dX3_told_24 : decode cX3_told 24 = .ok (.ireturn, 1) := dk_172 (dk_at dksX3_told_1 0 rfl rfl)
abbrev cX3_aFeeding : ByteArray := prog_17_method_42_code
def yX3_aFeeding : MethodName := ⟨RX3, "aFeeding", "()Z"⟩
def dkwX3_aFeeding_5 : List UInt8 := [42, 27, 6, 96, 3, 42, 180, 0, 7, 17, 2, 60, 46, 4, 100, 182, 0, 229, 172]
abbrev dktX3_aFeeding_5 : List UInt8 := dkwX3_aFeeding_5 ++ []
def dkwX3_aFeeding_4 : List UInt8 := [160, 0, 24, 42, 180, 0, 173, 42, 180, 0, 28, 27, 5, 96, 46, 160, 0, 9, 42, 5, 182, 0, 182, 172]
abbrev dktX3_aFeeding_4 : List UInt8 := dkwX3_aFeeding_4 ++ dktX3_aFeeding_5
def dkwX3_aFeeding_3 : List UInt8 := [6, 96, 2, 79, 42, 180, 0, 161, 16, 12, 159, 0, 5, 4, 172, 42, 182, 0, 185, 42, 180, 0, 161, 5]
abbrev dktX3_aFeeding_3 : List UInt8 := dkwX3_aFeeding_3 ++ dktX3_aFeeding_4
def dkwX3_aFeeding_2 : List UInt8 := [3, 42, 180, 0, 7, 17, 2, 60, 46, 4, 100, 182, 0, 229, 154, 0, 5, 3, 172, 42, 180, 0, 28, 27]
abbrev dktX3_aFeeding_2 : List UInt8 := dkwX3_aFeeding_2 ++ dktX3_aFeeding_3
def dkwX3_aFeeding_1 : List UInt8 := [96, 16, 11, 3, 42, 180, 0, 7, 17, 2, 59, 46, 4, 100, 182, 0, 239, 153, 0, 24, 42, 27, 5, 96]
abbrev dktX3_aFeeding_1 : List UInt8 := dkwX3_aFeeding_1 ++ dktX3_aFeeding_2
def dkwX3_aFeeding_0 : List UInt8 := [7, 42, 180, 0, 232, 104, 60, 42, 27, 16, 10, 3, 17, 3, 231, 182, 0, 239, 153, 0, 47, 42, 27, 4]
abbrev dktX3_aFeeding_0 : List UInt8 := dkwX3_aFeeding_0 ++ dktX3_aFeeding_1
theorem dksX3_aFeeding_0 : cX3_aFeeding.data.toList.drop 0 = dktX3_aFeeding_0 := by decide +kernel
theorem dksX3_aFeeding_1 : cX3_aFeeding.data.toList.drop 24 = dktX3_aFeeding_1 := dk_seg dksX3_aFeeding_0 24 rfl rfl
theorem dksX3_aFeeding_2 : cX3_aFeeding.data.toList.drop 48 = dktX3_aFeeding_2 := dk_seg dksX3_aFeeding_1 24 rfl rfl
theorem dksX3_aFeeding_3 : cX3_aFeeding.data.toList.drop 72 = dktX3_aFeeding_3 := dk_seg dksX3_aFeeding_2 24 rfl rfl
theorem dksX3_aFeeding_4 : cX3_aFeeding.data.toList.drop 96 = dktX3_aFeeding_4 := dk_seg dksX3_aFeeding_3 24 rfl rfl
theorem dksX3_aFeeding_5 : cX3_aFeeding.data.toList.drop 120 = dktX3_aFeeding_5 := dk_seg dksX3_aFeeding_4 24 rfl rfl
theorem dX3_aFeeding_0 : decode cX3_aFeeding 0 = .ok (.iconst 4, 1) := dk_7 (dk_at dksX3_aFeeding_0 0 rfl rfl)
theorem dX3_aFeeding_1 : decode cX3_aFeeding 1 = .ok (.aload_n 0, 1) := dk_42 (dk_at dksX3_aFeeding_0 1 rfl rfl)
theorem dX3_aFeeding_2 : decode cX3_aFeeding 2 = .ok (.getfield 232, 3) := dk_180 0 232 (dk_at dksX3_aFeeding_0 2 rfl rfl)
theorem dX3_aFeeding_5 : decode cX3_aFeeding 5 = .ok (.imul, 1) := dk_104 (dk_at dksX3_aFeeding_0 5 rfl rfl)
theorem dX3_aFeeding_6 : decode cX3_aFeeding 6 = .ok (.istore_n 1, 1) := dk_60 (dk_at dksX3_aFeeding_0 6 rfl rfl)
theorem dX3_aFeeding_7 : decode cX3_aFeeding 7 = .ok (.aload_n 0, 1) := dk_42 (dk_at dksX3_aFeeding_0 7 rfl rfl)
theorem dX3_aFeeding_8 : decode cX3_aFeeding 8 = .ok (.iload_n 1, 1) := dk_27 (dk_at dksX3_aFeeding_0 8 rfl rfl)
theorem dX3_aFeeding_9 : decode cX3_aFeeding 9 = .ok (.bipush 10, 2) := dk_16 10 (dk_at dksX3_aFeeding_0 9 rfl rfl)
theorem dX3_aFeeding_11 : decode cX3_aFeeding 11 = .ok (.iconst 0, 1) := dk_3 (dk_at dksX3_aFeeding_0 11 rfl rfl)
theorem dX3_aFeeding_12 : decode cX3_aFeeding 12 = .ok (.sipush 999, 3) := dk_17 3 231 (dk_at dksX3_aFeeding_0 12 rfl rfl)
theorem dX3_aFeeding_15 : decode cX3_aFeeding 15 = .ok (.invokevirtual 239, 3) := dk_182 0 239 (dk_at dksX3_aFeeding_0 15 rfl rfl)
theorem dX3_aFeeding_18 : decode cX3_aFeeding 18 = .ok (.ifCond .eq 47, 3) := dk_153 0 47 (dk_at dksX3_aFeeding_0 18 rfl rfl)
theorem dX3_aFeeding_21 : decode cX3_aFeeding 21 = .ok (.aload_n 0, 1) := dk_42 (dk_at dksX3_aFeeding_0 21 rfl rfl)
theorem dX3_aFeeding_22 : decode cX3_aFeeding 22 = .ok (.iload_n 1, 1) := dk_27 (dk_at dksX3_aFeeding_0 22 rfl rfl)
theorem dX3_aFeeding_23 : decode cX3_aFeeding 23 = .ok (.iconst 1, 1) := dk_4 (dk_at dksX3_aFeeding_0 23 rfl rfl)
theorem dX3_aFeeding_24 : decode cX3_aFeeding 24 = .ok (.iadd, 1) := dk_96 (dk_at dksX3_aFeeding_1 0 rfl rfl)
theorem dX3_aFeeding_25 : decode cX3_aFeeding 25 = .ok (.bipush 11, 2) := dk_16 11 (dk_at dksX3_aFeeding_1 1 rfl rfl)
theorem dX3_aFeeding_27 : decode cX3_aFeeding 27 = .ok (.iconst 0, 1) := dk_3 (dk_at dksX3_aFeeding_1 3 rfl rfl)
theorem dX3_aFeeding_28 : decode cX3_aFeeding 28 = .ok (.aload_n 0, 1) := dk_42 (dk_at dksX3_aFeeding_1 4 rfl rfl)
theorem dX3_aFeeding_29 : decode cX3_aFeeding 29 = .ok (.getfield 7, 3) := dk_180 0 7 (dk_at dksX3_aFeeding_1 5 rfl rfl)
theorem dX3_aFeeding_32 : decode cX3_aFeeding 32 = .ok (.sipush 571, 3) := dk_17 2 59 (dk_at dksX3_aFeeding_1 8 rfl rfl)
theorem dX3_aFeeding_35 : decode cX3_aFeeding 35 = .ok (.iaload, 1) := dk_46 (dk_at dksX3_aFeeding_1 11 rfl rfl)
theorem dX3_aFeeding_36 : decode cX3_aFeeding 36 = .ok (.iconst 1, 1) := dk_4 (dk_at dksX3_aFeeding_1 12 rfl rfl)
theorem dX3_aFeeding_37 : decode cX3_aFeeding 37 = .ok (.isub, 1) := dk_100 (dk_at dksX3_aFeeding_1 13 rfl rfl)
theorem dX3_aFeeding_38 : decode cX3_aFeeding 38 = .ok (.invokevirtual 239, 3) := dk_182 0 239 (dk_at dksX3_aFeeding_1 14 rfl rfl)
theorem dX3_aFeeding_41 : decode cX3_aFeeding 41 = .ok (.ifCond .eq 24, 3) := dk_153 0 24 (dk_at dksX3_aFeeding_1 17 rfl rfl)
theorem dX3_aFeeding_44 : decode cX3_aFeeding 44 = .ok (.aload_n 0, 1) := dk_42 (dk_at dksX3_aFeeding_1 20 rfl rfl)
theorem dX3_aFeeding_45 : decode cX3_aFeeding 45 = .ok (.iload_n 1, 1) := dk_27 (dk_at dksX3_aFeeding_1 21 rfl rfl)
theorem dX3_aFeeding_46 : decode cX3_aFeeding 46 = .ok (.iconst 2, 1) := dk_5 (dk_at dksX3_aFeeding_1 22 rfl rfl)
theorem dX3_aFeeding_47 : decode cX3_aFeeding 47 = .ok (.iadd, 1) := dk_96 (dk_at dksX3_aFeeding_1 23 rfl rfl)
theorem dX3_aFeeding_48 : decode cX3_aFeeding 48 = .ok (.iconst 0, 1) := dk_3 (dk_at dksX3_aFeeding_2 0 rfl rfl)
theorem dX3_aFeeding_49 : decode cX3_aFeeding 49 = .ok (.aload_n 0, 1) := dk_42 (dk_at dksX3_aFeeding_2 1 rfl rfl)
theorem dX3_aFeeding_50 : decode cX3_aFeeding 50 = .ok (.getfield 7, 3) := dk_180 0 7 (dk_at dksX3_aFeeding_2 2 rfl rfl)
theorem dX3_aFeeding_53 : decode cX3_aFeeding 53 = .ok (.sipush 572, 3) := dk_17 2 60 (dk_at dksX3_aFeeding_2 5 rfl rfl)
theorem dX3_aFeeding_56 : decode cX3_aFeeding 56 = .ok (.iaload, 1) := dk_46 (dk_at dksX3_aFeeding_2 8 rfl rfl)
theorem dX3_aFeeding_57 : decode cX3_aFeeding 57 = .ok (.iconst 1, 1) := dk_4 (dk_at dksX3_aFeeding_2 9 rfl rfl)
theorem dX3_aFeeding_58 : decode cX3_aFeeding 58 = .ok (.isub, 1) := dk_100 (dk_at dksX3_aFeeding_2 10 rfl rfl)
theorem dX3_aFeeding_59 : decode cX3_aFeeding 59 = .ok (.invokevirtual 229, 3) := dk_182 0 229 (dk_at dksX3_aFeeding_2 11 rfl rfl)
theorem dX3_aFeeding_62 : decode cX3_aFeeding 62 = .ok (.ifCond .ne 5, 3) := dk_154 0 5 (dk_at dksX3_aFeeding_2 14 rfl rfl)
theorem dX3_aFeeding_65 : decode cX3_aFeeding 65 = .ok (.iconst 0, 1) := dk_3 (dk_at dksX3_aFeeding_2 17 rfl rfl)
theorem dX3_aFeeding_66 : decode cX3_aFeeding 66 = .ok (.ireturn, 1) := dk_172 (dk_at dksX3_aFeeding_2 18 rfl rfl)
theorem dX3_aFeeding_67 : decode cX3_aFeeding 67 = .ok (.aload_n 0, 1) := dk_42 (dk_at dksX3_aFeeding_2 19 rfl rfl)
theorem dX3_aFeeding_68 : decode cX3_aFeeding 68 = .ok (.getfield 28, 3) := dk_180 0 28 (dk_at dksX3_aFeeding_2 20 rfl rfl)
theorem dX3_aFeeding_71 : decode cX3_aFeeding 71 = .ok (.iload_n 1, 1) := dk_27 (dk_at dksX3_aFeeding_2 23 rfl rfl)
theorem dX3_aFeeding_72 : decode cX3_aFeeding 72 = .ok (.iconst 3, 1) := dk_6 (dk_at dksX3_aFeeding_3 0 rfl rfl)
theorem dX3_aFeeding_73 : decode cX3_aFeeding 73 = .ok (.iadd, 1) := dk_96 (dk_at dksX3_aFeeding_3 1 rfl rfl)
theorem dX3_aFeeding_74 : decode cX3_aFeeding 74 = .ok (.iconst (-1), 1) := dk_2 (dk_at dksX3_aFeeding_3 2 rfl rfl)
theorem dX3_aFeeding_75 : decode cX3_aFeeding 75 = .ok (.iastore, 1) := dk_79 (dk_at dksX3_aFeeding_3 3 rfl rfl)
theorem dX3_aFeeding_76 : decode cX3_aFeeding 76 = .ok (.aload_n 0, 1) := dk_42 (dk_at dksX3_aFeeding_3 4 rfl rfl)
theorem dX3_aFeeding_77 : decode cX3_aFeeding 77 = .ok (.getfield 161, 3) := dk_180 0 161 (dk_at dksX3_aFeeding_3 5 rfl rfl)
theorem dX3_aFeeding_80 : decode cX3_aFeeding 80 = .ok (.bipush 12, 2) := dk_16 12 (dk_at dksX3_aFeeding_3 8 rfl rfl)
theorem dX3_aFeeding_82 : decode cX3_aFeeding 82 = .ok (.if_icmp .eq 5, 3) := dk_159 0 5 (dk_at dksX3_aFeeding_3 10 rfl rfl)
theorem dX3_aFeeding_85 : decode cX3_aFeeding 85 = .ok (.iconst 1, 1) := dk_4 (dk_at dksX3_aFeeding_3 13 rfl rfl)
theorem dX3_aFeeding_86 : decode cX3_aFeeding 86 = .ok (.ireturn, 1) := dk_172 (dk_at dksX3_aFeeding_3 14 rfl rfl)
theorem dX3_aFeeding_87 : decode cX3_aFeeding 87 = .ok (.aload_n 0, 1) := dk_42 (dk_at dksX3_aFeeding_3 15 rfl rfl)
theorem dX3_aFeeding_88 : decode cX3_aFeeding 88 = .ok (.invokevirtual 185, 3) := dk_182 0 185 (dk_at dksX3_aFeeding_3 16 rfl rfl)
theorem dX3_aFeeding_91 : decode cX3_aFeeding 91 = .ok (.aload_n 0, 1) := dk_42 (dk_at dksX3_aFeeding_3 19 rfl rfl)
theorem dX3_aFeeding_92 : decode cX3_aFeeding 92 = .ok (.getfield 161, 3) := dk_180 0 161 (dk_at dksX3_aFeeding_3 20 rfl rfl)
theorem dX3_aFeeding_95 : decode cX3_aFeeding 95 = .ok (.iconst 2, 1) := dk_5 (dk_at dksX3_aFeeding_3 23 rfl rfl)
theorem dX3_aFeeding_96 : decode cX3_aFeeding 96 = .ok (.if_icmp .ne 24, 3) := dk_160 0 24 (dk_at dksX3_aFeeding_4 0 rfl rfl)
theorem dX3_aFeeding_99 : decode cX3_aFeeding 99 = .ok (.aload_n 0, 1) := dk_42 (dk_at dksX3_aFeeding_4 3 rfl rfl)
theorem dX3_aFeeding_100 : decode cX3_aFeeding 100 = .ok (.getfield 173, 3) := dk_180 0 173 (dk_at dksX3_aFeeding_4 4 rfl rfl)
theorem dX3_aFeeding_103 : decode cX3_aFeeding 103 = .ok (.aload_n 0, 1) := dk_42 (dk_at dksX3_aFeeding_4 7 rfl rfl)
theorem dX3_aFeeding_104 : decode cX3_aFeeding 104 = .ok (.getfield 28, 3) := dk_180 0 28 (dk_at dksX3_aFeeding_4 8 rfl rfl)
theorem dX3_aFeeding_107 : decode cX3_aFeeding 107 = .ok (.iload_n 1, 1) := dk_27 (dk_at dksX3_aFeeding_4 11 rfl rfl)
theorem dX3_aFeeding_108 : decode cX3_aFeeding 108 = .ok (.iconst 2, 1) := dk_5 (dk_at dksX3_aFeeding_4 12 rfl rfl)
theorem dX3_aFeeding_109 : decode cX3_aFeeding 109 = .ok (.iadd, 1) := dk_96 (dk_at dksX3_aFeeding_4 13 rfl rfl)
theorem dX3_aFeeding_110 : decode cX3_aFeeding 110 = .ok (.iaload, 1) := dk_46 (dk_at dksX3_aFeeding_4 14 rfl rfl)
theorem dX3_aFeeding_111 : decode cX3_aFeeding 111 = .ok (.if_icmp .ne 9, 3) := dk_160 0 9 (dk_at dksX3_aFeeding_4 15 rfl rfl)
theorem dX3_aFeeding_114 : decode cX3_aFeeding 114 = .ok (.aload_n 0, 1) := dk_42 (dk_at dksX3_aFeeding_4 18 rfl rfl)
theorem dX3_aFeeding_115 : decode cX3_aFeeding 115 = .ok (.iconst 2, 1) := dk_5 (dk_at dksX3_aFeeding_4 19 rfl rfl)
theorem dX3_aFeeding_116 : decode cX3_aFeeding 116 = .ok (.invokevirtual 182, 3) := dk_182 0 182 (dk_at dksX3_aFeeding_4 20 rfl rfl)
theorem dX3_aFeeding_119 : decode cX3_aFeeding 119 = .ok (.ireturn, 1) := dk_172 (dk_at dksX3_aFeeding_4 23 rfl rfl)
theorem dX3_aFeeding_120 : decode cX3_aFeeding 120 = .ok (.aload_n 0, 1) := dk_42 (dk_at dksX3_aFeeding_5 0 rfl rfl)
theorem dX3_aFeeding_121 : decode cX3_aFeeding 121 = .ok (.iload_n 1, 1) := dk_27 (dk_at dksX3_aFeeding_5 1 rfl rfl)
theorem dX3_aFeeding_122 : decode cX3_aFeeding 122 = .ok (.iconst 3, 1) := dk_6 (dk_at dksX3_aFeeding_5 2 rfl rfl)
theorem dX3_aFeeding_123 : decode cX3_aFeeding 123 = .ok (.iadd, 1) := dk_96 (dk_at dksX3_aFeeding_5 3 rfl rfl)
theorem dX3_aFeeding_124 : decode cX3_aFeeding 124 = .ok (.iconst 0, 1) := dk_3 (dk_at dksX3_aFeeding_5 4 rfl rfl)
theorem dX3_aFeeding_125 : decode cX3_aFeeding 125 = .ok (.aload_n 0, 1) := dk_42 (dk_at dksX3_aFeeding_5 5 rfl rfl)
theorem dX3_aFeeding_126 : decode cX3_aFeeding 126 = .ok (.getfield 7, 3) := dk_180 0 7 (dk_at dksX3_aFeeding_5 6 rfl rfl)
theorem dX3_aFeeding_129 : decode cX3_aFeeding 129 = .ok (.sipush 572, 3) := dk_17 2 60 (dk_at dksX3_aFeeding_5 9 rfl rfl)
theorem dX3_aFeeding_132 : decode cX3_aFeeding 132 = .ok (.iaload, 1) := dk_46 (dk_at dksX3_aFeeding_5 12 rfl rfl)
theorem dX3_aFeeding_133 : decode cX3_aFeeding 133 = .ok (.iconst 1, 1) := dk_4 (dk_at dksX3_aFeeding_5 13 rfl rfl)
theorem dX3_aFeeding_134 : decode cX3_aFeeding 134 = .ok (.isub, 1) := dk_100 (dk_at dksX3_aFeeding_5 14 rfl rfl)
theorem dX3_aFeeding_135 : decode cX3_aFeeding 135 = .ok (.invokevirtual 229, 3) := dk_182 0 229 (dk_at dksX3_aFeeding_5 15 rfl rfl)
theorem dX3_aFeeding_138 : decode cX3_aFeeding 138 = .ok (.ireturn, 1) := dk_172 (dk_at dksX3_aFeeding_5 18 rfl rfl)
abbrev cX3_aQuery : ByteArray := prog_17_method_44_code
def yX3_aQuery : MethodName := ⟨RX3, "aQuery", "()Z"⟩
def dkwX3_aQuery_3 : List UInt8 := [79, 4, 172]
abbrev dktX3_aQuery_3 : List UInt8 := dkwX3_aQuery_3 ++ []
def dkwX3_aQuery_2 : List UInt8 := [182, 0, 185, 42, 182, 0, 249, 154, 255, 240, 3, 172, 42, 180, 0, 28, 42, 180, 0, 232, 42, 180, 0, 246]
abbrev dktX3_aQuery_2 : List UInt8 := dkwX3_aQuery_2 ++ dktX3_aQuery_3
def dkwX3_aQuery_1 : List UInt8 := [182, 0, 217, 153, 0, 10, 42, 182, 0, 249, 154, 0, 5, 3, 172, 42, 180, 0, 161, 8, 160, 0, 16, 42]
abbrev dktX3_aQuery_1 : List UInt8 := dkwX3_aQuery_1 ++ dktX3_aQuery_2
def dkwX3_aQuery_0 : List UInt8 := [42, 3, 181, 0, 246, 42, 16, 13, 182, 0, 217, 153, 0, 26, 42, 182, 0, 249, 153, 0, 19, 42, 16, 14]
abbrev dktX3_aQuery_0 : List UInt8 := dkwX3_aQuery_0 ++ dktX3_aQuery_1
theorem dksX3_aQuery_0 : cX3_aQuery.data.toList.drop 0 = dktX3_aQuery_0 := by decide +kernel
theorem dksX3_aQuery_1 : cX3_aQuery.data.toList.drop 24 = dktX3_aQuery_1 := dk_seg dksX3_aQuery_0 24 rfl rfl
theorem dksX3_aQuery_2 : cX3_aQuery.data.toList.drop 48 = dktX3_aQuery_2 := dk_seg dksX3_aQuery_1 24 rfl rfl
theorem dksX3_aQuery_3 : cX3_aQuery.data.toList.drop 72 = dktX3_aQuery_3 := dk_seg dksX3_aQuery_2 24 rfl rfl
theorem dX3_aQuery_0 : decode cX3_aQuery 0 = .ok (.aload_n 0, 1) := dk_42 (dk_at dksX3_aQuery_0 0 rfl rfl)
theorem dX3_aQuery_1 : decode cX3_aQuery 1 = .ok (.iconst 0, 1) := dk_3 (dk_at dksX3_aQuery_0 1 rfl rfl)
theorem dX3_aQuery_2 : decode cX3_aQuery 2 = .ok (.putfield 246, 3) := dk_181 0 246 (dk_at dksX3_aQuery_0 2 rfl rfl)
theorem dX3_aQuery_5 : decode cX3_aQuery 5 = .ok (.aload_n 0, 1) := dk_42 (dk_at dksX3_aQuery_0 5 rfl rfl)
theorem dX3_aQuery_6 : decode cX3_aQuery 6 = .ok (.bipush 13, 2) := dk_16 13 (dk_at dksX3_aQuery_0 6 rfl rfl)
theorem dX3_aQuery_8 : decode cX3_aQuery 8 = .ok (.invokevirtual 217, 3) := dk_182 0 217 (dk_at dksX3_aQuery_0 8 rfl rfl)
theorem dX3_aQuery_11 : decode cX3_aQuery 11 = .ok (.ifCond .eq 26, 3) := dk_153 0 26 (dk_at dksX3_aQuery_0 11 rfl rfl)
theorem dX3_aQuery_14 : decode cX3_aQuery 14 = .ok (.aload_n 0, 1) := dk_42 (dk_at dksX3_aQuery_0 14 rfl rfl)
theorem dX3_aQuery_15 : decode cX3_aQuery 15 = .ok (.invokevirtual 249, 3) := dk_182 0 249 (dk_at dksX3_aQuery_0 15 rfl rfl)
theorem dX3_aQuery_18 : decode cX3_aQuery 18 = .ok (.ifCond .eq 19, 3) := dk_153 0 19 (dk_at dksX3_aQuery_0 18 rfl rfl)
theorem dX3_aQuery_21 : decode cX3_aQuery 21 = .ok (.aload_n 0, 1) := dk_42 (dk_at dksX3_aQuery_0 21 rfl rfl)
theorem dX3_aQuery_22 : decode cX3_aQuery 22 = .ok (.bipush 14, 2) := dk_16 14 (dk_at dksX3_aQuery_0 22 rfl rfl)
theorem dX3_aQuery_24 : decode cX3_aQuery 24 = .ok (.invokevirtual 217, 3) := dk_182 0 217 (dk_at dksX3_aQuery_1 0 rfl rfl)
theorem dX3_aQuery_27 : decode cX3_aQuery 27 = .ok (.ifCond .eq 10, 3) := dk_153 0 10 (dk_at dksX3_aQuery_1 3 rfl rfl)
theorem dX3_aQuery_30 : decode cX3_aQuery 30 = .ok (.aload_n 0, 1) := dk_42 (dk_at dksX3_aQuery_1 6 rfl rfl)
theorem dX3_aQuery_31 : decode cX3_aQuery 31 = .ok (.invokevirtual 249, 3) := dk_182 0 249 (dk_at dksX3_aQuery_1 7 rfl rfl)
theorem dX3_aQuery_34 : decode cX3_aQuery 34 = .ok (.ifCond .ne 5, 3) := dk_154 0 5 (dk_at dksX3_aQuery_1 10 rfl rfl)
theorem dX3_aQuery_37 : decode cX3_aQuery 37 = .ok (.iconst 0, 1) := dk_3 (dk_at dksX3_aQuery_1 13 rfl rfl)
theorem dX3_aQuery_38 : decode cX3_aQuery 38 = .ok (.ireturn, 1) := dk_172 (dk_at dksX3_aQuery_1 14 rfl rfl)
theorem dX3_aQuery_39 : decode cX3_aQuery 39 = .ok (.aload_n 0, 1) := dk_42 (dk_at dksX3_aQuery_1 15 rfl rfl)
theorem dX3_aQuery_40 : decode cX3_aQuery 40 = .ok (.getfield 161, 3) := dk_180 0 161 (dk_at dksX3_aQuery_1 16 rfl rfl)
theorem dX3_aQuery_43 : decode cX3_aQuery 43 = .ok (.iconst 5, 1) := dk_8 (dk_at dksX3_aQuery_1 19 rfl rfl)
theorem dX3_aQuery_44 : decode cX3_aQuery 44 = .ok (.if_icmp .ne 16, 3) := dk_160 0 16 (dk_at dksX3_aQuery_1 20 rfl rfl)
theorem dX3_aQuery_47 : decode cX3_aQuery 47 = .ok (.aload_n 0, 1) := dk_42 (dk_at dksX3_aQuery_1 23 rfl rfl)
theorem dX3_aQuery_48 : decode cX3_aQuery 48 = .ok (.invokevirtual 185, 3) := dk_182 0 185 (dk_at dksX3_aQuery_2 0 rfl rfl)
theorem dX3_aQuery_51 : decode cX3_aQuery 51 = .ok (.aload_n 0, 1) := dk_42 (dk_at dksX3_aQuery_2 3 rfl rfl)
theorem dX3_aQuery_52 : decode cX3_aQuery 52 = .ok (.invokevirtual 249, 3) := dk_182 0 249 (dk_at dksX3_aQuery_2 4 rfl rfl)
theorem dX3_aQuery_55 : decode cX3_aQuery 55 = .ok (.ifCond .ne (-16), 3) := dk_154 255 240 (dk_at dksX3_aQuery_2 7 rfl rfl)
theorem dX3_aQuery_58 : decode cX3_aQuery 58 = .ok (.iconst 0, 1) := dk_3 (dk_at dksX3_aQuery_2 10 rfl rfl)
theorem dX3_aQuery_59 : decode cX3_aQuery 59 = .ok (.ireturn, 1) := dk_172 (dk_at dksX3_aQuery_2 11 rfl rfl)
theorem dX3_aQuery_60 : decode cX3_aQuery 60 = .ok (.aload_n 0, 1) := dk_42 (dk_at dksX3_aQuery_2 12 rfl rfl)
theorem dX3_aQuery_61 : decode cX3_aQuery 61 = .ok (.getfield 28, 3) := dk_180 0 28 (dk_at dksX3_aQuery_2 13 rfl rfl)
theorem dX3_aQuery_64 : decode cX3_aQuery 64 = .ok (.aload_n 0, 1) := dk_42 (dk_at dksX3_aQuery_2 16 rfl rfl)
theorem dX3_aQuery_65 : decode cX3_aQuery 65 = .ok (.getfield 232, 3) := dk_180 0 232 (dk_at dksX3_aQuery_2 17 rfl rfl)
theorem dX3_aQuery_68 : decode cX3_aQuery 68 = .ok (.aload_n 0, 1) := dk_42 (dk_at dksX3_aQuery_2 20 rfl rfl)
theorem dX3_aQuery_69 : decode cX3_aQuery 69 = .ok (.getfield 246, 3) := dk_180 0 246 (dk_at dksX3_aQuery_2 21 rfl rfl)
theorem dX3_aQuery_72 : decode cX3_aQuery 72 = .ok (.iastore, 1) := dk_79 (dk_at dksX3_aQuery_3 0 rfl rfl)
theorem dX3_aQuery_73 : decode cX3_aQuery 73 = .ok (.iconst 1, 1) := dk_4 (dk_at dksX3_aQuery_3 1 rfl rfl)
theorem dX3_aQuery_74 : decode cX3_aQuery 74 = .ok (.ireturn, 1) := dk_172 (dk_at dksX3_aQuery_3 2 rfl rfl)
abbrev cX3_oneMore : ByteArray := prog_17_method_43_code
def yX3_oneMore : MethodName := ⟨RX3, "oneMore", "()Z"⟩
def dkwX3_oneMore_2 : List UInt8 := [42, 182, 0, 185, 4, 172]
abbrev dktX3_oneMore_2 : List UInt8 := dkwX3_oneMore_2 ++ []
def dkwX3_oneMore_1 : List UInt8 := [154, 0, 9, 42, 5, 182, 0, 182, 172, 42, 89, 180, 0, 246, 4, 42, 180, 0, 173, 120, 128, 181, 0, 246]
abbrev dktX3_oneMore_1 : List UInt8 := dkwX3_oneMore_1 ++ dktX3_oneMore_2
def dkwX3_oneMore_0 : List UInt8 := [42, 180, 0, 161, 5, 159, 0, 9, 42, 4, 182, 0, 182, 172, 42, 42, 180, 0, 173, 182, 0, 243]
abbrev dktX3_oneMore_0 : List UInt8 := dkwX3_oneMore_0 ++ dktX3_oneMore_1
theorem dksX3_oneMore_0 : cX3_oneMore.data.toList.drop 0 = dktX3_oneMore_0 := by decide +kernel
theorem dksX3_oneMore_1 : cX3_oneMore.data.toList.drop 22 = dktX3_oneMore_1 := dk_seg dksX3_oneMore_0 22 rfl rfl
theorem dksX3_oneMore_2 : cX3_oneMore.data.toList.drop 46 = dktX3_oneMore_2 := dk_seg dksX3_oneMore_1 24 rfl rfl
theorem dX3_oneMore_0 : decode cX3_oneMore 0 = .ok (.aload_n 0, 1) := dk_42 (dk_at dksX3_oneMore_0 0 rfl rfl)
theorem dX3_oneMore_1 : decode cX3_oneMore 1 = .ok (.getfield 161, 3) := dk_180 0 161 (dk_at dksX3_oneMore_0 1 rfl rfl)
theorem dX3_oneMore_4 : decode cX3_oneMore 4 = .ok (.iconst 2, 1) := dk_5 (dk_at dksX3_oneMore_0 4 rfl rfl)
theorem dX3_oneMore_5 : decode cX3_oneMore 5 = .ok (.if_icmp .eq 9, 3) := dk_159 0 9 (dk_at dksX3_oneMore_0 5 rfl rfl)
theorem dX3_oneMore_8 : decode cX3_oneMore 8 = .ok (.aload_n 0, 1) := dk_42 (dk_at dksX3_oneMore_0 8 rfl rfl)
theorem dX3_oneMore_9 : decode cX3_oneMore 9 = .ok (.iconst 1, 1) := dk_4 (dk_at dksX3_oneMore_0 9 rfl rfl)
theorem dX3_oneMore_10 : decode cX3_oneMore 10 = .ok (.invokevirtual 182, 3) := dk_182 0 182 (dk_at dksX3_oneMore_0 10 rfl rfl)
theorem dX3_oneMore_13 : decode cX3_oneMore 13 = .ok (.ireturn, 1) := dk_172 (dk_at dksX3_oneMore_0 13 rfl rfl)
theorem dX3_oneMore_14 : decode cX3_oneMore 14 = .ok (.aload_n 0, 1) := dk_42 (dk_at dksX3_oneMore_0 14 rfl rfl)
theorem dX3_oneMore_15 : decode cX3_oneMore 15 = .ok (.aload_n 0, 1) := dk_42 (dk_at dksX3_oneMore_0 15 rfl rfl)
theorem dX3_oneMore_16 : decode cX3_oneMore 16 = .ok (.getfield 173, 3) := dk_180 0 173 (dk_at dksX3_oneMore_0 16 rfl rfl)
theorem dX3_oneMore_19 : decode cX3_oneMore 19 = .ok (.invokevirtual 243, 3) := dk_182 0 243 (dk_at dksX3_oneMore_0 19 rfl rfl)
theorem dX3_oneMore_22 : decode cX3_oneMore 22 = .ok (.ifCond .ne 9, 3) := dk_154 0 9 (dk_at dksX3_oneMore_1 0 rfl rfl)
theorem dX3_oneMore_25 : decode cX3_oneMore 25 = .ok (.aload_n 0, 1) := dk_42 (dk_at dksX3_oneMore_1 3 rfl rfl)
theorem dX3_oneMore_26 : decode cX3_oneMore 26 = .ok (.iconst 2, 1) := dk_5 (dk_at dksX3_oneMore_1 4 rfl rfl)
theorem dX3_oneMore_27 : decode cX3_oneMore 27 = .ok (.invokevirtual 182, 3) := dk_182 0 182 (dk_at dksX3_oneMore_1 5 rfl rfl)
theorem dX3_oneMore_30 : decode cX3_oneMore 30 = .ok (.ireturn, 1) := dk_172 (dk_at dksX3_oneMore_1 8 rfl rfl)
theorem dX3_oneMore_31 : decode cX3_oneMore 31 = .ok (.aload_n 0, 1) := dk_42 (dk_at dksX3_oneMore_1 9 rfl rfl)
theorem dX3_oneMore_32 : decode cX3_oneMore 32 = .ok (.dup, 1) := dk_89 (dk_at dksX3_oneMore_1 10 rfl rfl)
theorem dX3_oneMore_33 : decode cX3_oneMore 33 = .ok (.getfield 246, 3) := dk_180 0 246 (dk_at dksX3_oneMore_1 11 rfl rfl)
theorem dX3_oneMore_36 : decode cX3_oneMore 36 = .ok (.iconst 1, 1) := dk_4 (dk_at dksX3_oneMore_1 14 rfl rfl)
theorem dX3_oneMore_37 : decode cX3_oneMore 37 = .ok (.aload_n 0, 1) := dk_42 (dk_at dksX3_oneMore_1 15 rfl rfl)
theorem dX3_oneMore_38 : decode cX3_oneMore 38 = .ok (.getfield 173, 3) := dk_180 0 173 (dk_at dksX3_oneMore_1 16 rfl rfl)
theorem dX3_oneMore_41 : decode cX3_oneMore 41 = .ok (.ishl, 1) := dk_120 (dk_at dksX3_oneMore_1 19 rfl rfl)
theorem dX3_oneMore_42 : decode cX3_oneMore 42 = .ok (.ior, 1) := dk_128 (dk_at dksX3_oneMore_1 20 rfl rfl)
theorem dX3_oneMore_43 : decode cX3_oneMore 43 = .ok (.putfield 246, 3) := dk_181 0 246 (dk_at dksX3_oneMore_1 21 rfl rfl)
theorem dX3_oneMore_46 : decode cX3_oneMore 46 = .ok (.aload_n 0, 1) := dk_42 (dk_at dksX3_oneMore_2 0 rfl rfl)
theorem dX3_oneMore_47 : decode cX3_oneMore 47 = .ok (.invokevirtual 185, 3) := dk_182 0 185 (dk_at dksX3_oneMore_2 1 rfl rfl)
theorem dX3_oneMore_50 : decode cX3_oneMore 50 = .ok (.iconst 1, 1) := dk_4 (dk_at dksX3_oneMore_2 4 rfl rfl)
theorem dX3_oneMore_51 : decode cX3_oneMore 51 = .ok (.ireturn, 1) := dk_172 (dk_at dksX3_oneMore_2 5 rfl rfl)
abbrev cX3_isFact : ByteArray := prog_17_method_6_code
def yX3_isFact : MethodName := ⟨RX3, "isFact", "(I)Z"⟩
def dkwX3_isFact_0 : List UInt8 := [27, 3, 42, 180, 0, 7, 17, 2, 60, 46, 4, 100, 184, 0, 59, 172]
abbrev dktX3_isFact_0 : List UInt8 := dkwX3_isFact_0 ++ []
theorem dksX3_isFact_0 : cX3_isFact.data.toList.drop 0 = dktX3_isFact_0 := by decide +kernel
theorem dX3_isFact_0 : decode cX3_isFact 0 = .ok (.iload_n 1, 1) := dk_27 (dk_at dksX3_isFact_0 0 rfl rfl)
theorem dX3_isFact_1 : decode cX3_isFact 1 = .ok (.iconst 0, 1) := dk_3 (dk_at dksX3_isFact_0 1 rfl rfl)
theorem dX3_isFact_2 : decode cX3_isFact 2 = .ok (.aload_n 0, 1) := dk_42 (dk_at dksX3_isFact_0 2 rfl rfl)
theorem dX3_isFact_3 : decode cX3_isFact 3 = .ok (.getfield 7, 3) := dk_180 0 7 (dk_at dksX3_isFact_0 3 rfl rfl)
theorem dX3_isFact_6 : decode cX3_isFact 6 = .ok (.sipush 572, 3) := dk_17 2 60 (dk_at dksX3_isFact_0 6 rfl rfl)
theorem dX3_isFact_9 : decode cX3_isFact 9 = .ok (.iaload, 1) := dk_46 (dk_at dksX3_isFact_0 9 rfl rfl)
theorem dX3_isFact_10 : decode cX3_isFact 10 = .ok (.iconst 1, 1) := dk_4 (dk_at dksX3_isFact_0 10 rfl rfl)
theorem dX3_isFact_11 : decode cX3_isFact 11 = .ok (.isub, 1) := dk_100 (dk_at dksX3_isFact_0 11 rfl rfl)
theorem dX3_isFact_12 : decode cX3_isFact 12 = .ok (.invokestatic 59, 3) := dk_184 0 59 (dk_at dksX3_isFact_0 12 rfl rfl)
theorem dX3_isFact_15 : decode cX3_isFact 15 = .ok (.ireturn, 1) := dk_172 (dk_at dksX3_isFact_0 15 rfl rfl)
abbrev cX3_putsText : ByteArray := prog_17_method_49_code
def yX3_putsText : MethodName := ⟨RX3, "putsText", "(I)I"⟩
def dkwX3_putsText_3 : List UInt8 := [17, 2, 68, 3, 79, 42, 17, 2, 60, 17, 2, 93, 16, 9, 182, 1, 11, 172]
abbrev dktX3_putsText_3 : List UInt8 := dkwX3_putsText_3 ++ []
def dkwX3_putsText_2 : List UInt8 := [172, 42, 180, 0, 7, 17, 2, 64, 3, 79, 42, 180, 0, 7, 17, 2, 63, 3, 79, 42, 180, 0, 7]
abbrev dktX3_putsText_2 : List UInt8 := dkwX3_putsText_2 ++ dktX3_putsText_3
def dkwX3_putsText_1 : List UInt8 := [182, 1, 11, 172, 42, 182, 0, 66, 27, 5, 160, 0, 15, 42, 17, 2, 63, 17, 2, 183, 7, 182, 1, 11]
abbrev dktX3_putsText_1 : List UInt8 := dkwX3_putsText_1 ++ dktX3_putsText_2
def dkwX3_putsText_0 : List UInt8 := [27, 4, 160, 0, 8, 42, 182, 1, 8, 172, 27, 6, 160, 0, 15, 42, 17, 2, 64, 17, 2, 247, 4]
abbrev dktX3_putsText_0 : List UInt8 := dkwX3_putsText_0 ++ dktX3_putsText_1
theorem dksX3_putsText_0 : cX3_putsText.data.toList.drop 0 = dktX3_putsText_0 := by decide +kernel
theorem dksX3_putsText_1 : cX3_putsText.data.toList.drop 23 = dktX3_putsText_1 := dk_seg dksX3_putsText_0 23 rfl rfl
theorem dksX3_putsText_2 : cX3_putsText.data.toList.drop 47 = dktX3_putsText_2 := dk_seg dksX3_putsText_1 24 rfl rfl
theorem dksX3_putsText_3 : cX3_putsText.data.toList.drop 70 = dktX3_putsText_3 := dk_seg dksX3_putsText_2 23 rfl rfl
theorem dX3_putsText_0 : decode cX3_putsText 0 = .ok (.iload_n 1, 1) := dk_27 (dk_at dksX3_putsText_0 0 rfl rfl)
theorem dX3_putsText_1 : decode cX3_putsText 1 = .ok (.iconst 1, 1) := dk_4 (dk_at dksX3_putsText_0 1 rfl rfl)
theorem dX3_putsText_2 : decode cX3_putsText 2 = .ok (.if_icmp .ne 8, 3) := dk_160 0 8 (dk_at dksX3_putsText_0 2 rfl rfl)
theorem dX3_putsText_5 : decode cX3_putsText 5 = .ok (.aload_n 0, 1) := dk_42 (dk_at dksX3_putsText_0 5 rfl rfl)
theorem dX3_putsText_6 : decode cX3_putsText 6 = .ok (.invokevirtual 264, 3) := dk_182 1 8 (dk_at dksX3_putsText_0 6 rfl rfl)
theorem dX3_putsText_9 : decode cX3_putsText 9 = .ok (.ireturn, 1) := dk_172 (dk_at dksX3_putsText_0 9 rfl rfl)
theorem dX3_putsText_10 : decode cX3_putsText 10 = .ok (.iload_n 1, 1) := dk_27 (dk_at dksX3_putsText_0 10 rfl rfl)
theorem dX3_putsText_11 : decode cX3_putsText 11 = .ok (.iconst 3, 1) := dk_6 (dk_at dksX3_putsText_0 11 rfl rfl)
theorem dX3_putsText_12 : decode cX3_putsText 12 = .ok (.if_icmp .ne 15, 3) := dk_160 0 15 (dk_at dksX3_putsText_0 12 rfl rfl)
theorem dX3_putsText_15 : decode cX3_putsText 15 = .ok (.aload_n 0, 1) := dk_42 (dk_at dksX3_putsText_0 15 rfl rfl)
theorem dX3_putsText_16 : decode cX3_putsText 16 = .ok (.sipush 576, 3) := dk_17 2 64 (dk_at dksX3_putsText_0 16 rfl rfl)
theorem dX3_putsText_19 : decode cX3_putsText 19 = .ok (.sipush 759, 3) := dk_17 2 247 (dk_at dksX3_putsText_0 19 rfl rfl)
theorem dX3_putsText_22 : decode cX3_putsText 22 = .ok (.iconst 1, 1) := dk_4 (dk_at dksX3_putsText_0 22 rfl rfl)
theorem dX3_putsText_23 : decode cX3_putsText 23 = .ok (.invokevirtual 267, 3) := dk_182 1 11 (dk_at dksX3_putsText_1 0 rfl rfl)
theorem dX3_putsText_26 : decode cX3_putsText 26 = .ok (.ireturn, 1) := dk_172 (dk_at dksX3_putsText_1 3 rfl rfl)
theorem dX3_putsText_27 : decode cX3_putsText 27 = .ok (.aload_n 0, 1) := dk_42 (dk_at dksX3_putsText_1 4 rfl rfl)
theorem dX3_putsText_28 : decode cX3_putsText 28 = .ok (.invokevirtual 66, 3) := dk_182 0 66 (dk_at dksX3_putsText_1 5 rfl rfl)
theorem dX3_putsText_31 : decode cX3_putsText 31 = .ok (.iload_n 1, 1) := dk_27 (dk_at dksX3_putsText_1 8 rfl rfl)
theorem dX3_putsText_32 : decode cX3_putsText 32 = .ok (.iconst 2, 1) := dk_5 (dk_at dksX3_putsText_1 9 rfl rfl)
theorem dX3_putsText_33 : decode cX3_putsText 33 = .ok (.if_icmp .ne 15, 3) := dk_160 0 15 (dk_at dksX3_putsText_1 10 rfl rfl)
theorem dX3_putsText_36 : decode cX3_putsText 36 = .ok (.aload_n 0, 1) := dk_42 (dk_at dksX3_putsText_1 13 rfl rfl)
theorem dX3_putsText_37 : decode cX3_putsText 37 = .ok (.sipush 575, 3) := dk_17 2 63 (dk_at dksX3_putsText_1 14 rfl rfl)
theorem dX3_putsText_40 : decode cX3_putsText 40 = .ok (.sipush 695, 3) := dk_17 2 183 (dk_at dksX3_putsText_1 17 rfl rfl)
theorem dX3_putsText_43 : decode cX3_putsText 43 = .ok (.iconst 4, 1) := dk_7 (dk_at dksX3_putsText_1 20 rfl rfl)
theorem dX3_putsText_44 : decode cX3_putsText 44 = .ok (.invokevirtual 267, 3) := dk_182 1 11 (dk_at dksX3_putsText_1 21 rfl rfl)
theorem dX3_putsText_47 : decode cX3_putsText 47 = .ok (.ireturn, 1) := dk_172 (dk_at dksX3_putsText_2 0 rfl rfl)
theorem dX3_putsText_48 : decode cX3_putsText 48 = .ok (.aload_n 0, 1) := dk_42 (dk_at dksX3_putsText_2 1 rfl rfl)
theorem dX3_putsText_49 : decode cX3_putsText 49 = .ok (.getfield 7, 3) := dk_180 0 7 (dk_at dksX3_putsText_2 2 rfl rfl)
theorem dX3_putsText_52 : decode cX3_putsText 52 = .ok (.sipush 576, 3) := dk_17 2 64 (dk_at dksX3_putsText_2 5 rfl rfl)
theorem dX3_putsText_55 : decode cX3_putsText 55 = .ok (.iconst 0, 1) := dk_3 (dk_at dksX3_putsText_2 8 rfl rfl)
theorem dX3_putsText_56 : decode cX3_putsText 56 = .ok (.iastore, 1) := dk_79 (dk_at dksX3_putsText_2 9 rfl rfl)
theorem dX3_putsText_57 : decode cX3_putsText 57 = .ok (.aload_n 0, 1) := dk_42 (dk_at dksX3_putsText_2 10 rfl rfl)
theorem dX3_putsText_58 : decode cX3_putsText 58 = .ok (.getfield 7, 3) := dk_180 0 7 (dk_at dksX3_putsText_2 11 rfl rfl)
theorem dX3_putsText_61 : decode cX3_putsText 61 = .ok (.sipush 575, 3) := dk_17 2 63 (dk_at dksX3_putsText_2 14 rfl rfl)
theorem dX3_putsText_64 : decode cX3_putsText 64 = .ok (.iconst 0, 1) := dk_3 (dk_at dksX3_putsText_2 17 rfl rfl)
theorem dX3_putsText_65 : decode cX3_putsText 65 = .ok (.iastore, 1) := dk_79 (dk_at dksX3_putsText_2 18 rfl rfl)
theorem dX3_putsText_66 : decode cX3_putsText 66 = .ok (.aload_n 0, 1) := dk_42 (dk_at dksX3_putsText_2 19 rfl rfl)
theorem dX3_putsText_67 : decode cX3_putsText 67 = .ok (.getfield 7, 3) := dk_180 0 7 (dk_at dksX3_putsText_2 20 rfl rfl)
theorem dX3_putsText_70 : decode cX3_putsText 70 = .ok (.sipush 580, 3) := dk_17 2 68 (dk_at dksX3_putsText_3 0 rfl rfl)
theorem dX3_putsText_73 : decode cX3_putsText 73 = .ok (.iconst 0, 1) := dk_3 (dk_at dksX3_putsText_3 3 rfl rfl)
theorem dX3_putsText_74 : decode cX3_putsText 74 = .ok (.iastore, 1) := dk_79 (dk_at dksX3_putsText_3 4 rfl rfl)
theorem dX3_putsText_75 : decode cX3_putsText 75 = .ok (.aload_n 0, 1) := dk_42 (dk_at dksX3_putsText_3 5 rfl rfl)
theorem dX3_putsText_76 : decode cX3_putsText 76 = .ok (.sipush 572, 3) := dk_17 2 60 (dk_at dksX3_putsText_3 6 rfl rfl)
theorem dX3_putsText_79 : decode cX3_putsText 79 = .ok (.sipush 605, 3) := dk_17 2 93 (dk_at dksX3_putsText_3 9 rfl rfl)
theorem dX3_putsText_82 : decode cX3_putsText 82 = .ok (.bipush 9, 2) := dk_16 9 (dk_at dksX3_putsText_3 12 rfl rfl)
theorem dX3_putsText_84 : decode cX3_putsText 84 = .ok (.invokevirtual 267, 3) := dk_182 1 11 (dk_at dksX3_putsText_3 14 rfl rfl)
theorem dX3_putsText_87 : decode cX3_putsText 87 = .ok (.ireturn, 1) := dk_172 (dk_at dksX3_putsText_3 17 rfl rfl)
abbrev cX3_putsLaw : ByteArray := prog_17_method_47_code
def yX3_putsLaw : MethodName := ⟨RX3, "putsLaw", "()I"⟩
def dkwX3_putsLaw_6 : List UInt8 := [180, 0, 223, 172]
abbrev dktX3_putsLaw_6 : List UInt8 := dkwX3_putsLaw_6 ++ []
def dkwX3_putsLaw_5 : List UInt8 := [42, 180, 0, 7, 17, 5, 255, 27, 96, 42, 180, 0, 25, 27, 46, 79, 132, 1, 1, 167, 255, 227, 42]
abbrev dktX3_putsLaw_5 : List UInt8 := dkwX3_putsLaw_5 ++ dktX3_putsLaw_6
def dkwX3_putsLaw_4 : List UInt8 := [27, 104, 6, 96, 46, 79, 132, 1, 1, 167, 255, 167, 3, 60, 27, 5, 42, 180, 0, 188, 104, 162, 0, 25]
abbrev dktX3_putsLaw_4 : List UInt8 := dkwX3_putsLaw_4 ++ dktX3_putsLaw_5
def dkwX3_putsLaw_3 : List UInt8 := [180, 0, 22, 7, 27, 104, 5, 96, 46, 79, 42, 180, 0, 7, 17, 5, 239, 27, 96, 42, 180, 0, 22, 7]
abbrev dktX3_putsLaw_3 : List UInt8 := dkwX3_putsLaw_3 ++ dktX3_putsLaw_4
def dkwX3_putsLaw_2 : List UInt8 := [27, 96, 42, 180, 0, 22, 7, 27, 104, 4, 96, 46, 79, 42, 180, 0, 7, 17, 5, 223, 27, 96, 42]
abbrev dktX3_putsLaw_2 : List UInt8 := dkwX3_putsLaw_2 ++ dktX3_putsLaw_3
def dkwX3_putsLaw_1 : List UInt8 := [180, 0, 7, 17, 5, 191, 27, 96, 42, 180, 0, 22, 7, 27, 104, 46, 79, 42, 180, 0, 7, 17, 5, 207]
abbrev dktX3_putsLaw_1 : List UInt8 := dkwX3_putsLaw_1 ++ dktX3_putsLaw_2
def dkwX3_putsLaw_0 : List UInt8 := [42, 180, 0, 7, 17, 2, 62, 42, 180, 0, 223, 79, 3, 60, 27, 42, 180, 0, 223, 162, 0, 87, 42]
abbrev dktX3_putsLaw_0 : List UInt8 := dkwX3_putsLaw_0 ++ dktX3_putsLaw_1
theorem dksX3_putsLaw_0 : cX3_putsLaw.data.toList.drop 0 = dktX3_putsLaw_0 := by decide +kernel
theorem dksX3_putsLaw_1 : cX3_putsLaw.data.toList.drop 23 = dktX3_putsLaw_1 := dk_seg dksX3_putsLaw_0 23 rfl rfl
theorem dksX3_putsLaw_2 : cX3_putsLaw.data.toList.drop 47 = dktX3_putsLaw_2 := dk_seg dksX3_putsLaw_1 24 rfl rfl
theorem dksX3_putsLaw_3 : cX3_putsLaw.data.toList.drop 70 = dktX3_putsLaw_3 := dk_seg dksX3_putsLaw_2 23 rfl rfl
theorem dksX3_putsLaw_4 : cX3_putsLaw.data.toList.drop 94 = dktX3_putsLaw_4 := dk_seg dksX3_putsLaw_3 24 rfl rfl
theorem dksX3_putsLaw_5 : cX3_putsLaw.data.toList.drop 118 = dktX3_putsLaw_5 := dk_seg dksX3_putsLaw_4 24 rfl rfl
theorem dksX3_putsLaw_6 : cX3_putsLaw.data.toList.drop 141 = dktX3_putsLaw_6 := dk_seg dksX3_putsLaw_5 23 rfl rfl
theorem dX3_putsLaw_0 : decode cX3_putsLaw 0 = .ok (.aload_n 0, 1) := dk_42 (dk_at dksX3_putsLaw_0 0 rfl rfl)
theorem dX3_putsLaw_1 : decode cX3_putsLaw 1 = .ok (.getfield 7, 3) := dk_180 0 7 (dk_at dksX3_putsLaw_0 1 rfl rfl)
theorem dX3_putsLaw_4 : decode cX3_putsLaw 4 = .ok (.sipush 574, 3) := dk_17 2 62 (dk_at dksX3_putsLaw_0 4 rfl rfl)
theorem dX3_putsLaw_7 : decode cX3_putsLaw 7 = .ok (.aload_n 0, 1) := dk_42 (dk_at dksX3_putsLaw_0 7 rfl rfl)
theorem dX3_putsLaw_8 : decode cX3_putsLaw 8 = .ok (.getfield 223, 3) := dk_180 0 223 (dk_at dksX3_putsLaw_0 8 rfl rfl)
theorem dX3_putsLaw_11 : decode cX3_putsLaw 11 = .ok (.iastore, 1) := dk_79 (dk_at dksX3_putsLaw_0 11 rfl rfl)
theorem dX3_putsLaw_12 : decode cX3_putsLaw 12 = .ok (.iconst 0, 1) := dk_3 (dk_at dksX3_putsLaw_0 12 rfl rfl)
theorem dX3_putsLaw_13 : decode cX3_putsLaw 13 = .ok (.istore_n 1, 1) := dk_60 (dk_at dksX3_putsLaw_0 13 rfl rfl)
theorem dX3_putsLaw_14 : decode cX3_putsLaw 14 = .ok (.iload_n 1, 1) := dk_27 (dk_at dksX3_putsLaw_0 14 rfl rfl)
theorem dX3_putsLaw_15 : decode cX3_putsLaw 15 = .ok (.aload_n 0, 1) := dk_42 (dk_at dksX3_putsLaw_0 15 rfl rfl)
theorem dX3_putsLaw_16 : decode cX3_putsLaw 16 = .ok (.getfield 223, 3) := dk_180 0 223 (dk_at dksX3_putsLaw_0 16 rfl rfl)
theorem dX3_putsLaw_19 : decode cX3_putsLaw 19 = .ok (.if_icmp .ge 87, 3) := dk_162 0 87 (dk_at dksX3_putsLaw_0 19 rfl rfl)
theorem dX3_putsLaw_22 : decode cX3_putsLaw 22 = .ok (.aload_n 0, 1) := dk_42 (dk_at dksX3_putsLaw_0 22 rfl rfl)
theorem dX3_putsLaw_23 : decode cX3_putsLaw 23 = .ok (.getfield 7, 3) := dk_180 0 7 (dk_at dksX3_putsLaw_1 0 rfl rfl)
theorem dX3_putsLaw_26 : decode cX3_putsLaw 26 = .ok (.sipush 1471, 3) := dk_17 5 191 (dk_at dksX3_putsLaw_1 3 rfl rfl)
theorem dX3_putsLaw_29 : decode cX3_putsLaw 29 = .ok (.iload_n 1, 1) := dk_27 (dk_at dksX3_putsLaw_1 6 rfl rfl)
theorem dX3_putsLaw_30 : decode cX3_putsLaw 30 = .ok (.iadd, 1) := dk_96 (dk_at dksX3_putsLaw_1 7 rfl rfl)
theorem dX3_putsLaw_31 : decode cX3_putsLaw 31 = .ok (.aload_n 0, 1) := dk_42 (dk_at dksX3_putsLaw_1 8 rfl rfl)
theorem dX3_putsLaw_32 : decode cX3_putsLaw 32 = .ok (.getfield 22, 3) := dk_180 0 22 (dk_at dksX3_putsLaw_1 9 rfl rfl)
theorem dX3_putsLaw_35 : decode cX3_putsLaw 35 = .ok (.iconst 4, 1) := dk_7 (dk_at dksX3_putsLaw_1 12 rfl rfl)
theorem dX3_putsLaw_36 : decode cX3_putsLaw 36 = .ok (.iload_n 1, 1) := dk_27 (dk_at dksX3_putsLaw_1 13 rfl rfl)
theorem dX3_putsLaw_37 : decode cX3_putsLaw 37 = .ok (.imul, 1) := dk_104 (dk_at dksX3_putsLaw_1 14 rfl rfl)
theorem dX3_putsLaw_38 : decode cX3_putsLaw 38 = .ok (.iaload, 1) := dk_46 (dk_at dksX3_putsLaw_1 15 rfl rfl)
theorem dX3_putsLaw_39 : decode cX3_putsLaw 39 = .ok (.iastore, 1) := dk_79 (dk_at dksX3_putsLaw_1 16 rfl rfl)
theorem dX3_putsLaw_40 : decode cX3_putsLaw 40 = .ok (.aload_n 0, 1) := dk_42 (dk_at dksX3_putsLaw_1 17 rfl rfl)
theorem dX3_putsLaw_41 : decode cX3_putsLaw 41 = .ok (.getfield 7, 3) := dk_180 0 7 (dk_at dksX3_putsLaw_1 18 rfl rfl)
theorem dX3_putsLaw_44 : decode cX3_putsLaw 44 = .ok (.sipush 1487, 3) := dk_17 5 207 (dk_at dksX3_putsLaw_1 21 rfl rfl)
theorem dX3_putsLaw_47 : decode cX3_putsLaw 47 = .ok (.iload_n 1, 1) := dk_27 (dk_at dksX3_putsLaw_2 0 rfl rfl)
theorem dX3_putsLaw_48 : decode cX3_putsLaw 48 = .ok (.iadd, 1) := dk_96 (dk_at dksX3_putsLaw_2 1 rfl rfl)
theorem dX3_putsLaw_49 : decode cX3_putsLaw 49 = .ok (.aload_n 0, 1) := dk_42 (dk_at dksX3_putsLaw_2 2 rfl rfl)
theorem dX3_putsLaw_50 : decode cX3_putsLaw 50 = .ok (.getfield 22, 3) := dk_180 0 22 (dk_at dksX3_putsLaw_2 3 rfl rfl)
theorem dX3_putsLaw_53 : decode cX3_putsLaw 53 = .ok (.iconst 4, 1) := dk_7 (dk_at dksX3_putsLaw_2 6 rfl rfl)
theorem dX3_putsLaw_54 : decode cX3_putsLaw 54 = .ok (.iload_n 1, 1) := dk_27 (dk_at dksX3_putsLaw_2 7 rfl rfl)
theorem dX3_putsLaw_55 : decode cX3_putsLaw 55 = .ok (.imul, 1) := dk_104 (dk_at dksX3_putsLaw_2 8 rfl rfl)
theorem dX3_putsLaw_56 : decode cX3_putsLaw 56 = .ok (.iconst 1, 1) := dk_4 (dk_at dksX3_putsLaw_2 9 rfl rfl)
theorem dX3_putsLaw_57 : decode cX3_putsLaw 57 = .ok (.iadd, 1) := dk_96 (dk_at dksX3_putsLaw_2 10 rfl rfl)
theorem dX3_putsLaw_58 : decode cX3_putsLaw 58 = .ok (.iaload, 1) := dk_46 (dk_at dksX3_putsLaw_2 11 rfl rfl)
theorem dX3_putsLaw_59 : decode cX3_putsLaw 59 = .ok (.iastore, 1) := dk_79 (dk_at dksX3_putsLaw_2 12 rfl rfl)
theorem dX3_putsLaw_60 : decode cX3_putsLaw 60 = .ok (.aload_n 0, 1) := dk_42 (dk_at dksX3_putsLaw_2 13 rfl rfl)
theorem dX3_putsLaw_61 : decode cX3_putsLaw 61 = .ok (.getfield 7, 3) := dk_180 0 7 (dk_at dksX3_putsLaw_2 14 rfl rfl)
theorem dX3_putsLaw_64 : decode cX3_putsLaw 64 = .ok (.sipush 1503, 3) := dk_17 5 223 (dk_at dksX3_putsLaw_2 17 rfl rfl)
theorem dX3_putsLaw_67 : decode cX3_putsLaw 67 = .ok (.iload_n 1, 1) := dk_27 (dk_at dksX3_putsLaw_2 20 rfl rfl)
theorem dX3_putsLaw_68 : decode cX3_putsLaw 68 = .ok (.iadd, 1) := dk_96 (dk_at dksX3_putsLaw_2 21 rfl rfl)
theorem dX3_putsLaw_69 : decode cX3_putsLaw 69 = .ok (.aload_n 0, 1) := dk_42 (dk_at dksX3_putsLaw_2 22 rfl rfl)
theorem dX3_putsLaw_70 : decode cX3_putsLaw 70 = .ok (.getfield 22, 3) := dk_180 0 22 (dk_at dksX3_putsLaw_3 0 rfl rfl)
theorem dX3_putsLaw_73 : decode cX3_putsLaw 73 = .ok (.iconst 4, 1) := dk_7 (dk_at dksX3_putsLaw_3 3 rfl rfl)
theorem dX3_putsLaw_74 : decode cX3_putsLaw 74 = .ok (.iload_n 1, 1) := dk_27 (dk_at dksX3_putsLaw_3 4 rfl rfl)
theorem dX3_putsLaw_75 : decode cX3_putsLaw 75 = .ok (.imul, 1) := dk_104 (dk_at dksX3_putsLaw_3 5 rfl rfl)
theorem dX3_putsLaw_76 : decode cX3_putsLaw 76 = .ok (.iconst 2, 1) := dk_5 (dk_at dksX3_putsLaw_3 6 rfl rfl)
theorem dX3_putsLaw_77 : decode cX3_putsLaw 77 = .ok (.iadd, 1) := dk_96 (dk_at dksX3_putsLaw_3 7 rfl rfl)
theorem dX3_putsLaw_78 : decode cX3_putsLaw 78 = .ok (.iaload, 1) := dk_46 (dk_at dksX3_putsLaw_3 8 rfl rfl)
theorem dX3_putsLaw_79 : decode cX3_putsLaw 79 = .ok (.iastore, 1) := dk_79 (dk_at dksX3_putsLaw_3 9 rfl rfl)
theorem dX3_putsLaw_80 : decode cX3_putsLaw 80 = .ok (.aload_n 0, 1) := dk_42 (dk_at dksX3_putsLaw_3 10 rfl rfl)
theorem dX3_putsLaw_81 : decode cX3_putsLaw 81 = .ok (.getfield 7, 3) := dk_180 0 7 (dk_at dksX3_putsLaw_3 11 rfl rfl)
theorem dX3_putsLaw_84 : decode cX3_putsLaw 84 = .ok (.sipush 1519, 3) := dk_17 5 239 (dk_at dksX3_putsLaw_3 14 rfl rfl)
theorem dX3_putsLaw_87 : decode cX3_putsLaw 87 = .ok (.iload_n 1, 1) := dk_27 (dk_at dksX3_putsLaw_3 17 rfl rfl)
theorem dX3_putsLaw_88 : decode cX3_putsLaw 88 = .ok (.iadd, 1) := dk_96 (dk_at dksX3_putsLaw_3 18 rfl rfl)
theorem dX3_putsLaw_89 : decode cX3_putsLaw 89 = .ok (.aload_n 0, 1) := dk_42 (dk_at dksX3_putsLaw_3 19 rfl rfl)
theorem dX3_putsLaw_90 : decode cX3_putsLaw 90 = .ok (.getfield 22, 3) := dk_180 0 22 (dk_at dksX3_putsLaw_3 20 rfl rfl)
theorem dX3_putsLaw_93 : decode cX3_putsLaw 93 = .ok (.iconst 4, 1) := dk_7 (dk_at dksX3_putsLaw_3 23 rfl rfl)
theorem dX3_putsLaw_94 : decode cX3_putsLaw 94 = .ok (.iload_n 1, 1) := dk_27 (dk_at dksX3_putsLaw_4 0 rfl rfl)
theorem dX3_putsLaw_95 : decode cX3_putsLaw 95 = .ok (.imul, 1) := dk_104 (dk_at dksX3_putsLaw_4 1 rfl rfl)
theorem dX3_putsLaw_96 : decode cX3_putsLaw 96 = .ok (.iconst 3, 1) := dk_6 (dk_at dksX3_putsLaw_4 2 rfl rfl)
theorem dX3_putsLaw_97 : decode cX3_putsLaw 97 = .ok (.iadd, 1) := dk_96 (dk_at dksX3_putsLaw_4 3 rfl rfl)
theorem dX3_putsLaw_98 : decode cX3_putsLaw 98 = .ok (.iaload, 1) := dk_46 (dk_at dksX3_putsLaw_4 4 rfl rfl)
theorem dX3_putsLaw_99 : decode cX3_putsLaw 99 = .ok (.iastore, 1) := dk_79 (dk_at dksX3_putsLaw_4 5 rfl rfl)
theorem dX3_putsLaw_100 : decode cX3_putsLaw 100 = .ok (.iinc 1 1, 3) := dk_132 1 1 (dk_at dksX3_putsLaw_4 6 rfl rfl)
theorem dX3_putsLaw_103 : decode cX3_putsLaw 103 = .ok (.goto (-89), 3) := dk_167 255 167 (dk_at dksX3_putsLaw_4 9 rfl rfl)
theorem dX3_putsLaw_106 : decode cX3_putsLaw 106 = .ok (.iconst 0, 1) := dk_3 (dk_at dksX3_putsLaw_4 12 rfl rfl)
theorem dX3_putsLaw_107 : decode cX3_putsLaw 107 = .ok (.istore_n 1, 1) := dk_60 (dk_at dksX3_putsLaw_4 13 rfl rfl)
theorem dX3_putsLaw_108 : decode cX3_putsLaw 108 = .ok (.iload_n 1, 1) := dk_27 (dk_at dksX3_putsLaw_4 14 rfl rfl)
theorem dX3_putsLaw_109 : decode cX3_putsLaw 109 = .ok (.iconst 2, 1) := dk_5 (dk_at dksX3_putsLaw_4 15 rfl rfl)
theorem dX3_putsLaw_110 : decode cX3_putsLaw 110 = .ok (.aload_n 0, 1) := dk_42 (dk_at dksX3_putsLaw_4 16 rfl rfl)
theorem dX3_putsLaw_111 : decode cX3_putsLaw 111 = .ok (.getfield 188, 3) := dk_180 0 188 (dk_at dksX3_putsLaw_4 17 rfl rfl)
theorem dX3_putsLaw_114 : decode cX3_putsLaw 114 = .ok (.imul, 1) := dk_104 (dk_at dksX3_putsLaw_4 20 rfl rfl)
theorem dX3_putsLaw_115 : decode cX3_putsLaw 115 = .ok (.if_icmp .ge 25, 3) := dk_162 0 25 (dk_at dksX3_putsLaw_4 21 rfl rfl)
theorem dX3_putsLaw_118 : decode cX3_putsLaw 118 = .ok (.aload_n 0, 1) := dk_42 (dk_at dksX3_putsLaw_5 0 rfl rfl)
theorem dX3_putsLaw_119 : decode cX3_putsLaw 119 = .ok (.getfield 7, 3) := dk_180 0 7 (dk_at dksX3_putsLaw_5 1 rfl rfl)
theorem dX3_putsLaw_122 : decode cX3_putsLaw 122 = .ok (.sipush 1535, 3) := dk_17 5 255 (dk_at dksX3_putsLaw_5 4 rfl rfl)
theorem dX3_putsLaw_125 : decode cX3_putsLaw 125 = .ok (.iload_n 1, 1) := dk_27 (dk_at dksX3_putsLaw_5 7 rfl rfl)
theorem dX3_putsLaw_126 : decode cX3_putsLaw 126 = .ok (.iadd, 1) := dk_96 (dk_at dksX3_putsLaw_5 8 rfl rfl)
theorem dX3_putsLaw_127 : decode cX3_putsLaw 127 = .ok (.aload_n 0, 1) := dk_42 (dk_at dksX3_putsLaw_5 9 rfl rfl)
theorem dX3_putsLaw_128 : decode cX3_putsLaw 128 = .ok (.getfield 25, 3) := dk_180 0 25 (dk_at dksX3_putsLaw_5 10 rfl rfl)
theorem dX3_putsLaw_131 : decode cX3_putsLaw 131 = .ok (.iload_n 1, 1) := dk_27 (dk_at dksX3_putsLaw_5 13 rfl rfl)
theorem dX3_putsLaw_132 : decode cX3_putsLaw 132 = .ok (.iaload, 1) := dk_46 (dk_at dksX3_putsLaw_5 14 rfl rfl)
theorem dX3_putsLaw_133 : decode cX3_putsLaw 133 = .ok (.iastore, 1) := dk_79 (dk_at dksX3_putsLaw_5 15 rfl rfl)
theorem dX3_putsLaw_134 : decode cX3_putsLaw 134 = .ok (.iinc 1 1, 3) := dk_132 1 1 (dk_at dksX3_putsLaw_5 16 rfl rfl)
theorem dX3_putsLaw_137 : decode cX3_putsLaw 137 = .ok (.goto (-29), 3) := dk_167 255 227 (dk_at dksX3_putsLaw_5 19 rfl rfl)
theorem dX3_putsLaw_140 : decode cX3_putsLaw 140 = .ok (.aload_n 0, 1) := dk_42 (dk_at dksX3_putsLaw_5 22 rfl rfl)
theorem dX3_putsLaw_141 : decode cX3_putsLaw 141 = .ok (.getfield 223, 3) := dk_180 0 223 (dk_at dksX3_putsLaw_6 0 rfl rfl)
theorem dX3_putsLaw_144 : decode cX3_putsLaw 144 = .ok (.ireturn, 1) := dk_172 (dk_at dksX3_putsLaw_6 3 rfl rfl)
abbrev cX3_puts : ByteArray := prog_17_method_48_code
def yX3_puts : MethodName := ⟨RX3, "puts", "(III)I"⟩
def dkwX3_puts_2 : List UInt8 := [180, 0, 232, 172]
abbrev dktX3_puts_2 : List UInt8 := dkwX3_puts_2 ++ []
def dkwX3_puts_1 : List UInt8 := [42, 180, 0, 7, 28, 21, 4, 96, 42, 180, 0, 28, 21, 4, 46, 79, 132, 4, 1, 167, 255, 226, 42]
abbrev dktX3_puts_1 : List UInt8 := dkwX3_puts_1 ++ dktX3_puts_2
def dkwX3_puts_0 : List UInt8 := [42, 180, 0, 7, 27, 42, 180, 0, 232, 79, 3, 54, 4, 21, 4, 29, 42, 180, 0, 232, 104, 162, 0, 25]
abbrev dktX3_puts_0 : List UInt8 := dkwX3_puts_0 ++ dktX3_puts_1
theorem dksX3_puts_0 : cX3_puts.data.toList.drop 0 = dktX3_puts_0 := by decide +kernel
theorem dksX3_puts_1 : cX3_puts.data.toList.drop 24 = dktX3_puts_1 := dk_seg dksX3_puts_0 24 rfl rfl
theorem dksX3_puts_2 : cX3_puts.data.toList.drop 47 = dktX3_puts_2 := dk_seg dksX3_puts_1 23 rfl rfl
theorem dX3_puts_0 : decode cX3_puts 0 = .ok (.aload_n 0, 1) := dk_42 (dk_at dksX3_puts_0 0 rfl rfl)
theorem dX3_puts_1 : decode cX3_puts 1 = .ok (.getfield 7, 3) := dk_180 0 7 (dk_at dksX3_puts_0 1 rfl rfl)
theorem dX3_puts_4 : decode cX3_puts 4 = .ok (.iload_n 1, 1) := dk_27 (dk_at dksX3_puts_0 4 rfl rfl)
theorem dX3_puts_5 : decode cX3_puts 5 = .ok (.aload_n 0, 1) := dk_42 (dk_at dksX3_puts_0 5 rfl rfl)
theorem dX3_puts_6 : decode cX3_puts 6 = .ok (.getfield 232, 3) := dk_180 0 232 (dk_at dksX3_puts_0 6 rfl rfl)
theorem dX3_puts_9 : decode cX3_puts 9 = .ok (.iastore, 1) := dk_79 (dk_at dksX3_puts_0 9 rfl rfl)
theorem dX3_puts_10 : decode cX3_puts 10 = .ok (.iconst 0, 1) := dk_3 (dk_at dksX3_puts_0 10 rfl rfl)
theorem dX3_puts_11 : decode cX3_puts 11 = .ok (.istore 4, 2) := dk_54 4 (dk_at dksX3_puts_0 11 rfl rfl)
theorem dX3_puts_13 : decode cX3_puts 13 = .ok (.iload 4, 2) := dk_21 4 (dk_at dksX3_puts_0 13 rfl rfl)
theorem dX3_puts_15 : decode cX3_puts 15 = .ok (.iload_n 3, 1) := dk_29 (dk_at dksX3_puts_0 15 rfl rfl)
theorem dX3_puts_16 : decode cX3_puts 16 = .ok (.aload_n 0, 1) := dk_42 (dk_at dksX3_puts_0 16 rfl rfl)
theorem dX3_puts_17 : decode cX3_puts 17 = .ok (.getfield 232, 3) := dk_180 0 232 (dk_at dksX3_puts_0 17 rfl rfl)
theorem dX3_puts_20 : decode cX3_puts 20 = .ok (.imul, 1) := dk_104 (dk_at dksX3_puts_0 20 rfl rfl)
theorem dX3_puts_21 : decode cX3_puts 21 = .ok (.if_icmp .ge 25, 3) := dk_162 0 25 (dk_at dksX3_puts_0 21 rfl rfl)
theorem dX3_puts_24 : decode cX3_puts 24 = .ok (.aload_n 0, 1) := dk_42 (dk_at dksX3_puts_1 0 rfl rfl)
theorem dX3_puts_25 : decode cX3_puts 25 = .ok (.getfield 7, 3) := dk_180 0 7 (dk_at dksX3_puts_1 1 rfl rfl)
theorem dX3_puts_28 : decode cX3_puts 28 = .ok (.iload_n 2, 1) := dk_28 (dk_at dksX3_puts_1 4 rfl rfl)
theorem dX3_puts_29 : decode cX3_puts 29 = .ok (.iload 4, 2) := dk_21 4 (dk_at dksX3_puts_1 5 rfl rfl)
theorem dX3_puts_31 : decode cX3_puts 31 = .ok (.iadd, 1) := dk_96 (dk_at dksX3_puts_1 7 rfl rfl)
theorem dX3_puts_32 : decode cX3_puts 32 = .ok (.aload_n 0, 1) := dk_42 (dk_at dksX3_puts_1 8 rfl rfl)
theorem dX3_puts_33 : decode cX3_puts 33 = .ok (.getfield 28, 3) := dk_180 0 28 (dk_at dksX3_puts_1 9 rfl rfl)
theorem dX3_puts_36 : decode cX3_puts 36 = .ok (.iload 4, 2) := dk_21 4 (dk_at dksX3_puts_1 12 rfl rfl)
theorem dX3_puts_38 : decode cX3_puts 38 = .ok (.iaload, 1) := dk_46 (dk_at dksX3_puts_1 14 rfl rfl)
theorem dX3_puts_39 : decode cX3_puts 39 = .ok (.iastore, 1) := dk_79 (dk_at dksX3_puts_1 15 rfl rfl)
theorem dX3_puts_40 : decode cX3_puts 40 = .ok (.iinc 4 1, 3) := dk_132 4 1 (dk_at dksX3_puts_1 16 rfl rfl)
theorem dX3_puts_43 : decode cX3_puts 43 = .ok (.goto (-30), 3) := dk_167 255 226 (dk_at dksX3_puts_1 19 rfl rfl)
theorem dX3_puts_46 : decode cX3_puts 46 = .ok (.aload_n 0, 1) := dk_42 (dk_at dksX3_puts_1 22 rfl rfl)
theorem dX3_puts_47 : decode cX3_puts 47 = .ok (.getfield 232, 3) := dk_180 0 232 (dk_at dksX3_puts_2 0 rfl rfl)
theorem dX3_puts_50 : decode cX3_puts 50 = .ok (.ireturn, 1) := dk_172 (dk_at dksX3_puts_2 3 rfl rfl)
abbrev cX3_fault : ByteArray := prog_17_method_51_code
def yX3_fault : MethodName := ⟨RX3, "fault", "(I)I"⟩
def dkwX3_fault_1 : List UInt8 := [172]
abbrev dktX3_fault_1 : List UInt8 := dkwX3_fault_1 ++ []
def dkwX3_fault_0 : List UInt8 := [27, 154, 0, 10, 42, 180, 1, 15, 167, 0, 16, 27, 4, 160, 0, 10, 42, 180, 0, 40, 167, 0, 4, 2]
abbrev dktX3_fault_0 : List UInt8 := dkwX3_fault_0 ++ dktX3_fault_1
theorem dksX3_fault_0 : cX3_fault.data.toList.drop 0 = dktX3_fault_0 := by decide +kernel
theorem dksX3_fault_1 : cX3_fault.data.toList.drop 24 = dktX3_fault_1 := dk_seg dksX3_fault_0 24 rfl rfl
theorem dX3_fault_0 : decode cX3_fault 0 = .ok (.iload_n 1, 1) := dk_27 (dk_at dksX3_fault_0 0 rfl rfl)
theorem dX3_fault_1 : decode cX3_fault 1 = .ok (.ifCond .ne 10, 3) := dk_154 0 10 (dk_at dksX3_fault_0 1 rfl rfl)
theorem dX3_fault_4 : decode cX3_fault 4 = .ok (.aload_n 0, 1) := dk_42 (dk_at dksX3_fault_0 4 rfl rfl)
theorem dX3_fault_5 : decode cX3_fault 5 = .ok (.getfield 271, 3) := dk_180 1 15 (dk_at dksX3_fault_0 5 rfl rfl)
theorem dX3_fault_8 : decode cX3_fault 8 = .ok (.goto 16, 3) := dk_167 0 16 (dk_at dksX3_fault_0 8 rfl rfl)
theorem dX3_fault_11 : decode cX3_fault 11 = .ok (.iload_n 1, 1) := dk_27 (dk_at dksX3_fault_0 11 rfl rfl)
theorem dX3_fault_12 : decode cX3_fault 12 = .ok (.iconst 1, 1) := dk_4 (dk_at dksX3_fault_0 12 rfl rfl)
theorem dX3_fault_13 : decode cX3_fault 13 = .ok (.if_icmp .ne 10, 3) := dk_160 0 10 (dk_at dksX3_fault_0 13 rfl rfl)
theorem dX3_fault_16 : decode cX3_fault 16 = .ok (.aload_n 0, 1) := dk_42 (dk_at dksX3_fault_0 16 rfl rfl)
theorem dX3_fault_17 : decode cX3_fault 17 = .ok (.getfield 40, 3) := dk_180 0 40 (dk_at dksX3_fault_0 17 rfl rfl)
theorem dX3_fault_20 : decode cX3_fault 20 = .ok (.goto 4, 3) := dk_167 0 4 (dk_at dksX3_fault_0 20 rfl rfl)
theorem dX3_fault_23 : decode cX3_fault 23 = .ok (.iconst (-1), 1) := dk_2 (dk_at dksX3_fault_0 23 rfl rfl)
theorem dX3_fault_24 : decode cX3_fault 24 = .ok (.ireturn, 1) := dk_172 (dk_at dksX3_fault_1 0 rfl rfl)
abbrev cX3_undo : ByteArray := prog_17_method_62_code
def yX3_undo : MethodName := ⟨RX3, "undo", "()Z"⟩
def dkwX3_undo_2 : List UInt8 := [96, 46, 79, 132, 1, 1, 167, 255, 225, 4, 172]
abbrev dktX3_undo_2 : List UInt8 := dkwX3_undo_2 ++ []
def dkwX3_undo_1 : List UInt8 := [17, 2, 59, 162, 0, 30, 42, 180, 0, 7, 27, 42, 180, 0, 16, 17, 2, 59, 42, 180, 0, 63, 104, 27]
abbrev dktX3_undo_1 : List UInt8 := dkwX3_undo_1 ++ dktX3_undo_2
def dkwX3_undo_0 : List UInt8 := [42, 180, 0, 63, 154, 0, 5, 3, 172, 42, 89, 180, 0, 63, 4, 100, 181, 0, 63, 3, 60, 27]
abbrev dktX3_undo_0 : List UInt8 := dkwX3_undo_0 ++ dktX3_undo_1
theorem dksX3_undo_0 : cX3_undo.data.toList.drop 0 = dktX3_undo_0 := by decide +kernel
theorem dksX3_undo_1 : cX3_undo.data.toList.drop 22 = dktX3_undo_1 := dk_seg dksX3_undo_0 22 rfl rfl
theorem dksX3_undo_2 : cX3_undo.data.toList.drop 46 = dktX3_undo_2 := dk_seg dksX3_undo_1 24 rfl rfl
theorem dX3_undo_0 : decode cX3_undo 0 = .ok (.aload_n 0, 1) := dk_42 (dk_at dksX3_undo_0 0 rfl rfl)
theorem dX3_undo_1 : decode cX3_undo 1 = .ok (.getfield 63, 3) := dk_180 0 63 (dk_at dksX3_undo_0 1 rfl rfl)
theorem dX3_undo_4 : decode cX3_undo 4 = .ok (.ifCond .ne 5, 3) := dk_154 0 5 (dk_at dksX3_undo_0 4 rfl rfl)
theorem dX3_undo_7 : decode cX3_undo 7 = .ok (.iconst 0, 1) := dk_3 (dk_at dksX3_undo_0 7 rfl rfl)
theorem dX3_undo_8 : decode cX3_undo 8 = .ok (.ireturn, 1) := dk_172 (dk_at dksX3_undo_0 8 rfl rfl)
theorem dX3_undo_9 : decode cX3_undo 9 = .ok (.aload_n 0, 1) := dk_42 (dk_at dksX3_undo_0 9 rfl rfl)
theorem dX3_undo_10 : decode cX3_undo 10 = .ok (.dup, 1) := dk_89 (dk_at dksX3_undo_0 10 rfl rfl)
theorem dX3_undo_11 : decode cX3_undo 11 = .ok (.getfield 63, 3) := dk_180 0 63 (dk_at dksX3_undo_0 11 rfl rfl)
theorem dX3_undo_14 : decode cX3_undo 14 = .ok (.iconst 1, 1) := dk_4 (dk_at dksX3_undo_0 14 rfl rfl)
theorem dX3_undo_15 : decode cX3_undo 15 = .ok (.isub, 1) := dk_100 (dk_at dksX3_undo_0 15 rfl rfl)
theorem dX3_undo_16 : decode cX3_undo 16 = .ok (.putfield 63, 3) := dk_181 0 63 (dk_at dksX3_undo_0 16 rfl rfl)
theorem dX3_undo_19 : decode cX3_undo 19 = .ok (.iconst 0, 1) := dk_3 (dk_at dksX3_undo_0 19 rfl rfl)
theorem dX3_undo_20 : decode cX3_undo 20 = .ok (.istore_n 1, 1) := dk_60 (dk_at dksX3_undo_0 20 rfl rfl)
theorem dX3_undo_21 : decode cX3_undo 21 = .ok (.iload_n 1, 1) := dk_27 (dk_at dksX3_undo_0 21 rfl rfl)
theorem dX3_undo_22 : decode cX3_undo 22 = .ok (.sipush 571, 3) := dk_17 2 59 (dk_at dksX3_undo_1 0 rfl rfl)
theorem dX3_undo_25 : decode cX3_undo 25 = .ok (.if_icmp .ge 30, 3) := dk_162 0 30 (dk_at dksX3_undo_1 3 rfl rfl)
theorem dX3_undo_28 : decode cX3_undo 28 = .ok (.aload_n 0, 1) := dk_42 (dk_at dksX3_undo_1 6 rfl rfl)
theorem dX3_undo_29 : decode cX3_undo 29 = .ok (.getfield 7, 3) := dk_180 0 7 (dk_at dksX3_undo_1 7 rfl rfl)
theorem dX3_undo_32 : decode cX3_undo 32 = .ok (.iload_n 1, 1) := dk_27 (dk_at dksX3_undo_1 10 rfl rfl)
theorem dX3_undo_33 : decode cX3_undo 33 = .ok (.aload_n 0, 1) := dk_42 (dk_at dksX3_undo_1 11 rfl rfl)
theorem dX3_undo_34 : decode cX3_undo 34 = .ok (.getfield 16, 3) := dk_180 0 16 (dk_at dksX3_undo_1 12 rfl rfl)
theorem dX3_undo_37 : decode cX3_undo 37 = .ok (.sipush 571, 3) := dk_17 2 59 (dk_at dksX3_undo_1 15 rfl rfl)
theorem dX3_undo_40 : decode cX3_undo 40 = .ok (.aload_n 0, 1) := dk_42 (dk_at dksX3_undo_1 18 rfl rfl)
theorem dX3_undo_41 : decode cX3_undo 41 = .ok (.getfield 63, 3) := dk_180 0 63 (dk_at dksX3_undo_1 19 rfl rfl)
theorem dX3_undo_44 : decode cX3_undo 44 = .ok (.imul, 1) := dk_104 (dk_at dksX3_undo_1 22 rfl rfl)
theorem dX3_undo_45 : decode cX3_undo 45 = .ok (.iload_n 1, 1) := dk_27 (dk_at dksX3_undo_1 23 rfl rfl)
theorem dX3_undo_46 : decode cX3_undo 46 = .ok (.iadd, 1) := dk_96 (dk_at dksX3_undo_2 0 rfl rfl)
theorem dX3_undo_47 : decode cX3_undo 47 = .ok (.iaload, 1) := dk_46 (dk_at dksX3_undo_2 1 rfl rfl)
theorem dX3_undo_48 : decode cX3_undo 48 = .ok (.iastore, 1) := dk_79 (dk_at dksX3_undo_2 2 rfl rfl)
theorem dX3_undo_49 : decode cX3_undo 49 = .ok (.iinc 1 1, 3) := dk_132 1 1 (dk_at dksX3_undo_2 3 rfl rfl)
theorem dX3_undo_52 : decode cX3_undo 52 = .ok (.goto (-31), 3) := dk_167 255 225 (dk_at dksX3_undo_2 6 rfl rfl)
theorem dX3_undo_55 : decode cX3_undo 55 = .ok (.iconst 1, 1) := dk_4 (dk_at dksX3_undo_2 9 rfl rfl)
theorem dX3_undo_56 : decode cX3_undo 56 = .ok (.ireturn, 1) := dk_172 (dk_at dksX3_undo_2 10 rfl rfl)
abbrev cX3_feedOne : ByteArray := prog_17_method_69_code
def yX3_feedOne : MethodName := ⟨RX3, "feedOne", "(III)I"⟩
def dkwX3_feedOne_2 : List UInt8 := [182, 1, 91, 42, 27, 28, 29, 182, 1, 94, 172]
abbrev dktX3_feedOne_2 : List UInt8 := dkwX3_feedOne_2 ++ []
def dkwX3_feedOne_1 : List UInt8 := [182, 0, 243, 153, 0, 18, 28, 29, 159, 0, 13, 42, 27, 28, 29, 182, 1, 88, 154, 0, 5, 2, 172, 42]
abbrev dktX3_feedOne_1 : List UInt8 := dkwX3_feedOne_1 ++ dktX3_feedOne_2
def dkwX3_feedOne_0 : List UInt8 := [42, 27, 182, 0, 71, 153, 0, 39, 42, 28, 182, 0, 243, 153, 0, 31, 29, 2, 159, 0, 11, 42, 29]
abbrev dktX3_feedOne_0 : List UInt8 := dkwX3_feedOne_0 ++ dktX3_feedOne_1
theorem dksX3_feedOne_0 : cX3_feedOne.data.toList.drop 0 = dktX3_feedOne_0 := by decide +kernel
theorem dksX3_feedOne_1 : cX3_feedOne.data.toList.drop 23 = dktX3_feedOne_1 := dk_seg dksX3_feedOne_0 23 rfl rfl
theorem dksX3_feedOne_2 : cX3_feedOne.data.toList.drop 47 = dktX3_feedOne_2 := dk_seg dksX3_feedOne_1 24 rfl rfl
theorem dX3_feedOne_0 : decode cX3_feedOne 0 = .ok (.aload_n 0, 1) := dk_42 (dk_at dksX3_feedOne_0 0 rfl rfl)
theorem dX3_feedOne_1 : decode cX3_feedOne 1 = .ok (.iload_n 1, 1) := dk_27 (dk_at dksX3_feedOne_0 1 rfl rfl)
theorem dX3_feedOne_2 : decode cX3_feedOne 2 = .ok (.invokevirtual 71, 3) := dk_182 0 71 (dk_at dksX3_feedOne_0 2 rfl rfl)
theorem dX3_feedOne_5 : decode cX3_feedOne 5 = .ok (.ifCond .eq 39, 3) := dk_153 0 39 (dk_at dksX3_feedOne_0 5 rfl rfl)
theorem dX3_feedOne_8 : decode cX3_feedOne 8 = .ok (.aload_n 0, 1) := dk_42 (dk_at dksX3_feedOne_0 8 rfl rfl)
theorem dX3_feedOne_9 : decode cX3_feedOne 9 = .ok (.iload_n 2, 1) := dk_28 (dk_at dksX3_feedOne_0 9 rfl rfl)
theorem dX3_feedOne_10 : decode cX3_feedOne 10 = .ok (.invokevirtual 243, 3) := dk_182 0 243 (dk_at dksX3_feedOne_0 10 rfl rfl)
theorem dX3_feedOne_13 : decode cX3_feedOne 13 = .ok (.ifCond .eq 31, 3) := dk_153 0 31 (dk_at dksX3_feedOne_0 13 rfl rfl)
theorem dX3_feedOne_16 : decode cX3_feedOne 16 = .ok (.iload_n 3, 1) := dk_29 (dk_at dksX3_feedOne_0 16 rfl rfl)
theorem dX3_feedOne_17 : decode cX3_feedOne 17 = .ok (.iconst (-1), 1) := dk_2 (dk_at dksX3_feedOne_0 17 rfl rfl)
theorem dX3_feedOne_18 : decode cX3_feedOne 18 = .ok (.if_icmp .eq 11, 3) := dk_159 0 11 (dk_at dksX3_feedOne_0 18 rfl rfl)
theorem dX3_feedOne_21 : decode cX3_feedOne 21 = .ok (.aload_n 0, 1) := dk_42 (dk_at dksX3_feedOne_0 21 rfl rfl)
theorem dX3_feedOne_22 : decode cX3_feedOne 22 = .ok (.iload_n 3, 1) := dk_29 (dk_at dksX3_feedOne_0 22 rfl rfl)
theorem dX3_feedOne_23 : decode cX3_feedOne 23 = .ok (.invokevirtual 243, 3) := dk_182 0 243 (dk_at dksX3_feedOne_1 0 rfl rfl)
theorem dX3_feedOne_26 : decode cX3_feedOne 26 = .ok (.ifCond .eq 18, 3) := dk_153 0 18 (dk_at dksX3_feedOne_1 3 rfl rfl)
theorem dX3_feedOne_29 : decode cX3_feedOne 29 = .ok (.iload_n 2, 1) := dk_28 (dk_at dksX3_feedOne_1 6 rfl rfl)
theorem dX3_feedOne_30 : decode cX3_feedOne 30 = .ok (.iload_n 3, 1) := dk_29 (dk_at dksX3_feedOne_1 7 rfl rfl)
theorem dX3_feedOne_31 : decode cX3_feedOne 31 = .ok (.if_icmp .eq 13, 3) := dk_159 0 13 (dk_at dksX3_feedOne_1 8 rfl rfl)
theorem dX3_feedOne_34 : decode cX3_feedOne 34 = .ok (.aload_n 0, 1) := dk_42 (dk_at dksX3_feedOne_1 11 rfl rfl)
theorem dX3_feedOne_35 : decode cX3_feedOne 35 = .ok (.iload_n 1, 1) := dk_27 (dk_at dksX3_feedOne_1 12 rfl rfl)
theorem dX3_feedOne_36 : decode cX3_feedOne 36 = .ok (.iload_n 2, 1) := dk_28 (dk_at dksX3_feedOne_1 13 rfl rfl)
theorem dX3_feedOne_37 : decode cX3_feedOne 37 = .ok (.iload_n 3, 1) := dk_29 (dk_at dksX3_feedOne_1 14 rfl rfl)
theorem dX3_feedOne_38 : decode cX3_feedOne 38 = .ok (.invokevirtual 344, 3) := dk_182 1 88 (dk_at dksX3_feedOne_1 15 rfl rfl)
theorem dX3_feedOne_41 : decode cX3_feedOne 41 = .ok (.ifCond .ne 5, 3) := dk_154 0 5 (dk_at dksX3_feedOne_1 18 rfl rfl)
theorem dX3_feedOne_44 : decode cX3_feedOne 44 = .ok (.iconst (-1), 1) := dk_2 (dk_at dksX3_feedOne_1 21 rfl rfl)
theorem dX3_feedOne_45 : decode cX3_feedOne 45 = .ok (.ireturn, 1) := dk_172 (dk_at dksX3_feedOne_1 22 rfl rfl)
theorem dX3_feedOne_46 : decode cX3_feedOne 46 = .ok (.aload_n 0, 1) := dk_42 (dk_at dksX3_feedOne_1 23 rfl rfl)
theorem dX3_feedOne_47 : decode cX3_feedOne 47 = .ok (.invokevirtual 347, 3) := dk_182 1 91 (dk_at dksX3_feedOne_2 0 rfl rfl)
theorem dX3_feedOne_50 : decode cX3_feedOne 50 = .ok (.aload_n 0, 1) := dk_42 (dk_at dksX3_feedOne_2 3 rfl rfl)
theorem dX3_feedOne_51 : decode cX3_feedOne 51 = .ok (.iload_n 1, 1) := dk_27 (dk_at dksX3_feedOne_2 4 rfl rfl)
theorem dX3_feedOne_52 : decode cX3_feedOne 52 = .ok (.iload_n 2, 1) := dk_28 (dk_at dksX3_feedOne_2 5 rfl rfl)
theorem dX3_feedOne_53 : decode cX3_feedOne 53 = .ok (.iload_n 3, 1) := dk_29 (dk_at dksX3_feedOne_2 6 rfl rfl)
theorem dX3_feedOne_54 : decode cX3_feedOne 54 = .ok (.invokevirtual 350, 3) := dk_182 1 94 (dk_at dksX3_feedOne_2 7 rfl rfl)
theorem dX3_feedOne_57 : decode cX3_feedOne 57 = .ok (.ireturn, 1) := dk_172 (dk_at dksX3_feedOne_2 10 rfl rfl)
abbrev cX3_canFeed : ByteArray := prog_17_method_65_code
def yX3_canFeed : MethodName := ⟨RX3, "canFeed", "(III)Z"⟩
def dkwX3_canFeed_3 : List UInt8 := [161, 0, 7, 4, 167, 0, 4, 3, 172]
abbrev dktX3_canFeed_3 : List UInt8 := dkwX3_canFeed_3 ++ []
def dkwX3_canFeed_2 : List UInt8 := [42, 180, 0, 7, 16, 79, 27, 96, 46, 164, 0, 22, 42, 180, 0, 7, 4, 46, 42, 28, 29, 182, 1, 62]
abbrev dktX3_canFeed_2 : List UInt8 := dkwX3_canFeed_2 ++ dktX3_canFeed_3
def dkwX3_canFeed_1 : List UInt8 := [46, 29, 2, 160, 0, 7, 4, 167, 0, 4, 5, 96, 16, 9, 164, 0, 5, 3, 172, 42, 27, 182, 1, 59]
abbrev dktX3_canFeed_1 : List UInt8 := dkwX3_canFeed_1 ++ dktX3_canFeed_2
def dkwX3_canFeed_0 : List UInt8 := [42, 27, 182, 1, 53, 154, 0, 36, 42, 27, 182, 1, 56, 154, 0, 28, 42, 180, 0, 7, 16, 7, 27, 96]
abbrev dktX3_canFeed_0 : List UInt8 := dkwX3_canFeed_0 ++ dktX3_canFeed_1
theorem dksX3_canFeed_0 : cX3_canFeed.data.toList.drop 0 = dktX3_canFeed_0 := by decide +kernel
theorem dksX3_canFeed_1 : cX3_canFeed.data.toList.drop 24 = dktX3_canFeed_1 := dk_seg dksX3_canFeed_0 24 rfl rfl
theorem dksX3_canFeed_2 : cX3_canFeed.data.toList.drop 48 = dktX3_canFeed_2 := dk_seg dksX3_canFeed_1 24 rfl rfl
theorem dksX3_canFeed_3 : cX3_canFeed.data.toList.drop 72 = dktX3_canFeed_3 := dk_seg dksX3_canFeed_2 24 rfl rfl
theorem dX3_canFeed_0 : decode cX3_canFeed 0 = .ok (.aload_n 0, 1) := dk_42 (dk_at dksX3_canFeed_0 0 rfl rfl)
theorem dX3_canFeed_1 : decode cX3_canFeed 1 = .ok (.iload_n 1, 1) := dk_27 (dk_at dksX3_canFeed_0 1 rfl rfl)
theorem dX3_canFeed_2 : decode cX3_canFeed 2 = .ok (.invokevirtual 309, 3) := dk_182 1 53 (dk_at dksX3_canFeed_0 2 rfl rfl)
theorem dX3_canFeed_5 : decode cX3_canFeed 5 = .ok (.ifCond .ne 36, 3) := dk_154 0 36 (dk_at dksX3_canFeed_0 5 rfl rfl)
theorem dX3_canFeed_8 : decode cX3_canFeed 8 = .ok (.aload_n 0, 1) := dk_42 (dk_at dksX3_canFeed_0 8 rfl rfl)
theorem dX3_canFeed_9 : decode cX3_canFeed 9 = .ok (.iload_n 1, 1) := dk_27 (dk_at dksX3_canFeed_0 9 rfl rfl)
theorem dX3_canFeed_10 : decode cX3_canFeed 10 = .ok (.invokevirtual 312, 3) := dk_182 1 56 (dk_at dksX3_canFeed_0 10 rfl rfl)
theorem dX3_canFeed_13 : decode cX3_canFeed 13 = .ok (.ifCond .ne 28, 3) := dk_154 0 28 (dk_at dksX3_canFeed_0 13 rfl rfl)
theorem dX3_canFeed_16 : decode cX3_canFeed 16 = .ok (.aload_n 0, 1) := dk_42 (dk_at dksX3_canFeed_0 16 rfl rfl)
theorem dX3_canFeed_17 : decode cX3_canFeed 17 = .ok (.getfield 7, 3) := dk_180 0 7 (dk_at dksX3_canFeed_0 17 rfl rfl)
theorem dX3_canFeed_20 : decode cX3_canFeed 20 = .ok (.bipush 7, 2) := dk_16 7 (dk_at dksX3_canFeed_0 20 rfl rfl)
theorem dX3_canFeed_22 : decode cX3_canFeed 22 = .ok (.iload_n 1, 1) := dk_27 (dk_at dksX3_canFeed_0 22 rfl rfl)
theorem dX3_canFeed_23 : decode cX3_canFeed 23 = .ok (.iadd, 1) := dk_96 (dk_at dksX3_canFeed_0 23 rfl rfl)
theorem dX3_canFeed_24 : decode cX3_canFeed 24 = .ok (.iaload, 1) := dk_46 (dk_at dksX3_canFeed_1 0 rfl rfl)
theorem dX3_canFeed_25 : decode cX3_canFeed 25 = .ok (.iload_n 3, 1) := dk_29 (dk_at dksX3_canFeed_1 1 rfl rfl)
theorem dX3_canFeed_26 : decode cX3_canFeed 26 = .ok (.iconst (-1), 1) := dk_2 (dk_at dksX3_canFeed_1 2 rfl rfl)
theorem dX3_canFeed_27 : decode cX3_canFeed 27 = .ok (.if_icmp .ne 7, 3) := dk_160 0 7 (dk_at dksX3_canFeed_1 3 rfl rfl)
theorem dX3_canFeed_30 : decode cX3_canFeed 30 = .ok (.iconst 1, 1) := dk_4 (dk_at dksX3_canFeed_1 6 rfl rfl)
theorem dX3_canFeed_31 : decode cX3_canFeed 31 = .ok (.goto 4, 3) := dk_167 0 4 (dk_at dksX3_canFeed_1 7 rfl rfl)
theorem dX3_canFeed_34 : decode cX3_canFeed 34 = .ok (.iconst 2, 1) := dk_5 (dk_at dksX3_canFeed_1 10 rfl rfl)
theorem dX3_canFeed_35 : decode cX3_canFeed 35 = .ok (.iadd, 1) := dk_96 (dk_at dksX3_canFeed_1 11 rfl rfl)
theorem dX3_canFeed_36 : decode cX3_canFeed 36 = .ok (.bipush 9, 2) := dk_16 9 (dk_at dksX3_canFeed_1 12 rfl rfl)
theorem dX3_canFeed_38 : decode cX3_canFeed 38 = .ok (.if_icmp .le 5, 3) := dk_164 0 5 (dk_at dksX3_canFeed_1 14 rfl rfl)
theorem dX3_canFeed_41 : decode cX3_canFeed 41 = .ok (.iconst 0, 1) := dk_3 (dk_at dksX3_canFeed_1 17 rfl rfl)
theorem dX3_canFeed_42 : decode cX3_canFeed 42 = .ok (.ireturn, 1) := dk_172 (dk_at dksX3_canFeed_1 18 rfl rfl)
theorem dX3_canFeed_43 : decode cX3_canFeed 43 = .ok (.aload_n 0, 1) := dk_42 (dk_at dksX3_canFeed_1 19 rfl rfl)
theorem dX3_canFeed_44 : decode cX3_canFeed 44 = .ok (.iload_n 1, 1) := dk_27 (dk_at dksX3_canFeed_1 20 rfl rfl)
theorem dX3_canFeed_45 : decode cX3_canFeed 45 = .ok (.invokevirtual 315, 3) := dk_182 1 59 (dk_at dksX3_canFeed_1 21 rfl rfl)
theorem dX3_canFeed_48 : decode cX3_canFeed 48 = .ok (.aload_n 0, 1) := dk_42 (dk_at dksX3_canFeed_2 0 rfl rfl)
theorem dX3_canFeed_49 : decode cX3_canFeed 49 = .ok (.getfield 7, 3) := dk_180 0 7 (dk_at dksX3_canFeed_2 1 rfl rfl)
theorem dX3_canFeed_52 : decode cX3_canFeed 52 = .ok (.bipush 79, 2) := dk_16 79 (dk_at dksX3_canFeed_2 4 rfl rfl)
theorem dX3_canFeed_54 : decode cX3_canFeed 54 = .ok (.iload_n 1, 1) := dk_27 (dk_at dksX3_canFeed_2 6 rfl rfl)
theorem dX3_canFeed_55 : decode cX3_canFeed 55 = .ok (.iadd, 1) := dk_96 (dk_at dksX3_canFeed_2 7 rfl rfl)
theorem dX3_canFeed_56 : decode cX3_canFeed 56 = .ok (.iaload, 1) := dk_46 (dk_at dksX3_canFeed_2 8 rfl rfl)
theorem dX3_canFeed_57 : decode cX3_canFeed 57 = .ok (.if_icmp .le 22, 3) := dk_164 0 22 (dk_at dksX3_canFeed_2 9 rfl rfl)
theorem dX3_canFeed_60 : decode cX3_canFeed 60 = .ok (.aload_n 0, 1) := dk_42 (dk_at dksX3_canFeed_2 12 rfl rfl)
theorem dX3_canFeed_61 : decode cX3_canFeed 61 = .ok (.getfield 7, 3) := dk_180 0 7 (dk_at dksX3_canFeed_2 13 rfl rfl)
theorem dX3_canFeed_64 : decode cX3_canFeed 64 = .ok (.iconst 1, 1) := dk_4 (dk_at dksX3_canFeed_2 16 rfl rfl)
theorem dX3_canFeed_65 : decode cX3_canFeed 65 = .ok (.iaload, 1) := dk_46 (dk_at dksX3_canFeed_2 17 rfl rfl)
theorem dX3_canFeed_66 : decode cX3_canFeed 66 = .ok (.aload_n 0, 1) := dk_42 (dk_at dksX3_canFeed_2 18 rfl rfl)
theorem dX3_canFeed_67 : decode cX3_canFeed 67 = .ok (.iload_n 2, 1) := dk_28 (dk_at dksX3_canFeed_2 19 rfl rfl)
theorem dX3_canFeed_68 : decode cX3_canFeed 68 = .ok (.iload_n 3, 1) := dk_29 (dk_at dksX3_canFeed_2 20 rfl rfl)
theorem dX3_canFeed_69 : decode cX3_canFeed 69 = .ok (.invokevirtual 318, 3) := dk_182 1 62 (dk_at dksX3_canFeed_2 21 rfl rfl)
theorem dX3_canFeed_72 : decode cX3_canFeed 72 = .ok (.if_icmp .lt 7, 3) := dk_161 0 7 (dk_at dksX3_canFeed_3 0 rfl rfl)
theorem dX3_canFeed_75 : decode cX3_canFeed 75 = .ok (.iconst 1, 1) := dk_4 (dk_at dksX3_canFeed_3 3 rfl rfl)
theorem dX3_canFeed_76 : decode cX3_canFeed 76 = .ok (.goto 4, 3) := dk_167 0 4 (dk_at dksX3_canFeed_3 4 rfl rfl)
theorem dX3_canFeed_79 : decode cX3_canFeed 79 = .ok (.iconst 0, 1) := dk_3 (dk_at dksX3_canFeed_3 7 rfl rfl)
theorem dX3_canFeed_80 : decode cX3_canFeed 80 = .ok (.ireturn, 1) := dk_172 (dk_at dksX3_canFeed_3 8 rfl rfl)
abbrev cX3_isSpun : ByteArray := prog_17_method_10_code
def yX3_isSpun : MethodName := ⟨RX3, "isSpun", "(I)Z"⟩
def dkwX3_isSpun_0 : List UInt8 := [42, 180, 0, 7, 16, 43, 27, 96, 46, 2, 159, 0, 7, 4, 167, 0, 4, 3, 172]
abbrev dktX3_isSpun_0 : List UInt8 := dkwX3_isSpun_0 ++ []
theorem dksX3_isSpun_0 : cX3_isSpun.data.toList.drop 0 = dktX3_isSpun_0 := by decide +kernel
theorem dX3_isSpun_0 : decode cX3_isSpun 0 = .ok (.aload_n 0, 1) := dk_42 (dk_at dksX3_isSpun_0 0 rfl rfl)
theorem dX3_isSpun_1 : decode cX3_isSpun 1 = .ok (.getfield 7, 3) := dk_180 0 7 (dk_at dksX3_isSpun_0 1 rfl rfl)
theorem dX3_isSpun_4 : decode cX3_isSpun 4 = .ok (.bipush 43, 2) := dk_16 43 (dk_at dksX3_isSpun_0 4 rfl rfl)
theorem dX3_isSpun_6 : decode cX3_isSpun 6 = .ok (.iload_n 1, 1) := dk_27 (dk_at dksX3_isSpun_0 6 rfl rfl)
theorem dX3_isSpun_7 : decode cX3_isSpun 7 = .ok (.iadd, 1) := dk_96 (dk_at dksX3_isSpun_0 7 rfl rfl)
theorem dX3_isSpun_8 : decode cX3_isSpun 8 = .ok (.iaload, 1) := dk_46 (dk_at dksX3_isSpun_0 8 rfl rfl)
theorem dX3_isSpun_9 : decode cX3_isSpun 9 = .ok (.iconst (-1), 1) := dk_2 (dk_at dksX3_isSpun_0 9 rfl rfl)
theorem dX3_isSpun_10 : decode cX3_isSpun 10 = .ok (.if_icmp .eq 7, 3) := dk_159 0 7 (dk_at dksX3_isSpun_0 10 rfl rfl)
theorem dX3_isSpun_13 : decode cX3_isSpun 13 = .ok (.iconst 1, 1) := dk_4 (dk_at dksX3_isSpun_0 13 rfl rfl)
theorem dX3_isSpun_14 : decode cX3_isSpun 14 = .ok (.goto 4, 3) := dk_167 0 4 (dk_at dksX3_isSpun_0 14 rfl rfl)
theorem dX3_isSpun_17 : decode cX3_isSpun 17 = .ok (.iconst 0, 1) := dk_3 (dk_at dksX3_isSpun_0 17 rfl rfl)
theorem dX3_isSpun_18 : decode cX3_isSpun 18 = .ok (.ireturn, 1) := dk_172 (dk_at dksX3_isSpun_0 18 rfl rfl)
abbrev cX3_isFlown : ByteArray := prog_17_method_9_code
def yX3_isFlown : MethodName := ⟨RX3, "isFlown", "(I)Z"⟩
def dkwX3_isFlown_0 : List UInt8 := [42, 180, 0, 7, 16, 67, 27, 96, 46, 4, 160, 0, 7, 4, 167, 0, 4, 3, 172]
abbrev dktX3_isFlown_0 : List UInt8 := dkwX3_isFlown_0 ++ []
theorem dksX3_isFlown_0 : cX3_isFlown.data.toList.drop 0 = dktX3_isFlown_0 := by decide +kernel
theorem dX3_isFlown_0 : decode cX3_isFlown 0 = .ok (.aload_n 0, 1) := dk_42 (dk_at dksX3_isFlown_0 0 rfl rfl)
theorem dX3_isFlown_1 : decode cX3_isFlown 1 = .ok (.getfield 7, 3) := dk_180 0 7 (dk_at dksX3_isFlown_0 1 rfl rfl)
theorem dX3_isFlown_4 : decode cX3_isFlown 4 = .ok (.bipush 67, 2) := dk_16 67 (dk_at dksX3_isFlown_0 4 rfl rfl)
theorem dX3_isFlown_6 : decode cX3_isFlown 6 = .ok (.iload_n 1, 1) := dk_27 (dk_at dksX3_isFlown_0 6 rfl rfl)
theorem dX3_isFlown_7 : decode cX3_isFlown 7 = .ok (.iadd, 1) := dk_96 (dk_at dksX3_isFlown_0 7 rfl rfl)
theorem dX3_isFlown_8 : decode cX3_isFlown 8 = .ok (.iaload, 1) := dk_46 (dk_at dksX3_isFlown_0 8 rfl rfl)
theorem dX3_isFlown_9 : decode cX3_isFlown 9 = .ok (.iconst 1, 1) := dk_4 (dk_at dksX3_isFlown_0 9 rfl rfl)
theorem dX3_isFlown_10 : decode cX3_isFlown 10 = .ok (.if_icmp .ne 7, 3) := dk_160 0 7 (dk_at dksX3_isFlown_0 10 rfl rfl)
theorem dX3_isFlown_13 : decode cX3_isFlown 13 = .ok (.iconst 1, 1) := dk_4 (dk_at dksX3_isFlown_0 13 rfl rfl)
theorem dX3_isFlown_14 : decode cX3_isFlown 14 = .ok (.goto 4, 3) := dk_167 0 4 (dk_at dksX3_isFlown_0 14 rfl rfl)
theorem dX3_isFlown_17 : decode cX3_isFlown 17 = .ok (.iconst 0, 1) := dk_3 (dk_at dksX3_isFlown_0 17 rfl rfl)
theorem dX3_isFlown_18 : decode cX3_isFlown 18 = .ok (.ireturn, 1) := dk_172 (dk_at dksX3_isFlown_0 18 rfl rfl)
abbrev cX3_eatsOf : ByteArray := prog_17_method_56_code
def yX3_eatsOf : MethodName := ⟨RX3, "eatsOf", "(I)I"⟩
def dkwX3_eatsOf_0 : List UInt8 := [42, 16, 20, 27, 3, 3, 6, 6, 182, 1, 39, 172]
abbrev dktX3_eatsOf_0 : List UInt8 := dkwX3_eatsOf_0 ++ []
theorem dksX3_eatsOf_0 : cX3_eatsOf.data.toList.drop 0 = dktX3_eatsOf_0 := by decide +kernel
theorem dX3_eatsOf_0 : decode cX3_eatsOf 0 = .ok (.aload_n 0, 1) := dk_42 (dk_at dksX3_eatsOf_0 0 rfl rfl)
theorem dX3_eatsOf_1 : decode cX3_eatsOf 1 = .ok (.bipush 20, 2) := dk_16 20 (dk_at dksX3_eatsOf_0 1 rfl rfl)
theorem dX3_eatsOf_3 : decode cX3_eatsOf 3 = .ok (.iload_n 1, 1) := dk_27 (dk_at dksX3_eatsOf_0 3 rfl rfl)
theorem dX3_eatsOf_4 : decode cX3_eatsOf 4 = .ok (.iconst 0, 1) := dk_3 (dk_at dksX3_eatsOf_0 4 rfl rfl)
theorem dX3_eatsOf_5 : decode cX3_eatsOf 5 = .ok (.iconst 0, 1) := dk_3 (dk_at dksX3_eatsOf_0 5 rfl rfl)
theorem dX3_eatsOf_6 : decode cX3_eatsOf 6 = .ok (.iconst 3, 1) := dk_6 (dk_at dksX3_eatsOf_0 6 rfl rfl)
theorem dX3_eatsOf_7 : decode cX3_eatsOf 7 = .ok (.iconst 3, 1) := dk_6 (dk_at dksX3_eatsOf_0 7 rfl rfl)
theorem dX3_eatsOf_8 : decode cX3_eatsOf 8 = .ok (.invokevirtual 295, 3) := dk_182 1 39 (dk_at dksX3_eatsOf_0 8 rfl rfl)
theorem dX3_eatsOf_11 : decode cX3_eatsOf 11 = .ok (.ireturn, 1) := dk_172 (dk_at dksX3_eatsOf_0 11 rfl rfl)
abbrev cX3_says : ByteArray := prog_17_method_55_code
def yX3_says : MethodName := ⟨RX3, "says", "(IIIIII)I"⟩
def dkwX3_says_9 : List UInt8 := [21, 6, 21, 5, 184, 0, 235, 184, 1, 36, 172]
abbrev dktX3_says_9 : List UInt8 := dkwX3_says_9 ++ []
def dkwX3_says_8 : List UInt8 := [17, 5, 207, 21, 7, 96, 46, 182, 1, 30, 184, 0, 235, 184, 1, 36, 172, 132, 7, 1, 167, 255, 179, 3]
abbrev dktX3_says_8 : List UInt8 := dkwX3_says_8 ++ dktX3_says_9
def dkwX3_says_7 : List UInt8 := [153, 0, 40, 3, 21, 6, 42, 3, 42, 180, 0, 7, 17, 5, 191, 21, 7, 96, 46, 42, 180, 0, 7]
abbrev dktX3_says_7 : List UInt8 := dkwX3_says_7 ++ dktX3_says_8
def dkwX3_says_6 : List UInt8 := [162, 0, 70, 42, 180, 0, 7, 17, 5, 239, 21, 7, 96, 46, 27, 160, 0, 49, 42, 21, 7, 182, 1, 33]
abbrev dktX3_says_6 : List UInt8 := dkwX3_says_6 ++ dktX3_says_7
def dkwX3_says_5 : List UInt8 := [16, 10, 42, 180, 0, 7, 3, 46, 79, 3, 54, 7, 21, 7, 42, 180, 0, 7, 17, 2, 62, 46]
abbrev dktX3_says_5 : List UInt8 := dkwX3_says_5 ++ dktX3_says_6
def dkwX3_says_4 : List UInt8 := [4, 46, 79, 42, 180, 0, 37, 16, 8, 29, 79, 42, 180, 0, 37, 16, 9, 21, 4, 79, 42, 180, 0, 37]
abbrev dktX3_says_4 : List UInt8 := dkwX3_says_4 ++ dktX3_says_5
def dkwX3_says_3 : List UInt8 := [180, 0, 37, 16, 6, 42, 180, 0, 7, 17, 2, 61, 46, 79, 42, 180, 0, 37, 16, 7, 42, 180, 0, 7]
abbrev dktX3_says_3 : List UInt8 := dkwX3_says_3 ++ dktX3_says_4
def dkwX3_says_2 : List UInt8 := [16, 7, 28, 96, 46, 79, 42, 180, 0, 37, 8, 42, 180, 0, 7, 16, 19, 28, 96, 46, 79, 42]
abbrev dktX3_says_2 : List UInt8 := dkwX3_says_2 ++ dktX3_says_3
def dkwX3_says_1 : List UInt8 := [180, 0, 37, 6, 42, 180, 0, 7, 17, 2, 81, 28, 96, 46, 79, 42, 180, 0, 37, 7, 42, 180, 0, 7]
abbrev dktX3_says_1 : List UInt8 := dkwX3_says_1 ++ dktX3_says_2
def dkwX3_says_0 : List UInt8 := [42, 180, 0, 37, 4, 28, 79, 42, 180, 0, 37, 5, 42, 180, 0, 7, 17, 2, 69, 28, 96, 46, 79, 42]
abbrev dktX3_says_0 : List UInt8 := dkwX3_says_0 ++ dktX3_says_1
theorem dksX3_says_0 : cX3_says.data.toList.drop 0 = dktX3_says_0 := by decide +kernel
theorem dksX3_says_1 : cX3_says.data.toList.drop 24 = dktX3_says_1 := dk_seg dksX3_says_0 24 rfl rfl
theorem dksX3_says_2 : cX3_says.data.toList.drop 48 = dktX3_says_2 := dk_seg dksX3_says_1 24 rfl rfl
theorem dksX3_says_3 : cX3_says.data.toList.drop 70 = dktX3_says_3 := dk_seg dksX3_says_2 22 rfl rfl
theorem dksX3_says_4 : cX3_says.data.toList.drop 94 = dktX3_says_4 := dk_seg dksX3_says_3 24 rfl rfl
theorem dksX3_says_5 : cX3_says.data.toList.drop 118 = dktX3_says_5 := dk_seg dksX3_says_4 24 rfl rfl
theorem dksX3_says_6 : cX3_says.data.toList.drop 140 = dktX3_says_6 := dk_seg dksX3_says_5 22 rfl rfl
theorem dksX3_says_7 : cX3_says.data.toList.drop 164 = dktX3_says_7 := dk_seg dksX3_says_6 24 rfl rfl
theorem dksX3_says_8 : cX3_says.data.toList.drop 187 = dktX3_says_8 := dk_seg dksX3_says_7 23 rfl rfl
theorem dksX3_says_9 : cX3_says.data.toList.drop 211 = dktX3_says_9 := dk_seg dksX3_says_8 24 rfl rfl
theorem dX3_says_0 : decode cX3_says 0 = .ok (.aload_n 0, 1) := dk_42 (dk_at dksX3_says_0 0 rfl rfl)
theorem dX3_says_1 : decode cX3_says 1 = .ok (.getfield 37, 3) := dk_180 0 37 (dk_at dksX3_says_0 1 rfl rfl)
theorem dX3_says_4 : decode cX3_says 4 = .ok (.iconst 1, 1) := dk_4 (dk_at dksX3_says_0 4 rfl rfl)
theorem dX3_says_5 : decode cX3_says 5 = .ok (.iload_n 2, 1) := dk_28 (dk_at dksX3_says_0 5 rfl rfl)
theorem dX3_says_6 : decode cX3_says 6 = .ok (.iastore, 1) := dk_79 (dk_at dksX3_says_0 6 rfl rfl)
theorem dX3_says_7 : decode cX3_says 7 = .ok (.aload_n 0, 1) := dk_42 (dk_at dksX3_says_0 7 rfl rfl)
theorem dX3_says_8 : decode cX3_says 8 = .ok (.getfield 37, 3) := dk_180 0 37 (dk_at dksX3_says_0 8 rfl rfl)
theorem dX3_says_11 : decode cX3_says 11 = .ok (.iconst 2, 1) := dk_5 (dk_at dksX3_says_0 11 rfl rfl)
theorem dX3_says_12 : decode cX3_says 12 = .ok (.aload_n 0, 1) := dk_42 (dk_at dksX3_says_0 12 rfl rfl)
theorem dX3_says_13 : decode cX3_says 13 = .ok (.getfield 7, 3) := dk_180 0 7 (dk_at dksX3_says_0 13 rfl rfl)
theorem dX3_says_16 : decode cX3_says 16 = .ok (.sipush 581, 3) := dk_17 2 69 (dk_at dksX3_says_0 16 rfl rfl)
theorem dX3_says_19 : decode cX3_says 19 = .ok (.iload_n 2, 1) := dk_28 (dk_at dksX3_says_0 19 rfl rfl)
theorem dX3_says_20 : decode cX3_says 20 = .ok (.iadd, 1) := dk_96 (dk_at dksX3_says_0 20 rfl rfl)
theorem dX3_says_21 : decode cX3_says 21 = .ok (.iaload, 1) := dk_46 (dk_at dksX3_says_0 21 rfl rfl)
theorem dX3_says_22 : decode cX3_says 22 = .ok (.iastore, 1) := dk_79 (dk_at dksX3_says_0 22 rfl rfl)
theorem dX3_says_23 : decode cX3_says 23 = .ok (.aload_n 0, 1) := dk_42 (dk_at dksX3_says_0 23 rfl rfl)
theorem dX3_says_24 : decode cX3_says 24 = .ok (.getfield 37, 3) := dk_180 0 37 (dk_at dksX3_says_1 0 rfl rfl)
theorem dX3_says_27 : decode cX3_says 27 = .ok (.iconst 3, 1) := dk_6 (dk_at dksX3_says_1 3 rfl rfl)
theorem dX3_says_28 : decode cX3_says 28 = .ok (.aload_n 0, 1) := dk_42 (dk_at dksX3_says_1 4 rfl rfl)
theorem dX3_says_29 : decode cX3_says 29 = .ok (.getfield 7, 3) := dk_180 0 7 (dk_at dksX3_says_1 5 rfl rfl)
theorem dX3_says_32 : decode cX3_says 32 = .ok (.sipush 593, 3) := dk_17 2 81 (dk_at dksX3_says_1 8 rfl rfl)
theorem dX3_says_35 : decode cX3_says 35 = .ok (.iload_n 2, 1) := dk_28 (dk_at dksX3_says_1 11 rfl rfl)
theorem dX3_says_36 : decode cX3_says 36 = .ok (.iadd, 1) := dk_96 (dk_at dksX3_says_1 12 rfl rfl)
theorem dX3_says_37 : decode cX3_says 37 = .ok (.iaload, 1) := dk_46 (dk_at dksX3_says_1 13 rfl rfl)
theorem dX3_says_38 : decode cX3_says 38 = .ok (.iastore, 1) := dk_79 (dk_at dksX3_says_1 14 rfl rfl)
theorem dX3_says_39 : decode cX3_says 39 = .ok (.aload_n 0, 1) := dk_42 (dk_at dksX3_says_1 15 rfl rfl)
theorem dX3_says_40 : decode cX3_says 40 = .ok (.getfield 37, 3) := dk_180 0 37 (dk_at dksX3_says_1 16 rfl rfl)
theorem dX3_says_43 : decode cX3_says 43 = .ok (.iconst 4, 1) := dk_7 (dk_at dksX3_says_1 19 rfl rfl)
theorem dX3_says_44 : decode cX3_says 44 = .ok (.aload_n 0, 1) := dk_42 (dk_at dksX3_says_1 20 rfl rfl)
theorem dX3_says_45 : decode cX3_says 45 = .ok (.getfield 7, 3) := dk_180 0 7 (dk_at dksX3_says_1 21 rfl rfl)
theorem dX3_says_48 : decode cX3_says 48 = .ok (.bipush 7, 2) := dk_16 7 (dk_at dksX3_says_2 0 rfl rfl)
theorem dX3_says_50 : decode cX3_says 50 = .ok (.iload_n 2, 1) := dk_28 (dk_at dksX3_says_2 2 rfl rfl)
theorem dX3_says_51 : decode cX3_says 51 = .ok (.iadd, 1) := dk_96 (dk_at dksX3_says_2 3 rfl rfl)
theorem dX3_says_52 : decode cX3_says 52 = .ok (.iaload, 1) := dk_46 (dk_at dksX3_says_2 4 rfl rfl)
theorem dX3_says_53 : decode cX3_says 53 = .ok (.iastore, 1) := dk_79 (dk_at dksX3_says_2 5 rfl rfl)
theorem dX3_says_54 : decode cX3_says 54 = .ok (.aload_n 0, 1) := dk_42 (dk_at dksX3_says_2 6 rfl rfl)
theorem dX3_says_55 : decode cX3_says 55 = .ok (.getfield 37, 3) := dk_180 0 37 (dk_at dksX3_says_2 7 rfl rfl)
theorem dX3_says_58 : decode cX3_says 58 = .ok (.iconst 5, 1) := dk_8 (dk_at dksX3_says_2 10 rfl rfl)
theorem dX3_says_59 : decode cX3_says 59 = .ok (.aload_n 0, 1) := dk_42 (dk_at dksX3_says_2 11 rfl rfl)
theorem dX3_says_60 : decode cX3_says 60 = .ok (.getfield 7, 3) := dk_180 0 7 (dk_at dksX3_says_2 12 rfl rfl)
theorem dX3_says_63 : decode cX3_says 63 = .ok (.bipush 19, 2) := dk_16 19 (dk_at dksX3_says_2 15 rfl rfl)
theorem dX3_says_65 : decode cX3_says 65 = .ok (.iload_n 2, 1) := dk_28 (dk_at dksX3_says_2 17 rfl rfl)
theorem dX3_says_66 : decode cX3_says 66 = .ok (.iadd, 1) := dk_96 (dk_at dksX3_says_2 18 rfl rfl)
theorem dX3_says_67 : decode cX3_says 67 = .ok (.iaload, 1) := dk_46 (dk_at dksX3_says_2 19 rfl rfl)
theorem dX3_says_68 : decode cX3_says 68 = .ok (.iastore, 1) := dk_79 (dk_at dksX3_says_2 20 rfl rfl)
theorem dX3_says_69 : decode cX3_says 69 = .ok (.aload_n 0, 1) := dk_42 (dk_at dksX3_says_2 21 rfl rfl)
theorem dX3_says_70 : decode cX3_says 70 = .ok (.getfield 37, 3) := dk_180 0 37 (dk_at dksX3_says_3 0 rfl rfl)
theorem dX3_says_73 : decode cX3_says 73 = .ok (.bipush 6, 2) := dk_16 6 (dk_at dksX3_says_3 3 rfl rfl)
theorem dX3_says_75 : decode cX3_says 75 = .ok (.aload_n 0, 1) := dk_42 (dk_at dksX3_says_3 5 rfl rfl)
theorem dX3_says_76 : decode cX3_says 76 = .ok (.getfield 7, 3) := dk_180 0 7 (dk_at dksX3_says_3 6 rfl rfl)
theorem dX3_says_79 : decode cX3_says 79 = .ok (.sipush 573, 3) := dk_17 2 61 (dk_at dksX3_says_3 9 rfl rfl)
theorem dX3_says_82 : decode cX3_says 82 = .ok (.iaload, 1) := dk_46 (dk_at dksX3_says_3 12 rfl rfl)
theorem dX3_says_83 : decode cX3_says 83 = .ok (.iastore, 1) := dk_79 (dk_at dksX3_says_3 13 rfl rfl)
theorem dX3_says_84 : decode cX3_says 84 = .ok (.aload_n 0, 1) := dk_42 (dk_at dksX3_says_3 14 rfl rfl)
theorem dX3_says_85 : decode cX3_says 85 = .ok (.getfield 37, 3) := dk_180 0 37 (dk_at dksX3_says_3 15 rfl rfl)
theorem dX3_says_88 : decode cX3_says 88 = .ok (.bipush 7, 2) := dk_16 7 (dk_at dksX3_says_3 18 rfl rfl)
theorem dX3_says_90 : decode cX3_says 90 = .ok (.aload_n 0, 1) := dk_42 (dk_at dksX3_says_3 20 rfl rfl)
theorem dX3_says_91 : decode cX3_says 91 = .ok (.getfield 7, 3) := dk_180 0 7 (dk_at dksX3_says_3 21 rfl rfl)
theorem dX3_says_94 : decode cX3_says 94 = .ok (.iconst 1, 1) := dk_4 (dk_at dksX3_says_4 0 rfl rfl)
theorem dX3_says_95 : decode cX3_says 95 = .ok (.iaload, 1) := dk_46 (dk_at dksX3_says_4 1 rfl rfl)
theorem dX3_says_96 : decode cX3_says 96 = .ok (.iastore, 1) := dk_79 (dk_at dksX3_says_4 2 rfl rfl)
theorem dX3_says_97 : decode cX3_says 97 = .ok (.aload_n 0, 1) := dk_42 (dk_at dksX3_says_4 3 rfl rfl)
theorem dX3_says_98 : decode cX3_says 98 = .ok (.getfield 37, 3) := dk_180 0 37 (dk_at dksX3_says_4 4 rfl rfl)
theorem dX3_says_101 : decode cX3_says 101 = .ok (.bipush 8, 2) := dk_16 8 (dk_at dksX3_says_4 7 rfl rfl)
theorem dX3_says_103 : decode cX3_says 103 = .ok (.iload_n 3, 1) := dk_29 (dk_at dksX3_says_4 9 rfl rfl)
theorem dX3_says_104 : decode cX3_says 104 = .ok (.iastore, 1) := dk_79 (dk_at dksX3_says_4 10 rfl rfl)
theorem dX3_says_105 : decode cX3_says 105 = .ok (.aload_n 0, 1) := dk_42 (dk_at dksX3_says_4 11 rfl rfl)
theorem dX3_says_106 : decode cX3_says 106 = .ok (.getfield 37, 3) := dk_180 0 37 (dk_at dksX3_says_4 12 rfl rfl)
theorem dX3_says_109 : decode cX3_says 109 = .ok (.bipush 9, 2) := dk_16 9 (dk_at dksX3_says_4 15 rfl rfl)
theorem dX3_says_111 : decode cX3_says 111 = .ok (.iload 4, 2) := dk_21 4 (dk_at dksX3_says_4 17 rfl rfl)
theorem dX3_says_113 : decode cX3_says 113 = .ok (.iastore, 1) := dk_79 (dk_at dksX3_says_4 19 rfl rfl)
theorem dX3_says_114 : decode cX3_says 114 = .ok (.aload_n 0, 1) := dk_42 (dk_at dksX3_says_4 20 rfl rfl)
theorem dX3_says_115 : decode cX3_says 115 = .ok (.getfield 37, 3) := dk_180 0 37 (dk_at dksX3_says_4 21 rfl rfl)
theorem dX3_says_118 : decode cX3_says 118 = .ok (.bipush 10, 2) := dk_16 10 (dk_at dksX3_says_5 0 rfl rfl)
theorem dX3_says_120 : decode cX3_says 120 = .ok (.aload_n 0, 1) := dk_42 (dk_at dksX3_says_5 2 rfl rfl)
theorem dX3_says_121 : decode cX3_says 121 = .ok (.getfield 7, 3) := dk_180 0 7 (dk_at dksX3_says_5 3 rfl rfl)
theorem dX3_says_124 : decode cX3_says 124 = .ok (.iconst 0, 1) := dk_3 (dk_at dksX3_says_5 6 rfl rfl)
theorem dX3_says_125 : decode cX3_says 125 = .ok (.iaload, 1) := dk_46 (dk_at dksX3_says_5 7 rfl rfl)
theorem dX3_says_126 : decode cX3_says 126 = .ok (.iastore, 1) := dk_79 (dk_at dksX3_says_5 8 rfl rfl)
theorem dX3_says_127 : decode cX3_says 127 = .ok (.iconst 0, 1) := dk_3 (dk_at dksX3_says_5 9 rfl rfl)
theorem dX3_says_128 : decode cX3_says 128 = .ok (.istore 7, 2) := dk_54 7 (dk_at dksX3_says_5 10 rfl rfl)
theorem dX3_says_130 : decode cX3_says 130 = .ok (.iload 7, 2) := dk_21 7 (dk_at dksX3_says_5 12 rfl rfl)
theorem dX3_says_132 : decode cX3_says 132 = .ok (.aload_n 0, 1) := dk_42 (dk_at dksX3_says_5 14 rfl rfl)
theorem dX3_says_133 : decode cX3_says 133 = .ok (.getfield 7, 3) := dk_180 0 7 (dk_at dksX3_says_5 15 rfl rfl)
theorem dX3_says_136 : decode cX3_says 136 = .ok (.sipush 574, 3) := dk_17 2 62 (dk_at dksX3_says_5 18 rfl rfl)
theorem dX3_says_139 : decode cX3_says 139 = .ok (.iaload, 1) := dk_46 (dk_at dksX3_says_5 21 rfl rfl)
theorem dX3_says_140 : decode cX3_says 140 = .ok (.if_icmp .ge 70, 3) := dk_162 0 70 (dk_at dksX3_says_6 0 rfl rfl)
theorem dX3_says_143 : decode cX3_says 143 = .ok (.aload_n 0, 1) := dk_42 (dk_at dksX3_says_6 3 rfl rfl)
theorem dX3_says_144 : decode cX3_says 144 = .ok (.getfield 7, 3) := dk_180 0 7 (dk_at dksX3_says_6 4 rfl rfl)
theorem dX3_says_147 : decode cX3_says 147 = .ok (.sipush 1519, 3) := dk_17 5 239 (dk_at dksX3_says_6 7 rfl rfl)
theorem dX3_says_150 : decode cX3_says 150 = .ok (.iload 7, 2) := dk_21 7 (dk_at dksX3_says_6 10 rfl rfl)
theorem dX3_says_152 : decode cX3_says 152 = .ok (.iadd, 1) := dk_96 (dk_at dksX3_says_6 12 rfl rfl)
theorem dX3_says_153 : decode cX3_says 153 = .ok (.iaload, 1) := dk_46 (dk_at dksX3_says_6 13 rfl rfl)
theorem dX3_says_154 : decode cX3_says 154 = .ok (.iload_n 1, 1) := dk_27 (dk_at dksX3_says_6 14 rfl rfl)
theorem dX3_says_155 : decode cX3_says 155 = .ok (.if_icmp .ne 49, 3) := dk_160 0 49 (dk_at dksX3_says_6 15 rfl rfl)
theorem dX3_says_158 : decode cX3_says 158 = .ok (.aload_n 0, 1) := dk_42 (dk_at dksX3_says_6 18 rfl rfl)
theorem dX3_says_159 : decode cX3_says 159 = .ok (.iload 7, 2) := dk_21 7 (dk_at dksX3_says_6 19 rfl rfl)
theorem dX3_says_161 : decode cX3_says 161 = .ok (.invokevirtual 289, 3) := dk_182 1 33 (dk_at dksX3_says_6 21 rfl rfl)
theorem dX3_says_164 : decode cX3_says 164 = .ok (.ifCond .eq 40, 3) := dk_153 0 40 (dk_at dksX3_says_7 0 rfl rfl)
theorem dX3_says_167 : decode cX3_says 167 = .ok (.iconst 0, 1) := dk_3 (dk_at dksX3_says_7 3 rfl rfl)
theorem dX3_says_168 : decode cX3_says 168 = .ok (.iload 6, 2) := dk_21 6 (dk_at dksX3_says_7 4 rfl rfl)
theorem dX3_says_170 : decode cX3_says 170 = .ok (.aload_n 0, 1) := dk_42 (dk_at dksX3_says_7 6 rfl rfl)
theorem dX3_says_171 : decode cX3_says 171 = .ok (.iconst 0, 1) := dk_3 (dk_at dksX3_says_7 7 rfl rfl)
theorem dX3_says_172 : decode cX3_says 172 = .ok (.aload_n 0, 1) := dk_42 (dk_at dksX3_says_7 8 rfl rfl)
theorem dX3_says_173 : decode cX3_says 173 = .ok (.getfield 7, 3) := dk_180 0 7 (dk_at dksX3_says_7 9 rfl rfl)
theorem dX3_says_176 : decode cX3_says 176 = .ok (.sipush 1471, 3) := dk_17 5 191 (dk_at dksX3_says_7 12 rfl rfl)
theorem dX3_says_179 : decode cX3_says 179 = .ok (.iload 7, 2) := dk_21 7 (dk_at dksX3_says_7 15 rfl rfl)
theorem dX3_says_181 : decode cX3_says 181 = .ok (.iadd, 1) := dk_96 (dk_at dksX3_says_7 17 rfl rfl)
theorem dX3_says_182 : decode cX3_says 182 = .ok (.iaload, 1) := dk_46 (dk_at dksX3_says_7 18 rfl rfl)
theorem dX3_says_183 : decode cX3_says 183 = .ok (.aload_n 0, 1) := dk_42 (dk_at dksX3_says_7 19 rfl rfl)
theorem dX3_says_184 : decode cX3_says 184 = .ok (.getfield 7, 3) := dk_180 0 7 (dk_at dksX3_says_7 20 rfl rfl)
theorem dX3_says_187 : decode cX3_says 187 = .ok (.sipush 1487, 3) := dk_17 5 207 (dk_at dksX3_says_8 0 rfl rfl)
theorem dX3_says_190 : decode cX3_says 190 = .ok (.iload 7, 2) := dk_21 7 (dk_at dksX3_says_8 3 rfl rfl)
theorem dX3_says_192 : decode cX3_says 192 = .ok (.iadd, 1) := dk_96 (dk_at dksX3_says_8 5 rfl rfl)
theorem dX3_says_193 : decode cX3_says 193 = .ok (.iaload, 1) := dk_46 (dk_at dksX3_says_8 6 rfl rfl)
theorem dX3_says_194 : decode cX3_says 194 = .ok (.invokevirtual 286, 3) := dk_182 1 30 (dk_at dksX3_says_8 7 rfl rfl)
theorem dX3_says_197 : decode cX3_says 197 = .ok (.invokestatic 235, 3) := dk_184 0 235 (dk_at dksX3_says_8 10 rfl rfl)
theorem dX3_says_200 : decode cX3_says 200 = .ok (.invokestatic 292, 3) := dk_184 1 36 (dk_at dksX3_says_8 13 rfl rfl)
theorem dX3_says_203 : decode cX3_says 203 = .ok (.ireturn, 1) := dk_172 (dk_at dksX3_says_8 16 rfl rfl)
theorem dX3_says_204 : decode cX3_says 204 = .ok (.iinc 7 1, 3) := dk_132 7 1 (dk_at dksX3_says_8 17 rfl rfl)
theorem dX3_says_207 : decode cX3_says 207 = .ok (.goto (-77), 3) := dk_167 255 179 (dk_at dksX3_says_8 20 rfl rfl)
theorem dX3_says_210 : decode cX3_says 210 = .ok (.iconst 0, 1) := dk_3 (dk_at dksX3_says_8 23 rfl rfl)
theorem dX3_says_211 : decode cX3_says 211 = .ok (.iload 6, 2) := dk_21 6 (dk_at dksX3_says_9 0 rfl rfl)
theorem dX3_says_213 : decode cX3_says 213 = .ok (.iload 5, 2) := dk_21 5 (dk_at dksX3_says_9 2 rfl rfl)
theorem dX3_says_215 : decode cX3_says 215 = .ok (.invokestatic 235, 3) := dk_184 0 235 (dk_at dksX3_says_9 4 rfl rfl)
theorem dX3_says_218 : decode cX3_says 218 = .ok (.invokestatic 292, 3) := dk_184 1 36 (dk_at dksX3_says_9 7 rfl rfl)
theorem dX3_says_221 : decode cX3_says 221 = .ok (.ireturn, 1) := dk_172 (dk_at dksX3_says_9 10 rfl rfl)
abbrev cX3_isSo : ByteArray := prog_17_method_54_code
def yX3_isSo : MethodName := ⟨RX3, "isSo", "(I)Z"⟩
def dkwX3_isSo_2 : List UInt8 := [4, 160, 0, 7, 4, 167, 0, 4, 3, 172]
abbrev dktX3_isSo_2 : List UInt8 := dkwX3_isSo_2 ++ []
def dkwX3_isSo_1 : List UInt8 := [3, 42, 180, 0, 7, 17, 5, 207, 27, 96, 46, 42, 180, 0, 7, 17, 5, 223, 27, 96, 46, 182, 1, 30]
abbrev dktX3_isSo_1 : List UInt8 := dkwX3_isSo_1 ++ dktX3_isSo_2
def dkwX3_isSo_0 : List UInt8 := [42, 180, 0, 7, 17, 5, 223, 27, 96, 46, 42, 180, 0, 7, 17, 5, 207, 27, 96, 46, 159, 0, 32, 42]
abbrev dktX3_isSo_0 : List UInt8 := dkwX3_isSo_0 ++ dktX3_isSo_1
theorem dksX3_isSo_0 : cX3_isSo.data.toList.drop 0 = dktX3_isSo_0 := by decide +kernel
theorem dksX3_isSo_1 : cX3_isSo.data.toList.drop 24 = dktX3_isSo_1 := dk_seg dksX3_isSo_0 24 rfl rfl
theorem dksX3_isSo_2 : cX3_isSo.data.toList.drop 48 = dktX3_isSo_2 := dk_seg dksX3_isSo_1 24 rfl rfl
theorem dX3_isSo_0 : decode cX3_isSo 0 = .ok (.aload_n 0, 1) := dk_42 (dk_at dksX3_isSo_0 0 rfl rfl)
theorem dX3_isSo_1 : decode cX3_isSo 1 = .ok (.getfield 7, 3) := dk_180 0 7 (dk_at dksX3_isSo_0 1 rfl rfl)
theorem dX3_isSo_4 : decode cX3_isSo 4 = .ok (.sipush 1503, 3) := dk_17 5 223 (dk_at dksX3_isSo_0 4 rfl rfl)
theorem dX3_isSo_7 : decode cX3_isSo 7 = .ok (.iload_n 1, 1) := dk_27 (dk_at dksX3_isSo_0 7 rfl rfl)
theorem dX3_isSo_8 : decode cX3_isSo 8 = .ok (.iadd, 1) := dk_96 (dk_at dksX3_isSo_0 8 rfl rfl)
theorem dX3_isSo_9 : decode cX3_isSo 9 = .ok (.iaload, 1) := dk_46 (dk_at dksX3_isSo_0 9 rfl rfl)
theorem dX3_isSo_10 : decode cX3_isSo 10 = .ok (.aload_n 0, 1) := dk_42 (dk_at dksX3_isSo_0 10 rfl rfl)
theorem dX3_isSo_11 : decode cX3_isSo 11 = .ok (.getfield 7, 3) := dk_180 0 7 (dk_at dksX3_isSo_0 11 rfl rfl)
theorem dX3_isSo_14 : decode cX3_isSo 14 = .ok (.sipush 1487, 3) := dk_17 5 207 (dk_at dksX3_isSo_0 14 rfl rfl)
theorem dX3_isSo_17 : decode cX3_isSo 17 = .ok (.iload_n 1, 1) := dk_27 (dk_at dksX3_isSo_0 17 rfl rfl)
theorem dX3_isSo_18 : decode cX3_isSo 18 = .ok (.iadd, 1) := dk_96 (dk_at dksX3_isSo_0 18 rfl rfl)
theorem dX3_isSo_19 : decode cX3_isSo 19 = .ok (.iaload, 1) := dk_46 (dk_at dksX3_isSo_0 19 rfl rfl)
theorem dX3_isSo_20 : decode cX3_isSo 20 = .ok (.if_icmp .eq 32, 3) := dk_159 0 32 (dk_at dksX3_isSo_0 20 rfl rfl)
theorem dX3_isSo_23 : decode cX3_isSo 23 = .ok (.aload_n 0, 1) := dk_42 (dk_at dksX3_isSo_0 23 rfl rfl)
theorem dX3_isSo_24 : decode cX3_isSo 24 = .ok (.iconst 0, 1) := dk_3 (dk_at dksX3_isSo_1 0 rfl rfl)
theorem dX3_isSo_25 : decode cX3_isSo 25 = .ok (.aload_n 0, 1) := dk_42 (dk_at dksX3_isSo_1 1 rfl rfl)
theorem dX3_isSo_26 : decode cX3_isSo 26 = .ok (.getfield 7, 3) := dk_180 0 7 (dk_at dksX3_isSo_1 2 rfl rfl)
theorem dX3_isSo_29 : decode cX3_isSo 29 = .ok (.sipush 1487, 3) := dk_17 5 207 (dk_at dksX3_isSo_1 5 rfl rfl)
theorem dX3_isSo_32 : decode cX3_isSo 32 = .ok (.iload_n 1, 1) := dk_27 (dk_at dksX3_isSo_1 8 rfl rfl)
theorem dX3_isSo_33 : decode cX3_isSo 33 = .ok (.iadd, 1) := dk_96 (dk_at dksX3_isSo_1 9 rfl rfl)
theorem dX3_isSo_34 : decode cX3_isSo 34 = .ok (.iaload, 1) := dk_46 (dk_at dksX3_isSo_1 10 rfl rfl)
theorem dX3_isSo_35 : decode cX3_isSo 35 = .ok (.aload_n 0, 1) := dk_42 (dk_at dksX3_isSo_1 11 rfl rfl)
theorem dX3_isSo_36 : decode cX3_isSo 36 = .ok (.getfield 7, 3) := dk_180 0 7 (dk_at dksX3_isSo_1 12 rfl rfl)
theorem dX3_isSo_39 : decode cX3_isSo 39 = .ok (.sipush 1503, 3) := dk_17 5 223 (dk_at dksX3_isSo_1 15 rfl rfl)
theorem dX3_isSo_42 : decode cX3_isSo 42 = .ok (.iload_n 1, 1) := dk_27 (dk_at dksX3_isSo_1 18 rfl rfl)
theorem dX3_isSo_43 : decode cX3_isSo 43 = .ok (.iadd, 1) := dk_96 (dk_at dksX3_isSo_1 19 rfl rfl)
theorem dX3_isSo_44 : decode cX3_isSo 44 = .ok (.iaload, 1) := dk_46 (dk_at dksX3_isSo_1 20 rfl rfl)
theorem dX3_isSo_45 : decode cX3_isSo 45 = .ok (.invokevirtual 286, 3) := dk_182 1 30 (dk_at dksX3_isSo_1 21 rfl rfl)
theorem dX3_isSo_48 : decode cX3_isSo 48 = .ok (.iconst 1, 1) := dk_4 (dk_at dksX3_isSo_2 0 rfl rfl)
theorem dX3_isSo_49 : decode cX3_isSo 49 = .ok (.if_icmp .ne 7, 3) := dk_160 0 7 (dk_at dksX3_isSo_2 1 rfl rfl)
theorem dX3_isSo_52 : decode cX3_isSo 52 = .ok (.iconst 1, 1) := dk_4 (dk_at dksX3_isSo_2 4 rfl rfl)
theorem dX3_isSo_53 : decode cX3_isSo 53 = .ok (.goto 4, 3) := dk_167 0 4 (dk_at dksX3_isSo_2 5 rfl rfl)
theorem dX3_isSo_56 : decode cX3_isSo 56 = .ok (.iconst 0, 1) := dk_3 (dk_at dksX3_isSo_2 8 rfl rfl)
theorem dX3_isSo_57 : decode cX3_isSo 57 = .ok (.ireturn, 1) := dk_172 (dk_at dksX3_isSo_2 9 rfl rfl)
abbrev cX3_comesTo : ByteArray := prog_17_method_53_code
def yX3_comesTo : MethodName := ⟨RX3, "comesTo", "(III)I"⟩
def dkwX3_comesTo_8 : List UInt8 := [46, 172]
abbrev dktX3_comesTo_8 : List UInt8 := dkwX3_comesTo_8 ++ []
def dkwX3_comesTo_7 : List UInt8 := [100, 46, 42, 180, 0, 34, 21, 4, 46, 184, 1, 27, 79, 132, 5, 1, 167, 255, 79, 42, 180, 0, 34, 3]
abbrev dktX3_comesTo_7 : List UInt8 := dkwX3_comesTo_7 ++ dktX3_comesTo_8
def dkwX3_comesTo_6 : List UInt8 := [79, 167, 0, 36, 132, 4, 255, 42, 180, 0, 34, 21, 4, 4, 100, 21, 6, 42, 180, 0, 34, 21, 4, 4]
abbrev dktX3_comesTo_6 : List UInt8 := dkwX3_comesTo_6 ++ dktX3_comesTo_7
def dkwX3_comesTo_5 : List UInt8 := [16, 30, 160, 0, 26, 42, 180, 0, 34, 21, 4, 4, 100, 4, 42, 180, 0, 34, 21, 4, 4, 100, 46, 100]
abbrev dktX3_comesTo_5 : List UInt8 := dkwX3_comesTo_5 ++ dktX3_comesTo_6
def dkwX3_comesTo_4 : List UInt8 := [16, 26, 160, 0, 20, 42, 180, 0, 34, 21, 4, 4, 100, 92, 46, 21, 7, 108, 79, 167, 0, 66, 21, 6]
abbrev dktX3_comesTo_4 : List UInt8 := dkwX3_comesTo_4 ++ dktX3_comesTo_5
def dkwX3_comesTo_3 : List UInt8 := [154, 0, 8, 21, 7, 167, 0, 10, 42, 180, 0, 37, 21, 6, 46, 79, 132, 4, 1, 167, 0, 90, 21, 6]
abbrev dktX3_comesTo_3 : List UInt8 := dkwX3_comesTo_3 ++ dktX3_comesTo_4
def dkwX3_comesTo_2 : List UInt8 := [21, 5, 104, 96, 4, 96, 46, 54, 7, 21, 6, 16, 23, 162, 0, 33, 42, 180, 0, 34, 21, 4, 21, 6]
abbrev dktX3_comesTo_2 : List UInt8 := dkwX3_comesTo_2 ++ dktX3_comesTo_3
def dkwX3_comesTo_1 : List UInt8 := [96, 5, 21, 5, 104, 96, 46, 54, 6, 42, 180, 0, 7, 17, 5, 255, 17, 3, 52, 27, 104, 96, 5]
abbrev dktX3_comesTo_1 : List UInt8 := dkwX3_comesTo_1 ++ dktX3_comesTo_2
def dkwX3_comesTo_0 : List UInt8 := [3, 54, 4, 28, 54, 5, 21, 5, 29, 162, 0, 177, 42, 180, 0, 7, 17, 5, 255, 17, 3, 52, 27, 104]
abbrev dktX3_comesTo_0 : List UInt8 := dkwX3_comesTo_0 ++ dktX3_comesTo_1
theorem dksX3_comesTo_0 : cX3_comesTo.data.toList.drop 0 = dktX3_comesTo_0 := by decide +kernel
theorem dksX3_comesTo_1 : cX3_comesTo.data.toList.drop 24 = dktX3_comesTo_1 := dk_seg dksX3_comesTo_0 24 rfl rfl
theorem dksX3_comesTo_2 : cX3_comesTo.data.toList.drop 47 = dktX3_comesTo_2 := dk_seg dksX3_comesTo_1 23 rfl rfl
theorem dksX3_comesTo_3 : cX3_comesTo.data.toList.drop 71 = dktX3_comesTo_3 := dk_seg dksX3_comesTo_2 24 rfl rfl
theorem dksX3_comesTo_4 : cX3_comesTo.data.toList.drop 95 = dktX3_comesTo_4 := dk_seg dksX3_comesTo_3 24 rfl rfl
theorem dksX3_comesTo_5 : cX3_comesTo.data.toList.drop 119 = dktX3_comesTo_5 := dk_seg dksX3_comesTo_4 24 rfl rfl
theorem dksX3_comesTo_6 : cX3_comesTo.data.toList.drop 143 = dktX3_comesTo_6 := dk_seg dksX3_comesTo_5 24 rfl rfl
theorem dksX3_comesTo_7 : cX3_comesTo.data.toList.drop 167 = dktX3_comesTo_7 := dk_seg dksX3_comesTo_6 24 rfl rfl
theorem dksX3_comesTo_8 : cX3_comesTo.data.toList.drop 191 = dktX3_comesTo_8 := dk_seg dksX3_comesTo_7 24 rfl rfl
theorem dX3_comesTo_0 : decode cX3_comesTo 0 = .ok (.iconst 0, 1) := dk_3 (dk_at dksX3_comesTo_0 0 rfl rfl)
theorem dX3_comesTo_1 : decode cX3_comesTo 1 = .ok (.istore 4, 2) := dk_54 4 (dk_at dksX3_comesTo_0 1 rfl rfl)
theorem dX3_comesTo_3 : decode cX3_comesTo 3 = .ok (.iload_n 2, 1) := dk_28 (dk_at dksX3_comesTo_0 3 rfl rfl)
theorem dX3_comesTo_4 : decode cX3_comesTo 4 = .ok (.istore 5, 2) := dk_54 5 (dk_at dksX3_comesTo_0 4 rfl rfl)
theorem dX3_comesTo_6 : decode cX3_comesTo 6 = .ok (.iload 5, 2) := dk_21 5 (dk_at dksX3_comesTo_0 6 rfl rfl)
theorem dX3_comesTo_8 : decode cX3_comesTo 8 = .ok (.iload_n 3, 1) := dk_29 (dk_at dksX3_comesTo_0 8 rfl rfl)
theorem dX3_comesTo_9 : decode cX3_comesTo 9 = .ok (.if_icmp .ge 177, 3) := dk_162 0 177 (dk_at dksX3_comesTo_0 9 rfl rfl)
theorem dX3_comesTo_12 : decode cX3_comesTo 12 = .ok (.aload_n 0, 1) := dk_42 (dk_at dksX3_comesTo_0 12 rfl rfl)
theorem dX3_comesTo_13 : decode cX3_comesTo 13 = .ok (.getfield 7, 3) := dk_180 0 7 (dk_at dksX3_comesTo_0 13 rfl rfl)
theorem dX3_comesTo_16 : decode cX3_comesTo 16 = .ok (.sipush 1535, 3) := dk_17 5 255 (dk_at dksX3_comesTo_0 16 rfl rfl)
theorem dX3_comesTo_19 : decode cX3_comesTo 19 = .ok (.sipush 820, 3) := dk_17 3 52 (dk_at dksX3_comesTo_0 19 rfl rfl)
theorem dX3_comesTo_22 : decode cX3_comesTo 22 = .ok (.iload_n 1, 1) := dk_27 (dk_at dksX3_comesTo_0 22 rfl rfl)
theorem dX3_comesTo_23 : decode cX3_comesTo 23 = .ok (.imul, 1) := dk_104 (dk_at dksX3_comesTo_0 23 rfl rfl)
theorem dX3_comesTo_24 : decode cX3_comesTo 24 = .ok (.iadd, 1) := dk_96 (dk_at dksX3_comesTo_1 0 rfl rfl)
theorem dX3_comesTo_25 : decode cX3_comesTo 25 = .ok (.iconst 2, 1) := dk_5 (dk_at dksX3_comesTo_1 1 rfl rfl)
theorem dX3_comesTo_26 : decode cX3_comesTo 26 = .ok (.iload 5, 2) := dk_21 5 (dk_at dksX3_comesTo_1 2 rfl rfl)
theorem dX3_comesTo_28 : decode cX3_comesTo 28 = .ok (.imul, 1) := dk_104 (dk_at dksX3_comesTo_1 4 rfl rfl)
theorem dX3_comesTo_29 : decode cX3_comesTo 29 = .ok (.iadd, 1) := dk_96 (dk_at dksX3_comesTo_1 5 rfl rfl)
theorem dX3_comesTo_30 : decode cX3_comesTo 30 = .ok (.iaload, 1) := dk_46 (dk_at dksX3_comesTo_1 6 rfl rfl)
theorem dX3_comesTo_31 : decode cX3_comesTo 31 = .ok (.istore 6, 2) := dk_54 6 (dk_at dksX3_comesTo_1 7 rfl rfl)
theorem dX3_comesTo_33 : decode cX3_comesTo 33 = .ok (.aload_n 0, 1) := dk_42 (dk_at dksX3_comesTo_1 9 rfl rfl)
theorem dX3_comesTo_34 : decode cX3_comesTo 34 = .ok (.getfield 7, 3) := dk_180 0 7 (dk_at dksX3_comesTo_1 10 rfl rfl)
theorem dX3_comesTo_37 : decode cX3_comesTo 37 = .ok (.sipush 1535, 3) := dk_17 5 255 (dk_at dksX3_comesTo_1 13 rfl rfl)
theorem dX3_comesTo_40 : decode cX3_comesTo 40 = .ok (.sipush 820, 3) := dk_17 3 52 (dk_at dksX3_comesTo_1 16 rfl rfl)
theorem dX3_comesTo_43 : decode cX3_comesTo 43 = .ok (.iload_n 1, 1) := dk_27 (dk_at dksX3_comesTo_1 19 rfl rfl)
theorem dX3_comesTo_44 : decode cX3_comesTo 44 = .ok (.imul, 1) := dk_104 (dk_at dksX3_comesTo_1 20 rfl rfl)
theorem dX3_comesTo_45 : decode cX3_comesTo 45 = .ok (.iadd, 1) := dk_96 (dk_at dksX3_comesTo_1 21 rfl rfl)
theorem dX3_comesTo_46 : decode cX3_comesTo 46 = .ok (.iconst 2, 1) := dk_5 (dk_at dksX3_comesTo_1 22 rfl rfl)
theorem dX3_comesTo_47 : decode cX3_comesTo 47 = .ok (.iload 5, 2) := dk_21 5 (dk_at dksX3_comesTo_2 0 rfl rfl)
theorem dX3_comesTo_49 : decode cX3_comesTo 49 = .ok (.imul, 1) := dk_104 (dk_at dksX3_comesTo_2 2 rfl rfl)
theorem dX3_comesTo_50 : decode cX3_comesTo 50 = .ok (.iadd, 1) := dk_96 (dk_at dksX3_comesTo_2 3 rfl rfl)
theorem dX3_comesTo_51 : decode cX3_comesTo 51 = .ok (.iconst 1, 1) := dk_4 (dk_at dksX3_comesTo_2 4 rfl rfl)
theorem dX3_comesTo_52 : decode cX3_comesTo 52 = .ok (.iadd, 1) := dk_96 (dk_at dksX3_comesTo_2 5 rfl rfl)
theorem dX3_comesTo_53 : decode cX3_comesTo 53 = .ok (.iaload, 1) := dk_46 (dk_at dksX3_comesTo_2 6 rfl rfl)
theorem dX3_comesTo_54 : decode cX3_comesTo 54 = .ok (.istore 7, 2) := dk_54 7 (dk_at dksX3_comesTo_2 7 rfl rfl)
theorem dX3_comesTo_56 : decode cX3_comesTo 56 = .ok (.iload 6, 2) := dk_21 6 (dk_at dksX3_comesTo_2 9 rfl rfl)
theorem dX3_comesTo_58 : decode cX3_comesTo 58 = .ok (.bipush 23, 2) := dk_16 23 (dk_at dksX3_comesTo_2 11 rfl rfl)
theorem dX3_comesTo_60 : decode cX3_comesTo 60 = .ok (.if_icmp .ge 33, 3) := dk_162 0 33 (dk_at dksX3_comesTo_2 13 rfl rfl)
theorem dX3_comesTo_63 : decode cX3_comesTo 63 = .ok (.aload_n 0, 1) := dk_42 (dk_at dksX3_comesTo_2 16 rfl rfl)
theorem dX3_comesTo_64 : decode cX3_comesTo 64 = .ok (.getfield 34, 3) := dk_180 0 34 (dk_at dksX3_comesTo_2 17 rfl rfl)
theorem dX3_comesTo_67 : decode cX3_comesTo 67 = .ok (.iload 4, 2) := dk_21 4 (dk_at dksX3_comesTo_2 20 rfl rfl)
theorem dX3_comesTo_69 : decode cX3_comesTo 69 = .ok (.iload 6, 2) := dk_21 6 (dk_at dksX3_comesTo_2 22 rfl rfl)
theorem dX3_comesTo_71 : decode cX3_comesTo 71 = .ok (.ifCond .ne 8, 3) := dk_154 0 8 (dk_at dksX3_comesTo_3 0 rfl rfl)
theorem dX3_comesTo_74 : decode cX3_comesTo 74 = .ok (.iload 7, 2) := dk_21 7 (dk_at dksX3_comesTo_3 3 rfl rfl)
theorem dX3_comesTo_76 : decode cX3_comesTo 76 = .ok (.goto 10, 3) := dk_167 0 10 (dk_at dksX3_comesTo_3 5 rfl rfl)
theorem dX3_comesTo_79 : decode cX3_comesTo 79 = .ok (.aload_n 0, 1) := dk_42 (dk_at dksX3_comesTo_3 8 rfl rfl)
theorem dX3_comesTo_80 : decode cX3_comesTo 80 = .ok (.getfield 37, 3) := dk_180 0 37 (dk_at dksX3_comesTo_3 9 rfl rfl)
theorem dX3_comesTo_83 : decode cX3_comesTo 83 = .ok (.iload 6, 2) := dk_21 6 (dk_at dksX3_comesTo_3 12 rfl rfl)
theorem dX3_comesTo_85 : decode cX3_comesTo 85 = .ok (.iaload, 1) := dk_46 (dk_at dksX3_comesTo_3 14 rfl rfl)
theorem dX3_comesTo_86 : decode cX3_comesTo 86 = .ok (.iastore, 1) := dk_79 (dk_at dksX3_comesTo_3 15 rfl rfl)
theorem dX3_comesTo_87 : decode cX3_comesTo 87 = .ok (.iinc 4 1, 3) := dk_132 4 1 (dk_at dksX3_comesTo_3 16 rfl rfl)
theorem dX3_comesTo_90 : decode cX3_comesTo 90 = .ok (.goto 90, 3) := dk_167 0 90 (dk_at dksX3_comesTo_3 19 rfl rfl)
theorem dX3_comesTo_93 : decode cX3_comesTo 93 = .ok (.iload 6, 2) := dk_21 6 (dk_at dksX3_comesTo_3 22 rfl rfl)
theorem dX3_comesTo_95 : decode cX3_comesTo 95 = .ok (.bipush 26, 2) := dk_16 26 (dk_at dksX3_comesTo_4 0 rfl rfl)
theorem dX3_comesTo_97 : decode cX3_comesTo 97 = .ok (.if_icmp .ne 20, 3) := dk_160 0 20 (dk_at dksX3_comesTo_4 2 rfl rfl)
theorem dX3_comesTo_100 : decode cX3_comesTo 100 = .ok (.aload_n 0, 1) := dk_42 (dk_at dksX3_comesTo_4 5 rfl rfl)
theorem dX3_comesTo_101 : decode cX3_comesTo 101 = .ok (.getfield 34, 3) := dk_180 0 34 (dk_at dksX3_comesTo_4 6 rfl rfl)
theorem dX3_comesTo_104 : decode cX3_comesTo 104 = .ok (.iload 4, 2) := dk_21 4 (dk_at dksX3_comesTo_4 9 rfl rfl)
theorem dX3_comesTo_106 : decode cX3_comesTo 106 = .ok (.iconst 1, 1) := dk_4 (dk_at dksX3_comesTo_4 11 rfl rfl)
theorem dX3_comesTo_107 : decode cX3_comesTo 107 = .ok (.isub, 1) := dk_100 (dk_at dksX3_comesTo_4 12 rfl rfl)
theorem dX3_comesTo_108 : decode cX3_comesTo 108 = .ok (.dup2, 1) := dk_92 (dk_at dksX3_comesTo_4 13 rfl rfl)
theorem dX3_comesTo_109 : decode cX3_comesTo 109 = .ok (.iaload, 1) := dk_46 (dk_at dksX3_comesTo_4 14 rfl rfl)
theorem dX3_comesTo_110 : decode cX3_comesTo 110 = .ok (.iload 7, 2) := dk_21 7 (dk_at dksX3_comesTo_4 15 rfl rfl)
theorem dX3_comesTo_112 : decode cX3_comesTo 112 = .ok (.idiv, 1) := dk_108 (dk_at dksX3_comesTo_4 17 rfl rfl)
theorem dX3_comesTo_113 : decode cX3_comesTo 113 = .ok (.iastore, 1) := dk_79 (dk_at dksX3_comesTo_4 18 rfl rfl)
theorem dX3_comesTo_114 : decode cX3_comesTo 114 = .ok (.goto 66, 3) := dk_167 0 66 (dk_at dksX3_comesTo_4 19 rfl rfl)
theorem dX3_comesTo_117 : decode cX3_comesTo 117 = .ok (.iload 6, 2) := dk_21 6 (dk_at dksX3_comesTo_4 22 rfl rfl)
theorem dX3_comesTo_119 : decode cX3_comesTo 119 = .ok (.bipush 30, 2) := dk_16 30 (dk_at dksX3_comesTo_5 0 rfl rfl)
theorem dX3_comesTo_121 : decode cX3_comesTo 121 = .ok (.if_icmp .ne 26, 3) := dk_160 0 26 (dk_at dksX3_comesTo_5 2 rfl rfl)
theorem dX3_comesTo_124 : decode cX3_comesTo 124 = .ok (.aload_n 0, 1) := dk_42 (dk_at dksX3_comesTo_5 5 rfl rfl)
theorem dX3_comesTo_125 : decode cX3_comesTo 125 = .ok (.getfield 34, 3) := dk_180 0 34 (dk_at dksX3_comesTo_5 6 rfl rfl)
theorem dX3_comesTo_128 : decode cX3_comesTo 128 = .ok (.iload 4, 2) := dk_21 4 (dk_at dksX3_comesTo_5 9 rfl rfl)
theorem dX3_comesTo_130 : decode cX3_comesTo 130 = .ok (.iconst 1, 1) := dk_4 (dk_at dksX3_comesTo_5 11 rfl rfl)
theorem dX3_comesTo_131 : decode cX3_comesTo 131 = .ok (.isub, 1) := dk_100 (dk_at dksX3_comesTo_5 12 rfl rfl)
theorem dX3_comesTo_132 : decode cX3_comesTo 132 = .ok (.iconst 1, 1) := dk_4 (dk_at dksX3_comesTo_5 13 rfl rfl)
theorem dX3_comesTo_133 : decode cX3_comesTo 133 = .ok (.aload_n 0, 1) := dk_42 (dk_at dksX3_comesTo_5 14 rfl rfl)
theorem dX3_comesTo_134 : decode cX3_comesTo 134 = .ok (.getfield 34, 3) := dk_180 0 34 (dk_at dksX3_comesTo_5 15 rfl rfl)
theorem dX3_comesTo_137 : decode cX3_comesTo 137 = .ok (.iload 4, 2) := dk_21 4 (dk_at dksX3_comesTo_5 18 rfl rfl)
theorem dX3_comesTo_139 : decode cX3_comesTo 139 = .ok (.iconst 1, 1) := dk_4 (dk_at dksX3_comesTo_5 20 rfl rfl)
theorem dX3_comesTo_140 : decode cX3_comesTo 140 = .ok (.isub, 1) := dk_100 (dk_at dksX3_comesTo_5 21 rfl rfl)
theorem dX3_comesTo_141 : decode cX3_comesTo 141 = .ok (.iaload, 1) := dk_46 (dk_at dksX3_comesTo_5 22 rfl rfl)
theorem dX3_comesTo_142 : decode cX3_comesTo 142 = .ok (.isub, 1) := dk_100 (dk_at dksX3_comesTo_5 23 rfl rfl)
theorem dX3_comesTo_143 : decode cX3_comesTo 143 = .ok (.iastore, 1) := dk_79 (dk_at dksX3_comesTo_6 0 rfl rfl)
theorem dX3_comesTo_144 : decode cX3_comesTo 144 = .ok (.goto 36, 3) := dk_167 0 36 (dk_at dksX3_comesTo_6 1 rfl rfl)
theorem dX3_comesTo_147 : decode cX3_comesTo 147 = .ok (.iinc 4 (-1), 3) := dk_132 4 255 (dk_at dksX3_comesTo_6 4 rfl rfl)
theorem dX3_comesTo_150 : decode cX3_comesTo 150 = .ok (.aload_n 0, 1) := dk_42 (dk_at dksX3_comesTo_6 7 rfl rfl)
theorem dX3_comesTo_151 : decode cX3_comesTo 151 = .ok (.getfield 34, 3) := dk_180 0 34 (dk_at dksX3_comesTo_6 8 rfl rfl)
theorem dX3_comesTo_154 : decode cX3_comesTo 154 = .ok (.iload 4, 2) := dk_21 4 (dk_at dksX3_comesTo_6 11 rfl rfl)
theorem dX3_comesTo_156 : decode cX3_comesTo 156 = .ok (.iconst 1, 1) := dk_4 (dk_at dksX3_comesTo_6 13 rfl rfl)
theorem dX3_comesTo_157 : decode cX3_comesTo 157 = .ok (.isub, 1) := dk_100 (dk_at dksX3_comesTo_6 14 rfl rfl)
theorem dX3_comesTo_158 : decode cX3_comesTo 158 = .ok (.iload 6, 2) := dk_21 6 (dk_at dksX3_comesTo_6 15 rfl rfl)
theorem dX3_comesTo_160 : decode cX3_comesTo 160 = .ok (.aload_n 0, 1) := dk_42 (dk_at dksX3_comesTo_6 17 rfl rfl)
theorem dX3_comesTo_161 : decode cX3_comesTo 161 = .ok (.getfield 34, 3) := dk_180 0 34 (dk_at dksX3_comesTo_6 18 rfl rfl)
theorem dX3_comesTo_164 : decode cX3_comesTo 164 = .ok (.iload 4, 2) := dk_21 4 (dk_at dksX3_comesTo_6 21 rfl rfl)
theorem dX3_comesTo_166 : decode cX3_comesTo 166 = .ok (.iconst 1, 1) := dk_4 (dk_at dksX3_comesTo_6 23 rfl rfl)
theorem dX3_comesTo_167 : decode cX3_comesTo 167 = .ok (.isub, 1) := dk_100 (dk_at dksX3_comesTo_7 0 rfl rfl)
theorem dX3_comesTo_168 : decode cX3_comesTo 168 = .ok (.iaload, 1) := dk_46 (dk_at dksX3_comesTo_7 1 rfl rfl)
theorem dX3_comesTo_169 : decode cX3_comesTo 169 = .ok (.aload_n 0, 1) := dk_42 (dk_at dksX3_comesTo_7 2 rfl rfl)
theorem dX3_comesTo_170 : decode cX3_comesTo 170 = .ok (.getfield 34, 3) := dk_180 0 34 (dk_at dksX3_comesTo_7 3 rfl rfl)
theorem dX3_comesTo_173 : decode cX3_comesTo 173 = .ok (.iload 4, 2) := dk_21 4 (dk_at dksX3_comesTo_7 6 rfl rfl)
theorem dX3_comesTo_175 : decode cX3_comesTo 175 = .ok (.iaload, 1) := dk_46 (dk_at dksX3_comesTo_7 8 rfl rfl)
theorem dX3_comesTo_176 : decode cX3_comesTo 176 = .ok (.invokestatic 283, 3) := dk_184 1 27 (dk_at dksX3_comesTo_7 9 rfl rfl)
theorem dX3_comesTo_179 : decode cX3_comesTo 179 = .ok (.iastore, 1) := dk_79 (dk_at dksX3_comesTo_7 12 rfl rfl)
theorem dX3_comesTo_180 : decode cX3_comesTo 180 = .ok (.iinc 5 1, 3) := dk_132 5 1 (dk_at dksX3_comesTo_7 13 rfl rfl)
theorem dX3_comesTo_183 : decode cX3_comesTo 183 = .ok (.goto (-177), 3) := dk_167 255 79 (dk_at dksX3_comesTo_7 16 rfl rfl)
theorem dX3_comesTo_186 : decode cX3_comesTo 186 = .ok (.aload_n 0, 1) := dk_42 (dk_at dksX3_comesTo_7 19 rfl rfl)
theorem dX3_comesTo_187 : decode cX3_comesTo 187 = .ok (.getfield 34, 3) := dk_180 0 34 (dk_at dksX3_comesTo_7 20 rfl rfl)
theorem dX3_comesTo_190 : decode cX3_comesTo 190 = .ok (.iconst 0, 1) := dk_3 (dk_at dksX3_comesTo_7 23 rfl rfl)
theorem dX3_comesTo_191 : decode cX3_comesTo 191 = .ok (.iaload, 1) := dk_46 (dk_at dksX3_comesTo_8 0 rfl rfl)
theorem dX3_comesTo_192 : decode cX3_comesTo 192 = .ok (.ireturn, 1) := dk_172 (dk_at dksX3_comesTo_8 1 rfl rfl)
abbrev cX3_joined : ByteArray := prog_17_method_52_code
def yX3_joined : MethodName := ⟨RX3, "joined", "(III)I"⟩
def dkwX3_joined_4 : List UInt8 := [172, 27, 28, 128, 172]
abbrev dktX3_joined_4 : List UInt8 := dkwX3_joined_4 ++ []
def dkwX3_joined_3 : List UInt8 := [28, 160, 0, 7, 4, 167, 0, 4, 3, 172, 27, 28, 164, 0, 7, 4, 167, 0, 4, 3, 172, 27, 28, 126]
abbrev dktX3_joined_3 : List UInt8 := dkwX3_joined_3 ++ dktX3_joined_4
def dkwX3_joined_2 : List UInt8 := [27, 28, 96, 172, 27, 28, 100, 172, 27, 28, 104, 172, 27, 28, 162, 0, 7, 4, 167, 0, 4, 3, 172, 27]
abbrev dktX3_joined_2 : List UInt8 := dkwX3_joined_2 ++ dktX3_joined_3
def dkwX3_joined_1 : List UInt8 := [170, 0, 0, 0, 0, 0, 100, 0, 0, 0, 23, 0, 0, 0, 31, 0, 0, 0, 51, 0, 0, 0, 55, 0, 0, 0, 59, 0, 0, 0, 100, 0, 0, 0, 63, 0, 0, 0, 74, 0, 0, 0, 85, 0, 0, 0, 100, 0, 0, 0, 96]
abbrev dktX3_joined_1 : List UInt8 := dkwX3_joined_1 ++ dktX3_joined_2
def dkwX3_joined_0 : List UInt8 := [26]
abbrev dktX3_joined_0 : List UInt8 := dkwX3_joined_0 ++ dktX3_joined_1
theorem dksX3_joined_0 : cX3_joined.data.toList.drop 0 = dktX3_joined_0 := by decide +kernel
theorem dksX3_joined_1 : cX3_joined.data.toList.drop 1 = dktX3_joined_1 := dk_seg dksX3_joined_0 1 rfl rfl
theorem dksX3_joined_2 : cX3_joined.data.toList.drop 52 = dktX3_joined_2 := dk_seg dksX3_joined_1 51 rfl rfl
theorem dksX3_joined_3 : cX3_joined.data.toList.drop 76 = dktX3_joined_3 := dk_seg dksX3_joined_2 24 rfl rfl
theorem dksX3_joined_4 : cX3_joined.data.toList.drop 100 = dktX3_joined_4 := dk_seg dksX3_joined_3 24 rfl rfl
theorem dX3_joined_0 : decode cX3_joined 0 = .ok (.iload_n 0, 1) := dk_26 (dk_at dksX3_joined_0 0 rfl rfl)
theorem dX3_joined_1 : decode cX3_joined 1 = .ok (.tableswitch 100 23 31 #[51, 55, 59, 100, 63, 74, 85, 100, 96], 51) := by decide +kernel
theorem dX3_joined_52 : decode cX3_joined 52 = .ok (.iload_n 1, 1) := dk_27 (dk_at dksX3_joined_2 0 rfl rfl)
theorem dX3_joined_53 : decode cX3_joined 53 = .ok (.iload_n 2, 1) := dk_28 (dk_at dksX3_joined_2 1 rfl rfl)
theorem dX3_joined_54 : decode cX3_joined 54 = .ok (.iadd, 1) := dk_96 (dk_at dksX3_joined_2 2 rfl rfl)
theorem dX3_joined_55 : decode cX3_joined 55 = .ok (.ireturn, 1) := dk_172 (dk_at dksX3_joined_2 3 rfl rfl)
theorem dX3_joined_56 : decode cX3_joined 56 = .ok (.iload_n 1, 1) := dk_27 (dk_at dksX3_joined_2 4 rfl rfl)
theorem dX3_joined_57 : decode cX3_joined 57 = .ok (.iload_n 2, 1) := dk_28 (dk_at dksX3_joined_2 5 rfl rfl)
theorem dX3_joined_58 : decode cX3_joined 58 = .ok (.isub, 1) := dk_100 (dk_at dksX3_joined_2 6 rfl rfl)
theorem dX3_joined_59 : decode cX3_joined 59 = .ok (.ireturn, 1) := dk_172 (dk_at dksX3_joined_2 7 rfl rfl)
theorem dX3_joined_60 : decode cX3_joined 60 = .ok (.iload_n 1, 1) := dk_27 (dk_at dksX3_joined_2 8 rfl rfl)
theorem dX3_joined_61 : decode cX3_joined 61 = .ok (.iload_n 2, 1) := dk_28 (dk_at dksX3_joined_2 9 rfl rfl)
theorem dX3_joined_62 : decode cX3_joined 62 = .ok (.imul, 1) := dk_104 (dk_at dksX3_joined_2 10 rfl rfl)
theorem dX3_joined_63 : decode cX3_joined 63 = .ok (.ireturn, 1) := dk_172 (dk_at dksX3_joined_2 11 rfl rfl)
theorem dX3_joined_64 : decode cX3_joined 64 = .ok (.iload_n 1, 1) := dk_27 (dk_at dksX3_joined_2 12 rfl rfl)
theorem dX3_joined_65 : decode cX3_joined 65 = .ok (.iload_n 2, 1) := dk_28 (dk_at dksX3_joined_2 13 rfl rfl)
theorem dX3_joined_66 : decode cX3_joined 66 = .ok (.if_icmp .ge 7, 3) := dk_162 0 7 (dk_at dksX3_joined_2 14 rfl rfl)
theorem dX3_joined_69 : decode cX3_joined 69 = .ok (.iconst 1, 1) := dk_4 (dk_at dksX3_joined_2 17 rfl rfl)
theorem dX3_joined_70 : decode cX3_joined 70 = .ok (.goto 4, 3) := dk_167 0 4 (dk_at dksX3_joined_2 18 rfl rfl)
theorem dX3_joined_73 : decode cX3_joined 73 = .ok (.iconst 0, 1) := dk_3 (dk_at dksX3_joined_2 21 rfl rfl)
theorem dX3_joined_74 : decode cX3_joined 74 = .ok (.ireturn, 1) := dk_172 (dk_at dksX3_joined_2 22 rfl rfl)
theorem dX3_joined_75 : decode cX3_joined 75 = .ok (.iload_n 1, 1) := dk_27 (dk_at dksX3_joined_2 23 rfl rfl)
theorem dX3_joined_76 : decode cX3_joined 76 = .ok (.iload_n 2, 1) := dk_28 (dk_at dksX3_joined_3 0 rfl rfl)
theorem dX3_joined_77 : decode cX3_joined 77 = .ok (.if_icmp .ne 7, 3) := dk_160 0 7 (dk_at dksX3_joined_3 1 rfl rfl)
theorem dX3_joined_80 : decode cX3_joined 80 = .ok (.iconst 1, 1) := dk_4 (dk_at dksX3_joined_3 4 rfl rfl)
theorem dX3_joined_81 : decode cX3_joined 81 = .ok (.goto 4, 3) := dk_167 0 4 (dk_at dksX3_joined_3 5 rfl rfl)
theorem dX3_joined_84 : decode cX3_joined 84 = .ok (.iconst 0, 1) := dk_3 (dk_at dksX3_joined_3 8 rfl rfl)
theorem dX3_joined_85 : decode cX3_joined 85 = .ok (.ireturn, 1) := dk_172 (dk_at dksX3_joined_3 9 rfl rfl)
theorem dX3_joined_86 : decode cX3_joined 86 = .ok (.iload_n 1, 1) := dk_27 (dk_at dksX3_joined_3 10 rfl rfl)
theorem dX3_joined_87 : decode cX3_joined 87 = .ok (.iload_n 2, 1) := dk_28 (dk_at dksX3_joined_3 11 rfl rfl)
theorem dX3_joined_88 : decode cX3_joined 88 = .ok (.if_icmp .le 7, 3) := dk_164 0 7 (dk_at dksX3_joined_3 12 rfl rfl)
theorem dX3_joined_91 : decode cX3_joined 91 = .ok (.iconst 1, 1) := dk_4 (dk_at dksX3_joined_3 15 rfl rfl)
theorem dX3_joined_92 : decode cX3_joined 92 = .ok (.goto 4, 3) := dk_167 0 4 (dk_at dksX3_joined_3 16 rfl rfl)
theorem dX3_joined_95 : decode cX3_joined 95 = .ok (.iconst 0, 1) := dk_3 (dk_at dksX3_joined_3 19 rfl rfl)
theorem dX3_joined_96 : decode cX3_joined 96 = .ok (.ireturn, 1) := dk_172 (dk_at dksX3_joined_3 20 rfl rfl)
theorem dX3_joined_97 : decode cX3_joined 97 = .ok (.iload_n 1, 1) := dk_27 (dk_at dksX3_joined_3 21 rfl rfl)
theorem dX3_joined_98 : decode cX3_joined 98 = .ok (.iload_n 2, 1) := dk_28 (dk_at dksX3_joined_3 22 rfl rfl)
theorem dX3_joined_99 : decode cX3_joined 99 = .ok (.iand, 1) := dk_126 (dk_at dksX3_joined_3 23 rfl rfl)
theorem dX3_joined_100 : decode cX3_joined 100 = .ok (.ireturn, 1) := dk_172 (dk_at dksX3_joined_4 0 rfl rfl)
theorem dX3_joined_101 : decode cX3_joined 101 = .ok (.iload_n 1, 1) := dk_27 (dk_at dksX3_joined_4 1 rfl rfl)
theorem dX3_joined_102 : decode cX3_joined 102 = .ok (.iload_n 2, 1) := dk_28 (dk_at dksX3_joined_4 2 rfl rfl)
theorem dX3_joined_103 : decode cX3_joined 103 = .ok (.ior, 1) := dk_128 (dk_at dksX3_joined_4 3 rfl rfl)
theorem dX3_joined_104 : decode cX3_joined 104 = .ok (.ireturn, 1) := dk_172 (dk_at dksX3_joined_4 4 rfl rfl)
abbrev cX3_greater : ByteArray := prog_17_method_4_code
def yX3_greater : MethodName := ⟨RX3, "greater", "(II)I"⟩
def dkwX3_greater_0 : List UInt8 := [26, 27, 164, 0, 7, 26, 167, 0, 4, 27, 172]
abbrev dktX3_greater_0 : List UInt8 := dkwX3_greater_0 ++ []
theorem dksX3_greater_0 : cX3_greater.data.toList.drop 0 = dktX3_greater_0 := by decide +kernel
theorem dX3_greater_0 : decode cX3_greater 0 = .ok (.iload_n 0, 1) := dk_26 (dk_at dksX3_greater_0 0 rfl rfl)
theorem dX3_greater_1 : decode cX3_greater 1 = .ok (.iload_n 1, 1) := dk_27 (dk_at dksX3_greater_0 1 rfl rfl)
theorem dX3_greater_2 : decode cX3_greater 2 = .ok (.if_icmp .le 7, 3) := dk_164 0 7 (dk_at dksX3_greater_0 2 rfl rfl)
theorem dX3_greater_5 : decode cX3_greater 5 = .ok (.iload_n 0, 1) := dk_26 (dk_at dksX3_greater_0 5 rfl rfl)
theorem dX3_greater_6 : decode cX3_greater 6 = .ok (.goto 4, 3) := dk_167 0 4 (dk_at dksX3_greater_0 6 rfl rfl)
theorem dX3_greater_9 : decode cX3_greater 9 = .ok (.iload_n 1, 1) := dk_27 (dk_at dksX3_greater_0 9 rfl rfl)
theorem dX3_greater_10 : decode cX3_greater 10 = .ok (.ireturn, 1) := dk_172 (dk_at dksX3_greater_0 10 rfl rfl)
abbrev cX3_leafOf : ByteArray := prog_17_method_64_code
def yX3_leafOf : MethodName := ⟨RX3, "leafOf", "(II)I"⟩
def dkwX3_leafOf_0 : List UInt8 := [42, 27, 4, 182, 1, 43, 28, 2, 160, 0, 7, 3, 167, 0, 9, 42, 28, 4, 182, 1, 43, 96, 172]
abbrev dktX3_leafOf_0 : List UInt8 := dkwX3_leafOf_0 ++ []
theorem dksX3_leafOf_0 : cX3_leafOf.data.toList.drop 0 = dktX3_leafOf_0 := by decide +kernel
theorem dX3_leafOf_0 : decode cX3_leafOf 0 = .ok (.aload_n 0, 1) := dk_42 (dk_at dksX3_leafOf_0 0 rfl rfl)
theorem dX3_leafOf_1 : decode cX3_leafOf 1 = .ok (.iload_n 1, 1) := dk_27 (dk_at dksX3_leafOf_0 1 rfl rfl)
theorem dX3_leafOf_2 : decode cX3_leafOf 2 = .ok (.iconst 1, 1) := dk_4 (dk_at dksX3_leafOf_0 2 rfl rfl)
theorem dX3_leafOf_3 : decode cX3_leafOf 3 = .ok (.invokevirtual 299, 3) := dk_182 1 43 (dk_at dksX3_leafOf_0 3 rfl rfl)
theorem dX3_leafOf_6 : decode cX3_leafOf 6 = .ok (.iload_n 2, 1) := dk_28 (dk_at dksX3_leafOf_0 6 rfl rfl)
theorem dX3_leafOf_7 : decode cX3_leafOf 7 = .ok (.iconst (-1), 1) := dk_2 (dk_at dksX3_leafOf_0 7 rfl rfl)
theorem dX3_leafOf_8 : decode cX3_leafOf 8 = .ok (.if_icmp .ne 7, 3) := dk_160 0 7 (dk_at dksX3_leafOf_0 8 rfl rfl)
theorem dX3_leafOf_11 : decode cX3_leafOf 11 = .ok (.iconst 0, 1) := dk_3 (dk_at dksX3_leafOf_0 11 rfl rfl)
theorem dX3_leafOf_12 : decode cX3_leafOf 12 = .ok (.goto 9, 3) := dk_167 0 9 (dk_at dksX3_leafOf_0 12 rfl rfl)
theorem dX3_leafOf_15 : decode cX3_leafOf 15 = .ok (.aload_n 0, 1) := dk_42 (dk_at dksX3_leafOf_0 15 rfl rfl)
theorem dX3_leafOf_16 : decode cX3_leafOf 16 = .ok (.iload_n 2, 1) := dk_28 (dk_at dksX3_leafOf_0 16 rfl rfl)
theorem dX3_leafOf_17 : decode cX3_leafOf 17 = .ok (.iconst 1, 1) := dk_4 (dk_at dksX3_leafOf_0 17 rfl rfl)
theorem dX3_leafOf_18 : decode cX3_leafOf 18 = .ok (.invokevirtual 299, 3) := dk_182 1 43 (dk_at dksX3_leafOf_0 18 rfl rfl)
theorem dX3_leafOf_21 : decode cX3_leafOf 21 = .ok (.iadd, 1) := dk_96 (dk_at dksX3_leafOf_0 21 rfl rfl)
theorem dX3_leafOf_22 : decode cX3_leafOf 22 = .ok (.ireturn, 1) := dk_172 (dk_at dksX3_leafOf_0 22 rfl rfl)
abbrev cX3_factOf : ByteArray := prog_17_method_7_code
def yX3_factOf : MethodName := ⟨RX3, "factOf", "(II)I"⟩
def dkwX3_factOf_0 : List UInt8 := [42, 180, 0, 7, 17, 2, 93, 16, 9, 27, 104, 96, 28, 96, 46, 172]
abbrev dktX3_factOf_0 : List UInt8 := dkwX3_factOf_0 ++ []
theorem dksX3_factOf_0 : cX3_factOf.data.toList.drop 0 = dktX3_factOf_0 := by decide +kernel
theorem dX3_factOf_0 : decode cX3_factOf 0 = .ok (.aload_n 0, 1) := dk_42 (dk_at dksX3_factOf_0 0 rfl rfl)
theorem dX3_factOf_1 : decode cX3_factOf 1 = .ok (.getfield 7, 3) := dk_180 0 7 (dk_at dksX3_factOf_0 1 rfl rfl)
theorem dX3_factOf_4 : decode cX3_factOf 4 = .ok (.sipush 605, 3) := dk_17 2 93 (dk_at dksX3_factOf_0 4 rfl rfl)
theorem dX3_factOf_7 : decode cX3_factOf 7 = .ok (.bipush 9, 2) := dk_16 9 (dk_at dksX3_factOf_0 7 rfl rfl)
theorem dX3_factOf_9 : decode cX3_factOf 9 = .ok (.iload_n 1, 1) := dk_27 (dk_at dksX3_factOf_0 9 rfl rfl)
theorem dX3_factOf_10 : decode cX3_factOf 10 = .ok (.imul, 1) := dk_104 (dk_at dksX3_factOf_0 10 rfl rfl)
theorem dX3_factOf_11 : decode cX3_factOf 11 = .ok (.iadd, 1) := dk_96 (dk_at dksX3_factOf_0 11 rfl rfl)
theorem dX3_factOf_12 : decode cX3_factOf 12 = .ok (.iload_n 2, 1) := dk_28 (dk_at dksX3_factOf_0 12 rfl rfl)
theorem dX3_factOf_13 : decode cX3_factOf 13 = .ok (.iadd, 1) := dk_96 (dk_at dksX3_factOf_0 13 rfl rfl)
theorem dX3_factOf_14 : decode cX3_factOf 14 = .ok (.iaload, 1) := dk_46 (dk_at dksX3_factOf_0 14 rfl rfl)
theorem dX3_factOf_15 : decode cX3_factOf 15 = .ok (.ireturn, 1) := dk_172 (dk_at dksX3_factOf_0 15 rfl rfl)
abbrev cX3_remembers : ByteArray := prog_17_method_61_code
def yX3_remembers : MethodName := ⟨RX3, "remembers", "()V"⟩
def dkwX3_remembers_4 : List UInt8 := [181, 0, 63, 42, 4, 181, 1, 49, 177]
abbrev dktX3_remembers_4 : List UInt8 := dkwX3_remembers_4 ++ []
def dkwX3_remembers_3 : List UInt8 := [27, 96, 42, 180, 0, 7, 27, 46, 79, 132, 1, 1, 167, 255, 225, 42, 89, 180, 0, 63, 4, 96]
abbrev dktX3_remembers_3 : List UInt8 := dkwX3_remembers_3 ++ dktX3_remembers_4
def dkwX3_remembers_2 : List UInt8 := [181, 0, 63, 3, 60, 27, 17, 2, 59, 162, 0, 30, 42, 180, 0, 16, 17, 2, 59, 42, 180, 0, 63, 104]
abbrev dktX3_remembers_2 : List UInt8 := dkwX3_remembers_2 ++ dktX3_remembers_3
def dkwX3_remembers_1 : List UInt8 := [180, 0, 16, 27, 17, 2, 59, 96, 46, 79, 132, 1, 1, 167, 255, 230, 42, 89, 180, 0, 63, 4, 100]
abbrev dktX3_remembers_1 : List UInt8 := dkwX3_remembers_1 ++ dktX3_remembers_2
def dkwX3_remembers_0 : List UInt8 := [42, 180, 0, 63, 16, 6, 160, 0, 44, 3, 60, 27, 17, 11, 39, 162, 0, 25, 42, 180, 0, 16, 27, 42]
abbrev dktX3_remembers_0 : List UInt8 := dkwX3_remembers_0 ++ dktX3_remembers_1
theorem dksX3_remembers_0 : cX3_remembers.data.toList.drop 0 = dktX3_remembers_0 := by decide +kernel
theorem dksX3_remembers_1 : cX3_remembers.data.toList.drop 24 = dktX3_remembers_1 := dk_seg dksX3_remembers_0 24 rfl rfl
theorem dksX3_remembers_2 : cX3_remembers.data.toList.drop 47 = dktX3_remembers_2 := dk_seg dksX3_remembers_1 23 rfl rfl
theorem dksX3_remembers_3 : cX3_remembers.data.toList.drop 71 = dktX3_remembers_3 := dk_seg dksX3_remembers_2 24 rfl rfl
theorem dksX3_remembers_4 : cX3_remembers.data.toList.drop 93 = dktX3_remembers_4 := dk_seg dksX3_remembers_3 22 rfl rfl
theorem dX3_remembers_0 : decode cX3_remembers 0 = .ok (.aload_n 0, 1) := dk_42 (dk_at dksX3_remembers_0 0 rfl rfl)
theorem dX3_remembers_1 : decode cX3_remembers 1 = .ok (.getfield 63, 3) := dk_180 0 63 (dk_at dksX3_remembers_0 1 rfl rfl)
theorem dX3_remembers_4 : decode cX3_remembers 4 = .ok (.bipush 6, 2) := dk_16 6 (dk_at dksX3_remembers_0 4 rfl rfl)
theorem dX3_remembers_6 : decode cX3_remembers 6 = .ok (.if_icmp .ne 44, 3) := dk_160 0 44 (dk_at dksX3_remembers_0 6 rfl rfl)
theorem dX3_remembers_9 : decode cX3_remembers 9 = .ok (.iconst 0, 1) := dk_3 (dk_at dksX3_remembers_0 9 rfl rfl)
theorem dX3_remembers_10 : decode cX3_remembers 10 = .ok (.istore_n 1, 1) := dk_60 (dk_at dksX3_remembers_0 10 rfl rfl)
theorem dX3_remembers_11 : decode cX3_remembers 11 = .ok (.iload_n 1, 1) := dk_27 (dk_at dksX3_remembers_0 11 rfl rfl)
theorem dX3_remembers_12 : decode cX3_remembers 12 = .ok (.sipush 2855, 3) := dk_17 11 39 (dk_at dksX3_remembers_0 12 rfl rfl)
theorem dX3_remembers_15 : decode cX3_remembers 15 = .ok (.if_icmp .ge 25, 3) := dk_162 0 25 (dk_at dksX3_remembers_0 15 rfl rfl)
theorem dX3_remembers_18 : decode cX3_remembers 18 = .ok (.aload_n 0, 1) := dk_42 (dk_at dksX3_remembers_0 18 rfl rfl)
theorem dX3_remembers_19 : decode cX3_remembers 19 = .ok (.getfield 16, 3) := dk_180 0 16 (dk_at dksX3_remembers_0 19 rfl rfl)
theorem dX3_remembers_22 : decode cX3_remembers 22 = .ok (.iload_n 1, 1) := dk_27 (dk_at dksX3_remembers_0 22 rfl rfl)
theorem dX3_remembers_23 : decode cX3_remembers 23 = .ok (.aload_n 0, 1) := dk_42 (dk_at dksX3_remembers_0 23 rfl rfl)
theorem dX3_remembers_24 : decode cX3_remembers 24 = .ok (.getfield 16, 3) := dk_180 0 16 (dk_at dksX3_remembers_1 0 rfl rfl)
theorem dX3_remembers_27 : decode cX3_remembers 27 = .ok (.iload_n 1, 1) := dk_27 (dk_at dksX3_remembers_1 3 rfl rfl)
theorem dX3_remembers_28 : decode cX3_remembers 28 = .ok (.sipush 571, 3) := dk_17 2 59 (dk_at dksX3_remembers_1 4 rfl rfl)
theorem dX3_remembers_31 : decode cX3_remembers 31 = .ok (.iadd, 1) := dk_96 (dk_at dksX3_remembers_1 7 rfl rfl)
theorem dX3_remembers_32 : decode cX3_remembers 32 = .ok (.iaload, 1) := dk_46 (dk_at dksX3_remembers_1 8 rfl rfl)
theorem dX3_remembers_33 : decode cX3_remembers 33 = .ok (.iastore, 1) := dk_79 (dk_at dksX3_remembers_1 9 rfl rfl)
theorem dX3_remembers_34 : decode cX3_remembers 34 = .ok (.iinc 1 1, 3) := dk_132 1 1 (dk_at dksX3_remembers_1 10 rfl rfl)
theorem dX3_remembers_37 : decode cX3_remembers 37 = .ok (.goto (-26), 3) := dk_167 255 230 (dk_at dksX3_remembers_1 13 rfl rfl)
theorem dX3_remembers_40 : decode cX3_remembers 40 = .ok (.aload_n 0, 1) := dk_42 (dk_at dksX3_remembers_1 16 rfl rfl)
theorem dX3_remembers_41 : decode cX3_remembers 41 = .ok (.dup, 1) := dk_89 (dk_at dksX3_remembers_1 17 rfl rfl)
theorem dX3_remembers_42 : decode cX3_remembers 42 = .ok (.getfield 63, 3) := dk_180 0 63 (dk_at dksX3_remembers_1 18 rfl rfl)
theorem dX3_remembers_45 : decode cX3_remembers 45 = .ok (.iconst 1, 1) := dk_4 (dk_at dksX3_remembers_1 21 rfl rfl)
theorem dX3_remembers_46 : decode cX3_remembers 46 = .ok (.isub, 1) := dk_100 (dk_at dksX3_remembers_1 22 rfl rfl)
theorem dX3_remembers_47 : decode cX3_remembers 47 = .ok (.putfield 63, 3) := dk_181 0 63 (dk_at dksX3_remembers_2 0 rfl rfl)
theorem dX3_remembers_50 : decode cX3_remembers 50 = .ok (.iconst 0, 1) := dk_3 (dk_at dksX3_remembers_2 3 rfl rfl)
theorem dX3_remembers_51 : decode cX3_remembers 51 = .ok (.istore_n 1, 1) := dk_60 (dk_at dksX3_remembers_2 4 rfl rfl)
theorem dX3_remembers_52 : decode cX3_remembers 52 = .ok (.iload_n 1, 1) := dk_27 (dk_at dksX3_remembers_2 5 rfl rfl)
theorem dX3_remembers_53 : decode cX3_remembers 53 = .ok (.sipush 571, 3) := dk_17 2 59 (dk_at dksX3_remembers_2 6 rfl rfl)
theorem dX3_remembers_56 : decode cX3_remembers 56 = .ok (.if_icmp .ge 30, 3) := dk_162 0 30 (dk_at dksX3_remembers_2 9 rfl rfl)
theorem dX3_remembers_59 : decode cX3_remembers 59 = .ok (.aload_n 0, 1) := dk_42 (dk_at dksX3_remembers_2 12 rfl rfl)
theorem dX3_remembers_60 : decode cX3_remembers 60 = .ok (.getfield 16, 3) := dk_180 0 16 (dk_at dksX3_remembers_2 13 rfl rfl)
theorem dX3_remembers_63 : decode cX3_remembers 63 = .ok (.sipush 571, 3) := dk_17 2 59 (dk_at dksX3_remembers_2 16 rfl rfl)
theorem dX3_remembers_66 : decode cX3_remembers 66 = .ok (.aload_n 0, 1) := dk_42 (dk_at dksX3_remembers_2 19 rfl rfl)
theorem dX3_remembers_67 : decode cX3_remembers 67 = .ok (.getfield 63, 3) := dk_180 0 63 (dk_at dksX3_remembers_2 20 rfl rfl)
theorem dX3_remembers_70 : decode cX3_remembers 70 = .ok (.imul, 1) := dk_104 (dk_at dksX3_remembers_2 23 rfl rfl)
theorem dX3_remembers_71 : decode cX3_remembers 71 = .ok (.iload_n 1, 1) := dk_27 (dk_at dksX3_remembers_3 0 rfl rfl)
theorem dX3_remembers_72 : decode cX3_remembers 72 = .ok (.iadd, 1) := dk_96 (dk_at dksX3_remembers_3 1 rfl rfl)
theorem dX3_remembers_73 : decode cX3_remembers 73 = .ok (.aload_n 0, 1) := dk_42 (dk_at dksX3_remembers_3 2 rfl rfl)
theorem dX3_remembers_74 : decode cX3_remembers 74 = .ok (.getfield 7, 3) := dk_180 0 7 (dk_at dksX3_remembers_3 3 rfl rfl)
theorem dX3_remembers_77 : decode cX3_remembers 77 = .ok (.iload_n 1, 1) := dk_27 (dk_at dksX3_remembers_3 6 rfl rfl)
theorem dX3_remembers_78 : decode cX3_remembers 78 = .ok (.iaload, 1) := dk_46 (dk_at dksX3_remembers_3 7 rfl rfl)
theorem dX3_remembers_79 : decode cX3_remembers 79 = .ok (.iastore, 1) := dk_79 (dk_at dksX3_remembers_3 8 rfl rfl)
theorem dX3_remembers_80 : decode cX3_remembers 80 = .ok (.iinc 1 1, 3) := dk_132 1 1 (dk_at dksX3_remembers_3 9 rfl rfl)
theorem dX3_remembers_83 : decode cX3_remembers 83 = .ok (.goto (-31), 3) := dk_167 255 225 (dk_at dksX3_remembers_3 12 rfl rfl)
theorem dX3_remembers_86 : decode cX3_remembers 86 = .ok (.aload_n 0, 1) := dk_42 (dk_at dksX3_remembers_3 15 rfl rfl)
theorem dX3_remembers_87 : decode cX3_remembers 87 = .ok (.dup, 1) := dk_89 (dk_at dksX3_remembers_3 16 rfl rfl)
theorem dX3_remembers_88 : decode cX3_remembers 88 = .ok (.getfield 63, 3) := dk_180 0 63 (dk_at dksX3_remembers_3 17 rfl rfl)
theorem dX3_remembers_91 : decode cX3_remembers 91 = .ok (.iconst 1, 1) := dk_4 (dk_at dksX3_remembers_3 20 rfl rfl)
theorem dX3_remembers_92 : decode cX3_remembers 92 = .ok (.iadd, 1) := dk_96 (dk_at dksX3_remembers_3 21 rfl rfl)
theorem dX3_remembers_93 : decode cX3_remembers 93 = .ok (.putfield 63, 3) := dk_181 0 63 (dk_at dksX3_remembers_4 0 rfl rfl)
theorem dX3_remembers_96 : decode cX3_remembers 96 = .ok (.aload_n 0, 1) := dk_42 (dk_at dksX3_remembers_4 3 rfl rfl)
theorem dX3_remembers_97 : decode cX3_remembers 97 = .ok (.iconst 1, 1) := dk_4 (dk_at dksX3_remembers_4 4 rfl rfl)
theorem dX3_remembers_98 : decode cX3_remembers 98 = .ok (.putfield 305, 3) := dk_181 1 49 (dk_at dksX3_remembers_4 5 rfl rfl)
theorem dX3_remembers_101 : decode cX3_remembers 101 = .ok (.return_, 1) := dk_177 (dk_at dksX3_remembers_4 8 rfl rfl)
abbrev cX3_feeds : ByteArray := prog_17_method_68_code
def yX3_feeds : MethodName := ⟨RX3, "feeds", "(III)I"⟩
def dkwX3_feeds_6 : List UInt8 := [180, 0, 7, 16, 7, 27, 96, 46, 16, 9, 160, 0, 8, 42, 27, 182, 1, 84, 21, 4, 172]
abbrev dktX3_feeds_6 : List UInt8 := dkwX3_feeds_6 ++ []
def dkwX3_feeds_5 : List UInt8 := [17, 3, 231, 42, 180, 0, 7, 16, 31, 27, 96, 46, 42, 27, 182, 1, 81, 96, 184, 0, 235, 79, 42]
abbrev dktX3_feeds_5 : List UInt8 := dkwX3_feeds_5 ++ dktX3_feeds_6
def dkwX3_feeds_4 : List UInt8 := [29, 96, 182, 1, 65, 42, 27, 28, 29, 182, 1, 78, 54, 4, 42, 180, 0, 7, 16, 31, 27, 96]
abbrev dktX3_feeds_4 : List UInt8 := dkwX3_feeds_4 ++ dktX3_feeds_5
def dkwX3_feeds_3 : List UInt8 := [29, 2, 160, 0, 7, 3, 167, 0, 4, 4, 27, 29, 2, 160, 0, 7, 28, 167, 0, 9, 16, 10, 28, 104]
abbrev dktX3_feeds_3 : List UInt8 := dkwX3_feeds_3 ++ dktX3_feeds_4
def dkwX3_feeds_2 : List UInt8 := [160, 0, 7, 3, 167, 0, 4, 4, 96, 79, 42, 180, 0, 7, 16, 79, 27, 96, 92, 46, 4, 96, 79, 42]
abbrev dktX3_feeds_2 : List UInt8 := dkwX3_feeds_2 ++ dktX3_feeds_3
def dkwX3_feeds_1 : List UInt8 := [46, 29, 2, 160, 0, 7, 4, 167, 0, 4, 5, 96, 79, 42, 180, 0, 7, 5, 92, 46, 29, 2]
abbrev dktX3_feeds_1 : List UInt8 := dkwX3_feeds_1 ++ dktX3_feeds_2
def dkwX3_feeds_0 : List UInt8 := [42, 180, 0, 7, 4, 92, 46, 42, 28, 29, 182, 1, 62, 100, 79, 42, 180, 0, 7, 16, 7, 27, 96, 92]
abbrev dktX3_feeds_0 : List UInt8 := dkwX3_feeds_0 ++ dktX3_feeds_1
theorem dksX3_feeds_0 : cX3_feeds.data.toList.drop 0 = dktX3_feeds_0 := by decide +kernel
theorem dksX3_feeds_1 : cX3_feeds.data.toList.drop 24 = dktX3_feeds_1 := dk_seg dksX3_feeds_0 24 rfl rfl
theorem dksX3_feeds_2 : cX3_feeds.data.toList.drop 46 = dktX3_feeds_2 := dk_seg dksX3_feeds_1 22 rfl rfl
theorem dksX3_feeds_3 : cX3_feeds.data.toList.drop 70 = dktX3_feeds_3 := dk_seg dksX3_feeds_2 24 rfl rfl
theorem dksX3_feeds_4 : cX3_feeds.data.toList.drop 94 = dktX3_feeds_4 := dk_seg dksX3_feeds_3 24 rfl rfl
theorem dksX3_feeds_5 : cX3_feeds.data.toList.drop 116 = dktX3_feeds_5 := dk_seg dksX3_feeds_4 22 rfl rfl
theorem dksX3_feeds_6 : cX3_feeds.data.toList.drop 139 = dktX3_feeds_6 := dk_seg dksX3_feeds_5 23 rfl rfl
theorem dX3_feeds_0 : decode cX3_feeds 0 = .ok (.aload_n 0, 1) := dk_42 (dk_at dksX3_feeds_0 0 rfl rfl)
theorem dX3_feeds_1 : decode cX3_feeds 1 = .ok (.getfield 7, 3) := dk_180 0 7 (dk_at dksX3_feeds_0 1 rfl rfl)
theorem dX3_feeds_4 : decode cX3_feeds 4 = .ok (.iconst 1, 1) := dk_4 (dk_at dksX3_feeds_0 4 rfl rfl)
theorem dX3_feeds_5 : decode cX3_feeds 5 = .ok (.dup2, 1) := dk_92 (dk_at dksX3_feeds_0 5 rfl rfl)
theorem dX3_feeds_6 : decode cX3_feeds 6 = .ok (.iaload, 1) := dk_46 (dk_at dksX3_feeds_0 6 rfl rfl)
theorem dX3_feeds_7 : decode cX3_feeds 7 = .ok (.aload_n 0, 1) := dk_42 (dk_at dksX3_feeds_0 7 rfl rfl)
theorem dX3_feeds_8 : decode cX3_feeds 8 = .ok (.iload_n 2, 1) := dk_28 (dk_at dksX3_feeds_0 8 rfl rfl)
theorem dX3_feeds_9 : decode cX3_feeds 9 = .ok (.iload_n 3, 1) := dk_29 (dk_at dksX3_feeds_0 9 rfl rfl)
theorem dX3_feeds_10 : decode cX3_feeds 10 = .ok (.invokevirtual 318, 3) := dk_182 1 62 (dk_at dksX3_feeds_0 10 rfl rfl)
theorem dX3_feeds_13 : decode cX3_feeds 13 = .ok (.isub, 1) := dk_100 (dk_at dksX3_feeds_0 13 rfl rfl)
theorem dX3_feeds_14 : decode cX3_feeds 14 = .ok (.iastore, 1) := dk_79 (dk_at dksX3_feeds_0 14 rfl rfl)
theorem dX3_feeds_15 : decode cX3_feeds 15 = .ok (.aload_n 0, 1) := dk_42 (dk_at dksX3_feeds_0 15 rfl rfl)
theorem dX3_feeds_16 : decode cX3_feeds 16 = .ok (.getfield 7, 3) := dk_180 0 7 (dk_at dksX3_feeds_0 16 rfl rfl)
theorem dX3_feeds_19 : decode cX3_feeds 19 = .ok (.bipush 7, 2) := dk_16 7 (dk_at dksX3_feeds_0 19 rfl rfl)
theorem dX3_feeds_21 : decode cX3_feeds 21 = .ok (.iload_n 1, 1) := dk_27 (dk_at dksX3_feeds_0 21 rfl rfl)
theorem dX3_feeds_22 : decode cX3_feeds 22 = .ok (.iadd, 1) := dk_96 (dk_at dksX3_feeds_0 22 rfl rfl)
theorem dX3_feeds_23 : decode cX3_feeds 23 = .ok (.dup2, 1) := dk_92 (dk_at dksX3_feeds_0 23 rfl rfl)
theorem dX3_feeds_24 : decode cX3_feeds 24 = .ok (.iaload, 1) := dk_46 (dk_at dksX3_feeds_1 0 rfl rfl)
theorem dX3_feeds_25 : decode cX3_feeds 25 = .ok (.iload_n 3, 1) := dk_29 (dk_at dksX3_feeds_1 1 rfl rfl)
theorem dX3_feeds_26 : decode cX3_feeds 26 = .ok (.iconst (-1), 1) := dk_2 (dk_at dksX3_feeds_1 2 rfl rfl)
theorem dX3_feeds_27 : decode cX3_feeds 27 = .ok (.if_icmp .ne 7, 3) := dk_160 0 7 (dk_at dksX3_feeds_1 3 rfl rfl)
theorem dX3_feeds_30 : decode cX3_feeds 30 = .ok (.iconst 1, 1) := dk_4 (dk_at dksX3_feeds_1 6 rfl rfl)
theorem dX3_feeds_31 : decode cX3_feeds 31 = .ok (.goto 4, 3) := dk_167 0 4 (dk_at dksX3_feeds_1 7 rfl rfl)
theorem dX3_feeds_34 : decode cX3_feeds 34 = .ok (.iconst 2, 1) := dk_5 (dk_at dksX3_feeds_1 10 rfl rfl)
theorem dX3_feeds_35 : decode cX3_feeds 35 = .ok (.iadd, 1) := dk_96 (dk_at dksX3_feeds_1 11 rfl rfl)
theorem dX3_feeds_36 : decode cX3_feeds 36 = .ok (.iastore, 1) := dk_79 (dk_at dksX3_feeds_1 12 rfl rfl)
theorem dX3_feeds_37 : decode cX3_feeds 37 = .ok (.aload_n 0, 1) := dk_42 (dk_at dksX3_feeds_1 13 rfl rfl)
theorem dX3_feeds_38 : decode cX3_feeds 38 = .ok (.getfield 7, 3) := dk_180 0 7 (dk_at dksX3_feeds_1 14 rfl rfl)
theorem dX3_feeds_41 : decode cX3_feeds 41 = .ok (.iconst 2, 1) := dk_5 (dk_at dksX3_feeds_1 17 rfl rfl)
theorem dX3_feeds_42 : decode cX3_feeds 42 = .ok (.dup2, 1) := dk_92 (dk_at dksX3_feeds_1 18 rfl rfl)
theorem dX3_feeds_43 : decode cX3_feeds 43 = .ok (.iaload, 1) := dk_46 (dk_at dksX3_feeds_1 19 rfl rfl)
theorem dX3_feeds_44 : decode cX3_feeds 44 = .ok (.iload_n 3, 1) := dk_29 (dk_at dksX3_feeds_1 20 rfl rfl)
theorem dX3_feeds_45 : decode cX3_feeds 45 = .ok (.iconst (-1), 1) := dk_2 (dk_at dksX3_feeds_1 21 rfl rfl)
theorem dX3_feeds_46 : decode cX3_feeds 46 = .ok (.if_icmp .ne 7, 3) := dk_160 0 7 (dk_at dksX3_feeds_2 0 rfl rfl)
theorem dX3_feeds_49 : decode cX3_feeds 49 = .ok (.iconst 0, 1) := dk_3 (dk_at dksX3_feeds_2 3 rfl rfl)
theorem dX3_feeds_50 : decode cX3_feeds 50 = .ok (.goto 4, 3) := dk_167 0 4 (dk_at dksX3_feeds_2 4 rfl rfl)
theorem dX3_feeds_53 : decode cX3_feeds 53 = .ok (.iconst 1, 1) := dk_4 (dk_at dksX3_feeds_2 7 rfl rfl)
theorem dX3_feeds_54 : decode cX3_feeds 54 = .ok (.iadd, 1) := dk_96 (dk_at dksX3_feeds_2 8 rfl rfl)
theorem dX3_feeds_55 : decode cX3_feeds 55 = .ok (.iastore, 1) := dk_79 (dk_at dksX3_feeds_2 9 rfl rfl)
theorem dX3_feeds_56 : decode cX3_feeds 56 = .ok (.aload_n 0, 1) := dk_42 (dk_at dksX3_feeds_2 10 rfl rfl)
theorem dX3_feeds_57 : decode cX3_feeds 57 = .ok (.getfield 7, 3) := dk_180 0 7 (dk_at dksX3_feeds_2 11 rfl rfl)
theorem dX3_feeds_60 : decode cX3_feeds 60 = .ok (.bipush 79, 2) := dk_16 79 (dk_at dksX3_feeds_2 14 rfl rfl)
theorem dX3_feeds_62 : decode cX3_feeds 62 = .ok (.iload_n 1, 1) := dk_27 (dk_at dksX3_feeds_2 16 rfl rfl)
theorem dX3_feeds_63 : decode cX3_feeds 63 = .ok (.iadd, 1) := dk_96 (dk_at dksX3_feeds_2 17 rfl rfl)
theorem dX3_feeds_64 : decode cX3_feeds 64 = .ok (.dup2, 1) := dk_92 (dk_at dksX3_feeds_2 18 rfl rfl)
theorem dX3_feeds_65 : decode cX3_feeds 65 = .ok (.iaload, 1) := dk_46 (dk_at dksX3_feeds_2 19 rfl rfl)
theorem dX3_feeds_66 : decode cX3_feeds 66 = .ok (.iconst 1, 1) := dk_4 (dk_at dksX3_feeds_2 20 rfl rfl)
theorem dX3_feeds_67 : decode cX3_feeds 67 = .ok (.iadd, 1) := dk_96 (dk_at dksX3_feeds_2 21 rfl rfl)
theorem dX3_feeds_68 : decode cX3_feeds 68 = .ok (.iastore, 1) := dk_79 (dk_at dksX3_feeds_2 22 rfl rfl)
theorem dX3_feeds_69 : decode cX3_feeds 69 = .ok (.aload_n 0, 1) := dk_42 (dk_at dksX3_feeds_2 23 rfl rfl)
theorem dX3_feeds_70 : decode cX3_feeds 70 = .ok (.iload_n 3, 1) := dk_29 (dk_at dksX3_feeds_3 0 rfl rfl)
theorem dX3_feeds_71 : decode cX3_feeds 71 = .ok (.iconst (-1), 1) := dk_2 (dk_at dksX3_feeds_3 1 rfl rfl)
theorem dX3_feeds_72 : decode cX3_feeds 72 = .ok (.if_icmp .ne 7, 3) := dk_160 0 7 (dk_at dksX3_feeds_3 2 rfl rfl)
theorem dX3_feeds_75 : decode cX3_feeds 75 = .ok (.iconst 0, 1) := dk_3 (dk_at dksX3_feeds_3 5 rfl rfl)
theorem dX3_feeds_76 : decode cX3_feeds 76 = .ok (.goto 4, 3) := dk_167 0 4 (dk_at dksX3_feeds_3 6 rfl rfl)
theorem dX3_feeds_79 : decode cX3_feeds 79 = .ok (.iconst 1, 1) := dk_4 (dk_at dksX3_feeds_3 9 rfl rfl)
theorem dX3_feeds_80 : decode cX3_feeds 80 = .ok (.iload_n 1, 1) := dk_27 (dk_at dksX3_feeds_3 10 rfl rfl)
theorem dX3_feeds_81 : decode cX3_feeds 81 = .ok (.iload_n 3, 1) := dk_29 (dk_at dksX3_feeds_3 11 rfl rfl)
theorem dX3_feeds_82 : decode cX3_feeds 82 = .ok (.iconst (-1), 1) := dk_2 (dk_at dksX3_feeds_3 12 rfl rfl)
theorem dX3_feeds_83 : decode cX3_feeds 83 = .ok (.if_icmp .ne 7, 3) := dk_160 0 7 (dk_at dksX3_feeds_3 13 rfl rfl)
theorem dX3_feeds_86 : decode cX3_feeds 86 = .ok (.iload_n 2, 1) := dk_28 (dk_at dksX3_feeds_3 16 rfl rfl)
theorem dX3_feeds_87 : decode cX3_feeds 87 = .ok (.goto 9, 3) := dk_167 0 9 (dk_at dksX3_feeds_3 17 rfl rfl)
theorem dX3_feeds_90 : decode cX3_feeds 90 = .ok (.bipush 10, 2) := dk_16 10 (dk_at dksX3_feeds_3 20 rfl rfl)
theorem dX3_feeds_92 : decode cX3_feeds 92 = .ok (.iload_n 2, 1) := dk_28 (dk_at dksX3_feeds_3 22 rfl rfl)
theorem dX3_feeds_93 : decode cX3_feeds 93 = .ok (.imul, 1) := dk_104 (dk_at dksX3_feeds_3 23 rfl rfl)
theorem dX3_feeds_94 : decode cX3_feeds 94 = .ok (.iload_n 3, 1) := dk_29 (dk_at dksX3_feeds_4 0 rfl rfl)
theorem dX3_feeds_95 : decode cX3_feeds 95 = .ok (.iadd, 1) := dk_96 (dk_at dksX3_feeds_4 1 rfl rfl)
theorem dX3_feeds_96 : decode cX3_feeds 96 = .ok (.invokevirtual 321, 3) := dk_182 1 65 (dk_at dksX3_feeds_4 2 rfl rfl)
theorem dX3_feeds_99 : decode cX3_feeds 99 = .ok (.aload_n 0, 1) := dk_42 (dk_at dksX3_feeds_4 5 rfl rfl)
theorem dX3_feeds_100 : decode cX3_feeds 100 = .ok (.iload_n 1, 1) := dk_27 (dk_at dksX3_feeds_4 6 rfl rfl)
theorem dX3_feeds_101 : decode cX3_feeds 101 = .ok (.iload_n 2, 1) := dk_28 (dk_at dksX3_feeds_4 7 rfl rfl)
theorem dX3_feeds_102 : decode cX3_feeds 102 = .ok (.iload_n 3, 1) := dk_29 (dk_at dksX3_feeds_4 8 rfl rfl)
theorem dX3_feeds_103 : decode cX3_feeds 103 = .ok (.invokevirtual 334, 3) := dk_182 1 78 (dk_at dksX3_feeds_4 9 rfl rfl)
theorem dX3_feeds_106 : decode cX3_feeds 106 = .ok (.istore 4, 2) := dk_54 4 (dk_at dksX3_feeds_4 12 rfl rfl)
theorem dX3_feeds_108 : decode cX3_feeds 108 = .ok (.aload_n 0, 1) := dk_42 (dk_at dksX3_feeds_4 14 rfl rfl)
theorem dX3_feeds_109 : decode cX3_feeds 109 = .ok (.getfield 7, 3) := dk_180 0 7 (dk_at dksX3_feeds_4 15 rfl rfl)
theorem dX3_feeds_112 : decode cX3_feeds 112 = .ok (.bipush 31, 2) := dk_16 31 (dk_at dksX3_feeds_4 18 rfl rfl)
theorem dX3_feeds_114 : decode cX3_feeds 114 = .ok (.iload_n 1, 1) := dk_27 (dk_at dksX3_feeds_4 20 rfl rfl)
theorem dX3_feeds_115 : decode cX3_feeds 115 = .ok (.iadd, 1) := dk_96 (dk_at dksX3_feeds_4 21 rfl rfl)
theorem dX3_feeds_116 : decode cX3_feeds 116 = .ok (.sipush 999, 3) := dk_17 3 231 (dk_at dksX3_feeds_5 0 rfl rfl)
theorem dX3_feeds_119 : decode cX3_feeds 119 = .ok (.aload_n 0, 1) := dk_42 (dk_at dksX3_feeds_5 3 rfl rfl)
theorem dX3_feeds_120 : decode cX3_feeds 120 = .ok (.getfield 7, 3) := dk_180 0 7 (dk_at dksX3_feeds_5 4 rfl rfl)
theorem dX3_feeds_123 : decode cX3_feeds 123 = .ok (.bipush 31, 2) := dk_16 31 (dk_at dksX3_feeds_5 7 rfl rfl)
theorem dX3_feeds_125 : decode cX3_feeds 125 = .ok (.iload_n 1, 1) := dk_27 (dk_at dksX3_feeds_5 9 rfl rfl)
theorem dX3_feeds_126 : decode cX3_feeds 126 = .ok (.iadd, 1) := dk_96 (dk_at dksX3_feeds_5 10 rfl rfl)
theorem dX3_feeds_127 : decode cX3_feeds 127 = .ok (.iaload, 1) := dk_46 (dk_at dksX3_feeds_5 11 rfl rfl)
theorem dX3_feeds_128 : decode cX3_feeds 128 = .ok (.aload_n 0, 1) := dk_42 (dk_at dksX3_feeds_5 12 rfl rfl)
theorem dX3_feeds_129 : decode cX3_feeds 129 = .ok (.iload_n 1, 1) := dk_27 (dk_at dksX3_feeds_5 13 rfl rfl)
theorem dX3_feeds_130 : decode cX3_feeds 130 = .ok (.invokevirtual 337, 3) := dk_182 1 81 (dk_at dksX3_feeds_5 14 rfl rfl)
theorem dX3_feeds_133 : decode cX3_feeds 133 = .ok (.iadd, 1) := dk_96 (dk_at dksX3_feeds_5 17 rfl rfl)
theorem dX3_feeds_134 : decode cX3_feeds 134 = .ok (.invokestatic 235, 3) := dk_184 0 235 (dk_at dksX3_feeds_5 18 rfl rfl)
theorem dX3_feeds_137 : decode cX3_feeds 137 = .ok (.iastore, 1) := dk_79 (dk_at dksX3_feeds_5 21 rfl rfl)
theorem dX3_feeds_138 : decode cX3_feeds 138 = .ok (.aload_n 0, 1) := dk_42 (dk_at dksX3_feeds_5 22 rfl rfl)
theorem dX3_feeds_139 : decode cX3_feeds 139 = .ok (.getfield 7, 3) := dk_180 0 7 (dk_at dksX3_feeds_6 0 rfl rfl)
theorem dX3_feeds_142 : decode cX3_feeds 142 = .ok (.bipush 7, 2) := dk_16 7 (dk_at dksX3_feeds_6 3 rfl rfl)
theorem dX3_feeds_144 : decode cX3_feeds 144 = .ok (.iload_n 1, 1) := dk_27 (dk_at dksX3_feeds_6 5 rfl rfl)
theorem dX3_feeds_145 : decode cX3_feeds 145 = .ok (.iadd, 1) := dk_96 (dk_at dksX3_feeds_6 6 rfl rfl)
theorem dX3_feeds_146 : decode cX3_feeds 146 = .ok (.iaload, 1) := dk_46 (dk_at dksX3_feeds_6 7 rfl rfl)
theorem dX3_feeds_147 : decode cX3_feeds 147 = .ok (.bipush 9, 2) := dk_16 9 (dk_at dksX3_feeds_6 8 rfl rfl)
theorem dX3_feeds_149 : decode cX3_feeds 149 = .ok (.if_icmp .ne 8, 3) := dk_160 0 8 (dk_at dksX3_feeds_6 10 rfl rfl)
theorem dX3_feeds_152 : decode cX3_feeds 152 = .ok (.aload_n 0, 1) := dk_42 (dk_at dksX3_feeds_6 13 rfl rfl)
theorem dX3_feeds_153 : decode cX3_feeds 153 = .ok (.iload_n 1, 1) := dk_27 (dk_at dksX3_feeds_6 14 rfl rfl)
theorem dX3_feeds_154 : decode cX3_feeds 154 = .ok (.invokevirtual 340, 3) := dk_182 1 84 (dk_at dksX3_feeds_6 15 rfl rfl)
theorem dX3_feeds_157 : decode cX3_feeds 157 = .ok (.iload 4, 2) := dk_21 4 (dk_at dksX3_feeds_6 18 rfl rfl)
theorem dX3_feeds_159 : decode cX3_feeds 159 = .ok (.ireturn, 1) := dk_172 (dk_at dksX3_feeds_6 20 rfl rfl)
abbrev cX3_notes : ByteArray := prog_17_method_63_code
def yX3_notes : MethodName := ⟨RX3, "notes", "(III)V"⟩
def dkwX3_notes_3 : List UInt8 := [180, 0, 7, 21, 4, 6, 96, 29, 79, 42, 180, 0, 7, 16, 6, 92, 46, 4, 96, 79, 177]
abbrev dktX3_notes_3 : List UInt8 := dkwX3_notes_3 ++ []
def dkwX3_notes_2 : List UInt8 := [79, 42, 180, 0, 7, 21, 4, 4, 96, 27, 79, 42, 180, 0, 7, 21, 4, 5, 96, 28, 79, 42]
abbrev dktX3_notes_2 : List UInt8 := dkwX3_notes_2 ++ dktX3_notes_3
def dkwX3_notes_1 : List UInt8 := [7, 42, 180, 0, 7, 16, 6, 46, 104, 96, 54, 4, 42, 180, 0, 7, 21, 4, 42, 180, 0, 7, 3, 46]
abbrev dktX3_notes_1 : List UInt8 := dkwX3_notes_1 ++ dktX3_notes_2
def dkwX3_notes_0 : List UInt8 := [42, 180, 1, 49, 153, 0, 16, 42, 180, 0, 7, 16, 6, 46, 17, 0, 150, 160, 0, 4, 177, 17, 3, 103]
abbrev dktX3_notes_0 : List UInt8 := dkwX3_notes_0 ++ dktX3_notes_1
theorem dksX3_notes_0 : cX3_notes.data.toList.drop 0 = dktX3_notes_0 := by decide +kernel
theorem dksX3_notes_1 : cX3_notes.data.toList.drop 24 = dktX3_notes_1 := dk_seg dksX3_notes_0 24 rfl rfl
theorem dksX3_notes_2 : cX3_notes.data.toList.drop 48 = dktX3_notes_2 := dk_seg dksX3_notes_1 24 rfl rfl
theorem dksX3_notes_3 : cX3_notes.data.toList.drop 70 = dktX3_notes_3 := dk_seg dksX3_notes_2 22 rfl rfl
theorem dX3_notes_0 : decode cX3_notes 0 = .ok (.aload_n 0, 1) := dk_42 (dk_at dksX3_notes_0 0 rfl rfl)
theorem dX3_notes_1 : decode cX3_notes 1 = .ok (.getfield 305, 3) := dk_180 1 49 (dk_at dksX3_notes_0 1 rfl rfl)
theorem dX3_notes_4 : decode cX3_notes 4 = .ok (.ifCond .eq 16, 3) := dk_153 0 16 (dk_at dksX3_notes_0 4 rfl rfl)
theorem dX3_notes_7 : decode cX3_notes 7 = .ok (.aload_n 0, 1) := dk_42 (dk_at dksX3_notes_0 7 rfl rfl)
theorem dX3_notes_8 : decode cX3_notes 8 = .ok (.getfield 7, 3) := dk_180 0 7 (dk_at dksX3_notes_0 8 rfl rfl)
theorem dX3_notes_11 : decode cX3_notes 11 = .ok (.bipush 6, 2) := dk_16 6 (dk_at dksX3_notes_0 11 rfl rfl)
theorem dX3_notes_13 : decode cX3_notes 13 = .ok (.iaload, 1) := dk_46 (dk_at dksX3_notes_0 13 rfl rfl)
theorem dX3_notes_14 : decode cX3_notes 14 = .ok (.sipush 150, 3) := dk_17 0 150 (dk_at dksX3_notes_0 14 rfl rfl)
theorem dX3_notes_17 : decode cX3_notes 17 = .ok (.if_icmp .ne 4, 3) := dk_160 0 4 (dk_at dksX3_notes_0 17 rfl rfl)
theorem dX3_notes_20 : decode cX3_notes 20 = .ok (.return_, 1) := dk_177 (dk_at dksX3_notes_0 20 rfl rfl)
theorem dX3_notes_21 : decode cX3_notes 21 = .ok (.sipush 871, 3) := dk_17 3 103 (dk_at dksX3_notes_0 21 rfl rfl)
theorem dX3_notes_24 : decode cX3_notes 24 = .ok (.iconst 4, 1) := dk_7 (dk_at dksX3_notes_1 0 rfl rfl)
theorem dX3_notes_25 : decode cX3_notes 25 = .ok (.aload_n 0, 1) := dk_42 (dk_at dksX3_notes_1 1 rfl rfl)
theorem dX3_notes_26 : decode cX3_notes 26 = .ok (.getfield 7, 3) := dk_180 0 7 (dk_at dksX3_notes_1 2 rfl rfl)
theorem dX3_notes_29 : decode cX3_notes 29 = .ok (.bipush 6, 2) := dk_16 6 (dk_at dksX3_notes_1 5 rfl rfl)
theorem dX3_notes_31 : decode cX3_notes 31 = .ok (.iaload, 1) := dk_46 (dk_at dksX3_notes_1 7 rfl rfl)
theorem dX3_notes_32 : decode cX3_notes 32 = .ok (.imul, 1) := dk_104 (dk_at dksX3_notes_1 8 rfl rfl)
theorem dX3_notes_33 : decode cX3_notes 33 = .ok (.iadd, 1) := dk_96 (dk_at dksX3_notes_1 9 rfl rfl)
theorem dX3_notes_34 : decode cX3_notes 34 = .ok (.istore 4, 2) := dk_54 4 (dk_at dksX3_notes_1 10 rfl rfl)
theorem dX3_notes_36 : decode cX3_notes 36 = .ok (.aload_n 0, 1) := dk_42 (dk_at dksX3_notes_1 12 rfl rfl)
theorem dX3_notes_37 : decode cX3_notes 37 = .ok (.getfield 7, 3) := dk_180 0 7 (dk_at dksX3_notes_1 13 rfl rfl)
theorem dX3_notes_40 : decode cX3_notes 40 = .ok (.iload 4, 2) := dk_21 4 (dk_at dksX3_notes_1 16 rfl rfl)
theorem dX3_notes_42 : decode cX3_notes 42 = .ok (.aload_n 0, 1) := dk_42 (dk_at dksX3_notes_1 18 rfl rfl)
theorem dX3_notes_43 : decode cX3_notes 43 = .ok (.getfield 7, 3) := dk_180 0 7 (dk_at dksX3_notes_1 19 rfl rfl)
theorem dX3_notes_46 : decode cX3_notes 46 = .ok (.iconst 0, 1) := dk_3 (dk_at dksX3_notes_1 22 rfl rfl)
theorem dX3_notes_47 : decode cX3_notes 47 = .ok (.iaload, 1) := dk_46 (dk_at dksX3_notes_1 23 rfl rfl)
theorem dX3_notes_48 : decode cX3_notes 48 = .ok (.iastore, 1) := dk_79 (dk_at dksX3_notes_2 0 rfl rfl)
theorem dX3_notes_49 : decode cX3_notes 49 = .ok (.aload_n 0, 1) := dk_42 (dk_at dksX3_notes_2 1 rfl rfl)
theorem dX3_notes_50 : decode cX3_notes 50 = .ok (.getfield 7, 3) := dk_180 0 7 (dk_at dksX3_notes_2 2 rfl rfl)
theorem dX3_notes_53 : decode cX3_notes 53 = .ok (.iload 4, 2) := dk_21 4 (dk_at dksX3_notes_2 5 rfl rfl)
theorem dX3_notes_55 : decode cX3_notes 55 = .ok (.iconst 1, 1) := dk_4 (dk_at dksX3_notes_2 7 rfl rfl)
theorem dX3_notes_56 : decode cX3_notes 56 = .ok (.iadd, 1) := dk_96 (dk_at dksX3_notes_2 8 rfl rfl)
theorem dX3_notes_57 : decode cX3_notes 57 = .ok (.iload_n 1, 1) := dk_27 (dk_at dksX3_notes_2 9 rfl rfl)
theorem dX3_notes_58 : decode cX3_notes 58 = .ok (.iastore, 1) := dk_79 (dk_at dksX3_notes_2 10 rfl rfl)
theorem dX3_notes_59 : decode cX3_notes 59 = .ok (.aload_n 0, 1) := dk_42 (dk_at dksX3_notes_2 11 rfl rfl)
theorem dX3_notes_60 : decode cX3_notes 60 = .ok (.getfield 7, 3) := dk_180 0 7 (dk_at dksX3_notes_2 12 rfl rfl)
theorem dX3_notes_63 : decode cX3_notes 63 = .ok (.iload 4, 2) := dk_21 4 (dk_at dksX3_notes_2 15 rfl rfl)
theorem dX3_notes_65 : decode cX3_notes 65 = .ok (.iconst 2, 1) := dk_5 (dk_at dksX3_notes_2 17 rfl rfl)
theorem dX3_notes_66 : decode cX3_notes 66 = .ok (.iadd, 1) := dk_96 (dk_at dksX3_notes_2 18 rfl rfl)
theorem dX3_notes_67 : decode cX3_notes 67 = .ok (.iload_n 2, 1) := dk_28 (dk_at dksX3_notes_2 19 rfl rfl)
theorem dX3_notes_68 : decode cX3_notes 68 = .ok (.iastore, 1) := dk_79 (dk_at dksX3_notes_2 20 rfl rfl)
theorem dX3_notes_69 : decode cX3_notes 69 = .ok (.aload_n 0, 1) := dk_42 (dk_at dksX3_notes_2 21 rfl rfl)
theorem dX3_notes_70 : decode cX3_notes 70 = .ok (.getfield 7, 3) := dk_180 0 7 (dk_at dksX3_notes_3 0 rfl rfl)
theorem dX3_notes_73 : decode cX3_notes 73 = .ok (.iload 4, 2) := dk_21 4 (dk_at dksX3_notes_3 3 rfl rfl)
theorem dX3_notes_75 : decode cX3_notes 75 = .ok (.iconst 3, 1) := dk_6 (dk_at dksX3_notes_3 5 rfl rfl)
theorem dX3_notes_76 : decode cX3_notes 76 = .ok (.iadd, 1) := dk_96 (dk_at dksX3_notes_3 6 rfl rfl)
theorem dX3_notes_77 : decode cX3_notes 77 = .ok (.iload_n 3, 1) := dk_29 (dk_at dksX3_notes_3 7 rfl rfl)
theorem dX3_notes_78 : decode cX3_notes 78 = .ok (.iastore, 1) := dk_79 (dk_at dksX3_notes_3 8 rfl rfl)
theorem dX3_notes_79 : decode cX3_notes 79 = .ok (.aload_n 0, 1) := dk_42 (dk_at dksX3_notes_3 9 rfl rfl)
theorem dX3_notes_80 : decode cX3_notes 80 = .ok (.getfield 7, 3) := dk_180 0 7 (dk_at dksX3_notes_3 10 rfl rfl)
theorem dX3_notes_83 : decode cX3_notes 83 = .ok (.bipush 6, 2) := dk_16 6 (dk_at dksX3_notes_3 13 rfl rfl)
theorem dX3_notes_85 : decode cX3_notes 85 = .ok (.dup2, 1) := dk_92 (dk_at dksX3_notes_3 15 rfl rfl)
theorem dX3_notes_86 : decode cX3_notes 86 = .ok (.iaload, 1) := dk_46 (dk_at dksX3_notes_3 16 rfl rfl)
theorem dX3_notes_87 : decode cX3_notes 87 = .ok (.iconst 1, 1) := dk_4 (dk_at dksX3_notes_3 17 rfl rfl)
theorem dX3_notes_88 : decode cX3_notes 88 = .ok (.iadd, 1) := dk_96 (dk_at dksX3_notes_3 18 rfl rfl)
theorem dX3_notes_89 : decode cX3_notes 89 = .ok (.iastore, 1) := dk_79 (dk_at dksX3_notes_3 19 rfl rfl)
theorem dX3_notes_90 : decode cX3_notes 90 = .ok (.return_, 1) := dk_177 (dk_at dksX3_notes_3 20 rfl rfl)
abbrev cX3_spins : ByteArray := prog_17_method_67_code
def yX3_spins : MethodName := ⟨RX3, "spins", "(III)I"⟩
def dkwX3_spins_6 : List UInt8 := [172]
abbrev dktX3_spins_6 : List UInt8 := dkwX3_spins_6 ++ []
def dkwX3_spins_5 : List UInt8 := [92, 46, 4, 96, 79, 132, 5, 1, 167, 255, 136, 42, 180, 0, 7, 6, 92, 46, 21, 4, 96, 79, 21, 4]
abbrev dktX3_spins_5 : List UInt8 := dkwX3_spins_5 ++ dktX3_spins_6
def dkwX3_spins_4 : List UInt8 := [27, 104, 96, 42, 180, 0, 7, 16, 19, 27, 96, 46, 96, 21, 6, 79, 42, 180, 0, 7, 16, 19, 27, 96]
abbrev dktX3_spins_4 : List UInt8 := dkwX3_spins_4 ++ dktX3_spins_5
def dkwX3_spins_3 : List UInt8 := [180, 0, 7, 16, 19, 27, 96, 46, 16, 40, 160, 0, 6, 167, 0, 40, 42, 180, 0, 7, 16, 91, 16, 40]
abbrev dktX3_spins_3 : List UInt8 := dkwX3_spins_3 ++ dktX3_spins_4
def dkwX3_spins_2 : List UInt8 := [17, 3, 232, 182, 1, 75, 21, 7, 162, 0, 15, 21, 6, 4, 96, 16, 8, 112, 54, 6, 132, 4, 1, 42]
abbrev dktX3_spins_2 : List UInt8 := dkwX3_spins_2 ++ dktX3_spins_3
def dkwX3_spins_1 : List UInt8 := [182, 1, 69, 54, 6, 42, 27, 21, 6, 21, 5, 182, 1, 72, 54, 7, 42, 180, 1, 49, 153, 0, 27, 42]
abbrev dktX3_spins_1 : List UInt8 := dkwX3_spins_1 ++ dktX3_spins_2
def dkwX3_spins_0 : List UInt8 := [3, 54, 4, 3, 54, 5, 21, 5, 42, 28, 29, 182, 1, 46, 162, 0, 115, 42, 28, 29, 21, 5]
abbrev dktX3_spins_0 : List UInt8 := dkwX3_spins_0 ++ dktX3_spins_1
theorem dksX3_spins_0 : cX3_spins.data.toList.drop 0 = dktX3_spins_0 := by decide +kernel
theorem dksX3_spins_1 : cX3_spins.data.toList.drop 22 = dktX3_spins_1 := dk_seg dksX3_spins_0 22 rfl rfl
theorem dksX3_spins_2 : cX3_spins.data.toList.drop 46 = dktX3_spins_2 := dk_seg dksX3_spins_1 24 rfl rfl
theorem dksX3_spins_3 : cX3_spins.data.toList.drop 70 = dktX3_spins_3 := dk_seg dksX3_spins_2 24 rfl rfl
theorem dksX3_spins_4 : cX3_spins.data.toList.drop 94 = dktX3_spins_4 := dk_seg dksX3_spins_3 24 rfl rfl
theorem dksX3_spins_5 : cX3_spins.data.toList.drop 118 = dktX3_spins_5 := dk_seg dksX3_spins_4 24 rfl rfl
theorem dksX3_spins_6 : cX3_spins.data.toList.drop 142 = dktX3_spins_6 := dk_seg dksX3_spins_5 24 rfl rfl
theorem dX3_spins_0 : decode cX3_spins 0 = .ok (.iconst 0, 1) := dk_3 (dk_at dksX3_spins_0 0 rfl rfl)
theorem dX3_spins_1 : decode cX3_spins 1 = .ok (.istore 4, 2) := dk_54 4 (dk_at dksX3_spins_0 1 rfl rfl)
theorem dX3_spins_3 : decode cX3_spins 3 = .ok (.iconst 0, 1) := dk_3 (dk_at dksX3_spins_0 3 rfl rfl)
theorem dX3_spins_4 : decode cX3_spins 4 = .ok (.istore 5, 2) := dk_54 5 (dk_at dksX3_spins_0 4 rfl rfl)
theorem dX3_spins_6 : decode cX3_spins 6 = .ok (.iload 5, 2) := dk_21 5 (dk_at dksX3_spins_0 6 rfl rfl)
theorem dX3_spins_8 : decode cX3_spins 8 = .ok (.aload_n 0, 1) := dk_42 (dk_at dksX3_spins_0 8 rfl rfl)
theorem dX3_spins_9 : decode cX3_spins 9 = .ok (.iload_n 2, 1) := dk_28 (dk_at dksX3_spins_0 9 rfl rfl)
theorem dX3_spins_10 : decode cX3_spins 10 = .ok (.iload_n 3, 1) := dk_29 (dk_at dksX3_spins_0 10 rfl rfl)
theorem dX3_spins_11 : decode cX3_spins 11 = .ok (.invokevirtual 302, 3) := dk_182 1 46 (dk_at dksX3_spins_0 11 rfl rfl)
theorem dX3_spins_14 : decode cX3_spins 14 = .ok (.if_icmp .ge 115, 3) := dk_162 0 115 (dk_at dksX3_spins_0 14 rfl rfl)
theorem dX3_spins_17 : decode cX3_spins 17 = .ok (.aload_n 0, 1) := dk_42 (dk_at dksX3_spins_0 17 rfl rfl)
theorem dX3_spins_18 : decode cX3_spins 18 = .ok (.iload_n 2, 1) := dk_28 (dk_at dksX3_spins_0 18 rfl rfl)
theorem dX3_spins_19 : decode cX3_spins 19 = .ok (.iload_n 3, 1) := dk_29 (dk_at dksX3_spins_0 19 rfl rfl)
theorem dX3_spins_20 : decode cX3_spins 20 = .ok (.iload 5, 2) := dk_21 5 (dk_at dksX3_spins_0 20 rfl rfl)
theorem dX3_spins_22 : decode cX3_spins 22 = .ok (.invokevirtual 325, 3) := dk_182 1 69 (dk_at dksX3_spins_1 0 rfl rfl)
theorem dX3_spins_25 : decode cX3_spins 25 = .ok (.istore 6, 2) := dk_54 6 (dk_at dksX3_spins_1 3 rfl rfl)
theorem dX3_spins_27 : decode cX3_spins 27 = .ok (.aload_n 0, 1) := dk_42 (dk_at dksX3_spins_1 5 rfl rfl)
theorem dX3_spins_28 : decode cX3_spins 28 = .ok (.iload_n 1, 1) := dk_27 (dk_at dksX3_spins_1 6 rfl rfl)
theorem dX3_spins_29 : decode cX3_spins 29 = .ok (.iload 6, 2) := dk_21 6 (dk_at dksX3_spins_1 7 rfl rfl)
theorem dX3_spins_31 : decode cX3_spins 31 = .ok (.iload 5, 2) := dk_21 5 (dk_at dksX3_spins_1 9 rfl rfl)
theorem dX3_spins_33 : decode cX3_spins 33 = .ok (.invokevirtual 328, 3) := dk_182 1 72 (dk_at dksX3_spins_1 11 rfl rfl)
theorem dX3_spins_36 : decode cX3_spins 36 = .ok (.istore 7, 2) := dk_54 7 (dk_at dksX3_spins_1 14 rfl rfl)
theorem dX3_spins_38 : decode cX3_spins 38 = .ok (.aload_n 0, 1) := dk_42 (dk_at dksX3_spins_1 16 rfl rfl)
theorem dX3_spins_39 : decode cX3_spins 39 = .ok (.getfield 305, 3) := dk_180 1 49 (dk_at dksX3_spins_1 17 rfl rfl)
theorem dX3_spins_42 : decode cX3_spins 42 = .ok (.ifCond .eq 27, 3) := dk_153 0 27 (dk_at dksX3_spins_1 20 rfl rfl)
theorem dX3_spins_45 : decode cX3_spins 45 = .ok (.aload_n 0, 1) := dk_42 (dk_at dksX3_spins_1 23 rfl rfl)
theorem dX3_spins_46 : decode cX3_spins 46 = .ok (.sipush 1000, 3) := dk_17 3 232 (dk_at dksX3_spins_2 0 rfl rfl)
theorem dX3_spins_49 : decode cX3_spins 49 = .ok (.invokevirtual 331, 3) := dk_182 1 75 (dk_at dksX3_spins_2 3 rfl rfl)
theorem dX3_spins_52 : decode cX3_spins 52 = .ok (.iload 7, 2) := dk_21 7 (dk_at dksX3_spins_2 6 rfl rfl)
theorem dX3_spins_54 : decode cX3_spins 54 = .ok (.if_icmp .ge 15, 3) := dk_162 0 15 (dk_at dksX3_spins_2 8 rfl rfl)
theorem dX3_spins_57 : decode cX3_spins 57 = .ok (.iload 6, 2) := dk_21 6 (dk_at dksX3_spins_2 11 rfl rfl)
theorem dX3_spins_59 : decode cX3_spins 59 = .ok (.iconst 1, 1) := dk_4 (dk_at dksX3_spins_2 13 rfl rfl)
theorem dX3_spins_60 : decode cX3_spins 60 = .ok (.iadd, 1) := dk_96 (dk_at dksX3_spins_2 14 rfl rfl)
theorem dX3_spins_61 : decode cX3_spins 61 = .ok (.bipush 8, 2) := dk_16 8 (dk_at dksX3_spins_2 15 rfl rfl)
theorem dX3_spins_63 : decode cX3_spins 63 = .ok (.irem, 1) := dk_112 (dk_at dksX3_spins_2 17 rfl rfl)
theorem dX3_spins_64 : decode cX3_spins 64 = .ok (.istore 6, 2) := dk_54 6 (dk_at dksX3_spins_2 18 rfl rfl)
theorem dX3_spins_66 : decode cX3_spins 66 = .ok (.iinc 4 1, 3) := dk_132 4 1 (dk_at dksX3_spins_2 20 rfl rfl)
theorem dX3_spins_69 : decode cX3_spins 69 = .ok (.aload_n 0, 1) := dk_42 (dk_at dksX3_spins_2 23 rfl rfl)
theorem dX3_spins_70 : decode cX3_spins 70 = .ok (.getfield 7, 3) := dk_180 0 7 (dk_at dksX3_spins_3 0 rfl rfl)
theorem dX3_spins_73 : decode cX3_spins 73 = .ok (.bipush 19, 2) := dk_16 19 (dk_at dksX3_spins_3 3 rfl rfl)
theorem dX3_spins_75 : decode cX3_spins 75 = .ok (.iload_n 1, 1) := dk_27 (dk_at dksX3_spins_3 5 rfl rfl)
theorem dX3_spins_76 : decode cX3_spins 76 = .ok (.iadd, 1) := dk_96 (dk_at dksX3_spins_3 6 rfl rfl)
theorem dX3_spins_77 : decode cX3_spins 77 = .ok (.iaload, 1) := dk_46 (dk_at dksX3_spins_3 7 rfl rfl)
theorem dX3_spins_78 : decode cX3_spins 78 = .ok (.bipush 40, 2) := dk_16 40 (dk_at dksX3_spins_3 8 rfl rfl)
theorem dX3_spins_80 : decode cX3_spins 80 = .ok (.if_icmp .ne 6, 3) := dk_160 0 6 (dk_at dksX3_spins_3 10 rfl rfl)
theorem dX3_spins_83 : decode cX3_spins 83 = .ok (.goto 40, 3) := dk_167 0 40 (dk_at dksX3_spins_3 13 rfl rfl)
theorem dX3_spins_86 : decode cX3_spins 86 = .ok (.aload_n 0, 1) := dk_42 (dk_at dksX3_spins_3 16 rfl rfl)
theorem dX3_spins_87 : decode cX3_spins 87 = .ok (.getfield 7, 3) := dk_180 0 7 (dk_at dksX3_spins_3 17 rfl rfl)
theorem dX3_spins_90 : decode cX3_spins 90 = .ok (.bipush 91, 2) := dk_16 91 (dk_at dksX3_spins_3 20 rfl rfl)
theorem dX3_spins_92 : decode cX3_spins 92 = .ok (.bipush 40, 2) := dk_16 40 (dk_at dksX3_spins_3 22 rfl rfl)
theorem dX3_spins_94 : decode cX3_spins 94 = .ok (.iload_n 1, 1) := dk_27 (dk_at dksX3_spins_4 0 rfl rfl)
theorem dX3_spins_95 : decode cX3_spins 95 = .ok (.imul, 1) := dk_104 (dk_at dksX3_spins_4 1 rfl rfl)
theorem dX3_spins_96 : decode cX3_spins 96 = .ok (.iadd, 1) := dk_96 (dk_at dksX3_spins_4 2 rfl rfl)
theorem dX3_spins_97 : decode cX3_spins 97 = .ok (.aload_n 0, 1) := dk_42 (dk_at dksX3_spins_4 3 rfl rfl)
theorem dX3_spins_98 : decode cX3_spins 98 = .ok (.getfield 7, 3) := dk_180 0 7 (dk_at dksX3_spins_4 4 rfl rfl)
theorem dX3_spins_101 : decode cX3_spins 101 = .ok (.bipush 19, 2) := dk_16 19 (dk_at dksX3_spins_4 7 rfl rfl)
theorem dX3_spins_103 : decode cX3_spins 103 = .ok (.iload_n 1, 1) := dk_27 (dk_at dksX3_spins_4 9 rfl rfl)
theorem dX3_spins_104 : decode cX3_spins 104 = .ok (.iadd, 1) := dk_96 (dk_at dksX3_spins_4 10 rfl rfl)
theorem dX3_spins_105 : decode cX3_spins 105 = .ok (.iaload, 1) := dk_46 (dk_at dksX3_spins_4 11 rfl rfl)
theorem dX3_spins_106 : decode cX3_spins 106 = .ok (.iadd, 1) := dk_96 (dk_at dksX3_spins_4 12 rfl rfl)
theorem dX3_spins_107 : decode cX3_spins 107 = .ok (.iload 6, 2) := dk_21 6 (dk_at dksX3_spins_4 13 rfl rfl)
theorem dX3_spins_109 : decode cX3_spins 109 = .ok (.iastore, 1) := dk_79 (dk_at dksX3_spins_4 15 rfl rfl)
theorem dX3_spins_110 : decode cX3_spins 110 = .ok (.aload_n 0, 1) := dk_42 (dk_at dksX3_spins_4 16 rfl rfl)
theorem dX3_spins_111 : decode cX3_spins 111 = .ok (.getfield 7, 3) := dk_180 0 7 (dk_at dksX3_spins_4 17 rfl rfl)
theorem dX3_spins_114 : decode cX3_spins 114 = .ok (.bipush 19, 2) := dk_16 19 (dk_at dksX3_spins_4 20 rfl rfl)
theorem dX3_spins_116 : decode cX3_spins 116 = .ok (.iload_n 1, 1) := dk_27 (dk_at dksX3_spins_4 22 rfl rfl)
theorem dX3_spins_117 : decode cX3_spins 117 = .ok (.iadd, 1) := dk_96 (dk_at dksX3_spins_4 23 rfl rfl)
theorem dX3_spins_118 : decode cX3_spins 118 = .ok (.dup2, 1) := dk_92 (dk_at dksX3_spins_5 0 rfl rfl)
theorem dX3_spins_119 : decode cX3_spins 119 = .ok (.iaload, 1) := dk_46 (dk_at dksX3_spins_5 1 rfl rfl)
theorem dX3_spins_120 : decode cX3_spins 120 = .ok (.iconst 1, 1) := dk_4 (dk_at dksX3_spins_5 2 rfl rfl)
theorem dX3_spins_121 : decode cX3_spins 121 = .ok (.iadd, 1) := dk_96 (dk_at dksX3_spins_5 3 rfl rfl)
theorem dX3_spins_122 : decode cX3_spins 122 = .ok (.iastore, 1) := dk_79 (dk_at dksX3_spins_5 4 rfl rfl)
theorem dX3_spins_123 : decode cX3_spins 123 = .ok (.iinc 5 1, 3) := dk_132 5 1 (dk_at dksX3_spins_5 5 rfl rfl)
theorem dX3_spins_126 : decode cX3_spins 126 = .ok (.goto (-120), 3) := dk_167 255 136 (dk_at dksX3_spins_5 8 rfl rfl)
theorem dX3_spins_129 : decode cX3_spins 129 = .ok (.aload_n 0, 1) := dk_42 (dk_at dksX3_spins_5 11 rfl rfl)
theorem dX3_spins_130 : decode cX3_spins 130 = .ok (.getfield 7, 3) := dk_180 0 7 (dk_at dksX3_spins_5 12 rfl rfl)
theorem dX3_spins_133 : decode cX3_spins 133 = .ok (.iconst 3, 1) := dk_6 (dk_at dksX3_spins_5 15 rfl rfl)
theorem dX3_spins_134 : decode cX3_spins 134 = .ok (.dup2, 1) := dk_92 (dk_at dksX3_spins_5 16 rfl rfl)
theorem dX3_spins_135 : decode cX3_spins 135 = .ok (.iaload, 1) := dk_46 (dk_at dksX3_spins_5 17 rfl rfl)
theorem dX3_spins_136 : decode cX3_spins 136 = .ok (.iload 4, 2) := dk_21 4 (dk_at dksX3_spins_5 18 rfl rfl)
theorem dX3_spins_138 : decode cX3_spins 138 = .ok (.iadd, 1) := dk_96 (dk_at dksX3_spins_5 20 rfl rfl)
theorem dX3_spins_139 : decode cX3_spins 139 = .ok (.iastore, 1) := dk_79 (dk_at dksX3_spins_5 21 rfl rfl)
theorem dX3_spins_140 : decode cX3_spins 140 = .ok (.iload 4, 2) := dk_21 4 (dk_at dksX3_spins_5 22 rfl rfl)
theorem dX3_spins_142 : decode cX3_spins 142 = .ok (.ireturn, 1) := dk_172 (dk_at dksX3_spins_6 0 rfl rfl)
abbrev cX3_spunMany : ByteArray := prog_17_method_59_code
def yX3_spunMany : MethodName := ⟨RX3, "spunMany", "(II)I"⟩
def dkwX3_spunMany_0 : List UInt8 := [42, 27, 3, 182, 1, 43, 28, 2, 160, 0, 7, 3, 167, 0, 9, 42, 28, 3, 182, 1, 43, 96, 172]
abbrev dktX3_spunMany_0 : List UInt8 := dkwX3_spunMany_0 ++ []
theorem dksX3_spunMany_0 : cX3_spunMany.data.toList.drop 0 = dktX3_spunMany_0 := by decide +kernel
theorem dX3_spunMany_0 : decode cX3_spunMany 0 = .ok (.aload_n 0, 1) := dk_42 (dk_at dksX3_spunMany_0 0 rfl rfl)
theorem dX3_spunMany_1 : decode cX3_spunMany 1 = .ok (.iload_n 1, 1) := dk_27 (dk_at dksX3_spunMany_0 1 rfl rfl)
theorem dX3_spunMany_2 : decode cX3_spunMany 2 = .ok (.iconst 0, 1) := dk_3 (dk_at dksX3_spunMany_0 2 rfl rfl)
theorem dX3_spunMany_3 : decode cX3_spunMany 3 = .ok (.invokevirtual 299, 3) := dk_182 1 43 (dk_at dksX3_spunMany_0 3 rfl rfl)
theorem dX3_spunMany_6 : decode cX3_spunMany 6 = .ok (.iload_n 2, 1) := dk_28 (dk_at dksX3_spunMany_0 6 rfl rfl)
theorem dX3_spunMany_7 : decode cX3_spunMany 7 = .ok (.iconst (-1), 1) := dk_2 (dk_at dksX3_spunMany_0 7 rfl rfl)
theorem dX3_spunMany_8 : decode cX3_spunMany 8 = .ok (.if_icmp .ne 7, 3) := dk_160 0 7 (dk_at dksX3_spunMany_0 8 rfl rfl)
theorem dX3_spunMany_11 : decode cX3_spunMany 11 = .ok (.iconst 0, 1) := dk_3 (dk_at dksX3_spunMany_0 11 rfl rfl)
theorem dX3_spunMany_12 : decode cX3_spunMany 12 = .ok (.goto 9, 3) := dk_167 0 9 (dk_at dksX3_spunMany_0 12 rfl rfl)
theorem dX3_spunMany_15 : decode cX3_spunMany 15 = .ok (.aload_n 0, 1) := dk_42 (dk_at dksX3_spunMany_0 15 rfl rfl)
theorem dX3_spunMany_16 : decode cX3_spunMany 16 = .ok (.iload_n 2, 1) := dk_28 (dk_at dksX3_spunMany_0 16 rfl rfl)
theorem dX3_spunMany_17 : decode cX3_spunMany 17 = .ok (.iconst 0, 1) := dk_3 (dk_at dksX3_spunMany_0 17 rfl rfl)
theorem dX3_spunMany_18 : decode cX3_spunMany 18 = .ok (.invokevirtual 299, 3) := dk_182 1 43 (dk_at dksX3_spunMany_0 18 rfl rfl)
theorem dX3_spunMany_21 : decode cX3_spunMany 21 = .ok (.iadd, 1) := dk_96 (dk_at dksX3_spunMany_0 21 rfl rfl)
theorem dX3_spunMany_22 : decode cX3_spunMany 22 = .ok (.ireturn, 1) := dk_172 (dk_at dksX3_spunMany_0 22 rfl rfl)
abbrev cX3_spunMark : ByteArray := prog_17_method_60_code
def yX3_spunMark : MethodName := ⟨RX3, "spunMark", "(III)I"⟩
def dkwX3_spunMark_4 : List UInt8 := [21, 4, 100, 182, 1, 43, 172]
abbrev dktX3_spunMark_4 : List UInt8 := dkwX3_spunMark_4 ++ []
def dkwX3_spunMark_3 : List UInt8 := [182, 1, 43, 172, 42, 42, 27, 3, 182, 1, 43, 21, 4, 164, 0, 7, 27, 167, 0, 4, 28, 6, 29, 96]
abbrev dktX3_spunMark_3 : List UInt8 := dkwX3_spunMark_3 ++ dktX3_spunMark_4
def dkwX3_spunMark_2 : List UInt8 := [21, 4, 104, 162, 0, 24, 42, 29, 5, 112, 154, 0, 7, 27, 167, 0, 4, 28, 6, 29, 5, 108, 96]
abbrev dktX3_spunMark_2 : List UInt8 := dkwX3_spunMark_2 ++ dktX3_spunMark_3
def dkwX3_spunMark_1 : List UInt8 := [182, 1, 43, 172, 42, 27, 3, 182, 1, 43, 42, 28, 3, 182, 1, 43, 184, 0, 235, 54, 4, 29, 5]
abbrev dktX3_spunMark_1 : List UInt8 := dkwX3_spunMark_1 ++ dktX3_spunMark_2
def dkwX3_spunMark_0 : List UInt8 := [29, 42, 27, 28, 182, 1, 46, 161, 0, 5, 2, 172, 28, 2, 160, 0, 12, 42, 27, 6, 29, 96]
abbrev dktX3_spunMark_0 : List UInt8 := dkwX3_spunMark_0 ++ dktX3_spunMark_1
theorem dksX3_spunMark_0 : cX3_spunMark.data.toList.drop 0 = dktX3_spunMark_0 := by decide +kernel
theorem dksX3_spunMark_1 : cX3_spunMark.data.toList.drop 22 = dktX3_spunMark_1 := dk_seg dksX3_spunMark_0 22 rfl rfl
theorem dksX3_spunMark_2 : cX3_spunMark.data.toList.drop 45 = dktX3_spunMark_2 := dk_seg dksX3_spunMark_1 23 rfl rfl
theorem dksX3_spunMark_3 : cX3_spunMark.data.toList.drop 68 = dktX3_spunMark_3 := dk_seg dksX3_spunMark_2 23 rfl rfl
theorem dksX3_spunMark_4 : cX3_spunMark.data.toList.drop 92 = dktX3_spunMark_4 := dk_seg dksX3_spunMark_3 24 rfl rfl
theorem dX3_spunMark_0 : decode cX3_spunMark 0 = .ok (.iload_n 3, 1) := dk_29 (dk_at dksX3_spunMark_0 0 rfl rfl)
theorem dX3_spunMark_1 : decode cX3_spunMark 1 = .ok (.aload_n 0, 1) := dk_42 (dk_at dksX3_spunMark_0 1 rfl rfl)
theorem dX3_spunMark_2 : decode cX3_spunMark 2 = .ok (.iload_n 1, 1) := dk_27 (dk_at dksX3_spunMark_0 2 rfl rfl)
theorem dX3_spunMark_3 : decode cX3_spunMark 3 = .ok (.iload_n 2, 1) := dk_28 (dk_at dksX3_spunMark_0 3 rfl rfl)
theorem dX3_spunMark_4 : decode cX3_spunMark 4 = .ok (.invokevirtual 302, 3) := dk_182 1 46 (dk_at dksX3_spunMark_0 4 rfl rfl)
theorem dX3_spunMark_7 : decode cX3_spunMark 7 = .ok (.if_icmp .lt 5, 3) := dk_161 0 5 (dk_at dksX3_spunMark_0 7 rfl rfl)
theorem dX3_spunMark_10 : decode cX3_spunMark 10 = .ok (.iconst (-1), 1) := dk_2 (dk_at dksX3_spunMark_0 10 rfl rfl)
theorem dX3_spunMark_11 : decode cX3_spunMark 11 = .ok (.ireturn, 1) := dk_172 (dk_at dksX3_spunMark_0 11 rfl rfl)
theorem dX3_spunMark_12 : decode cX3_spunMark 12 = .ok (.iload_n 2, 1) := dk_28 (dk_at dksX3_spunMark_0 12 rfl rfl)
theorem dX3_spunMark_13 : decode cX3_spunMark 13 = .ok (.iconst (-1), 1) := dk_2 (dk_at dksX3_spunMark_0 13 rfl rfl)
theorem dX3_spunMark_14 : decode cX3_spunMark 14 = .ok (.if_icmp .ne 12, 3) := dk_160 0 12 (dk_at dksX3_spunMark_0 14 rfl rfl)
theorem dX3_spunMark_17 : decode cX3_spunMark 17 = .ok (.aload_n 0, 1) := dk_42 (dk_at dksX3_spunMark_0 17 rfl rfl)
theorem dX3_spunMark_18 : decode cX3_spunMark 18 = .ok (.iload_n 1, 1) := dk_27 (dk_at dksX3_spunMark_0 18 rfl rfl)
theorem dX3_spunMark_19 : decode cX3_spunMark 19 = .ok (.iconst 3, 1) := dk_6 (dk_at dksX3_spunMark_0 19 rfl rfl)
theorem dX3_spunMark_20 : decode cX3_spunMark 20 = .ok (.iload_n 3, 1) := dk_29 (dk_at dksX3_spunMark_0 20 rfl rfl)
theorem dX3_spunMark_21 : decode cX3_spunMark 21 = .ok (.iadd, 1) := dk_96 (dk_at dksX3_spunMark_0 21 rfl rfl)
theorem dX3_spunMark_22 : decode cX3_spunMark 22 = .ok (.invokevirtual 299, 3) := dk_182 1 43 (dk_at dksX3_spunMark_1 0 rfl rfl)
theorem dX3_spunMark_25 : decode cX3_spunMark 25 = .ok (.ireturn, 1) := dk_172 (dk_at dksX3_spunMark_1 3 rfl rfl)
theorem dX3_spunMark_26 : decode cX3_spunMark 26 = .ok (.aload_n 0, 1) := dk_42 (dk_at dksX3_spunMark_1 4 rfl rfl)
theorem dX3_spunMark_27 : decode cX3_spunMark 27 = .ok (.iload_n 1, 1) := dk_27 (dk_at dksX3_spunMark_1 5 rfl rfl)
theorem dX3_spunMark_28 : decode cX3_spunMark 28 = .ok (.iconst 0, 1) := dk_3 (dk_at dksX3_spunMark_1 6 rfl rfl)
theorem dX3_spunMark_29 : decode cX3_spunMark 29 = .ok (.invokevirtual 299, 3) := dk_182 1 43 (dk_at dksX3_spunMark_1 7 rfl rfl)
theorem dX3_spunMark_32 : decode cX3_spunMark 32 = .ok (.aload_n 0, 1) := dk_42 (dk_at dksX3_spunMark_1 10 rfl rfl)
theorem dX3_spunMark_33 : decode cX3_spunMark 33 = .ok (.iload_n 2, 1) := dk_28 (dk_at dksX3_spunMark_1 11 rfl rfl)
theorem dX3_spunMark_34 : decode cX3_spunMark 34 = .ok (.iconst 0, 1) := dk_3 (dk_at dksX3_spunMark_1 12 rfl rfl)
theorem dX3_spunMark_35 : decode cX3_spunMark 35 = .ok (.invokevirtual 299, 3) := dk_182 1 43 (dk_at dksX3_spunMark_1 13 rfl rfl)
theorem dX3_spunMark_38 : decode cX3_spunMark 38 = .ok (.invokestatic 235, 3) := dk_184 0 235 (dk_at dksX3_spunMark_1 16 rfl rfl)
theorem dX3_spunMark_41 : decode cX3_spunMark 41 = .ok (.istore 4, 2) := dk_54 4 (dk_at dksX3_spunMark_1 19 rfl rfl)
theorem dX3_spunMark_43 : decode cX3_spunMark 43 = .ok (.iload_n 3, 1) := dk_29 (dk_at dksX3_spunMark_1 21 rfl rfl)
theorem dX3_spunMark_44 : decode cX3_spunMark 44 = .ok (.iconst 2, 1) := dk_5 (dk_at dksX3_spunMark_1 22 rfl rfl)
theorem dX3_spunMark_45 : decode cX3_spunMark 45 = .ok (.iload 4, 2) := dk_21 4 (dk_at dksX3_spunMark_2 0 rfl rfl)
theorem dX3_spunMark_47 : decode cX3_spunMark 47 = .ok (.imul, 1) := dk_104 (dk_at dksX3_spunMark_2 2 rfl rfl)
theorem dX3_spunMark_48 : decode cX3_spunMark 48 = .ok (.if_icmp .ge 24, 3) := dk_162 0 24 (dk_at dksX3_spunMark_2 3 rfl rfl)
theorem dX3_spunMark_51 : decode cX3_spunMark 51 = .ok (.aload_n 0, 1) := dk_42 (dk_at dksX3_spunMark_2 6 rfl rfl)
theorem dX3_spunMark_52 : decode cX3_spunMark 52 = .ok (.iload_n 3, 1) := dk_29 (dk_at dksX3_spunMark_2 7 rfl rfl)
theorem dX3_spunMark_53 : decode cX3_spunMark 53 = .ok (.iconst 2, 1) := dk_5 (dk_at dksX3_spunMark_2 8 rfl rfl)
theorem dX3_spunMark_54 : decode cX3_spunMark 54 = .ok (.irem, 1) := dk_112 (dk_at dksX3_spunMark_2 9 rfl rfl)
theorem dX3_spunMark_55 : decode cX3_spunMark 55 = .ok (.ifCond .ne 7, 3) := dk_154 0 7 (dk_at dksX3_spunMark_2 10 rfl rfl)
theorem dX3_spunMark_58 : decode cX3_spunMark 58 = .ok (.iload_n 1, 1) := dk_27 (dk_at dksX3_spunMark_2 13 rfl rfl)
theorem dX3_spunMark_59 : decode cX3_spunMark 59 = .ok (.goto 4, 3) := dk_167 0 4 (dk_at dksX3_spunMark_2 14 rfl rfl)
theorem dX3_spunMark_62 : decode cX3_spunMark 62 = .ok (.iload_n 2, 1) := dk_28 (dk_at dksX3_spunMark_2 17 rfl rfl)
theorem dX3_spunMark_63 : decode cX3_spunMark 63 = .ok (.iconst 3, 1) := dk_6 (dk_at dksX3_spunMark_2 18 rfl rfl)
theorem dX3_spunMark_64 : decode cX3_spunMark 64 = .ok (.iload_n 3, 1) := dk_29 (dk_at dksX3_spunMark_2 19 rfl rfl)
theorem dX3_spunMark_65 : decode cX3_spunMark 65 = .ok (.iconst 2, 1) := dk_5 (dk_at dksX3_spunMark_2 20 rfl rfl)
theorem dX3_spunMark_66 : decode cX3_spunMark 66 = .ok (.idiv, 1) := dk_108 (dk_at dksX3_spunMark_2 21 rfl rfl)
theorem dX3_spunMark_67 : decode cX3_spunMark 67 = .ok (.iadd, 1) := dk_96 (dk_at dksX3_spunMark_2 22 rfl rfl)
theorem dX3_spunMark_68 : decode cX3_spunMark 68 = .ok (.invokevirtual 299, 3) := dk_182 1 43 (dk_at dksX3_spunMark_3 0 rfl rfl)
theorem dX3_spunMark_71 : decode cX3_spunMark 71 = .ok (.ireturn, 1) := dk_172 (dk_at dksX3_spunMark_3 3 rfl rfl)
theorem dX3_spunMark_72 : decode cX3_spunMark 72 = .ok (.aload_n 0, 1) := dk_42 (dk_at dksX3_spunMark_3 4 rfl rfl)
theorem dX3_spunMark_73 : decode cX3_spunMark 73 = .ok (.aload_n 0, 1) := dk_42 (dk_at dksX3_spunMark_3 5 rfl rfl)
theorem dX3_spunMark_74 : decode cX3_spunMark 74 = .ok (.iload_n 1, 1) := dk_27 (dk_at dksX3_spunMark_3 6 rfl rfl)
theorem dX3_spunMark_75 : decode cX3_spunMark 75 = .ok (.iconst 0, 1) := dk_3 (dk_at dksX3_spunMark_3 7 rfl rfl)
theorem dX3_spunMark_76 : decode cX3_spunMark 76 = .ok (.invokevirtual 299, 3) := dk_182 1 43 (dk_at dksX3_spunMark_3 8 rfl rfl)
theorem dX3_spunMark_79 : decode cX3_spunMark 79 = .ok (.iload 4, 2) := dk_21 4 (dk_at dksX3_spunMark_3 11 rfl rfl)
theorem dX3_spunMark_81 : decode cX3_spunMark 81 = .ok (.if_icmp .le 7, 3) := dk_164 0 7 (dk_at dksX3_spunMark_3 13 rfl rfl)
theorem dX3_spunMark_84 : decode cX3_spunMark 84 = .ok (.iload_n 1, 1) := dk_27 (dk_at dksX3_spunMark_3 16 rfl rfl)
theorem dX3_spunMark_85 : decode cX3_spunMark 85 = .ok (.goto 4, 3) := dk_167 0 4 (dk_at dksX3_spunMark_3 17 rfl rfl)
theorem dX3_spunMark_88 : decode cX3_spunMark 88 = .ok (.iload_n 2, 1) := dk_28 (dk_at dksX3_spunMark_3 20 rfl rfl)
theorem dX3_spunMark_89 : decode cX3_spunMark 89 = .ok (.iconst 3, 1) := dk_6 (dk_at dksX3_spunMark_3 21 rfl rfl)
theorem dX3_spunMark_90 : decode cX3_spunMark 90 = .ok (.iload_n 3, 1) := dk_29 (dk_at dksX3_spunMark_3 22 rfl rfl)
theorem dX3_spunMark_91 : decode cX3_spunMark 91 = .ok (.iadd, 1) := dk_96 (dk_at dksX3_spunMark_3 23 rfl rfl)
theorem dX3_spunMark_92 : decode cX3_spunMark 92 = .ok (.iload 4, 2) := dk_21 4 (dk_at dksX3_spunMark_4 0 rfl rfl)
theorem dX3_spunMark_94 : decode cX3_spunMark 94 = .ok (.isub, 1) := dk_100 (dk_at dksX3_spunMark_4 2 rfl rfl)
theorem dX3_spunMark_95 : decode cX3_spunMark 95 = .ok (.invokevirtual 299, 3) := dk_182 1 43 (dk_at dksX3_spunMark_4 3 rfl rfl)
theorem dX3_spunMark_98 : decode cX3_spunMark 98 = .ok (.ireturn, 1) := dk_172 (dk_at dksX3_spunMark_4 6 rfl rfl)
abbrev cX3_slipsOf : ByteArray := prog_17_method_57_code
def yX3_slipsOf : MethodName := ⟨RX3, "slipsOf", "(III)I"⟩
def dkwX3_slipsOf_1 : List UInt8 := [182, 1, 39, 172]
abbrev dktX3_slipsOf_1 : List UInt8 := dkwX3_slipsOf_1 ++ []
def dkwX3_slipsOf_0 : List UInt8 := [42, 16, 21, 27, 28, 29, 16, 25, 16, 20, 42, 180, 0, 7, 17, 2, 61, 46, 104, 96, 17, 3, 232]
abbrev dktX3_slipsOf_0 : List UInt8 := dkwX3_slipsOf_0 ++ dktX3_slipsOf_1
theorem dksX3_slipsOf_0 : cX3_slipsOf.data.toList.drop 0 = dktX3_slipsOf_0 := by decide +kernel
theorem dksX3_slipsOf_1 : cX3_slipsOf.data.toList.drop 23 = dktX3_slipsOf_1 := dk_seg dksX3_slipsOf_0 23 rfl rfl
theorem dX3_slipsOf_0 : decode cX3_slipsOf 0 = .ok (.aload_n 0, 1) := dk_42 (dk_at dksX3_slipsOf_0 0 rfl rfl)
theorem dX3_slipsOf_1 : decode cX3_slipsOf 1 = .ok (.bipush 21, 2) := dk_16 21 (dk_at dksX3_slipsOf_0 1 rfl rfl)
theorem dX3_slipsOf_3 : decode cX3_slipsOf 3 = .ok (.iload_n 1, 1) := dk_27 (dk_at dksX3_slipsOf_0 3 rfl rfl)
theorem dX3_slipsOf_4 : decode cX3_slipsOf 4 = .ok (.iload_n 2, 1) := dk_28 (dk_at dksX3_slipsOf_0 4 rfl rfl)
theorem dX3_slipsOf_5 : decode cX3_slipsOf 5 = .ok (.iload_n 3, 1) := dk_29 (dk_at dksX3_slipsOf_0 5 rfl rfl)
theorem dX3_slipsOf_6 : decode cX3_slipsOf 6 = .ok (.bipush 25, 2) := dk_16 25 (dk_at dksX3_slipsOf_0 6 rfl rfl)
theorem dX3_slipsOf_8 : decode cX3_slipsOf 8 = .ok (.bipush 20, 2) := dk_16 20 (dk_at dksX3_slipsOf_0 8 rfl rfl)
theorem dX3_slipsOf_10 : decode cX3_slipsOf 10 = .ok (.aload_n 0, 1) := dk_42 (dk_at dksX3_slipsOf_0 10 rfl rfl)
theorem dX3_slipsOf_11 : decode cX3_slipsOf 11 = .ok (.getfield 7, 3) := dk_180 0 7 (dk_at dksX3_slipsOf_0 11 rfl rfl)
theorem dX3_slipsOf_14 : decode cX3_slipsOf 14 = .ok (.sipush 573, 3) := dk_17 2 61 (dk_at dksX3_slipsOf_0 14 rfl rfl)
theorem dX3_slipsOf_17 : decode cX3_slipsOf 17 = .ok (.iaload, 1) := dk_46 (dk_at dksX3_slipsOf_0 17 rfl rfl)
theorem dX3_slipsOf_18 : decode cX3_slipsOf 18 = .ok (.imul, 1) := dk_104 (dk_at dksX3_slipsOf_0 18 rfl rfl)
theorem dX3_slipsOf_19 : decode cX3_slipsOf 19 = .ok (.iadd, 1) := dk_96 (dk_at dksX3_slipsOf_0 19 rfl rfl)
theorem dX3_slipsOf_20 : decode cX3_slipsOf 20 = .ok (.sipush 1000, 3) := dk_17 3 232 (dk_at dksX3_slipsOf_0 20 rfl rfl)
theorem dX3_slipsOf_23 : decode cX3_slipsOf 23 = .ok (.invokevirtual 295, 3) := dk_182 1 39 (dk_at dksX3_slipsOf_1 0 rfl rfl)
theorem dX3_slipsOf_26 : decode cX3_slipsOf 26 = .ok (.ireturn, 1) := dk_172 (dk_at dksX3_slipsOf_1 3 rfl rfl)
abbrev cX3_draw : ByteArray := prog_17_method_14_code
def yX3_draw : MethodName := ⟨RX3, "draw", "(I)I"⟩
def dkwX3_draw_1 : List UInt8 := [16, 8, 124, 27, 112, 172]
abbrev dktX3_draw_1 : List UInt8 := dkwX3_draw_1 ++ []
def dkwX3_draw_0 : List UInt8 := [42, 180, 0, 7, 8, 18, 69, 42, 180, 0, 7, 8, 46, 104, 18, 70, 96, 79, 42, 180, 0, 7, 8, 46]
abbrev dktX3_draw_0 : List UInt8 := dkwX3_draw_0 ++ dktX3_draw_1
theorem dksX3_draw_0 : cX3_draw.data.toList.drop 0 = dktX3_draw_0 := by decide +kernel
theorem dksX3_draw_1 : cX3_draw.data.toList.drop 24 = dktX3_draw_1 := dk_seg dksX3_draw_0 24 rfl rfl
theorem dX3_draw_0 : decode cX3_draw 0 = .ok (.aload_n 0, 1) := dk_42 (dk_at dksX3_draw_0 0 rfl rfl)
theorem dX3_draw_1 : decode cX3_draw 1 = .ok (.getfield 7, 3) := dk_180 0 7 (dk_at dksX3_draw_0 1 rfl rfl)
theorem dX3_draw_4 : decode cX3_draw 4 = .ok (.iconst 5, 1) := dk_8 (dk_at dksX3_draw_0 4 rfl rfl)
theorem dX3_draw_5 : decode cX3_draw 5 = .ok (.ldc 69, 2) := dk_18 69 (dk_at dksX3_draw_0 5 rfl rfl)
theorem dX3_draw_7 : decode cX3_draw 7 = .ok (.aload_n 0, 1) := dk_42 (dk_at dksX3_draw_0 7 rfl rfl)
theorem dX3_draw_8 : decode cX3_draw 8 = .ok (.getfield 7, 3) := dk_180 0 7 (dk_at dksX3_draw_0 8 rfl rfl)
theorem dX3_draw_11 : decode cX3_draw 11 = .ok (.iconst 5, 1) := dk_8 (dk_at dksX3_draw_0 11 rfl rfl)
theorem dX3_draw_12 : decode cX3_draw 12 = .ok (.iaload, 1) := dk_46 (dk_at dksX3_draw_0 12 rfl rfl)
theorem dX3_draw_13 : decode cX3_draw 13 = .ok (.imul, 1) := dk_104 (dk_at dksX3_draw_0 13 rfl rfl)
theorem dX3_draw_14 : decode cX3_draw 14 = .ok (.ldc 70, 2) := dk_18 70 (dk_at dksX3_draw_0 14 rfl rfl)
theorem dX3_draw_16 : decode cX3_draw 16 = .ok (.iadd, 1) := dk_96 (dk_at dksX3_draw_0 16 rfl rfl)
theorem dX3_draw_17 : decode cX3_draw 17 = .ok (.iastore, 1) := dk_79 (dk_at dksX3_draw_0 17 rfl rfl)
theorem dX3_draw_18 : decode cX3_draw 18 = .ok (.aload_n 0, 1) := dk_42 (dk_at dksX3_draw_0 18 rfl rfl)
theorem dX3_draw_19 : decode cX3_draw 19 = .ok (.getfield 7, 3) := dk_180 0 7 (dk_at dksX3_draw_0 19 rfl rfl)
theorem dX3_draw_22 : decode cX3_draw 22 = .ok (.iconst 5, 1) := dk_8 (dk_at dksX3_draw_0 22 rfl rfl)
theorem dX3_draw_23 : decode cX3_draw 23 = .ok (.iaload, 1) := dk_46 (dk_at dksX3_draw_0 23 rfl rfl)
theorem dX3_draw_24 : decode cX3_draw 24 = .ok (.bipush 8, 2) := dk_16 8 (dk_at dksX3_draw_1 0 rfl rfl)
theorem dX3_draw_26 : decode cX3_draw 26 = .ok (.iushr, 1) := dk_124 (dk_at dksX3_draw_1 2 rfl rfl)
theorem dX3_draw_27 : decode cX3_draw 27 = .ok (.iload_n 1, 1) := dk_27 (dk_at dksX3_draw_1 3 rfl rfl)
theorem dX3_draw_28 : decode cX3_draw 28 = .ok (.irem, 1) := dk_112 (dk_at dksX3_draw_1 4 rfl rfl)
theorem dX3_draw_29 : decode cX3_draw 29 = .ok (.ireturn, 1) := dk_172 (dk_at dksX3_draw_1 5 rfl rfl)
abbrev cX3_strongOf : ByteArray := prog_17_method_58_code
def yX3_strongOf : MethodName := ⟨RX3, "strongOf", "(I)I"⟩
def dkwX3_strongOf_1 : List UInt8 := [172]
abbrev dktX3_strongOf_1 : List UInt8 := dkwX3_strongOf_1 ++ []
def dkwX3_strongOf_0 : List UInt8 := [42, 16, 22, 27, 3, 3, 16, 9, 42, 180, 0, 7, 17, 2, 81, 27, 96, 46, 100, 16, 20, 182, 1, 39]
abbrev dktX3_strongOf_0 : List UInt8 := dkwX3_strongOf_0 ++ dktX3_strongOf_1
theorem dksX3_strongOf_0 : cX3_strongOf.data.toList.drop 0 = dktX3_strongOf_0 := by decide +kernel
theorem dksX3_strongOf_1 : cX3_strongOf.data.toList.drop 24 = dktX3_strongOf_1 := dk_seg dksX3_strongOf_0 24 rfl rfl
theorem dX3_strongOf_0 : decode cX3_strongOf 0 = .ok (.aload_n 0, 1) := dk_42 (dk_at dksX3_strongOf_0 0 rfl rfl)
theorem dX3_strongOf_1 : decode cX3_strongOf 1 = .ok (.bipush 22, 2) := dk_16 22 (dk_at dksX3_strongOf_0 1 rfl rfl)
theorem dX3_strongOf_3 : decode cX3_strongOf 3 = .ok (.iload_n 1, 1) := dk_27 (dk_at dksX3_strongOf_0 3 rfl rfl)
theorem dX3_strongOf_4 : decode cX3_strongOf 4 = .ok (.iconst 0, 1) := dk_3 (dk_at dksX3_strongOf_0 4 rfl rfl)
theorem dX3_strongOf_5 : decode cX3_strongOf 5 = .ok (.iconst 0, 1) := dk_3 (dk_at dksX3_strongOf_0 5 rfl rfl)
theorem dX3_strongOf_6 : decode cX3_strongOf 6 = .ok (.bipush 9, 2) := dk_16 9 (dk_at dksX3_strongOf_0 6 rfl rfl)
theorem dX3_strongOf_8 : decode cX3_strongOf 8 = .ok (.aload_n 0, 1) := dk_42 (dk_at dksX3_strongOf_0 8 rfl rfl)
theorem dX3_strongOf_9 : decode cX3_strongOf 9 = .ok (.getfield 7, 3) := dk_180 0 7 (dk_at dksX3_strongOf_0 9 rfl rfl)
theorem dX3_strongOf_12 : decode cX3_strongOf 12 = .ok (.sipush 593, 3) := dk_17 2 81 (dk_at dksX3_strongOf_0 12 rfl rfl)
theorem dX3_strongOf_15 : decode cX3_strongOf 15 = .ok (.iload_n 1, 1) := dk_27 (dk_at dksX3_strongOf_0 15 rfl rfl)
theorem dX3_strongOf_16 : decode cX3_strongOf 16 = .ok (.iadd, 1) := dk_96 (dk_at dksX3_strongOf_0 16 rfl rfl)
theorem dX3_strongOf_17 : decode cX3_strongOf 17 = .ok (.iaload, 1) := dk_46 (dk_at dksX3_strongOf_0 17 rfl rfl)
theorem dX3_strongOf_18 : decode cX3_strongOf 18 = .ok (.isub, 1) := dk_100 (dk_at dksX3_strongOf_0 18 rfl rfl)
theorem dX3_strongOf_19 : decode cX3_strongOf 19 = .ok (.bipush 20, 2) := dk_16 20 (dk_at dksX3_strongOf_0 19 rfl rfl)
theorem dX3_strongOf_21 : decode cX3_strongOf 21 = .ok (.invokevirtual 295, 3) := dk_182 1 39 (dk_at dksX3_strongOf_0 21 rfl rfl)
theorem dX3_strongOf_24 : decode cX3_strongOf 24 = .ok (.ireturn, 1) := dk_172 (dk_at dksX3_strongOf_1 0 rfl rfl)
abbrev cX3_cocoons : ByteArray := prog_17_method_66_code
def yX3_cocoons : MethodName := ⟨RX3, "cocoons", "(I)V"⟩
def dkwX3_cocoons_1 : List UInt8 := [182, 1, 65, 177]
abbrev dktX3_cocoons_1 : List UInt8 := dkwX3_cocoons_1 ++ []
def dkwX3_cocoons_0 : List UInt8 := [42, 180, 0, 7, 16, 43, 27, 96, 3, 79, 42, 5, 27, 42, 180, 0, 7, 16, 19, 27, 96, 46]
abbrev dktX3_cocoons_0 : List UInt8 := dkwX3_cocoons_0 ++ dktX3_cocoons_1
theorem dksX3_cocoons_0 : cX3_cocoons.data.toList.drop 0 = dktX3_cocoons_0 := by decide +kernel
theorem dksX3_cocoons_1 : cX3_cocoons.data.toList.drop 22 = dktX3_cocoons_1 := dk_seg dksX3_cocoons_0 22 rfl rfl
theorem dX3_cocoons_0 : decode cX3_cocoons 0 = .ok (.aload_n 0, 1) := dk_42 (dk_at dksX3_cocoons_0 0 rfl rfl)
theorem dX3_cocoons_1 : decode cX3_cocoons 1 = .ok (.getfield 7, 3) := dk_180 0 7 (dk_at dksX3_cocoons_0 1 rfl rfl)
theorem dX3_cocoons_4 : decode cX3_cocoons 4 = .ok (.bipush 43, 2) := dk_16 43 (dk_at dksX3_cocoons_0 4 rfl rfl)
theorem dX3_cocoons_6 : decode cX3_cocoons 6 = .ok (.iload_n 1, 1) := dk_27 (dk_at dksX3_cocoons_0 6 rfl rfl)
theorem dX3_cocoons_7 : decode cX3_cocoons 7 = .ok (.iadd, 1) := dk_96 (dk_at dksX3_cocoons_0 7 rfl rfl)
theorem dX3_cocoons_8 : decode cX3_cocoons 8 = .ok (.iconst 0, 1) := dk_3 (dk_at dksX3_cocoons_0 8 rfl rfl)
theorem dX3_cocoons_9 : decode cX3_cocoons 9 = .ok (.iastore, 1) := dk_79 (dk_at dksX3_cocoons_0 9 rfl rfl)
theorem dX3_cocoons_10 : decode cX3_cocoons 10 = .ok (.aload_n 0, 1) := dk_42 (dk_at dksX3_cocoons_0 10 rfl rfl)
theorem dX3_cocoons_11 : decode cX3_cocoons 11 = .ok (.iconst 2, 1) := dk_5 (dk_at dksX3_cocoons_0 11 rfl rfl)
theorem dX3_cocoons_12 : decode cX3_cocoons 12 = .ok (.iload_n 1, 1) := dk_27 (dk_at dksX3_cocoons_0 12 rfl rfl)
theorem dX3_cocoons_13 : decode cX3_cocoons 13 = .ok (.aload_n 0, 1) := dk_42 (dk_at dksX3_cocoons_0 13 rfl rfl)
theorem dX3_cocoons_14 : decode cX3_cocoons 14 = .ok (.getfield 7, 3) := dk_180 0 7 (dk_at dksX3_cocoons_0 14 rfl rfl)
theorem dX3_cocoons_17 : decode cX3_cocoons 17 = .ok (.bipush 19, 2) := dk_16 19 (dk_at dksX3_cocoons_0 17 rfl rfl)
theorem dX3_cocoons_19 : decode cX3_cocoons 19 = .ok (.iload_n 1, 1) := dk_27 (dk_at dksX3_cocoons_0 19 rfl rfl)
theorem dX3_cocoons_20 : decode cX3_cocoons 20 = .ok (.iadd, 1) := dk_96 (dk_at dksX3_cocoons_0 20 rfl rfl)
theorem dX3_cocoons_21 : decode cX3_cocoons 21 = .ok (.iaload, 1) := dk_46 (dk_at dksX3_cocoons_0 21 rfl rfl)
theorem dX3_cocoons_22 : decode cX3_cocoons 22 = .ok (.invokevirtual 321, 3) := dk_182 1 65 (dk_at dksX3_cocoons_1 0 rfl rfl)
theorem dX3_cocoons_25 : decode cX3_cocoons 25 = .ok (.return_, 1) := dk_177 (dk_at dksX3_cocoons_1 3 rfl rfl)
abbrev cX3_cocoon : ByteArray := prog_17_method_71_code
def yX3_cocoon : MethodName := ⟨RX3, "cocoon", "(IZ)Z"⟩
def dkwX3_cocoon_2 : List UInt8 := [27, 182, 1, 84, 4, 172]
abbrev dktX3_cocoon_2 : List UInt8 := dkwX3_cocoon_2 ++ []
def dkwX3_cocoon_1 : List UInt8 := [153, 0, 23, 42, 180, 0, 7, 16, 55, 27, 96, 4, 79, 42, 6, 27, 3, 182, 1, 65, 167, 0, 8, 42]
abbrev dktX3_cocoon_1 : List UInt8 := dkwX3_cocoon_1 ++ dktX3_cocoon_2
def dkwX3_cocoon_0 : List UInt8 := [42, 27, 182, 0, 71, 153, 0, 12, 42, 27, 28, 182, 1, 97, 154, 0, 5, 3, 172, 42, 182, 1, 91, 28]
abbrev dktX3_cocoon_0 : List UInt8 := dkwX3_cocoon_0 ++ dktX3_cocoon_1
theorem dksX3_cocoon_0 : cX3_cocoon.data.toList.drop 0 = dktX3_cocoon_0 := by decide +kernel
theorem dksX3_cocoon_1 : cX3_cocoon.data.toList.drop 24 = dktX3_cocoon_1 := dk_seg dksX3_cocoon_0 24 rfl rfl
theorem dksX3_cocoon_2 : cX3_cocoon.data.toList.drop 48 = dktX3_cocoon_2 := dk_seg dksX3_cocoon_1 24 rfl rfl
theorem dX3_cocoon_0 : decode cX3_cocoon 0 = .ok (.aload_n 0, 1) := dk_42 (dk_at dksX3_cocoon_0 0 rfl rfl)
theorem dX3_cocoon_1 : decode cX3_cocoon 1 = .ok (.iload_n 1, 1) := dk_27 (dk_at dksX3_cocoon_0 1 rfl rfl)
theorem dX3_cocoon_2 : decode cX3_cocoon 2 = .ok (.invokevirtual 71, 3) := dk_182 0 71 (dk_at dksX3_cocoon_0 2 rfl rfl)
theorem dX3_cocoon_5 : decode cX3_cocoon 5 = .ok (.ifCond .eq 12, 3) := dk_153 0 12 (dk_at dksX3_cocoon_0 5 rfl rfl)
theorem dX3_cocoon_8 : decode cX3_cocoon 8 = .ok (.aload_n 0, 1) := dk_42 (dk_at dksX3_cocoon_0 8 rfl rfl)
theorem dX3_cocoon_9 : decode cX3_cocoon 9 = .ok (.iload_n 1, 1) := dk_27 (dk_at dksX3_cocoon_0 9 rfl rfl)
theorem dX3_cocoon_10 : decode cX3_cocoon 10 = .ok (.iload_n 2, 1) := dk_28 (dk_at dksX3_cocoon_0 10 rfl rfl)
theorem dX3_cocoon_11 : decode cX3_cocoon 11 = .ok (.invokevirtual 353, 3) := dk_182 1 97 (dk_at dksX3_cocoon_0 11 rfl rfl)
theorem dX3_cocoon_14 : decode cX3_cocoon 14 = .ok (.ifCond .ne 5, 3) := dk_154 0 5 (dk_at dksX3_cocoon_0 14 rfl rfl)
theorem dX3_cocoon_17 : decode cX3_cocoon 17 = .ok (.iconst 0, 1) := dk_3 (dk_at dksX3_cocoon_0 17 rfl rfl)
theorem dX3_cocoon_18 : decode cX3_cocoon 18 = .ok (.ireturn, 1) := dk_172 (dk_at dksX3_cocoon_0 18 rfl rfl)
theorem dX3_cocoon_19 : decode cX3_cocoon 19 = .ok (.aload_n 0, 1) := dk_42 (dk_at dksX3_cocoon_0 19 rfl rfl)
theorem dX3_cocoon_20 : decode cX3_cocoon 20 = .ok (.invokevirtual 347, 3) := dk_182 1 91 (dk_at dksX3_cocoon_0 20 rfl rfl)
theorem dX3_cocoon_23 : decode cX3_cocoon 23 = .ok (.iload_n 2, 1) := dk_28 (dk_at dksX3_cocoon_0 23 rfl rfl)
theorem dX3_cocoon_24 : decode cX3_cocoon 24 = .ok (.ifCond .eq 23, 3) := dk_153 0 23 (dk_at dksX3_cocoon_1 0 rfl rfl)
theorem dX3_cocoon_27 : decode cX3_cocoon 27 = .ok (.aload_n 0, 1) := dk_42 (dk_at dksX3_cocoon_1 3 rfl rfl)
theorem dX3_cocoon_28 : decode cX3_cocoon 28 = .ok (.getfield 7, 3) := dk_180 0 7 (dk_at dksX3_cocoon_1 4 rfl rfl)
theorem dX3_cocoon_31 : decode cX3_cocoon 31 = .ok (.bipush 55, 2) := dk_16 55 (dk_at dksX3_cocoon_1 7 rfl rfl)
theorem dX3_cocoon_33 : decode cX3_cocoon 33 = .ok (.iload_n 1, 1) := dk_27 (dk_at dksX3_cocoon_1 9 rfl rfl)
theorem dX3_cocoon_34 : decode cX3_cocoon 34 = .ok (.iadd, 1) := dk_96 (dk_at dksX3_cocoon_1 10 rfl rfl)
theorem dX3_cocoon_35 : decode cX3_cocoon 35 = .ok (.iconst 1, 1) := dk_4 (dk_at dksX3_cocoon_1 11 rfl rfl)
theorem dX3_cocoon_36 : decode cX3_cocoon 36 = .ok (.iastore, 1) := dk_79 (dk_at dksX3_cocoon_1 12 rfl rfl)
theorem dX3_cocoon_37 : decode cX3_cocoon 37 = .ok (.aload_n 0, 1) := dk_42 (dk_at dksX3_cocoon_1 13 rfl rfl)
theorem dX3_cocoon_38 : decode cX3_cocoon 38 = .ok (.iconst 3, 1) := dk_6 (dk_at dksX3_cocoon_1 14 rfl rfl)
theorem dX3_cocoon_39 : decode cX3_cocoon 39 = .ok (.iload_n 1, 1) := dk_27 (dk_at dksX3_cocoon_1 15 rfl rfl)
theorem dX3_cocoon_40 : decode cX3_cocoon 40 = .ok (.iconst 0, 1) := dk_3 (dk_at dksX3_cocoon_1 16 rfl rfl)
theorem dX3_cocoon_41 : decode cX3_cocoon 41 = .ok (.invokevirtual 321, 3) := dk_182 1 65 (dk_at dksX3_cocoon_1 17 rfl rfl)
theorem dX3_cocoon_44 : decode cX3_cocoon 44 = .ok (.goto 8, 3) := dk_167 0 8 (dk_at dksX3_cocoon_1 20 rfl rfl)
theorem dX3_cocoon_47 : decode cX3_cocoon 47 = .ok (.aload_n 0, 1) := dk_42 (dk_at dksX3_cocoon_1 23 rfl rfl)
theorem dX3_cocoon_48 : decode cX3_cocoon 48 = .ok (.iload_n 1, 1) := dk_27 (dk_at dksX3_cocoon_2 0 rfl rfl)
theorem dX3_cocoon_49 : decode cX3_cocoon 49 = .ok (.invokevirtual 340, 3) := dk_182 1 84 (dk_at dksX3_cocoon_2 1 rfl rfl)
theorem dX3_cocoon_52 : decode cX3_cocoon 52 = .ok (.iconst 1, 1) := dk_4 (dk_at dksX3_cocoon_2 4 rfl rfl)
theorem dX3_cocoon_53 : decode cX3_cocoon 53 = .ok (.ireturn, 1) := dk_172 (dk_at dksX3_cocoon_2 5 rfl rfl)
abbrev cX3_canCocoon : ByteArray := prog_17_method_70_code
def yX3_canCocoon : MethodName := ⟨RX3, "canCocoon", "(IZ)Z"⟩
def dkwX3_canCocoon_2 : List UInt8 := [180, 0, 7, 16, 19, 27, 96, 46, 158, 0, 7, 4, 167, 0, 4, 3, 172]
abbrev dktX3_canCocoon_2 : List UInt8 := dkwX3_canCocoon_2 ++ []
def dkwX3_canCocoon_1 : List UInt8 := [4, 167, 0, 4, 3, 172, 42, 27, 182, 1, 53, 154, 0, 27, 42, 27, 182, 1, 56, 154, 0, 19, 42]
abbrev dktX3_canCocoon_1 : List UInt8 := dkwX3_canCocoon_1 ++ dktX3_canCocoon_2
def dkwX3_canCocoon_0 : List UInt8 := [28, 153, 0, 29, 42, 27, 182, 1, 53, 153, 0, 19, 42, 180, 0, 7, 16, 55, 27, 96, 46, 154, 0, 7]
abbrev dktX3_canCocoon_0 : List UInt8 := dkwX3_canCocoon_0 ++ dktX3_canCocoon_1
theorem dksX3_canCocoon_0 : cX3_canCocoon.data.toList.drop 0 = dktX3_canCocoon_0 := by decide +kernel
theorem dksX3_canCocoon_1 : cX3_canCocoon.data.toList.drop 24 = dktX3_canCocoon_1 := dk_seg dksX3_canCocoon_0 24 rfl rfl
theorem dksX3_canCocoon_2 : cX3_canCocoon.data.toList.drop 47 = dktX3_canCocoon_2 := dk_seg dksX3_canCocoon_1 23 rfl rfl
theorem dX3_canCocoon_0 : decode cX3_canCocoon 0 = .ok (.iload_n 2, 1) := dk_28 (dk_at dksX3_canCocoon_0 0 rfl rfl)
theorem dX3_canCocoon_1 : decode cX3_canCocoon 1 = .ok (.ifCond .eq 29, 3) := dk_153 0 29 (dk_at dksX3_canCocoon_0 1 rfl rfl)
theorem dX3_canCocoon_4 : decode cX3_canCocoon 4 = .ok (.aload_n 0, 1) := dk_42 (dk_at dksX3_canCocoon_0 4 rfl rfl)
theorem dX3_canCocoon_5 : decode cX3_canCocoon 5 = .ok (.iload_n 1, 1) := dk_27 (dk_at dksX3_canCocoon_0 5 rfl rfl)
theorem dX3_canCocoon_6 : decode cX3_canCocoon 6 = .ok (.invokevirtual 309, 3) := dk_182 1 53 (dk_at dksX3_canCocoon_0 6 rfl rfl)
theorem dX3_canCocoon_9 : decode cX3_canCocoon 9 = .ok (.ifCond .eq 19, 3) := dk_153 0 19 (dk_at dksX3_canCocoon_0 9 rfl rfl)
theorem dX3_canCocoon_12 : decode cX3_canCocoon 12 = .ok (.aload_n 0, 1) := dk_42 (dk_at dksX3_canCocoon_0 12 rfl rfl)
theorem dX3_canCocoon_13 : decode cX3_canCocoon 13 = .ok (.getfield 7, 3) := dk_180 0 7 (dk_at dksX3_canCocoon_0 13 rfl rfl)
theorem dX3_canCocoon_16 : decode cX3_canCocoon 16 = .ok (.bipush 55, 2) := dk_16 55 (dk_at dksX3_canCocoon_0 16 rfl rfl)
theorem dX3_canCocoon_18 : decode cX3_canCocoon 18 = .ok (.iload_n 1, 1) := dk_27 (dk_at dksX3_canCocoon_0 18 rfl rfl)
theorem dX3_canCocoon_19 : decode cX3_canCocoon 19 = .ok (.iadd, 1) := dk_96 (dk_at dksX3_canCocoon_0 19 rfl rfl)
theorem dX3_canCocoon_20 : decode cX3_canCocoon 20 = .ok (.iaload, 1) := dk_46 (dk_at dksX3_canCocoon_0 20 rfl rfl)
theorem dX3_canCocoon_21 : decode cX3_canCocoon 21 = .ok (.ifCond .ne 7, 3) := dk_154 0 7 (dk_at dksX3_canCocoon_0 21 rfl rfl)
theorem dX3_canCocoon_24 : decode cX3_canCocoon 24 = .ok (.iconst 1, 1) := dk_4 (dk_at dksX3_canCocoon_1 0 rfl rfl)
theorem dX3_canCocoon_25 : decode cX3_canCocoon 25 = .ok (.goto 4, 3) := dk_167 0 4 (dk_at dksX3_canCocoon_1 1 rfl rfl)
theorem dX3_canCocoon_28 : decode cX3_canCocoon 28 = .ok (.iconst 0, 1) := dk_3 (dk_at dksX3_canCocoon_1 4 rfl rfl)
theorem dX3_canCocoon_29 : decode cX3_canCocoon 29 = .ok (.ireturn, 1) := dk_172 (dk_at dksX3_canCocoon_1 5 rfl rfl)
theorem dX3_canCocoon_30 : decode cX3_canCocoon 30 = .ok (.aload_n 0, 1) := dk_42 (dk_at dksX3_canCocoon_1 6 rfl rfl)
theorem dX3_canCocoon_31 : decode cX3_canCocoon 31 = .ok (.iload_n 1, 1) := dk_27 (dk_at dksX3_canCocoon_1 7 rfl rfl)
theorem dX3_canCocoon_32 : decode cX3_canCocoon 32 = .ok (.invokevirtual 309, 3) := dk_182 1 53 (dk_at dksX3_canCocoon_1 8 rfl rfl)
theorem dX3_canCocoon_35 : decode cX3_canCocoon 35 = .ok (.ifCond .ne 27, 3) := dk_154 0 27 (dk_at dksX3_canCocoon_1 11 rfl rfl)
theorem dX3_canCocoon_38 : decode cX3_canCocoon 38 = .ok (.aload_n 0, 1) := dk_42 (dk_at dksX3_canCocoon_1 14 rfl rfl)
theorem dX3_canCocoon_39 : decode cX3_canCocoon 39 = .ok (.iload_n 1, 1) := dk_27 (dk_at dksX3_canCocoon_1 15 rfl rfl)
theorem dX3_canCocoon_40 : decode cX3_canCocoon 40 = .ok (.invokevirtual 312, 3) := dk_182 1 56 (dk_at dksX3_canCocoon_1 16 rfl rfl)
theorem dX3_canCocoon_43 : decode cX3_canCocoon 43 = .ok (.ifCond .ne 19, 3) := dk_154 0 19 (dk_at dksX3_canCocoon_1 19 rfl rfl)
theorem dX3_canCocoon_46 : decode cX3_canCocoon 46 = .ok (.aload_n 0, 1) := dk_42 (dk_at dksX3_canCocoon_1 22 rfl rfl)
theorem dX3_canCocoon_47 : decode cX3_canCocoon 47 = .ok (.getfield 7, 3) := dk_180 0 7 (dk_at dksX3_canCocoon_2 0 rfl rfl)
theorem dX3_canCocoon_50 : decode cX3_canCocoon 50 = .ok (.bipush 19, 2) := dk_16 19 (dk_at dksX3_canCocoon_2 3 rfl rfl)
theorem dX3_canCocoon_52 : decode cX3_canCocoon 52 = .ok (.iload_n 1, 1) := dk_27 (dk_at dksX3_canCocoon_2 5 rfl rfl)
theorem dX3_canCocoon_53 : decode cX3_canCocoon 53 = .ok (.iadd, 1) := dk_96 (dk_at dksX3_canCocoon_2 6 rfl rfl)
theorem dX3_canCocoon_54 : decode cX3_canCocoon 54 = .ok (.iaload, 1) := dk_46 (dk_at dksX3_canCocoon_2 7 rfl rfl)
theorem dX3_canCocoon_55 : decode cX3_canCocoon 55 = .ok (.ifCond .le 7, 3) := dk_158 0 7 (dk_at dksX3_canCocoon_2 8 rfl rfl)
theorem dX3_canCocoon_58 : decode cX3_canCocoon 58 = .ok (.iconst 1, 1) := dk_4 (dk_at dksX3_canCocoon_2 11 rfl rfl)
theorem dX3_canCocoon_59 : decode cX3_canCocoon 59 = .ok (.goto 4, 3) := dk_167 0 4 (dk_at dksX3_canCocoon_2 12 rfl rfl)
theorem dX3_canCocoon_62 : decode cX3_canCocoon 62 = .ok (.iconst 0, 1) := dk_3 (dk_at dksX3_canCocoon_2 15 rfl rfl)
theorem dX3_canCocoon_63 : decode cX3_canCocoon 63 = .ok (.ireturn, 1) := dk_172 (dk_at dksX3_canCocoon_2 16 rfl rfl)
abbrev cX3_days : ByteArray := prog_17_method_75_code
def yX3_days : MethodName := ⟨RX3, "days", "(I)I"⟩
def dkwX3_days_2 : List UInt8 := [132, 3, 1, 167, 255, 240, 42, 180, 0, 7, 7, 46, 28, 100, 172]
abbrev dktX3_days_2 : List UInt8 := dkwX3_days_2 ++ []
def dkwX3_days_1 : List UInt8 := [2, 172, 42, 180, 0, 7, 7, 46, 61, 3, 62, 29, 27, 162, 0, 17, 42, 182, 1, 91, 42, 182, 1, 107]
abbrev dktX3_days_1 : List UInt8 := dkwX3_days_1 ++ dktX3_days_2
def dkwX3_days_0 : List UInt8 := [27, 4, 16, 60, 184, 0, 59, 153, 0, 17, 42, 180, 0, 7, 3, 46, 27, 96, 17, 39, 15, 164, 0, 5]
abbrev dktX3_days_0 : List UInt8 := dkwX3_days_0 ++ dktX3_days_1
theorem dksX3_days_0 : cX3_days.data.toList.drop 0 = dktX3_days_0 := by decide +kernel
theorem dksX3_days_1 : cX3_days.data.toList.drop 24 = dktX3_days_1 := dk_seg dksX3_days_0 24 rfl rfl
theorem dksX3_days_2 : cX3_days.data.toList.drop 48 = dktX3_days_2 := dk_seg dksX3_days_1 24 rfl rfl
theorem dX3_days_0 : decode cX3_days 0 = .ok (.iload_n 1, 1) := dk_27 (dk_at dksX3_days_0 0 rfl rfl)
theorem dX3_days_1 : decode cX3_days 1 = .ok (.iconst 1, 1) := dk_4 (dk_at dksX3_days_0 1 rfl rfl)
theorem dX3_days_2 : decode cX3_days 2 = .ok (.bipush 60, 2) := dk_16 60 (dk_at dksX3_days_0 2 rfl rfl)
theorem dX3_days_4 : decode cX3_days 4 = .ok (.invokestatic 59, 3) := dk_184 0 59 (dk_at dksX3_days_0 4 rfl rfl)
theorem dX3_days_7 : decode cX3_days 7 = .ok (.ifCond .eq 17, 3) := dk_153 0 17 (dk_at dksX3_days_0 7 rfl rfl)
theorem dX3_days_10 : decode cX3_days 10 = .ok (.aload_n 0, 1) := dk_42 (dk_at dksX3_days_0 10 rfl rfl)
theorem dX3_days_11 : decode cX3_days 11 = .ok (.getfield 7, 3) := dk_180 0 7 (dk_at dksX3_days_0 11 rfl rfl)
theorem dX3_days_14 : decode cX3_days 14 = .ok (.iconst 0, 1) := dk_3 (dk_at dksX3_days_0 14 rfl rfl)
theorem dX3_days_15 : decode cX3_days 15 = .ok (.iaload, 1) := dk_46 (dk_at dksX3_days_0 15 rfl rfl)
theorem dX3_days_16 : decode cX3_days 16 = .ok (.iload_n 1, 1) := dk_27 (dk_at dksX3_days_0 16 rfl rfl)
theorem dX3_days_17 : decode cX3_days 17 = .ok (.iadd, 1) := dk_96 (dk_at dksX3_days_0 17 rfl rfl)
theorem dX3_days_18 : decode cX3_days 18 = .ok (.sipush 9999, 3) := dk_17 39 15 (dk_at dksX3_days_0 18 rfl rfl)
theorem dX3_days_21 : decode cX3_days 21 = .ok (.if_icmp .le 5, 3) := dk_164 0 5 (dk_at dksX3_days_0 21 rfl rfl)
theorem dX3_days_24 : decode cX3_days 24 = .ok (.iconst (-1), 1) := dk_2 (dk_at dksX3_days_1 0 rfl rfl)
theorem dX3_days_25 : decode cX3_days 25 = .ok (.ireturn, 1) := dk_172 (dk_at dksX3_days_1 1 rfl rfl)
theorem dX3_days_26 : decode cX3_days 26 = .ok (.aload_n 0, 1) := dk_42 (dk_at dksX3_days_1 2 rfl rfl)
theorem dX3_days_27 : decode cX3_days 27 = .ok (.getfield 7, 3) := dk_180 0 7 (dk_at dksX3_days_1 3 rfl rfl)
theorem dX3_days_30 : decode cX3_days 30 = .ok (.iconst 4, 1) := dk_7 (dk_at dksX3_days_1 6 rfl rfl)
theorem dX3_days_31 : decode cX3_days 31 = .ok (.iaload, 1) := dk_46 (dk_at dksX3_days_1 7 rfl rfl)
theorem dX3_days_32 : decode cX3_days 32 = .ok (.istore_n 2, 1) := dk_61 (dk_at dksX3_days_1 8 rfl rfl)
theorem dX3_days_33 : decode cX3_days 33 = .ok (.iconst 0, 1) := dk_3 (dk_at dksX3_days_1 9 rfl rfl)
theorem dX3_days_34 : decode cX3_days 34 = .ok (.istore_n 3, 1) := dk_62 (dk_at dksX3_days_1 10 rfl rfl)
theorem dX3_days_35 : decode cX3_days 35 = .ok (.iload_n 3, 1) := dk_29 (dk_at dksX3_days_1 11 rfl rfl)
theorem dX3_days_36 : decode cX3_days 36 = .ok (.iload_n 1, 1) := dk_27 (dk_at dksX3_days_1 12 rfl rfl)
theorem dX3_days_37 : decode cX3_days 37 = .ok (.if_icmp .ge 17, 3) := dk_162 0 17 (dk_at dksX3_days_1 13 rfl rfl)
theorem dX3_days_40 : decode cX3_days 40 = .ok (.aload_n 0, 1) := dk_42 (dk_at dksX3_days_1 16 rfl rfl)
theorem dX3_days_41 : decode cX3_days 41 = .ok (.invokevirtual 347, 3) := dk_182 1 91 (dk_at dksX3_days_1 17 rfl rfl)
theorem dX3_days_44 : decode cX3_days 44 = .ok (.aload_n 0, 1) := dk_42 (dk_at dksX3_days_1 20 rfl rfl)
theorem dX3_days_45 : decode cX3_days 45 = .ok (.invokevirtual 363, 3) := dk_182 1 107 (dk_at dksX3_days_1 21 rfl rfl)
theorem dX3_days_48 : decode cX3_days 48 = .ok (.iinc 3 1, 3) := dk_132 3 1 (dk_at dksX3_days_2 0 rfl rfl)
theorem dX3_days_51 : decode cX3_days 51 = .ok (.goto (-16), 3) := dk_167 255 240 (dk_at dksX3_days_2 3 rfl rfl)
theorem dX3_days_54 : decode cX3_days 54 = .ok (.aload_n 0, 1) := dk_42 (dk_at dksX3_days_2 6 rfl rfl)
theorem dX3_days_55 : decode cX3_days 55 = .ok (.getfield 7, 3) := dk_180 0 7 (dk_at dksX3_days_2 7 rfl rfl)
theorem dX3_days_58 : decode cX3_days 58 = .ok (.iconst 4, 1) := dk_7 (dk_at dksX3_days_2 10 rfl rfl)
theorem dX3_days_59 : decode cX3_days 59 = .ok (.iaload, 1) := dk_46 (dk_at dksX3_days_2 11 rfl rfl)
theorem dX3_days_60 : decode cX3_days 60 = .ok (.iload_n 2, 1) := dk_28 (dk_at dksX3_days_2 12 rfl rfl)
theorem dX3_days_61 : decode cX3_days 61 = .ok (.isub, 1) := dk_100 (dk_at dksX3_days_2 13 rfl rfl)
theorem dX3_days_62 : decode cX3_days 62 = .ok (.ireturn, 1) := dk_172 (dk_at dksX3_days_2 14 rfl rfl)
abbrev cX3_aDay : ByteArray := prog_17_method_74_code
def yX3_aDay : MethodName := ⟨RX3, "aDay", "()V"⟩
def dkwX3_aDay_5 : List UInt8 := [180, 0, 7, 16, 79, 27, 96, 3, 79, 132, 1, 1, 167, 255, 231, 177]
abbrev dktX3_aDay_5 : List UInt8 := dkwX3_aDay_5 ++ []
def dkwX3_aDay_4 : List UInt8 := [180, 0, 7, 3, 92, 46, 4, 96, 79, 3, 60, 27, 42, 180, 0, 7, 17, 2, 59, 46, 162, 0, 19, 42]
abbrev dktX3_aDay_4 : List UInt8 := dkwX3_aDay_4 ++ dktX3_aDay_5
def dkwX3_aDay_3 : List UInt8 := [180, 0, 7, 16, 55, 27, 96, 46, 154, 0, 8, 42, 27, 182, 1, 104, 132, 1, 1, 167, 255, 173, 42]
abbrev dktX3_aDay_3 : List UInt8 := dkwX3_aDay_3 ++ dktX3_aDay_4
def dkwX3_aDay_2 : List UInt8 := [96, 46, 4, 96, 184, 0, 235, 79, 42, 180, 0, 7, 16, 43, 27, 96, 46, 16, 20, 160, 0, 20, 42]
abbrev dktX3_aDay_2 : List UInt8 := dkwX3_aDay_2 ++ dktX3_aDay_3
def dkwX3_aDay_1 : List UInt8 := [154, 0, 6, 167, 0, 60, 42, 180, 0, 7, 16, 43, 27, 96, 17, 39, 15, 42, 180, 0, 7, 16, 43, 27]
abbrev dktX3_aDay_1 : List UInt8 := dkwX3_aDay_1 ++ dktX3_aDay_2
def dkwX3_aDay_0 : List UInt8 := [42, 182, 1, 101, 3, 60, 27, 42, 180, 0, 7, 17, 2, 59, 46, 162, 0, 77, 42, 27, 182, 1, 53]
abbrev dktX3_aDay_0 : List UInt8 := dkwX3_aDay_0 ++ dktX3_aDay_1
theorem dksX3_aDay_0 : cX3_aDay.data.toList.drop 0 = dktX3_aDay_0 := by decide +kernel
theorem dksX3_aDay_1 : cX3_aDay.data.toList.drop 23 = dktX3_aDay_1 := dk_seg dksX3_aDay_0 23 rfl rfl
theorem dksX3_aDay_2 : cX3_aDay.data.toList.drop 47 = dktX3_aDay_2 := dk_seg dksX3_aDay_1 24 rfl rfl
theorem dksX3_aDay_3 : cX3_aDay.data.toList.drop 70 = dktX3_aDay_3 := dk_seg dksX3_aDay_2 23 rfl rfl
theorem dksX3_aDay_4 : cX3_aDay.data.toList.drop 93 = dktX3_aDay_4 := dk_seg dksX3_aDay_3 23 rfl rfl
theorem dksX3_aDay_5 : cX3_aDay.data.toList.drop 117 = dktX3_aDay_5 := dk_seg dksX3_aDay_4 24 rfl rfl
theorem dX3_aDay_0 : decode cX3_aDay 0 = .ok (.aload_n 0, 1) := dk_42 (dk_at dksX3_aDay_0 0 rfl rfl)
theorem dX3_aDay_1 : decode cX3_aDay 1 = .ok (.invokevirtual 357, 3) := dk_182 1 101 (dk_at dksX3_aDay_0 1 rfl rfl)
theorem dX3_aDay_4 : decode cX3_aDay 4 = .ok (.iconst 0, 1) := dk_3 (dk_at dksX3_aDay_0 4 rfl rfl)
theorem dX3_aDay_5 : decode cX3_aDay 5 = .ok (.istore_n 1, 1) := dk_60 (dk_at dksX3_aDay_0 5 rfl rfl)
theorem dX3_aDay_6 : decode cX3_aDay 6 = .ok (.iload_n 1, 1) := dk_27 (dk_at dksX3_aDay_0 6 rfl rfl)
theorem dX3_aDay_7 : decode cX3_aDay 7 = .ok (.aload_n 0, 1) := dk_42 (dk_at dksX3_aDay_0 7 rfl rfl)
theorem dX3_aDay_8 : decode cX3_aDay 8 = .ok (.getfield 7, 3) := dk_180 0 7 (dk_at dksX3_aDay_0 8 rfl rfl)
theorem dX3_aDay_11 : decode cX3_aDay 11 = .ok (.sipush 571, 3) := dk_17 2 59 (dk_at dksX3_aDay_0 11 rfl rfl)
theorem dX3_aDay_14 : decode cX3_aDay 14 = .ok (.iaload, 1) := dk_46 (dk_at dksX3_aDay_0 14 rfl rfl)
theorem dX3_aDay_15 : decode cX3_aDay 15 = .ok (.if_icmp .ge 77, 3) := dk_162 0 77 (dk_at dksX3_aDay_0 15 rfl rfl)
theorem dX3_aDay_18 : decode cX3_aDay 18 = .ok (.aload_n 0, 1) := dk_42 (dk_at dksX3_aDay_0 18 rfl rfl)
theorem dX3_aDay_19 : decode cX3_aDay 19 = .ok (.iload_n 1, 1) := dk_27 (dk_at dksX3_aDay_0 19 rfl rfl)
theorem dX3_aDay_20 : decode cX3_aDay 20 = .ok (.invokevirtual 309, 3) := dk_182 1 53 (dk_at dksX3_aDay_0 20 rfl rfl)
theorem dX3_aDay_23 : decode cX3_aDay 23 = .ok (.ifCond .ne 6, 3) := dk_154 0 6 (dk_at dksX3_aDay_1 0 rfl rfl)
theorem dX3_aDay_26 : decode cX3_aDay 26 = .ok (.goto 60, 3) := dk_167 0 60 (dk_at dksX3_aDay_1 3 rfl rfl)
theorem dX3_aDay_29 : decode cX3_aDay 29 = .ok (.aload_n 0, 1) := dk_42 (dk_at dksX3_aDay_1 6 rfl rfl)
theorem dX3_aDay_30 : decode cX3_aDay 30 = .ok (.getfield 7, 3) := dk_180 0 7 (dk_at dksX3_aDay_1 7 rfl rfl)
theorem dX3_aDay_33 : decode cX3_aDay 33 = .ok (.bipush 43, 2) := dk_16 43 (dk_at dksX3_aDay_1 10 rfl rfl)
theorem dX3_aDay_35 : decode cX3_aDay 35 = .ok (.iload_n 1, 1) := dk_27 (dk_at dksX3_aDay_1 12 rfl rfl)
theorem dX3_aDay_36 : decode cX3_aDay 36 = .ok (.iadd, 1) := dk_96 (dk_at dksX3_aDay_1 13 rfl rfl)
theorem dX3_aDay_37 : decode cX3_aDay 37 = .ok (.sipush 9999, 3) := dk_17 39 15 (dk_at dksX3_aDay_1 14 rfl rfl)
theorem dX3_aDay_40 : decode cX3_aDay 40 = .ok (.aload_n 0, 1) := dk_42 (dk_at dksX3_aDay_1 17 rfl rfl)
theorem dX3_aDay_41 : decode cX3_aDay 41 = .ok (.getfield 7, 3) := dk_180 0 7 (dk_at dksX3_aDay_1 18 rfl rfl)
theorem dX3_aDay_44 : decode cX3_aDay 44 = .ok (.bipush 43, 2) := dk_16 43 (dk_at dksX3_aDay_1 21 rfl rfl)
theorem dX3_aDay_46 : decode cX3_aDay 46 = .ok (.iload_n 1, 1) := dk_27 (dk_at dksX3_aDay_1 23 rfl rfl)
theorem dX3_aDay_47 : decode cX3_aDay 47 = .ok (.iadd, 1) := dk_96 (dk_at dksX3_aDay_2 0 rfl rfl)
theorem dX3_aDay_48 : decode cX3_aDay 48 = .ok (.iaload, 1) := dk_46 (dk_at dksX3_aDay_2 1 rfl rfl)
theorem dX3_aDay_49 : decode cX3_aDay 49 = .ok (.iconst 1, 1) := dk_4 (dk_at dksX3_aDay_2 2 rfl rfl)
theorem dX3_aDay_50 : decode cX3_aDay 50 = .ok (.iadd, 1) := dk_96 (dk_at dksX3_aDay_2 3 rfl rfl)
theorem dX3_aDay_51 : decode cX3_aDay 51 = .ok (.invokestatic 235, 3) := dk_184 0 235 (dk_at dksX3_aDay_2 4 rfl rfl)
theorem dX3_aDay_54 : decode cX3_aDay 54 = .ok (.iastore, 1) := dk_79 (dk_at dksX3_aDay_2 7 rfl rfl)
theorem dX3_aDay_55 : decode cX3_aDay 55 = .ok (.aload_n 0, 1) := dk_42 (dk_at dksX3_aDay_2 8 rfl rfl)
theorem dX3_aDay_56 : decode cX3_aDay 56 = .ok (.getfield 7, 3) := dk_180 0 7 (dk_at dksX3_aDay_2 9 rfl rfl)
theorem dX3_aDay_59 : decode cX3_aDay 59 = .ok (.bipush 43, 2) := dk_16 43 (dk_at dksX3_aDay_2 12 rfl rfl)
theorem dX3_aDay_61 : decode cX3_aDay 61 = .ok (.iload_n 1, 1) := dk_27 (dk_at dksX3_aDay_2 14 rfl rfl)
theorem dX3_aDay_62 : decode cX3_aDay 62 = .ok (.iadd, 1) := dk_96 (dk_at dksX3_aDay_2 15 rfl rfl)
theorem dX3_aDay_63 : decode cX3_aDay 63 = .ok (.iaload, 1) := dk_46 (dk_at dksX3_aDay_2 16 rfl rfl)
theorem dX3_aDay_64 : decode cX3_aDay 64 = .ok (.bipush 20, 2) := dk_16 20 (dk_at dksX3_aDay_2 17 rfl rfl)
theorem dX3_aDay_66 : decode cX3_aDay 66 = .ok (.if_icmp .ne 20, 3) := dk_160 0 20 (dk_at dksX3_aDay_2 19 rfl rfl)
theorem dX3_aDay_69 : decode cX3_aDay 69 = .ok (.aload_n 0, 1) := dk_42 (dk_at dksX3_aDay_2 22 rfl rfl)
theorem dX3_aDay_70 : decode cX3_aDay 70 = .ok (.getfield 7, 3) := dk_180 0 7 (dk_at dksX3_aDay_3 0 rfl rfl)
theorem dX3_aDay_73 : decode cX3_aDay 73 = .ok (.bipush 55, 2) := dk_16 55 (dk_at dksX3_aDay_3 3 rfl rfl)
theorem dX3_aDay_75 : decode cX3_aDay 75 = .ok (.iload_n 1, 1) := dk_27 (dk_at dksX3_aDay_3 5 rfl rfl)
theorem dX3_aDay_76 : decode cX3_aDay 76 = .ok (.iadd, 1) := dk_96 (dk_at dksX3_aDay_3 6 rfl rfl)
theorem dX3_aDay_77 : decode cX3_aDay 77 = .ok (.iaload, 1) := dk_46 (dk_at dksX3_aDay_3 7 rfl rfl)
theorem dX3_aDay_78 : decode cX3_aDay 78 = .ok (.ifCond .ne 8, 3) := dk_154 0 8 (dk_at dksX3_aDay_3 8 rfl rfl)
theorem dX3_aDay_81 : decode cX3_aDay 81 = .ok (.aload_n 0, 1) := dk_42 (dk_at dksX3_aDay_3 11 rfl rfl)
theorem dX3_aDay_82 : decode cX3_aDay 82 = .ok (.iload_n 1, 1) := dk_27 (dk_at dksX3_aDay_3 12 rfl rfl)
theorem dX3_aDay_83 : decode cX3_aDay 83 = .ok (.invokevirtual 360, 3) := dk_182 1 104 (dk_at dksX3_aDay_3 13 rfl rfl)
theorem dX3_aDay_86 : decode cX3_aDay 86 = .ok (.iinc 1 1, 3) := dk_132 1 1 (dk_at dksX3_aDay_3 16 rfl rfl)
theorem dX3_aDay_89 : decode cX3_aDay 89 = .ok (.goto (-83), 3) := dk_167 255 173 (dk_at dksX3_aDay_3 19 rfl rfl)
theorem dX3_aDay_92 : decode cX3_aDay 92 = .ok (.aload_n 0, 1) := dk_42 (dk_at dksX3_aDay_3 22 rfl rfl)
theorem dX3_aDay_93 : decode cX3_aDay 93 = .ok (.getfield 7, 3) := dk_180 0 7 (dk_at dksX3_aDay_4 0 rfl rfl)
theorem dX3_aDay_96 : decode cX3_aDay 96 = .ok (.iconst 0, 1) := dk_3 (dk_at dksX3_aDay_4 3 rfl rfl)
theorem dX3_aDay_97 : decode cX3_aDay 97 = .ok (.dup2, 1) := dk_92 (dk_at dksX3_aDay_4 4 rfl rfl)
theorem dX3_aDay_98 : decode cX3_aDay 98 = .ok (.iaload, 1) := dk_46 (dk_at dksX3_aDay_4 5 rfl rfl)
theorem dX3_aDay_99 : decode cX3_aDay 99 = .ok (.iconst 1, 1) := dk_4 (dk_at dksX3_aDay_4 6 rfl rfl)
theorem dX3_aDay_100 : decode cX3_aDay 100 = .ok (.iadd, 1) := dk_96 (dk_at dksX3_aDay_4 7 rfl rfl)
theorem dX3_aDay_101 : decode cX3_aDay 101 = .ok (.iastore, 1) := dk_79 (dk_at dksX3_aDay_4 8 rfl rfl)
theorem dX3_aDay_102 : decode cX3_aDay 102 = .ok (.iconst 0, 1) := dk_3 (dk_at dksX3_aDay_4 9 rfl rfl)
theorem dX3_aDay_103 : decode cX3_aDay 103 = .ok (.istore_n 1, 1) := dk_60 (dk_at dksX3_aDay_4 10 rfl rfl)
theorem dX3_aDay_104 : decode cX3_aDay 104 = .ok (.iload_n 1, 1) := dk_27 (dk_at dksX3_aDay_4 11 rfl rfl)
theorem dX3_aDay_105 : decode cX3_aDay 105 = .ok (.aload_n 0, 1) := dk_42 (dk_at dksX3_aDay_4 12 rfl rfl)
theorem dX3_aDay_106 : decode cX3_aDay 106 = .ok (.getfield 7, 3) := dk_180 0 7 (dk_at dksX3_aDay_4 13 rfl rfl)
theorem dX3_aDay_109 : decode cX3_aDay 109 = .ok (.sipush 571, 3) := dk_17 2 59 (dk_at dksX3_aDay_4 16 rfl rfl)
theorem dX3_aDay_112 : decode cX3_aDay 112 = .ok (.iaload, 1) := dk_46 (dk_at dksX3_aDay_4 19 rfl rfl)
theorem dX3_aDay_113 : decode cX3_aDay 113 = .ok (.if_icmp .ge 19, 3) := dk_162 0 19 (dk_at dksX3_aDay_4 20 rfl rfl)
theorem dX3_aDay_116 : decode cX3_aDay 116 = .ok (.aload_n 0, 1) := dk_42 (dk_at dksX3_aDay_4 23 rfl rfl)
theorem dX3_aDay_117 : decode cX3_aDay 117 = .ok (.getfield 7, 3) := dk_180 0 7 (dk_at dksX3_aDay_5 0 rfl rfl)
theorem dX3_aDay_120 : decode cX3_aDay 120 = .ok (.bipush 79, 2) := dk_16 79 (dk_at dksX3_aDay_5 3 rfl rfl)
theorem dX3_aDay_122 : decode cX3_aDay 122 = .ok (.iload_n 1, 1) := dk_27 (dk_at dksX3_aDay_5 5 rfl rfl)
theorem dX3_aDay_123 : decode cX3_aDay 123 = .ok (.iadd, 1) := dk_96 (dk_at dksX3_aDay_5 6 rfl rfl)
theorem dX3_aDay_124 : decode cX3_aDay 124 = .ok (.iconst 0, 1) := dk_3 (dk_at dksX3_aDay_5 7 rfl rfl)
theorem dX3_aDay_125 : decode cX3_aDay 125 = .ok (.iastore, 1) := dk_79 (dk_at dksX3_aDay_5 8 rfl rfl)
theorem dX3_aDay_126 : decode cX3_aDay 126 = .ok (.iinc 1 1, 3) := dk_132 1 1 (dk_at dksX3_aDay_5 9 rfl rfl)
theorem dX3_aDay_129 : decode cX3_aDay 129 = .ok (.goto (-25), 3) := dk_167 255 231 (dk_at dksX3_aDay_5 12 rfl rfl)
theorem dX3_aDay_132 : decode cX3_aDay 132 = .ok (.return_, 1) := dk_177 (dk_at dksX3_aDay_5 15 rfl rfl)
abbrev cX3_plans : ByteArray := prog_17_method_72_code
def yX3_plans : MethodName := ⟨RX3, "plans", "()V"⟩
def dkwX3_plans_4 : List UInt8 := [182, 1, 94, 87, 132, 1, 1, 167, 255, 158, 177]
abbrev dktX3_plans_4 : List UInt8 := dkwX3_plans_4 ++ []
def dkwX3_plans_3 : List UInt8 := [180, 0, 7, 28, 4, 96, 46, 42, 180, 0, 7, 28, 5, 96, 46, 42, 180, 0, 7, 28, 6, 96, 46]
abbrev dktX3_plans_3 : List UInt8 := dkwX3_plans_3 ++ dktX3_plans_4
def dkwX3_plans_2 : List UInt8 := [180, 0, 7, 28, 5, 96, 46, 42, 180, 0, 7, 28, 6, 96, 46, 182, 1, 88, 153, 0, 32, 42, 42]
abbrev dktX3_plans_2 : List UInt8 := dkwX3_plans_2 ++ dktX3_plans_3
def dkwX3_plans_1 : List UInt8 := [180, 0, 7, 28, 46, 42, 180, 0, 7, 3, 46, 160, 0, 63, 42, 42, 180, 0, 7, 28, 4, 96, 46, 42]
abbrev dktX3_plans_1 : List UInt8 := dkwX3_plans_1 ++ dktX3_plans_2
def dkwX3_plans_0 : List UInt8 := [3, 60, 27, 42, 180, 0, 7, 17, 2, 63, 46, 162, 0, 92, 17, 2, 183, 7, 27, 104, 96, 61, 42]
abbrev dktX3_plans_0 : List UInt8 := dkwX3_plans_0 ++ dktX3_plans_1
theorem dksX3_plans_0 : cX3_plans.data.toList.drop 0 = dktX3_plans_0 := by decide +kernel
theorem dksX3_plans_1 : cX3_plans.data.toList.drop 23 = dktX3_plans_1 := dk_seg dksX3_plans_0 23 rfl rfl
theorem dksX3_plans_2 : cX3_plans.data.toList.drop 47 = dktX3_plans_2 := dk_seg dksX3_plans_1 24 rfl rfl
theorem dksX3_plans_3 : cX3_plans.data.toList.drop 70 = dktX3_plans_3 := dk_seg dksX3_plans_2 23 rfl rfl
theorem dksX3_plans_4 : cX3_plans.data.toList.drop 93 = dktX3_plans_4 := dk_seg dksX3_plans_3 23 rfl rfl
theorem dX3_plans_0 : decode cX3_plans 0 = .ok (.iconst 0, 1) := dk_3 (dk_at dksX3_plans_0 0 rfl rfl)
theorem dX3_plans_1 : decode cX3_plans 1 = .ok (.istore_n 1, 1) := dk_60 (dk_at dksX3_plans_0 1 rfl rfl)
theorem dX3_plans_2 : decode cX3_plans 2 = .ok (.iload_n 1, 1) := dk_27 (dk_at dksX3_plans_0 2 rfl rfl)
theorem dX3_plans_3 : decode cX3_plans 3 = .ok (.aload_n 0, 1) := dk_42 (dk_at dksX3_plans_0 3 rfl rfl)
theorem dX3_plans_4 : decode cX3_plans 4 = .ok (.getfield 7, 3) := dk_180 0 7 (dk_at dksX3_plans_0 4 rfl rfl)
theorem dX3_plans_7 : decode cX3_plans 7 = .ok (.sipush 575, 3) := dk_17 2 63 (dk_at dksX3_plans_0 7 rfl rfl)
theorem dX3_plans_10 : decode cX3_plans 10 = .ok (.iaload, 1) := dk_46 (dk_at dksX3_plans_0 10 rfl rfl)
theorem dX3_plans_11 : decode cX3_plans 11 = .ok (.if_icmp .ge 92, 3) := dk_162 0 92 (dk_at dksX3_plans_0 11 rfl rfl)
theorem dX3_plans_14 : decode cX3_plans 14 = .ok (.sipush 695, 3) := dk_17 2 183 (dk_at dksX3_plans_0 14 rfl rfl)
theorem dX3_plans_17 : decode cX3_plans 17 = .ok (.iconst 4, 1) := dk_7 (dk_at dksX3_plans_0 17 rfl rfl)
theorem dX3_plans_18 : decode cX3_plans 18 = .ok (.iload_n 1, 1) := dk_27 (dk_at dksX3_plans_0 18 rfl rfl)
theorem dX3_plans_19 : decode cX3_plans 19 = .ok (.imul, 1) := dk_104 (dk_at dksX3_plans_0 19 rfl rfl)
theorem dX3_plans_20 : decode cX3_plans 20 = .ok (.iadd, 1) := dk_96 (dk_at dksX3_plans_0 20 rfl rfl)
theorem dX3_plans_21 : decode cX3_plans 21 = .ok (.istore_n 2, 1) := dk_61 (dk_at dksX3_plans_0 21 rfl rfl)
theorem dX3_plans_22 : decode cX3_plans 22 = .ok (.aload_n 0, 1) := dk_42 (dk_at dksX3_plans_0 22 rfl rfl)
theorem dX3_plans_23 : decode cX3_plans 23 = .ok (.getfield 7, 3) := dk_180 0 7 (dk_at dksX3_plans_1 0 rfl rfl)
theorem dX3_plans_26 : decode cX3_plans 26 = .ok (.iload_n 2, 1) := dk_28 (dk_at dksX3_plans_1 3 rfl rfl)
theorem dX3_plans_27 : decode cX3_plans 27 = .ok (.iaload, 1) := dk_46 (dk_at dksX3_plans_1 4 rfl rfl)
theorem dX3_plans_28 : decode cX3_plans 28 = .ok (.aload_n 0, 1) := dk_42 (dk_at dksX3_plans_1 5 rfl rfl)
theorem dX3_plans_29 : decode cX3_plans 29 = .ok (.getfield 7, 3) := dk_180 0 7 (dk_at dksX3_plans_1 6 rfl rfl)
theorem dX3_plans_32 : decode cX3_plans 32 = .ok (.iconst 0, 1) := dk_3 (dk_at dksX3_plans_1 9 rfl rfl)
theorem dX3_plans_33 : decode cX3_plans 33 = .ok (.iaload, 1) := dk_46 (dk_at dksX3_plans_1 10 rfl rfl)
theorem dX3_plans_34 : decode cX3_plans 34 = .ok (.if_icmp .ne 63, 3) := dk_160 0 63 (dk_at dksX3_plans_1 11 rfl rfl)
theorem dX3_plans_37 : decode cX3_plans 37 = .ok (.aload_n 0, 1) := dk_42 (dk_at dksX3_plans_1 14 rfl rfl)
theorem dX3_plans_38 : decode cX3_plans 38 = .ok (.aload_n 0, 1) := dk_42 (dk_at dksX3_plans_1 15 rfl rfl)
theorem dX3_plans_39 : decode cX3_plans 39 = .ok (.getfield 7, 3) := dk_180 0 7 (dk_at dksX3_plans_1 16 rfl rfl)
theorem dX3_plans_42 : decode cX3_plans 42 = .ok (.iload_n 2, 1) := dk_28 (dk_at dksX3_plans_1 19 rfl rfl)
theorem dX3_plans_43 : decode cX3_plans 43 = .ok (.iconst 1, 1) := dk_4 (dk_at dksX3_plans_1 20 rfl rfl)
theorem dX3_plans_44 : decode cX3_plans 44 = .ok (.iadd, 1) := dk_96 (dk_at dksX3_plans_1 21 rfl rfl)
theorem dX3_plans_45 : decode cX3_plans 45 = .ok (.iaload, 1) := dk_46 (dk_at dksX3_plans_1 22 rfl rfl)
theorem dX3_plans_46 : decode cX3_plans 46 = .ok (.aload_n 0, 1) := dk_42 (dk_at dksX3_plans_1 23 rfl rfl)
theorem dX3_plans_47 : decode cX3_plans 47 = .ok (.getfield 7, 3) := dk_180 0 7 (dk_at dksX3_plans_2 0 rfl rfl)
theorem dX3_plans_50 : decode cX3_plans 50 = .ok (.iload_n 2, 1) := dk_28 (dk_at dksX3_plans_2 3 rfl rfl)
theorem dX3_plans_51 : decode cX3_plans 51 = .ok (.iconst 2, 1) := dk_5 (dk_at dksX3_plans_2 4 rfl rfl)
theorem dX3_plans_52 : decode cX3_plans 52 = .ok (.iadd, 1) := dk_96 (dk_at dksX3_plans_2 5 rfl rfl)
theorem dX3_plans_53 : decode cX3_plans 53 = .ok (.iaload, 1) := dk_46 (dk_at dksX3_plans_2 6 rfl rfl)
theorem dX3_plans_54 : decode cX3_plans 54 = .ok (.aload_n 0, 1) := dk_42 (dk_at dksX3_plans_2 7 rfl rfl)
theorem dX3_plans_55 : decode cX3_plans 55 = .ok (.getfield 7, 3) := dk_180 0 7 (dk_at dksX3_plans_2 8 rfl rfl)
theorem dX3_plans_58 : decode cX3_plans 58 = .ok (.iload_n 2, 1) := dk_28 (dk_at dksX3_plans_2 11 rfl rfl)
theorem dX3_plans_59 : decode cX3_plans 59 = .ok (.iconst 3, 1) := dk_6 (dk_at dksX3_plans_2 12 rfl rfl)
theorem dX3_plans_60 : decode cX3_plans 60 = .ok (.iadd, 1) := dk_96 (dk_at dksX3_plans_2 13 rfl rfl)
theorem dX3_plans_61 : decode cX3_plans 61 = .ok (.iaload, 1) := dk_46 (dk_at dksX3_plans_2 14 rfl rfl)
theorem dX3_plans_62 : decode cX3_plans 62 = .ok (.invokevirtual 344, 3) := dk_182 1 88 (dk_at dksX3_plans_2 15 rfl rfl)
theorem dX3_plans_65 : decode cX3_plans 65 = .ok (.ifCond .eq 32, 3) := dk_153 0 32 (dk_at dksX3_plans_2 18 rfl rfl)
theorem dX3_plans_68 : decode cX3_plans 68 = .ok (.aload_n 0, 1) := dk_42 (dk_at dksX3_plans_2 21 rfl rfl)
theorem dX3_plans_69 : decode cX3_plans 69 = .ok (.aload_n 0, 1) := dk_42 (dk_at dksX3_plans_2 22 rfl rfl)
theorem dX3_plans_70 : decode cX3_plans 70 = .ok (.getfield 7, 3) := dk_180 0 7 (dk_at dksX3_plans_3 0 rfl rfl)
theorem dX3_plans_73 : decode cX3_plans 73 = .ok (.iload_n 2, 1) := dk_28 (dk_at dksX3_plans_3 3 rfl rfl)
theorem dX3_plans_74 : decode cX3_plans 74 = .ok (.iconst 1, 1) := dk_4 (dk_at dksX3_plans_3 4 rfl rfl)
theorem dX3_plans_75 : decode cX3_plans 75 = .ok (.iadd, 1) := dk_96 (dk_at dksX3_plans_3 5 rfl rfl)
theorem dX3_plans_76 : decode cX3_plans 76 = .ok (.iaload, 1) := dk_46 (dk_at dksX3_plans_3 6 rfl rfl)
theorem dX3_plans_77 : decode cX3_plans 77 = .ok (.aload_n 0, 1) := dk_42 (dk_at dksX3_plans_3 7 rfl rfl)
theorem dX3_plans_78 : decode cX3_plans 78 = .ok (.getfield 7, 3) := dk_180 0 7 (dk_at dksX3_plans_3 8 rfl rfl)
theorem dX3_plans_81 : decode cX3_plans 81 = .ok (.iload_n 2, 1) := dk_28 (dk_at dksX3_plans_3 11 rfl rfl)
theorem dX3_plans_82 : decode cX3_plans 82 = .ok (.iconst 2, 1) := dk_5 (dk_at dksX3_plans_3 12 rfl rfl)
theorem dX3_plans_83 : decode cX3_plans 83 = .ok (.iadd, 1) := dk_96 (dk_at dksX3_plans_3 13 rfl rfl)
theorem dX3_plans_84 : decode cX3_plans 84 = .ok (.iaload, 1) := dk_46 (dk_at dksX3_plans_3 14 rfl rfl)
theorem dX3_plans_85 : decode cX3_plans 85 = .ok (.aload_n 0, 1) := dk_42 (dk_at dksX3_plans_3 15 rfl rfl)
theorem dX3_plans_86 : decode cX3_plans 86 = .ok (.getfield 7, 3) := dk_180 0 7 (dk_at dksX3_plans_3 16 rfl rfl)
theorem dX3_plans_89 : decode cX3_plans 89 = .ok (.iload_n 2, 1) := dk_28 (dk_at dksX3_plans_3 19 rfl rfl)
theorem dX3_plans_90 : decode cX3_plans 90 = .ok (.iconst 3, 1) := dk_6 (dk_at dksX3_plans_3 20 rfl rfl)
theorem dX3_plans_91 : decode cX3_plans 91 = .ok (.iadd, 1) := dk_96 (dk_at dksX3_plans_3 21 rfl rfl)
theorem dX3_plans_92 : decode cX3_plans 92 = .ok (.iaload, 1) := dk_46 (dk_at dksX3_plans_3 22 rfl rfl)
theorem dX3_plans_93 : decode cX3_plans 93 = .ok (.invokevirtual 350, 3) := dk_182 1 94 (dk_at dksX3_plans_4 0 rfl rfl)
theorem dX3_plans_96 : decode cX3_plans 96 = .ok (.pop, 1) := dk_87 (dk_at dksX3_plans_4 3 rfl rfl)
theorem dX3_plans_97 : decode cX3_plans 97 = .ok (.iinc 1 1, 3) := dk_132 1 1 (dk_at dksX3_plans_4 4 rfl rfl)
theorem dX3_plans_100 : decode cX3_plans 100 = .ok (.goto (-98), 3) := dk_167 255 158 (dk_at dksX3_plans_4 7 rfl rfl)
theorem dX3_plans_103 : decode cX3_plans 103 = .ok (.return_, 1) := dk_177 (dk_at dksX3_plans_4 10 rfl rfl)
abbrev cX3_flies : ByteArray := prog_17_method_73_code
def yX3_flies : MethodName := ⟨RX3, "flies", "(I)V"⟩
def dkwX3_flies_2 : List UInt8 := [180, 0, 7, 16, 43, 27, 96, 2, 79, 42, 180, 0, 7, 7, 92, 46, 4, 96, 79, 177]
abbrev dktX3_flies_2 : List UInt8 := dkwX3_flies_2 ++ []
def dkwX3_flies_1 : List UInt8 := [79, 42, 180, 0, 7, 16, 19, 27, 96, 3, 79, 42, 180, 0, 7, 16, 31, 27, 96, 3, 79, 42]
abbrev dktX3_flies_1 : List UInt8 := dkwX3_flies_1 ++ dktX3_flies_2
def dkwX3_flies_0 : List UInt8 := [42, 7, 27, 42, 180, 0, 7, 16, 19, 27, 96, 46, 182, 1, 65, 42, 180, 0, 7, 16, 67, 27, 96, 4]
abbrev dktX3_flies_0 : List UInt8 := dkwX3_flies_0 ++ dktX3_flies_1
theorem dksX3_flies_0 : cX3_flies.data.toList.drop 0 = dktX3_flies_0 := by decide +kernel
theorem dksX3_flies_1 : cX3_flies.data.toList.drop 24 = dktX3_flies_1 := dk_seg dksX3_flies_0 24 rfl rfl
theorem dksX3_flies_2 : cX3_flies.data.toList.drop 46 = dktX3_flies_2 := dk_seg dksX3_flies_1 22 rfl rfl
theorem dX3_flies_0 : decode cX3_flies 0 = .ok (.aload_n 0, 1) := dk_42 (dk_at dksX3_flies_0 0 rfl rfl)
theorem dX3_flies_1 : decode cX3_flies 1 = .ok (.iconst 4, 1) := dk_7 (dk_at dksX3_flies_0 1 rfl rfl)
theorem dX3_flies_2 : decode cX3_flies 2 = .ok (.iload_n 1, 1) := dk_27 (dk_at dksX3_flies_0 2 rfl rfl)
theorem dX3_flies_3 : decode cX3_flies 3 = .ok (.aload_n 0, 1) := dk_42 (dk_at dksX3_flies_0 3 rfl rfl)
theorem dX3_flies_4 : decode cX3_flies 4 = .ok (.getfield 7, 3) := dk_180 0 7 (dk_at dksX3_flies_0 4 rfl rfl)
theorem dX3_flies_7 : decode cX3_flies 7 = .ok (.bipush 19, 2) := dk_16 19 (dk_at dksX3_flies_0 7 rfl rfl)
theorem dX3_flies_9 : decode cX3_flies 9 = .ok (.iload_n 1, 1) := dk_27 (dk_at dksX3_flies_0 9 rfl rfl)
theorem dX3_flies_10 : decode cX3_flies 10 = .ok (.iadd, 1) := dk_96 (dk_at dksX3_flies_0 10 rfl rfl)
theorem dX3_flies_11 : decode cX3_flies 11 = .ok (.iaload, 1) := dk_46 (dk_at dksX3_flies_0 11 rfl rfl)
theorem dX3_flies_12 : decode cX3_flies 12 = .ok (.invokevirtual 321, 3) := dk_182 1 65 (dk_at dksX3_flies_0 12 rfl rfl)
theorem dX3_flies_15 : decode cX3_flies 15 = .ok (.aload_n 0, 1) := dk_42 (dk_at dksX3_flies_0 15 rfl rfl)
theorem dX3_flies_16 : decode cX3_flies 16 = .ok (.getfield 7, 3) := dk_180 0 7 (dk_at dksX3_flies_0 16 rfl rfl)
theorem dX3_flies_19 : decode cX3_flies 19 = .ok (.bipush 67, 2) := dk_16 67 (dk_at dksX3_flies_0 19 rfl rfl)
theorem dX3_flies_21 : decode cX3_flies 21 = .ok (.iload_n 1, 1) := dk_27 (dk_at dksX3_flies_0 21 rfl rfl)
theorem dX3_flies_22 : decode cX3_flies 22 = .ok (.iadd, 1) := dk_96 (dk_at dksX3_flies_0 22 rfl rfl)
theorem dX3_flies_23 : decode cX3_flies 23 = .ok (.iconst 1, 1) := dk_4 (dk_at dksX3_flies_0 23 rfl rfl)
theorem dX3_flies_24 : decode cX3_flies 24 = .ok (.iastore, 1) := dk_79 (dk_at dksX3_flies_1 0 rfl rfl)
theorem dX3_flies_25 : decode cX3_flies 25 = .ok (.aload_n 0, 1) := dk_42 (dk_at dksX3_flies_1 1 rfl rfl)
theorem dX3_flies_26 : decode cX3_flies 26 = .ok (.getfield 7, 3) := dk_180 0 7 (dk_at dksX3_flies_1 2 rfl rfl)
theorem dX3_flies_29 : decode cX3_flies 29 = .ok (.bipush 19, 2) := dk_16 19 (dk_at dksX3_flies_1 5 rfl rfl)
theorem dX3_flies_31 : decode cX3_flies 31 = .ok (.iload_n 1, 1) := dk_27 (dk_at dksX3_flies_1 7 rfl rfl)
theorem dX3_flies_32 : decode cX3_flies 32 = .ok (.iadd, 1) := dk_96 (dk_at dksX3_flies_1 8 rfl rfl)
theorem dX3_flies_33 : decode cX3_flies 33 = .ok (.iconst 0, 1) := dk_3 (dk_at dksX3_flies_1 9 rfl rfl)
theorem dX3_flies_34 : decode cX3_flies 34 = .ok (.iastore, 1) := dk_79 (dk_at dksX3_flies_1 10 rfl rfl)
theorem dX3_flies_35 : decode cX3_flies 35 = .ok (.aload_n 0, 1) := dk_42 (dk_at dksX3_flies_1 11 rfl rfl)
theorem dX3_flies_36 : decode cX3_flies 36 = .ok (.getfield 7, 3) := dk_180 0 7 (dk_at dksX3_flies_1 12 rfl rfl)
theorem dX3_flies_39 : decode cX3_flies 39 = .ok (.bipush 31, 2) := dk_16 31 (dk_at dksX3_flies_1 15 rfl rfl)
theorem dX3_flies_41 : decode cX3_flies 41 = .ok (.iload_n 1, 1) := dk_27 (dk_at dksX3_flies_1 17 rfl rfl)
theorem dX3_flies_42 : decode cX3_flies 42 = .ok (.iadd, 1) := dk_96 (dk_at dksX3_flies_1 18 rfl rfl)
theorem dX3_flies_43 : decode cX3_flies 43 = .ok (.iconst 0, 1) := dk_3 (dk_at dksX3_flies_1 19 rfl rfl)
theorem dX3_flies_44 : decode cX3_flies 44 = .ok (.iastore, 1) := dk_79 (dk_at dksX3_flies_1 20 rfl rfl)
theorem dX3_flies_45 : decode cX3_flies 45 = .ok (.aload_n 0, 1) := dk_42 (dk_at dksX3_flies_1 21 rfl rfl)
theorem dX3_flies_46 : decode cX3_flies 46 = .ok (.getfield 7, 3) := dk_180 0 7 (dk_at dksX3_flies_2 0 rfl rfl)
theorem dX3_flies_49 : decode cX3_flies 49 = .ok (.bipush 43, 2) := dk_16 43 (dk_at dksX3_flies_2 3 rfl rfl)
theorem dX3_flies_51 : decode cX3_flies 51 = .ok (.iload_n 1, 1) := dk_27 (dk_at dksX3_flies_2 5 rfl rfl)
theorem dX3_flies_52 : decode cX3_flies 52 = .ok (.iadd, 1) := dk_96 (dk_at dksX3_flies_2 6 rfl rfl)
theorem dX3_flies_53 : decode cX3_flies 53 = .ok (.iconst (-1), 1) := dk_2 (dk_at dksX3_flies_2 7 rfl rfl)
theorem dX3_flies_54 : decode cX3_flies 54 = .ok (.iastore, 1) := dk_79 (dk_at dksX3_flies_2 8 rfl rfl)
theorem dX3_flies_55 : decode cX3_flies 55 = .ok (.aload_n 0, 1) := dk_42 (dk_at dksX3_flies_2 9 rfl rfl)
theorem dX3_flies_56 : decode cX3_flies 56 = .ok (.getfield 7, 3) := dk_180 0 7 (dk_at dksX3_flies_2 10 rfl rfl)
theorem dX3_flies_59 : decode cX3_flies 59 = .ok (.iconst 4, 1) := dk_7 (dk_at dksX3_flies_2 13 rfl rfl)
theorem dX3_flies_60 : decode cX3_flies 60 = .ok (.dup2, 1) := dk_92 (dk_at dksX3_flies_2 14 rfl rfl)
theorem dX3_flies_61 : decode cX3_flies 61 = .ok (.iaload, 1) := dk_46 (dk_at dksX3_flies_2 15 rfl rfl)
theorem dX3_flies_62 : decode cX3_flies 62 = .ok (.iconst 1, 1) := dk_4 (dk_at dksX3_flies_2 16 rfl rfl)
theorem dX3_flies_63 : decode cX3_flies 63 = .ok (.iadd, 1) := dk_96 (dk_at dksX3_flies_2 17 rfl rfl)
theorem dX3_flies_64 : decode cX3_flies 64 = .ok (.iastore, 1) := dk_79 (dk_at dksX3_flies_2 18 rfl rfl)
theorem dX3_flies_65 : decode cX3_flies 65 = .ok (.return_, 1) := dk_177 (dk_at dksX3_flies_2 19 rfl rfl)
abbrev cX3_of : ByteArray := prog_17_method_76_code
def yX3_of : MethodName := ⟨RX3, "of", "(II)I"⟩
def dkwX3_of_8 : List UInt8 := [167, 0, 5, 16, 254, 172]
abbrev dktX3_of_8 : List UInt8 := dkwX3_of_8 ++ []
def dkwX3_of_7 : List UInt8 := [180, 0, 7, 16, 19, 27, 96, 46, 96, 184, 0, 59, 153, 0, 15, 42, 27, 28, 16, 20, 100, 182, 1, 110]
abbrev dktX3_of_7 : List UInt8 := dkwX3_of_7 ++ dktX3_of_8
def dkwX3_of_6 : List UInt8 := [42, 180, 0, 7, 16, 79, 27, 96, 46, 172, 42, 27, 3, 3, 182, 1, 72, 172, 28, 16, 20, 16, 19, 42]
abbrev dktX3_of_6 : List UInt8 := dkwX3_of_6 ++ dktX3_of_7
def dkwX3_of_5 : List UInt8 := [46, 172, 42, 180, 0, 7, 16, 67, 27, 96, 46, 172, 42, 27, 182, 1, 59, 172, 42, 27, 182, 1, 81, 172]
abbrev dktX3_of_5 : List UInt8 := dkwX3_of_5 ++ dktX3_of_6
def dkwX3_of_4 : List UInt8 := [16, 31, 27, 96, 46, 172, 42, 180, 0, 7, 16, 43, 27, 96, 46, 172, 42, 180, 0, 7, 16, 55, 27, 96]
abbrev dktX3_of_4 : List UInt8 := dkwX3_of_4 ++ dktX3_of_5
def dkwX3_of_3 : List UInt8 := [180, 0, 7, 16, 7, 27, 96, 46, 172, 42, 180, 0, 7, 16, 19, 27, 96, 46, 172, 42, 180, 0, 7]
abbrev dktX3_of_3 : List UInt8 := dkwX3_of_3 ++ dktX3_of_4
def dkwX3_of_2 : List UInt8 := [42, 180, 0, 7, 17, 2, 69, 27, 96, 46, 172, 42, 180, 0, 7, 17, 2, 81, 27, 96, 46, 172, 42]
abbrev dktX3_of_2 : List UInt8 := dkwX3_of_2 ++ dktX3_of_3
def dkwX3_of_1 : List UInt8 := [171, 0, 0, 0, 0, 0, 0, 220, 0, 0, 0, 12, 0, 0, 0, 0, 0, 0, 0, 108, 0, 0, 0, 1, 0, 0, 0, 119, 0, 0, 0, 2, 0, 0, 0, 130, 0, 0, 0, 3, 0, 0, 0, 140, 0, 0, 0, 4, 0, 0, 0, 150, 0, 0, 0, 5, 0, 0, 0, 160, 0, 0, 0, 6, 0, 0, 0, 170, 0, 0, 0, 7, 0, 0, 0, 180, 0, 0, 0, 8, 0, 0, 0, 190, 0, 0, 0, 9, 0, 0, 0, 196, 0, 0, 0, 10, 0, 0, 0, 202, 0, 0, 0, 70, 0, 0, 0, 212]
abbrev dktX3_of_1 : List UInt8 := dkwX3_of_1 ++ dktX3_of_2
def dkwX3_of_0 : List UInt8 := [42, 27, 182, 0, 71, 154, 0, 6, 16, 254, 172, 28]
abbrev dktX3_of_0 : List UInt8 := dkwX3_of_0 ++ dktX3_of_1
theorem dksX3_of_0 : cX3_of.data.toList.drop 0 = dktX3_of_0 := by decide +kernel
theorem dksX3_of_1 : cX3_of.data.toList.drop 12 = dktX3_of_1 := dk_seg dksX3_of_0 12 rfl rfl
theorem dksX3_of_2 : cX3_of.data.toList.drop 120 = dktX3_of_2 := dk_seg dksX3_of_1 108 rfl rfl
theorem dksX3_of_3 : cX3_of.data.toList.drop 143 = dktX3_of_3 := dk_seg dksX3_of_2 23 rfl rfl
theorem dksX3_of_4 : cX3_of.data.toList.drop 166 = dktX3_of_4 := dk_seg dksX3_of_3 23 rfl rfl
theorem dksX3_of_5 : cX3_of.data.toList.drop 190 = dktX3_of_5 := dk_seg dksX3_of_4 24 rfl rfl
theorem dksX3_of_6 : cX3_of.data.toList.drop 214 = dktX3_of_6 := dk_seg dksX3_of_5 24 rfl rfl
theorem dksX3_of_7 : cX3_of.data.toList.drop 238 = dktX3_of_7 := dk_seg dksX3_of_6 24 rfl rfl
theorem dksX3_of_8 : cX3_of.data.toList.drop 262 = dktX3_of_8 := dk_seg dksX3_of_7 24 rfl rfl
theorem dX3_of_0 : decode cX3_of 0 = .ok (.aload_n 0, 1) := dk_42 (dk_at dksX3_of_0 0 rfl rfl)
theorem dX3_of_1 : decode cX3_of 1 = .ok (.iload_n 1, 1) := dk_27 (dk_at dksX3_of_0 1 rfl rfl)
theorem dX3_of_2 : decode cX3_of 2 = .ok (.invokevirtual 71, 3) := dk_182 0 71 (dk_at dksX3_of_0 2 rfl rfl)
theorem dX3_of_5 : decode cX3_of 5 = .ok (.ifCond .ne 6, 3) := dk_154 0 6 (dk_at dksX3_of_0 5 rfl rfl)
theorem dX3_of_8 : decode cX3_of 8 = .ok (.bipush (-2), 2) := dk_16 254 (dk_at dksX3_of_0 8 rfl rfl)
theorem dX3_of_10 : decode cX3_of 10 = .ok (.ireturn, 1) := dk_172 (dk_at dksX3_of_0 10 rfl rfl)
theorem dX3_of_11 : decode cX3_of 11 = .ok (.iload_n 2, 1) := dk_28 (dk_at dksX3_of_0 11 rfl rfl)
theorem dX3_of_12 : decode cX3_of 12 = .ok (.lookupswitch 220 #[(0, 108), (1, 119), (2, 130), (3, 140), (4, 150), (5, 160), (6, 170), (7, 180), (8, 190), (9, 196), (10, 202), (70, 212)], 108) := by decide +kernel
theorem dX3_of_120 : decode cX3_of 120 = .ok (.aload_n 0, 1) := dk_42 (dk_at dksX3_of_2 0 rfl rfl)
theorem dX3_of_121 : decode cX3_of 121 = .ok (.getfield 7, 3) := dk_180 0 7 (dk_at dksX3_of_2 1 rfl rfl)
theorem dX3_of_124 : decode cX3_of 124 = .ok (.sipush 581, 3) := dk_17 2 69 (dk_at dksX3_of_2 4 rfl rfl)
theorem dX3_of_127 : decode cX3_of 127 = .ok (.iload_n 1, 1) := dk_27 (dk_at dksX3_of_2 7 rfl rfl)
theorem dX3_of_128 : decode cX3_of 128 = .ok (.iadd, 1) := dk_96 (dk_at dksX3_of_2 8 rfl rfl)
theorem dX3_of_129 : decode cX3_of 129 = .ok (.iaload, 1) := dk_46 (dk_at dksX3_of_2 9 rfl rfl)
theorem dX3_of_130 : decode cX3_of 130 = .ok (.ireturn, 1) := dk_172 (dk_at dksX3_of_2 10 rfl rfl)
theorem dX3_of_131 : decode cX3_of 131 = .ok (.aload_n 0, 1) := dk_42 (dk_at dksX3_of_2 11 rfl rfl)
theorem dX3_of_132 : decode cX3_of 132 = .ok (.getfield 7, 3) := dk_180 0 7 (dk_at dksX3_of_2 12 rfl rfl)
theorem dX3_of_135 : decode cX3_of 135 = .ok (.sipush 593, 3) := dk_17 2 81 (dk_at dksX3_of_2 15 rfl rfl)
theorem dX3_of_138 : decode cX3_of 138 = .ok (.iload_n 1, 1) := dk_27 (dk_at dksX3_of_2 18 rfl rfl)
theorem dX3_of_139 : decode cX3_of 139 = .ok (.iadd, 1) := dk_96 (dk_at dksX3_of_2 19 rfl rfl)
theorem dX3_of_140 : decode cX3_of 140 = .ok (.iaload, 1) := dk_46 (dk_at dksX3_of_2 20 rfl rfl)
theorem dX3_of_141 : decode cX3_of 141 = .ok (.ireturn, 1) := dk_172 (dk_at dksX3_of_2 21 rfl rfl)
theorem dX3_of_142 : decode cX3_of 142 = .ok (.aload_n 0, 1) := dk_42 (dk_at dksX3_of_2 22 rfl rfl)
theorem dX3_of_143 : decode cX3_of 143 = .ok (.getfield 7, 3) := dk_180 0 7 (dk_at dksX3_of_3 0 rfl rfl)
theorem dX3_of_146 : decode cX3_of 146 = .ok (.bipush 7, 2) := dk_16 7 (dk_at dksX3_of_3 3 rfl rfl)
theorem dX3_of_148 : decode cX3_of 148 = .ok (.iload_n 1, 1) := dk_27 (dk_at dksX3_of_3 5 rfl rfl)
theorem dX3_of_149 : decode cX3_of 149 = .ok (.iadd, 1) := dk_96 (dk_at dksX3_of_3 6 rfl rfl)
theorem dX3_of_150 : decode cX3_of 150 = .ok (.iaload, 1) := dk_46 (dk_at dksX3_of_3 7 rfl rfl)
theorem dX3_of_151 : decode cX3_of 151 = .ok (.ireturn, 1) := dk_172 (dk_at dksX3_of_3 8 rfl rfl)
theorem dX3_of_152 : decode cX3_of 152 = .ok (.aload_n 0, 1) := dk_42 (dk_at dksX3_of_3 9 rfl rfl)
theorem dX3_of_153 : decode cX3_of 153 = .ok (.getfield 7, 3) := dk_180 0 7 (dk_at dksX3_of_3 10 rfl rfl)
theorem dX3_of_156 : decode cX3_of 156 = .ok (.bipush 19, 2) := dk_16 19 (dk_at dksX3_of_3 13 rfl rfl)
theorem dX3_of_158 : decode cX3_of 158 = .ok (.iload_n 1, 1) := dk_27 (dk_at dksX3_of_3 15 rfl rfl)
theorem dX3_of_159 : decode cX3_of 159 = .ok (.iadd, 1) := dk_96 (dk_at dksX3_of_3 16 rfl rfl)
theorem dX3_of_160 : decode cX3_of 160 = .ok (.iaload, 1) := dk_46 (dk_at dksX3_of_3 17 rfl rfl)
theorem dX3_of_161 : decode cX3_of 161 = .ok (.ireturn, 1) := dk_172 (dk_at dksX3_of_3 18 rfl rfl)
theorem dX3_of_162 : decode cX3_of 162 = .ok (.aload_n 0, 1) := dk_42 (dk_at dksX3_of_3 19 rfl rfl)
theorem dX3_of_163 : decode cX3_of 163 = .ok (.getfield 7, 3) := dk_180 0 7 (dk_at dksX3_of_3 20 rfl rfl)
theorem dX3_of_166 : decode cX3_of 166 = .ok (.bipush 31, 2) := dk_16 31 (dk_at dksX3_of_4 0 rfl rfl)
theorem dX3_of_168 : decode cX3_of 168 = .ok (.iload_n 1, 1) := dk_27 (dk_at dksX3_of_4 2 rfl rfl)
theorem dX3_of_169 : decode cX3_of 169 = .ok (.iadd, 1) := dk_96 (dk_at dksX3_of_4 3 rfl rfl)
theorem dX3_of_170 : decode cX3_of 170 = .ok (.iaload, 1) := dk_46 (dk_at dksX3_of_4 4 rfl rfl)
theorem dX3_of_171 : decode cX3_of 171 = .ok (.ireturn, 1) := dk_172 (dk_at dksX3_of_4 5 rfl rfl)
theorem dX3_of_172 : decode cX3_of 172 = .ok (.aload_n 0, 1) := dk_42 (dk_at dksX3_of_4 6 rfl rfl)
theorem dX3_of_173 : decode cX3_of 173 = .ok (.getfield 7, 3) := dk_180 0 7 (dk_at dksX3_of_4 7 rfl rfl)
theorem dX3_of_176 : decode cX3_of 176 = .ok (.bipush 43, 2) := dk_16 43 (dk_at dksX3_of_4 10 rfl rfl)
theorem dX3_of_178 : decode cX3_of 178 = .ok (.iload_n 1, 1) := dk_27 (dk_at dksX3_of_4 12 rfl rfl)
theorem dX3_of_179 : decode cX3_of 179 = .ok (.iadd, 1) := dk_96 (dk_at dksX3_of_4 13 rfl rfl)
theorem dX3_of_180 : decode cX3_of 180 = .ok (.iaload, 1) := dk_46 (dk_at dksX3_of_4 14 rfl rfl)
theorem dX3_of_181 : decode cX3_of 181 = .ok (.ireturn, 1) := dk_172 (dk_at dksX3_of_4 15 rfl rfl)
theorem dX3_of_182 : decode cX3_of 182 = .ok (.aload_n 0, 1) := dk_42 (dk_at dksX3_of_4 16 rfl rfl)
theorem dX3_of_183 : decode cX3_of 183 = .ok (.getfield 7, 3) := dk_180 0 7 (dk_at dksX3_of_4 17 rfl rfl)
theorem dX3_of_186 : decode cX3_of 186 = .ok (.bipush 55, 2) := dk_16 55 (dk_at dksX3_of_4 20 rfl rfl)
theorem dX3_of_188 : decode cX3_of 188 = .ok (.iload_n 1, 1) := dk_27 (dk_at dksX3_of_4 22 rfl rfl)
theorem dX3_of_189 : decode cX3_of 189 = .ok (.iadd, 1) := dk_96 (dk_at dksX3_of_4 23 rfl rfl)
theorem dX3_of_190 : decode cX3_of 190 = .ok (.iaload, 1) := dk_46 (dk_at dksX3_of_5 0 rfl rfl)
theorem dX3_of_191 : decode cX3_of 191 = .ok (.ireturn, 1) := dk_172 (dk_at dksX3_of_5 1 rfl rfl)
theorem dX3_of_192 : decode cX3_of 192 = .ok (.aload_n 0, 1) := dk_42 (dk_at dksX3_of_5 2 rfl rfl)
theorem dX3_of_193 : decode cX3_of 193 = .ok (.getfield 7, 3) := dk_180 0 7 (dk_at dksX3_of_5 3 rfl rfl)
theorem dX3_of_196 : decode cX3_of 196 = .ok (.bipush 67, 2) := dk_16 67 (dk_at dksX3_of_5 6 rfl rfl)
theorem dX3_of_198 : decode cX3_of 198 = .ok (.iload_n 1, 1) := dk_27 (dk_at dksX3_of_5 8 rfl rfl)
theorem dX3_of_199 : decode cX3_of 199 = .ok (.iadd, 1) := dk_96 (dk_at dksX3_of_5 9 rfl rfl)
theorem dX3_of_200 : decode cX3_of 200 = .ok (.iaload, 1) := dk_46 (dk_at dksX3_of_5 10 rfl rfl)
theorem dX3_of_201 : decode cX3_of 201 = .ok (.ireturn, 1) := dk_172 (dk_at dksX3_of_5 11 rfl rfl)
theorem dX3_of_202 : decode cX3_of 202 = .ok (.aload_n 0, 1) := dk_42 (dk_at dksX3_of_5 12 rfl rfl)
theorem dX3_of_203 : decode cX3_of 203 = .ok (.iload_n 1, 1) := dk_27 (dk_at dksX3_of_5 13 rfl rfl)
theorem dX3_of_204 : decode cX3_of 204 = .ok (.invokevirtual 315, 3) := dk_182 1 59 (dk_at dksX3_of_5 14 rfl rfl)
theorem dX3_of_207 : decode cX3_of 207 = .ok (.ireturn, 1) := dk_172 (dk_at dksX3_of_5 17 rfl rfl)
theorem dX3_of_208 : decode cX3_of 208 = .ok (.aload_n 0, 1) := dk_42 (dk_at dksX3_of_5 18 rfl rfl)
theorem dX3_of_209 : decode cX3_of 209 = .ok (.iload_n 1, 1) := dk_27 (dk_at dksX3_of_5 19 rfl rfl)
theorem dX3_of_210 : decode cX3_of 210 = .ok (.invokevirtual 337, 3) := dk_182 1 81 (dk_at dksX3_of_5 20 rfl rfl)
theorem dX3_of_213 : decode cX3_of 213 = .ok (.ireturn, 1) := dk_172 (dk_at dksX3_of_5 23 rfl rfl)
theorem dX3_of_214 : decode cX3_of 214 = .ok (.aload_n 0, 1) := dk_42 (dk_at dksX3_of_6 0 rfl rfl)
theorem dX3_of_215 : decode cX3_of 215 = .ok (.getfield 7, 3) := dk_180 0 7 (dk_at dksX3_of_6 1 rfl rfl)
theorem dX3_of_218 : decode cX3_of 218 = .ok (.bipush 79, 2) := dk_16 79 (dk_at dksX3_of_6 4 rfl rfl)
theorem dX3_of_220 : decode cX3_of 220 = .ok (.iload_n 1, 1) := dk_27 (dk_at dksX3_of_6 6 rfl rfl)
theorem dX3_of_221 : decode cX3_of 221 = .ok (.iadd, 1) := dk_96 (dk_at dksX3_of_6 7 rfl rfl)
theorem dX3_of_222 : decode cX3_of 222 = .ok (.iaload, 1) := dk_46 (dk_at dksX3_of_6 8 rfl rfl)
theorem dX3_of_223 : decode cX3_of 223 = .ok (.ireturn, 1) := dk_172 (dk_at dksX3_of_6 9 rfl rfl)
theorem dX3_of_224 : decode cX3_of 224 = .ok (.aload_n 0, 1) := dk_42 (dk_at dksX3_of_6 10 rfl rfl)
theorem dX3_of_225 : decode cX3_of 225 = .ok (.iload_n 1, 1) := dk_27 (dk_at dksX3_of_6 11 rfl rfl)
theorem dX3_of_226 : decode cX3_of 226 = .ok (.iconst 0, 1) := dk_3 (dk_at dksX3_of_6 12 rfl rfl)
theorem dX3_of_227 : decode cX3_of 227 = .ok (.iconst 0, 1) := dk_3 (dk_at dksX3_of_6 13 rfl rfl)
theorem dX3_of_228 : decode cX3_of 228 = .ok (.invokevirtual 328, 3) := dk_182 1 72 (dk_at dksX3_of_6 14 rfl rfl)
theorem dX3_of_231 : decode cX3_of 231 = .ok (.ireturn, 1) := dk_172 (dk_at dksX3_of_6 17 rfl rfl)
theorem dX3_of_232 : decode cX3_of 232 = .ok (.iload_n 2, 1) := dk_28 (dk_at dksX3_of_6 18 rfl rfl)
theorem dX3_of_233 : decode cX3_of 233 = .ok (.bipush 20, 2) := dk_16 20 (dk_at dksX3_of_6 19 rfl rfl)
theorem dX3_of_235 : decode cX3_of 235 = .ok (.bipush 19, 2) := dk_16 19 (dk_at dksX3_of_6 21 rfl rfl)
theorem dX3_of_237 : decode cX3_of 237 = .ok (.aload_n 0, 1) := dk_42 (dk_at dksX3_of_6 23 rfl rfl)
theorem dX3_of_238 : decode cX3_of 238 = .ok (.getfield 7, 3) := dk_180 0 7 (dk_at dksX3_of_7 0 rfl rfl)
theorem dX3_of_241 : decode cX3_of 241 = .ok (.bipush 19, 2) := dk_16 19 (dk_at dksX3_of_7 3 rfl rfl)
theorem dX3_of_243 : decode cX3_of 243 = .ok (.iload_n 1, 1) := dk_27 (dk_at dksX3_of_7 5 rfl rfl)
theorem dX3_of_244 : decode cX3_of 244 = .ok (.iadd, 1) := dk_96 (dk_at dksX3_of_7 6 rfl rfl)
theorem dX3_of_245 : decode cX3_of 245 = .ok (.iaload, 1) := dk_46 (dk_at dksX3_of_7 7 rfl rfl)
theorem dX3_of_246 : decode cX3_of 246 = .ok (.iadd, 1) := dk_96 (dk_at dksX3_of_7 8 rfl rfl)
theorem dX3_of_247 : decode cX3_of 247 = .ok (.invokestatic 59, 3) := dk_184 0 59 (dk_at dksX3_of_7 9 rfl rfl)
theorem dX3_of_250 : decode cX3_of 250 = .ok (.ifCond .eq 15, 3) := dk_153 0 15 (dk_at dksX3_of_7 12 rfl rfl)
theorem dX3_of_253 : decode cX3_of 253 = .ok (.aload_n 0, 1) := dk_42 (dk_at dksX3_of_7 15 rfl rfl)
theorem dX3_of_254 : decode cX3_of 254 = .ok (.iload_n 1, 1) := dk_27 (dk_at dksX3_of_7 16 rfl rfl)
theorem dX3_of_255 : decode cX3_of 255 = .ok (.iload_n 2, 1) := dk_28 (dk_at dksX3_of_7 17 rfl rfl)
theorem dX3_of_256 : decode cX3_of 256 = .ok (.bipush 20, 2) := dk_16 20 (dk_at dksX3_of_7 18 rfl rfl)
theorem dX3_of_258 : decode cX3_of 258 = .ok (.isub, 1) := dk_100 (dk_at dksX3_of_7 20 rfl rfl)
theorem dX3_of_259 : decode cX3_of 259 = .ok (.invokevirtual 366, 3) := dk_182 1 110 (dk_at dksX3_of_7 21 rfl rfl)
theorem dX3_of_262 : decode cX3_of 262 = .ok (.goto 5, 3) := dk_167 0 5 (dk_at dksX3_of_8 0 rfl rfl)
theorem dX3_of_265 : decode cX3_of 265 = .ok (.bipush (-2), 2) := dk_16 254 (dk_at dksX3_of_8 3 rfl rfl)
theorem dX3_of_267 : decode cX3_of 267 = .ok (.ireturn, 1) := dk_172 (dk_at dksX3_of_8 5 rfl rfl)
abbrev cX3_markOf : ByteArray := prog_17_method_8_code
def yX3_markOf : MethodName := ⟨RX3, "markOf", "(II)I"⟩
def dkwX3_markOf_0 : List UInt8 := [42, 180, 0, 7, 16, 91, 16, 40, 27, 104, 96, 28, 96, 46, 172]
abbrev dktX3_markOf_0 : List UInt8 := dkwX3_markOf_0 ++ []
theorem dksX3_markOf_0 : cX3_markOf.data.toList.drop 0 = dktX3_markOf_0 := by decide +kernel
theorem dX3_markOf_0 : decode cX3_markOf 0 = .ok (.aload_n 0, 1) := dk_42 (dk_at dksX3_markOf_0 0 rfl rfl)
theorem dX3_markOf_1 : decode cX3_markOf 1 = .ok (.getfield 7, 3) := dk_180 0 7 (dk_at dksX3_markOf_0 1 rfl rfl)
theorem dX3_markOf_4 : decode cX3_markOf 4 = .ok (.bipush 91, 2) := dk_16 91 (dk_at dksX3_markOf_0 4 rfl rfl)
theorem dX3_markOf_6 : decode cX3_markOf 6 = .ok (.bipush 40, 2) := dk_16 40 (dk_at dksX3_markOf_0 6 rfl rfl)
theorem dX3_markOf_8 : decode cX3_markOf 8 = .ok (.iload_n 1, 1) := dk_27 (dk_at dksX3_markOf_0 8 rfl rfl)
theorem dX3_markOf_9 : decode cX3_markOf 9 = .ok (.imul, 1) := dk_104 (dk_at dksX3_markOf_0 9 rfl rfl)
theorem dX3_markOf_10 : decode cX3_markOf 10 = .ok (.iadd, 1) := dk_96 (dk_at dksX3_markOf_0 10 rfl rfl)
theorem dX3_markOf_11 : decode cX3_markOf 11 = .ok (.iload_n 2, 1) := dk_28 (dk_at dksX3_markOf_0 11 rfl rfl)
theorem dX3_markOf_12 : decode cX3_markOf 12 = .ok (.iadd, 1) := dk_96 (dk_at dksX3_markOf_0 12 rfl rfl)
theorem dX3_markOf_13 : decode cX3_markOf 13 = .ok (.iaload, 1) := dk_46 (dk_at dksX3_markOf_0 13 rfl rfl)
theorem dX3_markOf_14 : decode cX3_markOf 14 = .ok (.ireturn, 1) := dk_172 (dk_at dksX3_markOf_0 14 rfl rfl)
abbrev cX3_fact : ByteArray := prog_17_method_77_code
def yX3_fact : MethodName := ⟨RX3, "fact", "(II)I"⟩
def dkwX3_fact_2 : List UInt8 := [6, 28, 96, 16, 10, 100, 182, 1, 43, 167, 0, 4, 2, 172]
abbrev dktX3_fact_2 : List UInt8 := dkwX3_fact_2 ++ []
def dkwX3_fact_1 : List UInt8 := [182, 1, 43, 172, 28, 16, 10, 16, 9, 42, 27, 3, 182, 1, 43, 96, 184, 0, 59, 153, 0, 17, 42, 27]
abbrev dktX3_fact_1 : List UInt8 := dkwX3_fact_1 ++ dktX3_fact_2
def dkwX3_fact_0 : List UInt8 := [42, 27, 182, 0, 243, 154, 0, 5, 2, 172, 28, 3, 5, 184, 0, 59, 153, 0, 10, 42, 27, 28]
abbrev dktX3_fact_0 : List UInt8 := dkwX3_fact_0 ++ dktX3_fact_1
theorem dksX3_fact_0 : cX3_fact.data.toList.drop 0 = dktX3_fact_0 := by decide +kernel
theorem dksX3_fact_1 : cX3_fact.data.toList.drop 22 = dktX3_fact_1 := dk_seg dksX3_fact_0 22 rfl rfl
theorem dksX3_fact_2 : cX3_fact.data.toList.drop 46 = dktX3_fact_2 := dk_seg dksX3_fact_1 24 rfl rfl
theorem dX3_fact_0 : decode cX3_fact 0 = .ok (.aload_n 0, 1) := dk_42 (dk_at dksX3_fact_0 0 rfl rfl)
theorem dX3_fact_1 : decode cX3_fact 1 = .ok (.iload_n 1, 1) := dk_27 (dk_at dksX3_fact_0 1 rfl rfl)
theorem dX3_fact_2 : decode cX3_fact 2 = .ok (.invokevirtual 243, 3) := dk_182 0 243 (dk_at dksX3_fact_0 2 rfl rfl)
theorem dX3_fact_5 : decode cX3_fact 5 = .ok (.ifCond .ne 5, 3) := dk_154 0 5 (dk_at dksX3_fact_0 5 rfl rfl)
theorem dX3_fact_8 : decode cX3_fact 8 = .ok (.iconst (-1), 1) := dk_2 (dk_at dksX3_fact_0 8 rfl rfl)
theorem dX3_fact_9 : decode cX3_fact 9 = .ok (.ireturn, 1) := dk_172 (dk_at dksX3_fact_0 9 rfl rfl)
theorem dX3_fact_10 : decode cX3_fact 10 = .ok (.iload_n 2, 1) := dk_28 (dk_at dksX3_fact_0 10 rfl rfl)
theorem dX3_fact_11 : decode cX3_fact 11 = .ok (.iconst 0, 1) := dk_3 (dk_at dksX3_fact_0 11 rfl rfl)
theorem dX3_fact_12 : decode cX3_fact 12 = .ok (.iconst 2, 1) := dk_5 (dk_at dksX3_fact_0 12 rfl rfl)
theorem dX3_fact_13 : decode cX3_fact 13 = .ok (.invokestatic 59, 3) := dk_184 0 59 (dk_at dksX3_fact_0 13 rfl rfl)
theorem dX3_fact_16 : decode cX3_fact 16 = .ok (.ifCond .eq 10, 3) := dk_153 0 10 (dk_at dksX3_fact_0 16 rfl rfl)
theorem dX3_fact_19 : decode cX3_fact 19 = .ok (.aload_n 0, 1) := dk_42 (dk_at dksX3_fact_0 19 rfl rfl)
theorem dX3_fact_20 : decode cX3_fact 20 = .ok (.iload_n 1, 1) := dk_27 (dk_at dksX3_fact_0 20 rfl rfl)
theorem dX3_fact_21 : decode cX3_fact 21 = .ok (.iload_n 2, 1) := dk_28 (dk_at dksX3_fact_0 21 rfl rfl)
theorem dX3_fact_22 : decode cX3_fact 22 = .ok (.invokevirtual 299, 3) := dk_182 1 43 (dk_at dksX3_fact_1 0 rfl rfl)
theorem dX3_fact_25 : decode cX3_fact 25 = .ok (.ireturn, 1) := dk_172 (dk_at dksX3_fact_1 3 rfl rfl)
theorem dX3_fact_26 : decode cX3_fact 26 = .ok (.iload_n 2, 1) := dk_28 (dk_at dksX3_fact_1 4 rfl rfl)
theorem dX3_fact_27 : decode cX3_fact 27 = .ok (.bipush 10, 2) := dk_16 10 (dk_at dksX3_fact_1 5 rfl rfl)
theorem dX3_fact_29 : decode cX3_fact 29 = .ok (.bipush 9, 2) := dk_16 9 (dk_at dksX3_fact_1 7 rfl rfl)
theorem dX3_fact_31 : decode cX3_fact 31 = .ok (.aload_n 0, 1) := dk_42 (dk_at dksX3_fact_1 9 rfl rfl)
theorem dX3_fact_32 : decode cX3_fact 32 = .ok (.iload_n 1, 1) := dk_27 (dk_at dksX3_fact_1 10 rfl rfl)
theorem dX3_fact_33 : decode cX3_fact 33 = .ok (.iconst 0, 1) := dk_3 (dk_at dksX3_fact_1 11 rfl rfl)
theorem dX3_fact_34 : decode cX3_fact 34 = .ok (.invokevirtual 299, 3) := dk_182 1 43 (dk_at dksX3_fact_1 12 rfl rfl)
theorem dX3_fact_37 : decode cX3_fact 37 = .ok (.iadd, 1) := dk_96 (dk_at dksX3_fact_1 15 rfl rfl)
theorem dX3_fact_38 : decode cX3_fact 38 = .ok (.invokestatic 59, 3) := dk_184 0 59 (dk_at dksX3_fact_1 16 rfl rfl)
theorem dX3_fact_41 : decode cX3_fact 41 = .ok (.ifCond .eq 17, 3) := dk_153 0 17 (dk_at dksX3_fact_1 19 rfl rfl)
theorem dX3_fact_44 : decode cX3_fact 44 = .ok (.aload_n 0, 1) := dk_42 (dk_at dksX3_fact_1 22 rfl rfl)
theorem dX3_fact_45 : decode cX3_fact 45 = .ok (.iload_n 1, 1) := dk_27 (dk_at dksX3_fact_1 23 rfl rfl)
theorem dX3_fact_46 : decode cX3_fact 46 = .ok (.iconst 3, 1) := dk_6 (dk_at dksX3_fact_2 0 rfl rfl)
theorem dX3_fact_47 : decode cX3_fact 47 = .ok (.iload_n 2, 1) := dk_28 (dk_at dksX3_fact_2 1 rfl rfl)
theorem dX3_fact_48 : decode cX3_fact 48 = .ok (.iadd, 1) := dk_96 (dk_at dksX3_fact_2 2 rfl rfl)
theorem dX3_fact_49 : decode cX3_fact 49 = .ok (.bipush 10, 2) := dk_16 10 (dk_at dksX3_fact_2 3 rfl rfl)
theorem dX3_fact_51 : decode cX3_fact 51 = .ok (.isub, 1) := dk_100 (dk_at dksX3_fact_2 5 rfl rfl)
theorem dX3_fact_52 : decode cX3_fact 52 = .ok (.invokevirtual 299, 3) := dk_182 1 43 (dk_at dksX3_fact_2 6 rfl rfl)
theorem dX3_fact_55 : decode cX3_fact 55 = .ok (.goto 4, 3) := dk_167 0 4 (dk_at dksX3_fact_2 9 rfl rfl)
theorem dX3_fact_58 : decode cX3_fact 58 = .ok (.iconst (-1), 1) := dk_2 (dk_at dksX3_fact_2 12 rfl rfl)
theorem dX3_fact_59 : decode cX3_fact 59 = .ok (.ireturn, 1) := dk_172 (dk_at dksX3_fact_2 13 rfl rfl)
abbrev cX3_book : ByteArray := prog_17_method_78_code
def yX3_book : MethodName := ⟨RX3, "book", "(II)I"⟩
def dkwX3_book_1 : List UInt8 := [153, 0, 20, 42, 180, 0, 7, 17, 3, 103, 7, 27, 104, 96, 28, 96, 46, 167, 0, 4, 2, 172]
abbrev dktX3_book_1 : List UInt8 := dkwX3_book_1 ++ []
def dkwX3_book_0 : List UInt8 := [27, 3, 42, 180, 0, 7, 16, 6, 46, 4, 100, 184, 0, 59, 153, 0, 29, 28, 3, 6, 184, 0, 59]
abbrev dktX3_book_0 : List UInt8 := dkwX3_book_0 ++ dktX3_book_1
theorem dksX3_book_0 : cX3_book.data.toList.drop 0 = dktX3_book_0 := by decide +kernel
theorem dksX3_book_1 : cX3_book.data.toList.drop 23 = dktX3_book_1 := dk_seg dksX3_book_0 23 rfl rfl
theorem dX3_book_0 : decode cX3_book 0 = .ok (.iload_n 1, 1) := dk_27 (dk_at dksX3_book_0 0 rfl rfl)
theorem dX3_book_1 : decode cX3_book 1 = .ok (.iconst 0, 1) := dk_3 (dk_at dksX3_book_0 1 rfl rfl)
theorem dX3_book_2 : decode cX3_book 2 = .ok (.aload_n 0, 1) := dk_42 (dk_at dksX3_book_0 2 rfl rfl)
theorem dX3_book_3 : decode cX3_book 3 = .ok (.getfield 7, 3) := dk_180 0 7 (dk_at dksX3_book_0 3 rfl rfl)
theorem dX3_book_6 : decode cX3_book 6 = .ok (.bipush 6, 2) := dk_16 6 (dk_at dksX3_book_0 6 rfl rfl)
theorem dX3_book_8 : decode cX3_book 8 = .ok (.iaload, 1) := dk_46 (dk_at dksX3_book_0 8 rfl rfl)
theorem dX3_book_9 : decode cX3_book 9 = .ok (.iconst 1, 1) := dk_4 (dk_at dksX3_book_0 9 rfl rfl)
theorem dX3_book_10 : decode cX3_book 10 = .ok (.isub, 1) := dk_100 (dk_at dksX3_book_0 10 rfl rfl)
theorem dX3_book_11 : decode cX3_book 11 = .ok (.invokestatic 59, 3) := dk_184 0 59 (dk_at dksX3_book_0 11 rfl rfl)
theorem dX3_book_14 : decode cX3_book 14 = .ok (.ifCond .eq 29, 3) := dk_153 0 29 (dk_at dksX3_book_0 14 rfl rfl)
theorem dX3_book_17 : decode cX3_book 17 = .ok (.iload_n 2, 1) := dk_28 (dk_at dksX3_book_0 17 rfl rfl)
theorem dX3_book_18 : decode cX3_book 18 = .ok (.iconst 0, 1) := dk_3 (dk_at dksX3_book_0 18 rfl rfl)
theorem dX3_book_19 : decode cX3_book 19 = .ok (.iconst 3, 1) := dk_6 (dk_at dksX3_book_0 19 rfl rfl)
theorem dX3_book_20 : decode cX3_book 20 = .ok (.invokestatic 59, 3) := dk_184 0 59 (dk_at dksX3_book_0 20 rfl rfl)
theorem dX3_book_23 : decode cX3_book 23 = .ok (.ifCond .eq 20, 3) := dk_153 0 20 (dk_at dksX3_book_1 0 rfl rfl)
theorem dX3_book_26 : decode cX3_book 26 = .ok (.aload_n 0, 1) := dk_42 (dk_at dksX3_book_1 3 rfl rfl)
theorem dX3_book_27 : decode cX3_book 27 = .ok (.getfield 7, 3) := dk_180 0 7 (dk_at dksX3_book_1 4 rfl rfl)
theorem dX3_book_30 : decode cX3_book 30 = .ok (.sipush 871, 3) := dk_17 3 103 (dk_at dksX3_book_1 7 rfl rfl)
theorem dX3_book_33 : decode cX3_book 33 = .ok (.iconst 4, 1) := dk_7 (dk_at dksX3_book_1 10 rfl rfl)
theorem dX3_book_34 : decode cX3_book 34 = .ok (.iload_n 1, 1) := dk_27 (dk_at dksX3_book_1 11 rfl rfl)
theorem dX3_book_35 : decode cX3_book 35 = .ok (.imul, 1) := dk_104 (dk_at dksX3_book_1 12 rfl rfl)
theorem dX3_book_36 : decode cX3_book 36 = .ok (.iadd, 1) := dk_96 (dk_at dksX3_book_1 13 rfl rfl)
theorem dX3_book_37 : decode cX3_book 37 = .ok (.iload_n 2, 1) := dk_28 (dk_at dksX3_book_1 14 rfl rfl)
theorem dX3_book_38 : decode cX3_book 38 = .ok (.iadd, 1) := dk_96 (dk_at dksX3_book_1 15 rfl rfl)
theorem dX3_book_39 : decode cX3_book 39 = .ok (.iaload, 1) := dk_46 (dk_at dksX3_book_1 16 rfl rfl)
theorem dX3_book_40 : decode cX3_book 40 = .ok (.goto 4, 3) := dk_167 0 4 (dk_at dksX3_book_1 17 rfl rfl)
theorem dX3_book_43 : decode cX3_book 43 = .ok (.iconst (-1), 1) := dk_2 (dk_at dksX3_book_1 20 rfl rfl)
theorem dX3_book_44 : decode cX3_book 44 = .ok (.ireturn, 1) := dk_172 (dk_at dksX3_book_1 21 rfl rfl)
abbrev cX3_goes : ByteArray := prog_17_method_80_code
def yX3_goes : MethodName := ⟨RX3, "goes", "(II)I"⟩
def dkwX3_goes_6 : List UInt8 := [132, 4, 1, 167, 255, 231, 29, 172]
abbrev dktX3_goes_6 : List UInt8 := dkwX3_goes_6 ++ []
def dkwX3_goes_5 : List UInt8 := [54, 4, 21, 4, 17, 2, 59, 162, 0, 23, 42, 180, 0, 7, 21, 4, 42, 180, 0, 19, 21, 4, 46, 79]
abbrev dktX3_goes_5 : List UInt8 := dkwX3_goes_5 ++ dktX3_goes_6
def dkwX3_goes_4 : List UInt8 := [167, 0, 21, 28, 5, 160, 0, 12, 42, 180, 0, 7, 4, 46, 167, 0, 7, 42, 182, 1, 113, 62, 3]
abbrev dktX3_goes_4 : List UInt8 := dkwX3_goes_4 ++ dktX3_goes_5
def dkwX3_goes_3 : List UInt8 := [154, 0, 12, 42, 180, 0, 7, 7, 46, 167, 0, 35, 28, 4, 160, 0, 12, 42, 180, 0, 7, 5, 46]
abbrev dktX3_goes_3 : List UInt8 := dkwX3_goes_3 ++ dktX3_goes_4
def dkwX3_goes_2 : List UInt8 := [42, 3, 181, 1, 49, 3, 62, 29, 27, 162, 0, 13, 42, 182, 1, 107, 132, 3, 1, 167, 255, 244, 28]
abbrev dktX3_goes_2 : List UInt8 := dkwX3_goes_2 ++ dktX3_goes_3
def dkwX3_goes_1 : List UInt8 := [17, 2, 59, 162, 0, 21, 42, 180, 0, 19, 29, 42, 180, 0, 7, 29, 46, 79, 132, 3, 1, 167, 255, 234]
abbrev dktX3_goes_1 : List UInt8 := dkwX3_goes_1 ++ dktX3_goes_2
def dkwX3_goes_0 : List UInt8 := [27, 4, 16, 99, 184, 0, 59, 153, 0, 12, 28, 3, 6, 184, 0, 59, 154, 0, 5, 2, 172, 3, 62, 29]
abbrev dktX3_goes_0 : List UInt8 := dkwX3_goes_0 ++ dktX3_goes_1
theorem dksX3_goes_0 : cX3_goes.data.toList.drop 0 = dktX3_goes_0 := by decide +kernel
theorem dksX3_goes_1 : cX3_goes.data.toList.drop 24 = dktX3_goes_1 := dk_seg dksX3_goes_0 24 rfl rfl
theorem dksX3_goes_2 : cX3_goes.data.toList.drop 48 = dktX3_goes_2 := dk_seg dksX3_goes_1 24 rfl rfl
theorem dksX3_goes_3 : cX3_goes.data.toList.drop 71 = dktX3_goes_3 := dk_seg dksX3_goes_2 23 rfl rfl
theorem dksX3_goes_4 : cX3_goes.data.toList.drop 94 = dktX3_goes_4 := dk_seg dksX3_goes_3 23 rfl rfl
theorem dksX3_goes_5 : cX3_goes.data.toList.drop 117 = dktX3_goes_5 := dk_seg dksX3_goes_4 23 rfl rfl
theorem dksX3_goes_6 : cX3_goes.data.toList.drop 141 = dktX3_goes_6 := dk_seg dksX3_goes_5 24 rfl rfl
theorem dX3_goes_0 : decode cX3_goes 0 = .ok (.iload_n 1, 1) := dk_27 (dk_at dksX3_goes_0 0 rfl rfl)
theorem dX3_goes_1 : decode cX3_goes 1 = .ok (.iconst 1, 1) := dk_4 (dk_at dksX3_goes_0 1 rfl rfl)
theorem dX3_goes_2 : decode cX3_goes 2 = .ok (.bipush 99, 2) := dk_16 99 (dk_at dksX3_goes_0 2 rfl rfl)
theorem dX3_goes_4 : decode cX3_goes 4 = .ok (.invokestatic 59, 3) := dk_184 0 59 (dk_at dksX3_goes_0 4 rfl rfl)
theorem dX3_goes_7 : decode cX3_goes 7 = .ok (.ifCond .eq 12, 3) := dk_153 0 12 (dk_at dksX3_goes_0 7 rfl rfl)
theorem dX3_goes_10 : decode cX3_goes 10 = .ok (.iload_n 2, 1) := dk_28 (dk_at dksX3_goes_0 10 rfl rfl)
theorem dX3_goes_11 : decode cX3_goes 11 = .ok (.iconst 0, 1) := dk_3 (dk_at dksX3_goes_0 11 rfl rfl)
theorem dX3_goes_12 : decode cX3_goes 12 = .ok (.iconst 3, 1) := dk_6 (dk_at dksX3_goes_0 12 rfl rfl)
theorem dX3_goes_13 : decode cX3_goes 13 = .ok (.invokestatic 59, 3) := dk_184 0 59 (dk_at dksX3_goes_0 13 rfl rfl)
theorem dX3_goes_16 : decode cX3_goes 16 = .ok (.ifCond .ne 5, 3) := dk_154 0 5 (dk_at dksX3_goes_0 16 rfl rfl)
theorem dX3_goes_19 : decode cX3_goes 19 = .ok (.iconst (-1), 1) := dk_2 (dk_at dksX3_goes_0 19 rfl rfl)
theorem dX3_goes_20 : decode cX3_goes 20 = .ok (.ireturn, 1) := dk_172 (dk_at dksX3_goes_0 20 rfl rfl)
theorem dX3_goes_21 : decode cX3_goes 21 = .ok (.iconst 0, 1) := dk_3 (dk_at dksX3_goes_0 21 rfl rfl)
theorem dX3_goes_22 : decode cX3_goes 22 = .ok (.istore_n 3, 1) := dk_62 (dk_at dksX3_goes_0 22 rfl rfl)
theorem dX3_goes_23 : decode cX3_goes 23 = .ok (.iload_n 3, 1) := dk_29 (dk_at dksX3_goes_0 23 rfl rfl)
theorem dX3_goes_24 : decode cX3_goes 24 = .ok (.sipush 571, 3) := dk_17 2 59 (dk_at dksX3_goes_1 0 rfl rfl)
theorem dX3_goes_27 : decode cX3_goes 27 = .ok (.if_icmp .ge 21, 3) := dk_162 0 21 (dk_at dksX3_goes_1 3 rfl rfl)
theorem dX3_goes_30 : decode cX3_goes 30 = .ok (.aload_n 0, 1) := dk_42 (dk_at dksX3_goes_1 6 rfl rfl)
theorem dX3_goes_31 : decode cX3_goes 31 = .ok (.getfield 19, 3) := dk_180 0 19 (dk_at dksX3_goes_1 7 rfl rfl)
theorem dX3_goes_34 : decode cX3_goes 34 = .ok (.iload_n 3, 1) := dk_29 (dk_at dksX3_goes_1 10 rfl rfl)
theorem dX3_goes_35 : decode cX3_goes 35 = .ok (.aload_n 0, 1) := dk_42 (dk_at dksX3_goes_1 11 rfl rfl)
theorem dX3_goes_36 : decode cX3_goes 36 = .ok (.getfield 7, 3) := dk_180 0 7 (dk_at dksX3_goes_1 12 rfl rfl)
theorem dX3_goes_39 : decode cX3_goes 39 = .ok (.iload_n 3, 1) := dk_29 (dk_at dksX3_goes_1 15 rfl rfl)
theorem dX3_goes_40 : decode cX3_goes 40 = .ok (.iaload, 1) := dk_46 (dk_at dksX3_goes_1 16 rfl rfl)
theorem dX3_goes_41 : decode cX3_goes 41 = .ok (.iastore, 1) := dk_79 (dk_at dksX3_goes_1 17 rfl rfl)
theorem dX3_goes_42 : decode cX3_goes 42 = .ok (.iinc 3 1, 3) := dk_132 3 1 (dk_at dksX3_goes_1 18 rfl rfl)
theorem dX3_goes_45 : decode cX3_goes 45 = .ok (.goto (-22), 3) := dk_167 255 234 (dk_at dksX3_goes_1 21 rfl rfl)
theorem dX3_goes_48 : decode cX3_goes 48 = .ok (.aload_n 0, 1) := dk_42 (dk_at dksX3_goes_2 0 rfl rfl)
theorem dX3_goes_49 : decode cX3_goes 49 = .ok (.iconst 0, 1) := dk_3 (dk_at dksX3_goes_2 1 rfl rfl)
theorem dX3_goes_50 : decode cX3_goes 50 = .ok (.putfield 305, 3) := dk_181 1 49 (dk_at dksX3_goes_2 2 rfl rfl)
theorem dX3_goes_53 : decode cX3_goes 53 = .ok (.iconst 0, 1) := dk_3 (dk_at dksX3_goes_2 5 rfl rfl)
theorem dX3_goes_54 : decode cX3_goes 54 = .ok (.istore_n 3, 1) := dk_62 (dk_at dksX3_goes_2 6 rfl rfl)
theorem dX3_goes_55 : decode cX3_goes 55 = .ok (.iload_n 3, 1) := dk_29 (dk_at dksX3_goes_2 7 rfl rfl)
theorem dX3_goes_56 : decode cX3_goes 56 = .ok (.iload_n 1, 1) := dk_27 (dk_at dksX3_goes_2 8 rfl rfl)
theorem dX3_goes_57 : decode cX3_goes 57 = .ok (.if_icmp .ge 13, 3) := dk_162 0 13 (dk_at dksX3_goes_2 9 rfl rfl)
theorem dX3_goes_60 : decode cX3_goes 60 = .ok (.aload_n 0, 1) := dk_42 (dk_at dksX3_goes_2 12 rfl rfl)
theorem dX3_goes_61 : decode cX3_goes 61 = .ok (.invokevirtual 363, 3) := dk_182 1 107 (dk_at dksX3_goes_2 13 rfl rfl)
theorem dX3_goes_64 : decode cX3_goes 64 = .ok (.iinc 3 1, 3) := dk_132 3 1 (dk_at dksX3_goes_2 16 rfl rfl)
theorem dX3_goes_67 : decode cX3_goes 67 = .ok (.goto (-12), 3) := dk_167 255 244 (dk_at dksX3_goes_2 19 rfl rfl)
theorem dX3_goes_70 : decode cX3_goes 70 = .ok (.iload_n 2, 1) := dk_28 (dk_at dksX3_goes_2 22 rfl rfl)
theorem dX3_goes_71 : decode cX3_goes 71 = .ok (.ifCond .ne 12, 3) := dk_154 0 12 (dk_at dksX3_goes_3 0 rfl rfl)
theorem dX3_goes_74 : decode cX3_goes 74 = .ok (.aload_n 0, 1) := dk_42 (dk_at dksX3_goes_3 3 rfl rfl)
theorem dX3_goes_75 : decode cX3_goes 75 = .ok (.getfield 7, 3) := dk_180 0 7 (dk_at dksX3_goes_3 4 rfl rfl)
theorem dX3_goes_78 : decode cX3_goes 78 = .ok (.iconst 4, 1) := dk_7 (dk_at dksX3_goes_3 7 rfl rfl)
theorem dX3_goes_79 : decode cX3_goes 79 = .ok (.iaload, 1) := dk_46 (dk_at dksX3_goes_3 8 rfl rfl)
theorem dX3_goes_80 : decode cX3_goes 80 = .ok (.goto 35, 3) := dk_167 0 35 (dk_at dksX3_goes_3 9 rfl rfl)
theorem dX3_goes_83 : decode cX3_goes 83 = .ok (.iload_n 2, 1) := dk_28 (dk_at dksX3_goes_3 12 rfl rfl)
theorem dX3_goes_84 : decode cX3_goes 84 = .ok (.iconst 1, 1) := dk_4 (dk_at dksX3_goes_3 13 rfl rfl)
theorem dX3_goes_85 : decode cX3_goes 85 = .ok (.if_icmp .ne 12, 3) := dk_160 0 12 (dk_at dksX3_goes_3 14 rfl rfl)
theorem dX3_goes_88 : decode cX3_goes 88 = .ok (.aload_n 0, 1) := dk_42 (dk_at dksX3_goes_3 17 rfl rfl)
theorem dX3_goes_89 : decode cX3_goes 89 = .ok (.getfield 7, 3) := dk_180 0 7 (dk_at dksX3_goes_3 18 rfl rfl)
theorem dX3_goes_92 : decode cX3_goes 92 = .ok (.iconst 2, 1) := dk_5 (dk_at dksX3_goes_3 21 rfl rfl)
theorem dX3_goes_93 : decode cX3_goes 93 = .ok (.iaload, 1) := dk_46 (dk_at dksX3_goes_3 22 rfl rfl)
theorem dX3_goes_94 : decode cX3_goes 94 = .ok (.goto 21, 3) := dk_167 0 21 (dk_at dksX3_goes_4 0 rfl rfl)
theorem dX3_goes_97 : decode cX3_goes 97 = .ok (.iload_n 2, 1) := dk_28 (dk_at dksX3_goes_4 3 rfl rfl)
theorem dX3_goes_98 : decode cX3_goes 98 = .ok (.iconst 2, 1) := dk_5 (dk_at dksX3_goes_4 4 rfl rfl)
theorem dX3_goes_99 : decode cX3_goes 99 = .ok (.if_icmp .ne 12, 3) := dk_160 0 12 (dk_at dksX3_goes_4 5 rfl rfl)
theorem dX3_goes_102 : decode cX3_goes 102 = .ok (.aload_n 0, 1) := dk_42 (dk_at dksX3_goes_4 8 rfl rfl)
theorem dX3_goes_103 : decode cX3_goes 103 = .ok (.getfield 7, 3) := dk_180 0 7 (dk_at dksX3_goes_4 9 rfl rfl)
theorem dX3_goes_106 : decode cX3_goes 106 = .ok (.iconst 1, 1) := dk_4 (dk_at dksX3_goes_4 12 rfl rfl)
theorem dX3_goes_107 : decode cX3_goes 107 = .ok (.iaload, 1) := dk_46 (dk_at dksX3_goes_4 13 rfl rfl)
theorem dX3_goes_108 : decode cX3_goes 108 = .ok (.goto 7, 3) := dk_167 0 7 (dk_at dksX3_goes_4 14 rfl rfl)
theorem dX3_goes_111 : decode cX3_goes 111 = .ok (.aload_n 0, 1) := dk_42 (dk_at dksX3_goes_4 17 rfl rfl)
theorem dX3_goes_112 : decode cX3_goes 112 = .ok (.invokevirtual 369, 3) := dk_182 1 113 (dk_at dksX3_goes_4 18 rfl rfl)
theorem dX3_goes_115 : decode cX3_goes 115 = .ok (.istore_n 3, 1) := dk_62 (dk_at dksX3_goes_4 21 rfl rfl)
theorem dX3_goes_116 : decode cX3_goes 116 = .ok (.iconst 0, 1) := dk_3 (dk_at dksX3_goes_4 22 rfl rfl)
theorem dX3_goes_117 : decode cX3_goes 117 = .ok (.istore 4, 2) := dk_54 4 (dk_at dksX3_goes_5 0 rfl rfl)
theorem dX3_goes_119 : decode cX3_goes 119 = .ok (.iload 4, 2) := dk_21 4 (dk_at dksX3_goes_5 2 rfl rfl)
theorem dX3_goes_121 : decode cX3_goes 121 = .ok (.sipush 571, 3) := dk_17 2 59 (dk_at dksX3_goes_5 4 rfl rfl)
theorem dX3_goes_124 : decode cX3_goes 124 = .ok (.if_icmp .ge 23, 3) := dk_162 0 23 (dk_at dksX3_goes_5 7 rfl rfl)
theorem dX3_goes_127 : decode cX3_goes 127 = .ok (.aload_n 0, 1) := dk_42 (dk_at dksX3_goes_5 10 rfl rfl)
theorem dX3_goes_128 : decode cX3_goes 128 = .ok (.getfield 7, 3) := dk_180 0 7 (dk_at dksX3_goes_5 11 rfl rfl)
theorem dX3_goes_131 : decode cX3_goes 131 = .ok (.iload 4, 2) := dk_21 4 (dk_at dksX3_goes_5 14 rfl rfl)
theorem dX3_goes_133 : decode cX3_goes 133 = .ok (.aload_n 0, 1) := dk_42 (dk_at dksX3_goes_5 16 rfl rfl)
theorem dX3_goes_134 : decode cX3_goes 134 = .ok (.getfield 19, 3) := dk_180 0 19 (dk_at dksX3_goes_5 17 rfl rfl)
theorem dX3_goes_137 : decode cX3_goes 137 = .ok (.iload 4, 2) := dk_21 4 (dk_at dksX3_goes_5 20 rfl rfl)
theorem dX3_goes_139 : decode cX3_goes 139 = .ok (.iaload, 1) := dk_46 (dk_at dksX3_goes_5 22 rfl rfl)
theorem dX3_goes_140 : decode cX3_goes 140 = .ok (.iastore, 1) := dk_79 (dk_at dksX3_goes_5 23 rfl rfl)
theorem dX3_goes_141 : decode cX3_goes 141 = .ok (.iinc 4 1, 3) := dk_132 4 1 (dk_at dksX3_goes_6 0 rfl rfl)
theorem dX3_goes_144 : decode cX3_goes 144 = .ok (.goto (-25), 3) := dk_167 255 231 (dk_at dksX3_goes_6 3 rfl rfl)
theorem dX3_goes_147 : decode cX3_goes 147 = .ok (.iload_n 3, 1) := dk_29 (dk_at dksX3_goes_6 6 rfl rfl)
theorem dX3_goes_148 : decode cX3_goes 148 = .ok (.ireturn, 1) := dk_172 (dk_at dksX3_goes_6 7 rfl rfl)
abbrev cX3_spunOnes : ByteArray := prog_17_method_79_code
def yX3_spunOnes : MethodName := ⟨RX3, "spunOnes", "()I"⟩
def dkwX3_spunOnes_1 : List UInt8 := [153, 0, 7, 4, 167, 0, 4, 3, 96, 60, 132, 2, 1, 167, 255, 225, 27, 172]
abbrev dktX3_spunOnes_1 : List UInt8 := dkwX3_spunOnes_1 ++ []
def dkwX3_spunOnes_0 : List UInt8 := [3, 60, 3, 61, 28, 42, 180, 0, 7, 17, 2, 59, 46, 162, 0, 25, 27, 42, 28, 182, 1, 53]
abbrev dktX3_spunOnes_0 : List UInt8 := dkwX3_spunOnes_0 ++ dktX3_spunOnes_1
theorem dksX3_spunOnes_0 : cX3_spunOnes.data.toList.drop 0 = dktX3_spunOnes_0 := by decide +kernel
theorem dksX3_spunOnes_1 : cX3_spunOnes.data.toList.drop 22 = dktX3_spunOnes_1 := dk_seg dksX3_spunOnes_0 22 rfl rfl
theorem dX3_spunOnes_0 : decode cX3_spunOnes 0 = .ok (.iconst 0, 1) := dk_3 (dk_at dksX3_spunOnes_0 0 rfl rfl)
theorem dX3_spunOnes_1 : decode cX3_spunOnes 1 = .ok (.istore_n 1, 1) := dk_60 (dk_at dksX3_spunOnes_0 1 rfl rfl)
theorem dX3_spunOnes_2 : decode cX3_spunOnes 2 = .ok (.iconst 0, 1) := dk_3 (dk_at dksX3_spunOnes_0 2 rfl rfl)
theorem dX3_spunOnes_3 : decode cX3_spunOnes 3 = .ok (.istore_n 2, 1) := dk_61 (dk_at dksX3_spunOnes_0 3 rfl rfl)
theorem dX3_spunOnes_4 : decode cX3_spunOnes 4 = .ok (.iload_n 2, 1) := dk_28 (dk_at dksX3_spunOnes_0 4 rfl rfl)
theorem dX3_spunOnes_5 : decode cX3_spunOnes 5 = .ok (.aload_n 0, 1) := dk_42 (dk_at dksX3_spunOnes_0 5 rfl rfl)
theorem dX3_spunOnes_6 : decode cX3_spunOnes 6 = .ok (.getfield 7, 3) := dk_180 0 7 (dk_at dksX3_spunOnes_0 6 rfl rfl)
theorem dX3_spunOnes_9 : decode cX3_spunOnes 9 = .ok (.sipush 571, 3) := dk_17 2 59 (dk_at dksX3_spunOnes_0 9 rfl rfl)
theorem dX3_spunOnes_12 : decode cX3_spunOnes 12 = .ok (.iaload, 1) := dk_46 (dk_at dksX3_spunOnes_0 12 rfl rfl)
theorem dX3_spunOnes_13 : decode cX3_spunOnes 13 = .ok (.if_icmp .ge 25, 3) := dk_162 0 25 (dk_at dksX3_spunOnes_0 13 rfl rfl)
theorem dX3_spunOnes_16 : decode cX3_spunOnes 16 = .ok (.iload_n 1, 1) := dk_27 (dk_at dksX3_spunOnes_0 16 rfl rfl)
theorem dX3_spunOnes_17 : decode cX3_spunOnes 17 = .ok (.aload_n 0, 1) := dk_42 (dk_at dksX3_spunOnes_0 17 rfl rfl)
theorem dX3_spunOnes_18 : decode cX3_spunOnes 18 = .ok (.iload_n 2, 1) := dk_28 (dk_at dksX3_spunOnes_0 18 rfl rfl)
theorem dX3_spunOnes_19 : decode cX3_spunOnes 19 = .ok (.invokevirtual 309, 3) := dk_182 1 53 (dk_at dksX3_spunOnes_0 19 rfl rfl)
theorem dX3_spunOnes_22 : decode cX3_spunOnes 22 = .ok (.ifCond .eq 7, 3) := dk_153 0 7 (dk_at dksX3_spunOnes_1 0 rfl rfl)
theorem dX3_spunOnes_25 : decode cX3_spunOnes 25 = .ok (.iconst 1, 1) := dk_4 (dk_at dksX3_spunOnes_1 3 rfl rfl)
theorem dX3_spunOnes_26 : decode cX3_spunOnes 26 = .ok (.goto 4, 3) := dk_167 0 4 (dk_at dksX3_spunOnes_1 4 rfl rfl)
theorem dX3_spunOnes_29 : decode cX3_spunOnes 29 = .ok (.iconst 0, 1) := dk_3 (dk_at dksX3_spunOnes_1 7 rfl rfl)
theorem dX3_spunOnes_30 : decode cX3_spunOnes 30 = .ok (.iadd, 1) := dk_96 (dk_at dksX3_spunOnes_1 8 rfl rfl)
theorem dX3_spunOnes_31 : decode cX3_spunOnes 31 = .ok (.istore_n 1, 1) := dk_60 (dk_at dksX3_spunOnes_1 9 rfl rfl)
theorem dX3_spunOnes_32 : decode cX3_spunOnes 32 = .ok (.iinc 2 1, 3) := dk_132 2 1 (dk_at dksX3_spunOnes_1 10 rfl rfl)
theorem dX3_spunOnes_35 : decode cX3_spunOnes 35 = .ok (.goto (-31), 3) := dk_167 255 225 (dk_at dksX3_spunOnes_1 13 rfl rfl)
theorem dX3_spunOnes_38 : decode cX3_spunOnes 38 = .ok (.iload_n 1, 1) := dk_27 (dk_at dksX3_spunOnes_1 16 rfl rfl)
theorem dX3_spunOnes_39 : decode cX3_spunOnes 39 = .ok (.ireturn, 1) := dk_172 (dk_at dksX3_spunOnes_1 17 rfl rfl)
abbrev cX3_would : ByteArray := prog_17_method_82_code
def yX3_would : MethodName := ⟨RX3, "would", "(III)I"⟩
def dkwX3_would_1 : List UInt8 := [172]
abbrev dktX3_would_1 : List UInt8 := dkwX3_would_1 ++ []
def dkwX3_would_0 : List UInt8 := [42, 27, 28, 182, 1, 116, 153, 0, 17, 29, 155, 0, 13, 42, 27, 28, 29, 182, 1, 69, 167, 0, 4, 2]
abbrev dktX3_would_0 : List UInt8 := dkwX3_would_0 ++ dktX3_would_1
theorem dksX3_would_0 : cX3_would.data.toList.drop 0 = dktX3_would_0 := by decide +kernel
theorem dksX3_would_1 : cX3_would.data.toList.drop 24 = dktX3_would_1 := dk_seg dksX3_would_0 24 rfl rfl
theorem dX3_would_0 : decode cX3_would 0 = .ok (.aload_n 0, 1) := dk_42 (dk_at dksX3_would_0 0 rfl rfl)
theorem dX3_would_1 : decode cX3_would 1 = .ok (.iload_n 1, 1) := dk_27 (dk_at dksX3_would_0 1 rfl rfl)
theorem dX3_would_2 : decode cX3_would 2 = .ok (.iload_n 2, 1) := dk_28 (dk_at dksX3_would_0 2 rfl rfl)
theorem dX3_would_3 : decode cX3_would 3 = .ok (.invokevirtual 372, 3) := dk_182 1 116 (dk_at dksX3_would_0 3 rfl rfl)
theorem dX3_would_6 : decode cX3_would 6 = .ok (.ifCond .eq 17, 3) := dk_153 0 17 (dk_at dksX3_would_0 6 rfl rfl)
theorem dX3_would_9 : decode cX3_would 9 = .ok (.iload_n 3, 1) := dk_29 (dk_at dksX3_would_0 9 rfl rfl)
theorem dX3_would_10 : decode cX3_would 10 = .ok (.ifCond .lt 13, 3) := dk_155 0 13 (dk_at dksX3_would_0 10 rfl rfl)
theorem dX3_would_13 : decode cX3_would 13 = .ok (.aload_n 0, 1) := dk_42 (dk_at dksX3_would_0 13 rfl rfl)
theorem dX3_would_14 : decode cX3_would 14 = .ok (.iload_n 1, 1) := dk_27 (dk_at dksX3_would_0 14 rfl rfl)
theorem dX3_would_15 : decode cX3_would 15 = .ok (.iload_n 2, 1) := dk_28 (dk_at dksX3_would_0 15 rfl rfl)
theorem dX3_would_16 : decode cX3_would 16 = .ok (.iload_n 3, 1) := dk_29 (dk_at dksX3_would_0 16 rfl rfl)
theorem dX3_would_17 : decode cX3_would 17 = .ok (.invokevirtual 325, 3) := dk_182 1 69 (dk_at dksX3_would_0 17 rfl rfl)
theorem dX3_would_20 : decode cX3_would 20 = .ok (.goto 4, 3) := dk_167 0 4 (dk_at dksX3_would_0 20 rfl rfl)
theorem dX3_would_23 : decode cX3_would 23 = .ok (.iconst (-1), 1) := dk_2 (dk_at dksX3_would_0 23 rfl rfl)
theorem dX3_would_24 : decode cX3_would 24 = .ok (.ireturn, 1) := dk_172 (dk_at dksX3_would_1 0 rfl rfl)
abbrev cX3_areFacts : ByteArray := prog_17_method_81_code
def yX3_areFacts : MethodName := ⟨RX3, "areFacts", "(II)Z"⟩
def dkwX3_areFacts_1 : List UInt8 := [153, 0, 7, 4, 167, 0, 4, 3, 172]
abbrev dktX3_areFacts_1 : List UInt8 := dkwX3_areFacts_1 ++ []
def dkwX3_areFacts_0 : List UInt8 := [42, 27, 182, 0, 243, 153, 0, 25, 27, 28, 159, 0, 20, 28, 2, 159, 0, 11, 42, 28, 182, 0, 243]
abbrev dktX3_areFacts_0 : List UInt8 := dkwX3_areFacts_0 ++ dktX3_areFacts_1
theorem dksX3_areFacts_0 : cX3_areFacts.data.toList.drop 0 = dktX3_areFacts_0 := by decide +kernel
theorem dksX3_areFacts_1 : cX3_areFacts.data.toList.drop 23 = dktX3_areFacts_1 := dk_seg dksX3_areFacts_0 23 rfl rfl
theorem dX3_areFacts_0 : decode cX3_areFacts 0 = .ok (.aload_n 0, 1) := dk_42 (dk_at dksX3_areFacts_0 0 rfl rfl)
theorem dX3_areFacts_1 : decode cX3_areFacts 1 = .ok (.iload_n 1, 1) := dk_27 (dk_at dksX3_areFacts_0 1 rfl rfl)
theorem dX3_areFacts_2 : decode cX3_areFacts 2 = .ok (.invokevirtual 243, 3) := dk_182 0 243 (dk_at dksX3_areFacts_0 2 rfl rfl)
theorem dX3_areFacts_5 : decode cX3_areFacts 5 = .ok (.ifCond .eq 25, 3) := dk_153 0 25 (dk_at dksX3_areFacts_0 5 rfl rfl)
theorem dX3_areFacts_8 : decode cX3_areFacts 8 = .ok (.iload_n 1, 1) := dk_27 (dk_at dksX3_areFacts_0 8 rfl rfl)
theorem dX3_areFacts_9 : decode cX3_areFacts 9 = .ok (.iload_n 2, 1) := dk_28 (dk_at dksX3_areFacts_0 9 rfl rfl)
theorem dX3_areFacts_10 : decode cX3_areFacts 10 = .ok (.if_icmp .eq 20, 3) := dk_159 0 20 (dk_at dksX3_areFacts_0 10 rfl rfl)
theorem dX3_areFacts_13 : decode cX3_areFacts 13 = .ok (.iload_n 2, 1) := dk_28 (dk_at dksX3_areFacts_0 13 rfl rfl)
theorem dX3_areFacts_14 : decode cX3_areFacts 14 = .ok (.iconst (-1), 1) := dk_2 (dk_at dksX3_areFacts_0 14 rfl rfl)
theorem dX3_areFacts_15 : decode cX3_areFacts 15 = .ok (.if_icmp .eq 11, 3) := dk_159 0 11 (dk_at dksX3_areFacts_0 15 rfl rfl)
theorem dX3_areFacts_18 : decode cX3_areFacts 18 = .ok (.aload_n 0, 1) := dk_42 (dk_at dksX3_areFacts_0 18 rfl rfl)
theorem dX3_areFacts_19 : decode cX3_areFacts 19 = .ok (.iload_n 2, 1) := dk_28 (dk_at dksX3_areFacts_0 19 rfl rfl)
theorem dX3_areFacts_20 : decode cX3_areFacts 20 = .ok (.invokevirtual 243, 3) := dk_182 0 243 (dk_at dksX3_areFacts_0 20 rfl rfl)
theorem dX3_areFacts_23 : decode cX3_areFacts 23 = .ok (.ifCond .eq 7, 3) := dk_153 0 7 (dk_at dksX3_areFacts_1 0 rfl rfl)
theorem dX3_areFacts_26 : decode cX3_areFacts 26 = .ok (.iconst 1, 1) := dk_4 (dk_at dksX3_areFacts_1 3 rfl rfl)
theorem dX3_areFacts_27 : decode cX3_areFacts 27 = .ok (.goto 4, 3) := dk_167 0 4 (dk_at dksX3_areFacts_1 4 rfl rfl)
theorem dX3_areFacts_30 : decode cX3_areFacts 30 = .ok (.iconst 0, 1) := dk_3 (dk_at dksX3_areFacts_1 7 rfl rfl)
theorem dX3_areFacts_31 : decode cX3_areFacts 31 = .ok (.ireturn, 1) := dk_172 (dk_at dksX3_areFacts_1 8 rfl rfl)
abbrev cX3_reads : ByteArray := prog_17_method_83_code
def yX3_reads : MethodName := ⟨RX3, "reads", "(II)I"⟩
def dkwX3_reads_4 : List UInt8 := [180, 0, 7, 17, 2, 65, 92, 46, 4, 96, 79, 42, 180, 0, 7, 17, 2, 65, 46, 172]
abbrev dktX3_reads_4 : List UInt8 := dkwX3_reads_4 ++ []
def dkwX3_reads_3 : List UInt8 := [79, 42, 180, 0, 7, 17, 3, 7, 5, 42, 180, 0, 7, 17, 2, 65, 46, 104, 96, 4, 96, 28, 79, 42]
abbrev dktX3_reads_3 : List UInt8 := dkwX3_reads_3 ++ dktX3_reads_4
def dkwX3_reads_2 : List UInt8 := [160, 0, 5, 2, 172, 42, 180, 0, 7, 17, 3, 7, 5, 42, 180, 0, 7, 17, 2, 65, 46, 104, 96, 27]
abbrev dktX3_reads_2 : List UInt8 := dkwX3_reads_2 ++ dktX3_reads_3
def dkwX3_reads_1 : List UInt8 := [153, 0, 26, 28, 3, 16, 11, 184, 0, 59, 153, 0, 16, 42, 180, 0, 7, 17, 2, 65, 46, 16, 12]
abbrev dktX3_reads_1 : List UInt8 := dkwX3_reads_1 ++ dktX3_reads_2
def dkwX3_reads_0 : List UInt8 := [27, 2, 160, 0, 14, 42, 180, 0, 7, 17, 2, 65, 3, 79, 3, 172, 27, 3, 16, 7, 184, 0, 59]
abbrev dktX3_reads_0 : List UInt8 := dkwX3_reads_0 ++ dktX3_reads_1
theorem dksX3_reads_0 : cX3_reads.data.toList.drop 0 = dktX3_reads_0 := by decide +kernel
theorem dksX3_reads_1 : cX3_reads.data.toList.drop 23 = dktX3_reads_1 := dk_seg dksX3_reads_0 23 rfl rfl
theorem dksX3_reads_2 : cX3_reads.data.toList.drop 46 = dktX3_reads_2 := dk_seg dksX3_reads_1 23 rfl rfl
theorem dksX3_reads_3 : cX3_reads.data.toList.drop 70 = dktX3_reads_3 := dk_seg dksX3_reads_2 24 rfl rfl
theorem dksX3_reads_4 : cX3_reads.data.toList.drop 94 = dktX3_reads_4 := dk_seg dksX3_reads_3 24 rfl rfl
theorem dX3_reads_0 : decode cX3_reads 0 = .ok (.iload_n 1, 1) := dk_27 (dk_at dksX3_reads_0 0 rfl rfl)
theorem dX3_reads_1 : decode cX3_reads 1 = .ok (.iconst (-1), 1) := dk_2 (dk_at dksX3_reads_0 1 rfl rfl)
theorem dX3_reads_2 : decode cX3_reads 2 = .ok (.if_icmp .ne 14, 3) := dk_160 0 14 (dk_at dksX3_reads_0 2 rfl rfl)
theorem dX3_reads_5 : decode cX3_reads 5 = .ok (.aload_n 0, 1) := dk_42 (dk_at dksX3_reads_0 5 rfl rfl)
theorem dX3_reads_6 : decode cX3_reads 6 = .ok (.getfield 7, 3) := dk_180 0 7 (dk_at dksX3_reads_0 6 rfl rfl)
theorem dX3_reads_9 : decode cX3_reads 9 = .ok (.sipush 577, 3) := dk_17 2 65 (dk_at dksX3_reads_0 9 rfl rfl)
theorem dX3_reads_12 : decode cX3_reads 12 = .ok (.iconst 0, 1) := dk_3 (dk_at dksX3_reads_0 12 rfl rfl)
theorem dX3_reads_13 : decode cX3_reads 13 = .ok (.iastore, 1) := dk_79 (dk_at dksX3_reads_0 13 rfl rfl)
theorem dX3_reads_14 : decode cX3_reads 14 = .ok (.iconst 0, 1) := dk_3 (dk_at dksX3_reads_0 14 rfl rfl)
theorem dX3_reads_15 : decode cX3_reads 15 = .ok (.ireturn, 1) := dk_172 (dk_at dksX3_reads_0 15 rfl rfl)
theorem dX3_reads_16 : decode cX3_reads 16 = .ok (.iload_n 1, 1) := dk_27 (dk_at dksX3_reads_0 16 rfl rfl)
theorem dX3_reads_17 : decode cX3_reads 17 = .ok (.iconst 0, 1) := dk_3 (dk_at dksX3_reads_0 17 rfl rfl)
theorem dX3_reads_18 : decode cX3_reads 18 = .ok (.bipush 7, 2) := dk_16 7 (dk_at dksX3_reads_0 18 rfl rfl)
theorem dX3_reads_20 : decode cX3_reads 20 = .ok (.invokestatic 59, 3) := dk_184 0 59 (dk_at dksX3_reads_0 20 rfl rfl)
theorem dX3_reads_23 : decode cX3_reads 23 = .ok (.ifCond .eq 26, 3) := dk_153 0 26 (dk_at dksX3_reads_1 0 rfl rfl)
theorem dX3_reads_26 : decode cX3_reads 26 = .ok (.iload_n 2, 1) := dk_28 (dk_at dksX3_reads_1 3 rfl rfl)
theorem dX3_reads_27 : decode cX3_reads 27 = .ok (.iconst 0, 1) := dk_3 (dk_at dksX3_reads_1 4 rfl rfl)
theorem dX3_reads_28 : decode cX3_reads 28 = .ok (.bipush 11, 2) := dk_16 11 (dk_at dksX3_reads_1 5 rfl rfl)
theorem dX3_reads_30 : decode cX3_reads 30 = .ok (.invokestatic 59, 3) := dk_184 0 59 (dk_at dksX3_reads_1 7 rfl rfl)
theorem dX3_reads_33 : decode cX3_reads 33 = .ok (.ifCond .eq 16, 3) := dk_153 0 16 (dk_at dksX3_reads_1 10 rfl rfl)
theorem dX3_reads_36 : decode cX3_reads 36 = .ok (.aload_n 0, 1) := dk_42 (dk_at dksX3_reads_1 13 rfl rfl)
theorem dX3_reads_37 : decode cX3_reads 37 = .ok (.getfield 7, 3) := dk_180 0 7 (dk_at dksX3_reads_1 14 rfl rfl)
theorem dX3_reads_40 : decode cX3_reads 40 = .ok (.sipush 577, 3) := dk_17 2 65 (dk_at dksX3_reads_1 17 rfl rfl)
theorem dX3_reads_43 : decode cX3_reads 43 = .ok (.iaload, 1) := dk_46 (dk_at dksX3_reads_1 20 rfl rfl)
theorem dX3_reads_44 : decode cX3_reads 44 = .ok (.bipush 12, 2) := dk_16 12 (dk_at dksX3_reads_1 21 rfl rfl)
theorem dX3_reads_46 : decode cX3_reads 46 = .ok (.if_icmp .ne 5, 3) := dk_160 0 5 (dk_at dksX3_reads_2 0 rfl rfl)
theorem dX3_reads_49 : decode cX3_reads 49 = .ok (.iconst (-1), 1) := dk_2 (dk_at dksX3_reads_2 3 rfl rfl)
theorem dX3_reads_50 : decode cX3_reads 50 = .ok (.ireturn, 1) := dk_172 (dk_at dksX3_reads_2 4 rfl rfl)
theorem dX3_reads_51 : decode cX3_reads 51 = .ok (.aload_n 0, 1) := dk_42 (dk_at dksX3_reads_2 5 rfl rfl)
theorem dX3_reads_52 : decode cX3_reads 52 = .ok (.getfield 7, 3) := dk_180 0 7 (dk_at dksX3_reads_2 6 rfl rfl)
theorem dX3_reads_55 : decode cX3_reads 55 = .ok (.sipush 775, 3) := dk_17 3 7 (dk_at dksX3_reads_2 9 rfl rfl)
theorem dX3_reads_58 : decode cX3_reads 58 = .ok (.iconst 2, 1) := dk_5 (dk_at dksX3_reads_2 12 rfl rfl)
theorem dX3_reads_59 : decode cX3_reads 59 = .ok (.aload_n 0, 1) := dk_42 (dk_at dksX3_reads_2 13 rfl rfl)
theorem dX3_reads_60 : decode cX3_reads 60 = .ok (.getfield 7, 3) := dk_180 0 7 (dk_at dksX3_reads_2 14 rfl rfl)
theorem dX3_reads_63 : decode cX3_reads 63 = .ok (.sipush 577, 3) := dk_17 2 65 (dk_at dksX3_reads_2 17 rfl rfl)
theorem dX3_reads_66 : decode cX3_reads 66 = .ok (.iaload, 1) := dk_46 (dk_at dksX3_reads_2 20 rfl rfl)
theorem dX3_reads_67 : decode cX3_reads 67 = .ok (.imul, 1) := dk_104 (dk_at dksX3_reads_2 21 rfl rfl)
theorem dX3_reads_68 : decode cX3_reads 68 = .ok (.iadd, 1) := dk_96 (dk_at dksX3_reads_2 22 rfl rfl)
theorem dX3_reads_69 : decode cX3_reads 69 = .ok (.iload_n 1, 1) := dk_27 (dk_at dksX3_reads_2 23 rfl rfl)
theorem dX3_reads_70 : decode cX3_reads 70 = .ok (.iastore, 1) := dk_79 (dk_at dksX3_reads_3 0 rfl rfl)
theorem dX3_reads_71 : decode cX3_reads 71 = .ok (.aload_n 0, 1) := dk_42 (dk_at dksX3_reads_3 1 rfl rfl)
theorem dX3_reads_72 : decode cX3_reads 72 = .ok (.getfield 7, 3) := dk_180 0 7 (dk_at dksX3_reads_3 2 rfl rfl)
theorem dX3_reads_75 : decode cX3_reads 75 = .ok (.sipush 775, 3) := dk_17 3 7 (dk_at dksX3_reads_3 5 rfl rfl)
theorem dX3_reads_78 : decode cX3_reads 78 = .ok (.iconst 2, 1) := dk_5 (dk_at dksX3_reads_3 8 rfl rfl)
theorem dX3_reads_79 : decode cX3_reads 79 = .ok (.aload_n 0, 1) := dk_42 (dk_at dksX3_reads_3 9 rfl rfl)
theorem dX3_reads_80 : decode cX3_reads 80 = .ok (.getfield 7, 3) := dk_180 0 7 (dk_at dksX3_reads_3 10 rfl rfl)
theorem dX3_reads_83 : decode cX3_reads 83 = .ok (.sipush 577, 3) := dk_17 2 65 (dk_at dksX3_reads_3 13 rfl rfl)
theorem dX3_reads_86 : decode cX3_reads 86 = .ok (.iaload, 1) := dk_46 (dk_at dksX3_reads_3 16 rfl rfl)
theorem dX3_reads_87 : decode cX3_reads 87 = .ok (.imul, 1) := dk_104 (dk_at dksX3_reads_3 17 rfl rfl)
theorem dX3_reads_88 : decode cX3_reads 88 = .ok (.iadd, 1) := dk_96 (dk_at dksX3_reads_3 18 rfl rfl)
theorem dX3_reads_89 : decode cX3_reads 89 = .ok (.iconst 1, 1) := dk_4 (dk_at dksX3_reads_3 19 rfl rfl)
theorem dX3_reads_90 : decode cX3_reads 90 = .ok (.iadd, 1) := dk_96 (dk_at dksX3_reads_3 20 rfl rfl)
theorem dX3_reads_91 : decode cX3_reads 91 = .ok (.iload_n 2, 1) := dk_28 (dk_at dksX3_reads_3 21 rfl rfl)
theorem dX3_reads_92 : decode cX3_reads 92 = .ok (.iastore, 1) := dk_79 (dk_at dksX3_reads_3 22 rfl rfl)
theorem dX3_reads_93 : decode cX3_reads 93 = .ok (.aload_n 0, 1) := dk_42 (dk_at dksX3_reads_3 23 rfl rfl)
theorem dX3_reads_94 : decode cX3_reads 94 = .ok (.getfield 7, 3) := dk_180 0 7 (dk_at dksX3_reads_4 0 rfl rfl)
theorem dX3_reads_97 : decode cX3_reads 97 = .ok (.sipush 577, 3) := dk_17 2 65 (dk_at dksX3_reads_4 3 rfl rfl)
theorem dX3_reads_100 : decode cX3_reads 100 = .ok (.dup2, 1) := dk_92 (dk_at dksX3_reads_4 6 rfl rfl)
theorem dX3_reads_101 : decode cX3_reads 101 = .ok (.iaload, 1) := dk_46 (dk_at dksX3_reads_4 7 rfl rfl)
theorem dX3_reads_102 : decode cX3_reads 102 = .ok (.iconst 1, 1) := dk_4 (dk_at dksX3_reads_4 8 rfl rfl)
theorem dX3_reads_103 : decode cX3_reads 103 = .ok (.iadd, 1) := dk_96 (dk_at dksX3_reads_4 9 rfl rfl)
theorem dX3_reads_104 : decode cX3_reads 104 = .ok (.iastore, 1) := dk_79 (dk_at dksX3_reads_4 10 rfl rfl)
theorem dX3_reads_105 : decode cX3_reads 105 = .ok (.aload_n 0, 1) := dk_42 (dk_at dksX3_reads_4 11 rfl rfl)
theorem dX3_reads_106 : decode cX3_reads 106 = .ok (.getfield 7, 3) := dk_180 0 7 (dk_at dksX3_reads_4 12 rfl rfl)
theorem dX3_reads_109 : decode cX3_reads 109 = .ok (.sipush 577, 3) := dk_17 2 65 (dk_at dksX3_reads_4 15 rfl rfl)
theorem dX3_reads_112 : decode cX3_reads 112 = .ok (.iaload, 1) := dk_46 (dk_at dksX3_reads_4 18 rfl rfl)
theorem dX3_reads_113 : decode cX3_reads 113 = .ok (.ireturn, 1) := dk_172 (dk_at dksX3_reads_4 19 rfl rfl)
abbrev cX3_fits : ByteArray := prog_17_method_87_code
def yX3_fits : MethodName := ⟨RX3, "fits", "(I)I"⟩
def dkwX3_fits_7 : List UInt8 := [167, 0, 9, 29, 16, 11, 112, 4, 100, 172, 28, 5, 162, 0, 7, 2, 167, 0, 7, 42, 182, 1, 126, 172]
abbrev dktX3_fits_7 : List UInt8 := dkwX3_fits_7 ++ []
def dkwX3_fits_6 : List UInt8 := [28, 172, 29, 2, 160, 0, 7, 2, 167, 0, 7, 29, 16, 11, 108, 172, 29, 2, 160, 0, 7, 2]
abbrev dktX3_fits_6 : List UInt8 := dkwX3_fits_6 ++ dktX3_fits_7
def dkwX3_fits_5 : List UInt8 := [170, 0, 0, 0, 0, 0, 59, 0, 0, 0, 0, 0, 0, 0, 2, 0, 0, 0, 27, 0, 0, 0, 29, 0, 0, 0, 43]
abbrev dktX3_fits_5 : List UInt8 := dkwX3_fits_5 ++ dktX3_fits_6
def dkwX3_fits_4 : List UInt8 := [167, 255, 181, 27]
abbrev dktX3_fits_4 : List UInt8 := dkwX3_fits_4 ++ dktX3_fits_5
def dkwX3_fits_3 : List UInt8 := [21, 4, 104, 21, 5, 96, 4, 96, 167, 0, 4, 29, 62, 132, 5, 1, 167, 255, 203, 132, 4, 1]
abbrev dktX3_fits_3 : List UInt8 := dkwX3_fits_3 ++ dktX3_fits_4
def dkwX3_fits_2 : List UInt8 := [21, 4, 21, 5, 182, 1, 120, 154, 0, 6, 167, 0, 26, 132, 2, 1, 29, 2, 160, 0, 16, 16, 11]
abbrev dktX3_fits_2 : List UInt8 := dkwX3_fits_2 ++ dktX3_fits_3
def dkwX3_fits_1 : List UInt8 := [17, 2, 60, 46, 162, 0, 68, 2, 54, 5, 21, 5, 42, 180, 0, 7, 17, 2, 60, 46, 162, 0, 46, 42]
abbrev dktX3_fits_1 : List UInt8 := dkwX3_fits_1 ++ dktX3_fits_2
def dkwX3_fits_0 : List UInt8 := [27, 3, 6, 184, 0, 59, 154, 0, 5, 2, 172, 3, 61, 2, 62, 3, 54, 4, 21, 4, 42, 180, 0, 7]
abbrev dktX3_fits_0 : List UInt8 := dkwX3_fits_0 ++ dktX3_fits_1
theorem dksX3_fits_0 : cX3_fits.data.toList.drop 0 = dktX3_fits_0 := by decide +kernel
theorem dksX3_fits_1 : cX3_fits.data.toList.drop 24 = dktX3_fits_1 := dk_seg dksX3_fits_0 24 rfl rfl
theorem dksX3_fits_2 : cX3_fits.data.toList.drop 48 = dktX3_fits_2 := dk_seg dksX3_fits_1 24 rfl rfl
theorem dksX3_fits_3 : cX3_fits.data.toList.drop 71 = dktX3_fits_3 := dk_seg dksX3_fits_2 23 rfl rfl
theorem dksX3_fits_4 : cX3_fits.data.toList.drop 93 = dktX3_fits_4 := dk_seg dksX3_fits_3 22 rfl rfl
theorem dksX3_fits_5 : cX3_fits.data.toList.drop 97 = dktX3_fits_5 := dk_seg dksX3_fits_4 4 rfl rfl
theorem dksX3_fits_6 : cX3_fits.data.toList.drop 124 = dktX3_fits_6 := dk_seg dksX3_fits_5 27 rfl rfl
theorem dksX3_fits_7 : cX3_fits.data.toList.drop 146 = dktX3_fits_7 := dk_seg dksX3_fits_6 22 rfl rfl
theorem dX3_fits_0 : decode cX3_fits 0 = .ok (.iload_n 1, 1) := dk_27 (dk_at dksX3_fits_0 0 rfl rfl)
theorem dX3_fits_1 : decode cX3_fits 1 = .ok (.iconst 0, 1) := dk_3 (dk_at dksX3_fits_0 1 rfl rfl)
theorem dX3_fits_2 : decode cX3_fits 2 = .ok (.iconst 3, 1) := dk_6 (dk_at dksX3_fits_0 2 rfl rfl)
theorem dX3_fits_3 : decode cX3_fits 3 = .ok (.invokestatic 59, 3) := dk_184 0 59 (dk_at dksX3_fits_0 3 rfl rfl)
theorem dX3_fits_6 : decode cX3_fits 6 = .ok (.ifCond .ne 5, 3) := dk_154 0 5 (dk_at dksX3_fits_0 6 rfl rfl)
theorem dX3_fits_9 : decode cX3_fits 9 = .ok (.iconst (-1), 1) := dk_2 (dk_at dksX3_fits_0 9 rfl rfl)
theorem dX3_fits_10 : decode cX3_fits 10 = .ok (.ireturn, 1) := dk_172 (dk_at dksX3_fits_0 10 rfl rfl)
theorem dX3_fits_11 : decode cX3_fits 11 = .ok (.iconst 0, 1) := dk_3 (dk_at dksX3_fits_0 11 rfl rfl)
theorem dX3_fits_12 : decode cX3_fits 12 = .ok (.istore_n 2, 1) := dk_61 (dk_at dksX3_fits_0 12 rfl rfl)
theorem dX3_fits_13 : decode cX3_fits 13 = .ok (.iconst (-1), 1) := dk_2 (dk_at dksX3_fits_0 13 rfl rfl)
theorem dX3_fits_14 : decode cX3_fits 14 = .ok (.istore_n 3, 1) := dk_62 (dk_at dksX3_fits_0 14 rfl rfl)
theorem dX3_fits_15 : decode cX3_fits 15 = .ok (.iconst 0, 1) := dk_3 (dk_at dksX3_fits_0 15 rfl rfl)
theorem dX3_fits_16 : decode cX3_fits 16 = .ok (.istore 4, 2) := dk_54 4 (dk_at dksX3_fits_0 16 rfl rfl)
theorem dX3_fits_18 : decode cX3_fits 18 = .ok (.iload 4, 2) := dk_21 4 (dk_at dksX3_fits_0 18 rfl rfl)
theorem dX3_fits_20 : decode cX3_fits 20 = .ok (.aload_n 0, 1) := dk_42 (dk_at dksX3_fits_0 20 rfl rfl)
theorem dX3_fits_21 : decode cX3_fits 21 = .ok (.getfield 7, 3) := dk_180 0 7 (dk_at dksX3_fits_0 21 rfl rfl)
theorem dX3_fits_24 : decode cX3_fits 24 = .ok (.sipush 572, 3) := dk_17 2 60 (dk_at dksX3_fits_1 0 rfl rfl)
theorem dX3_fits_27 : decode cX3_fits 27 = .ok (.iaload, 1) := dk_46 (dk_at dksX3_fits_1 3 rfl rfl)
theorem dX3_fits_28 : decode cX3_fits 28 = .ok (.if_icmp .ge 68, 3) := dk_162 0 68 (dk_at dksX3_fits_1 4 rfl rfl)
theorem dX3_fits_31 : decode cX3_fits 31 = .ok (.iconst (-1), 1) := dk_2 (dk_at dksX3_fits_1 7 rfl rfl)
theorem dX3_fits_32 : decode cX3_fits 32 = .ok (.istore 5, 2) := dk_54 5 (dk_at dksX3_fits_1 8 rfl rfl)
theorem dX3_fits_34 : decode cX3_fits 34 = .ok (.iload 5, 2) := dk_21 5 (dk_at dksX3_fits_1 10 rfl rfl)
theorem dX3_fits_36 : decode cX3_fits 36 = .ok (.aload_n 0, 1) := dk_42 (dk_at dksX3_fits_1 12 rfl rfl)
theorem dX3_fits_37 : decode cX3_fits 37 = .ok (.getfield 7, 3) := dk_180 0 7 (dk_at dksX3_fits_1 13 rfl rfl)
theorem dX3_fits_40 : decode cX3_fits 40 = .ok (.sipush 572, 3) := dk_17 2 60 (dk_at dksX3_fits_1 16 rfl rfl)
theorem dX3_fits_43 : decode cX3_fits 43 = .ok (.iaload, 1) := dk_46 (dk_at dksX3_fits_1 19 rfl rfl)
theorem dX3_fits_44 : decode cX3_fits 44 = .ok (.if_icmp .ge 46, 3) := dk_162 0 46 (dk_at dksX3_fits_1 20 rfl rfl)
theorem dX3_fits_47 : decode cX3_fits 47 = .ok (.aload_n 0, 1) := dk_42 (dk_at dksX3_fits_1 23 rfl rfl)
theorem dX3_fits_48 : decode cX3_fits 48 = .ok (.iload 4, 2) := dk_21 4 (dk_at dksX3_fits_2 0 rfl rfl)
theorem dX3_fits_50 : decode cX3_fits 50 = .ok (.iload 5, 2) := dk_21 5 (dk_at dksX3_fits_2 2 rfl rfl)
theorem dX3_fits_52 : decode cX3_fits 52 = .ok (.invokevirtual 376, 3) := dk_182 1 120 (dk_at dksX3_fits_2 4 rfl rfl)
theorem dX3_fits_55 : decode cX3_fits 55 = .ok (.ifCond .ne 6, 3) := dk_154 0 6 (dk_at dksX3_fits_2 7 rfl rfl)
theorem dX3_fits_58 : decode cX3_fits 58 = .ok (.goto 26, 3) := dk_167 0 26 (dk_at dksX3_fits_2 10 rfl rfl)
theorem dX3_fits_61 : decode cX3_fits 61 = .ok (.iinc 2 1, 3) := dk_132 2 1 (dk_at dksX3_fits_2 13 rfl rfl)
theorem dX3_fits_64 : decode cX3_fits 64 = .ok (.iload_n 3, 1) := dk_29 (dk_at dksX3_fits_2 16 rfl rfl)
theorem dX3_fits_65 : decode cX3_fits 65 = .ok (.iconst (-1), 1) := dk_2 (dk_at dksX3_fits_2 17 rfl rfl)
theorem dX3_fits_66 : decode cX3_fits 66 = .ok (.if_icmp .ne 16, 3) := dk_160 0 16 (dk_at dksX3_fits_2 18 rfl rfl)
theorem dX3_fits_69 : decode cX3_fits 69 = .ok (.bipush 11, 2) := dk_16 11 (dk_at dksX3_fits_2 21 rfl rfl)
theorem dX3_fits_71 : decode cX3_fits 71 = .ok (.iload 4, 2) := dk_21 4 (dk_at dksX3_fits_3 0 rfl rfl)
theorem dX3_fits_73 : decode cX3_fits 73 = .ok (.imul, 1) := dk_104 (dk_at dksX3_fits_3 2 rfl rfl)
theorem dX3_fits_74 : decode cX3_fits 74 = .ok (.iload 5, 2) := dk_21 5 (dk_at dksX3_fits_3 3 rfl rfl)
theorem dX3_fits_76 : decode cX3_fits 76 = .ok (.iadd, 1) := dk_96 (dk_at dksX3_fits_3 5 rfl rfl)
theorem dX3_fits_77 : decode cX3_fits 77 = .ok (.iconst 1, 1) := dk_4 (dk_at dksX3_fits_3 6 rfl rfl)
theorem dX3_fits_78 : decode cX3_fits 78 = .ok (.iadd, 1) := dk_96 (dk_at dksX3_fits_3 7 rfl rfl)
theorem dX3_fits_79 : decode cX3_fits 79 = .ok (.goto 4, 3) := dk_167 0 4 (dk_at dksX3_fits_3 8 rfl rfl)
theorem dX3_fits_82 : decode cX3_fits 82 = .ok (.iload_n 3, 1) := dk_29 (dk_at dksX3_fits_3 11 rfl rfl)
theorem dX3_fits_83 : decode cX3_fits 83 = .ok (.istore_n 3, 1) := dk_62 (dk_at dksX3_fits_3 12 rfl rfl)
theorem dX3_fits_84 : decode cX3_fits 84 = .ok (.iinc 5 1, 3) := dk_132 5 1 (dk_at dksX3_fits_3 13 rfl rfl)
theorem dX3_fits_87 : decode cX3_fits 87 = .ok (.goto (-53), 3) := dk_167 255 203 (dk_at dksX3_fits_3 16 rfl rfl)
theorem dX3_fits_90 : decode cX3_fits 90 = .ok (.iinc 4 1, 3) := dk_132 4 1 (dk_at dksX3_fits_3 19 rfl rfl)
theorem dX3_fits_93 : decode cX3_fits 93 = .ok (.goto (-75), 3) := dk_167 255 181 (dk_at dksX3_fits_4 0 rfl rfl)
theorem dX3_fits_96 : decode cX3_fits 96 = .ok (.iload_n 1, 1) := dk_27 (dk_at dksX3_fits_4 3 rfl rfl)
theorem dX3_fits_97 : decode cX3_fits 97 = .ok (.tableswitch 59 0 2 #[27, 29, 43], 27) := by decide +kernel
theorem dX3_fits_124 : decode cX3_fits 124 = .ok (.iload_n 2, 1) := dk_28 (dk_at dksX3_fits_6 0 rfl rfl)
theorem dX3_fits_125 : decode cX3_fits 125 = .ok (.ireturn, 1) := dk_172 (dk_at dksX3_fits_6 1 rfl rfl)
theorem dX3_fits_126 : decode cX3_fits 126 = .ok (.iload_n 3, 1) := dk_29 (dk_at dksX3_fits_6 2 rfl rfl)
theorem dX3_fits_127 : decode cX3_fits 127 = .ok (.iconst (-1), 1) := dk_2 (dk_at dksX3_fits_6 3 rfl rfl)
theorem dX3_fits_128 : decode cX3_fits 128 = .ok (.if_icmp .ne 7, 3) := dk_160 0 7 (dk_at dksX3_fits_6 4 rfl rfl)
theorem dX3_fits_131 : decode cX3_fits 131 = .ok (.iconst (-1), 1) := dk_2 (dk_at dksX3_fits_6 7 rfl rfl)
theorem dX3_fits_132 : decode cX3_fits 132 = .ok (.goto 7, 3) := dk_167 0 7 (dk_at dksX3_fits_6 8 rfl rfl)
theorem dX3_fits_135 : decode cX3_fits 135 = .ok (.iload_n 3, 1) := dk_29 (dk_at dksX3_fits_6 11 rfl rfl)
theorem dX3_fits_136 : decode cX3_fits 136 = .ok (.bipush 11, 2) := dk_16 11 (dk_at dksX3_fits_6 12 rfl rfl)
theorem dX3_fits_138 : decode cX3_fits 138 = .ok (.idiv, 1) := dk_108 (dk_at dksX3_fits_6 14 rfl rfl)
theorem dX3_fits_139 : decode cX3_fits 139 = .ok (.ireturn, 1) := dk_172 (dk_at dksX3_fits_6 15 rfl rfl)
theorem dX3_fits_140 : decode cX3_fits 140 = .ok (.iload_n 3, 1) := dk_29 (dk_at dksX3_fits_6 16 rfl rfl)
theorem dX3_fits_141 : decode cX3_fits 141 = .ok (.iconst (-1), 1) := dk_2 (dk_at dksX3_fits_6 17 rfl rfl)
theorem dX3_fits_142 : decode cX3_fits 142 = .ok (.if_icmp .ne 7, 3) := dk_160 0 7 (dk_at dksX3_fits_6 18 rfl rfl)
theorem dX3_fits_145 : decode cX3_fits 145 = .ok (.iconst (-1), 1) := dk_2 (dk_at dksX3_fits_6 21 rfl rfl)
theorem dX3_fits_146 : decode cX3_fits 146 = .ok (.goto 9, 3) := dk_167 0 9 (dk_at dksX3_fits_7 0 rfl rfl)
theorem dX3_fits_149 : decode cX3_fits 149 = .ok (.iload_n 3, 1) := dk_29 (dk_at dksX3_fits_7 3 rfl rfl)
theorem dX3_fits_150 : decode cX3_fits 150 = .ok (.bipush 11, 2) := dk_16 11 (dk_at dksX3_fits_7 4 rfl rfl)
theorem dX3_fits_152 : decode cX3_fits 152 = .ok (.irem, 1) := dk_112 (dk_at dksX3_fits_7 6 rfl rfl)
theorem dX3_fits_153 : decode cX3_fits 153 = .ok (.iconst 1, 1) := dk_4 (dk_at dksX3_fits_7 7 rfl rfl)
theorem dX3_fits_154 : decode cX3_fits 154 = .ok (.isub, 1) := dk_100 (dk_at dksX3_fits_7 8 rfl rfl)
theorem dX3_fits_155 : decode cX3_fits 155 = .ok (.ireturn, 1) := dk_172 (dk_at dksX3_fits_7 9 rfl rfl)
theorem dX3_fits_156 : decode cX3_fits 156 = .ok (.iload_n 2, 1) := dk_28 (dk_at dksX3_fits_7 10 rfl rfl)
theorem dX3_fits_157 : decode cX3_fits 157 = .ok (.iconst 2, 1) := dk_5 (dk_at dksX3_fits_7 11 rfl rfl)
theorem dX3_fits_158 : decode cX3_fits 158 = .ok (.if_icmp .ge 7, 3) := dk_162 0 7 (dk_at dksX3_fits_7 12 rfl rfl)
theorem dX3_fits_161 : decode cX3_fits 161 = .ok (.iconst (-1), 1) := dk_2 (dk_at dksX3_fits_7 15 rfl rfl)
theorem dX3_fits_162 : decode cX3_fits 162 = .ok (.goto 7, 3) := dk_167 0 7 (dk_at dksX3_fits_7 16 rfl rfl)
theorem dX3_fits_165 : decode cX3_fits 165 = .ok (.aload_n 0, 1) := dk_42 (dk_at dksX3_fits_7 19 rfl rfl)
theorem dX3_fits_166 : decode cX3_fits 166 = .ok (.invokevirtual 382, 3) := dk_182 1 126 (dk_at dksX3_fits_7 20 rfl rfl)
theorem dX3_fits_169 : decode cX3_fits 169 = .ok (.ireturn, 1) := dk_172 (dk_at dksX3_fits_7 23 rfl rfl)
abbrev cX3_couldBe : ByteArray := prog_17_method_84_code
def yX3_couldBe : MethodName := ⟨RX3, "couldBe", "(II)Z"⟩
def dkwX3_couldBe_2 : List UInt8 := [180, 0, 7, 17, 3, 7, 5, 29, 104, 96, 46, 159, 0, 5, 3, 172, 132, 3, 1, 167, 255, 204, 4, 172]
abbrev dktX3_couldBe_2 : List UInt8 := dkwX3_couldBe_2 ++ []
def dkwX3_couldBe_1 : List UInt8 := [162, 0, 46, 42, 27, 28, 42, 180, 0, 7, 17, 3, 7, 5, 29, 104, 96, 4, 96, 46, 182, 1, 69, 42]
abbrev dktX3_couldBe_1 : List UInt8 := dkwX3_couldBe_1 ++ dktX3_couldBe_2
def dkwX3_couldBe_0 : List UInt8 := [42, 27, 28, 182, 1, 116, 154, 0, 5, 3, 172, 3, 62, 29, 42, 180, 0, 7, 17, 2, 65, 46]
abbrev dktX3_couldBe_0 : List UInt8 := dkwX3_couldBe_0 ++ dktX3_couldBe_1
theorem dksX3_couldBe_0 : cX3_couldBe.data.toList.drop 0 = dktX3_couldBe_0 := by decide +kernel
theorem dksX3_couldBe_1 : cX3_couldBe.data.toList.drop 22 = dktX3_couldBe_1 := dk_seg dksX3_couldBe_0 22 rfl rfl
theorem dksX3_couldBe_2 : cX3_couldBe.data.toList.drop 46 = dktX3_couldBe_2 := dk_seg dksX3_couldBe_1 24 rfl rfl
theorem dX3_couldBe_0 : decode cX3_couldBe 0 = .ok (.aload_n 0, 1) := dk_42 (dk_at dksX3_couldBe_0 0 rfl rfl)
theorem dX3_couldBe_1 : decode cX3_couldBe 1 = .ok (.iload_n 1, 1) := dk_27 (dk_at dksX3_couldBe_0 1 rfl rfl)
theorem dX3_couldBe_2 : decode cX3_couldBe 2 = .ok (.iload_n 2, 1) := dk_28 (dk_at dksX3_couldBe_0 2 rfl rfl)
theorem dX3_couldBe_3 : decode cX3_couldBe 3 = .ok (.invokevirtual 372, 3) := dk_182 1 116 (dk_at dksX3_couldBe_0 3 rfl rfl)
theorem dX3_couldBe_6 : decode cX3_couldBe 6 = .ok (.ifCond .ne 5, 3) := dk_154 0 5 (dk_at dksX3_couldBe_0 6 rfl rfl)
theorem dX3_couldBe_9 : decode cX3_couldBe 9 = .ok (.iconst 0, 1) := dk_3 (dk_at dksX3_couldBe_0 9 rfl rfl)
theorem dX3_couldBe_10 : decode cX3_couldBe 10 = .ok (.ireturn, 1) := dk_172 (dk_at dksX3_couldBe_0 10 rfl rfl)
theorem dX3_couldBe_11 : decode cX3_couldBe 11 = .ok (.iconst 0, 1) := dk_3 (dk_at dksX3_couldBe_0 11 rfl rfl)
theorem dX3_couldBe_12 : decode cX3_couldBe 12 = .ok (.istore_n 3, 1) := dk_62 (dk_at dksX3_couldBe_0 12 rfl rfl)
theorem dX3_couldBe_13 : decode cX3_couldBe 13 = .ok (.iload_n 3, 1) := dk_29 (dk_at dksX3_couldBe_0 13 rfl rfl)
theorem dX3_couldBe_14 : decode cX3_couldBe 14 = .ok (.aload_n 0, 1) := dk_42 (dk_at dksX3_couldBe_0 14 rfl rfl)
theorem dX3_couldBe_15 : decode cX3_couldBe 15 = .ok (.getfield 7, 3) := dk_180 0 7 (dk_at dksX3_couldBe_0 15 rfl rfl)
theorem dX3_couldBe_18 : decode cX3_couldBe 18 = .ok (.sipush 577, 3) := dk_17 2 65 (dk_at dksX3_couldBe_0 18 rfl rfl)
theorem dX3_couldBe_21 : decode cX3_couldBe 21 = .ok (.iaload, 1) := dk_46 (dk_at dksX3_couldBe_0 21 rfl rfl)
theorem dX3_couldBe_22 : decode cX3_couldBe 22 = .ok (.if_icmp .ge 46, 3) := dk_162 0 46 (dk_at dksX3_couldBe_1 0 rfl rfl)
theorem dX3_couldBe_25 : decode cX3_couldBe 25 = .ok (.aload_n 0, 1) := dk_42 (dk_at dksX3_couldBe_1 3 rfl rfl)
theorem dX3_couldBe_26 : decode cX3_couldBe 26 = .ok (.iload_n 1, 1) := dk_27 (dk_at dksX3_couldBe_1 4 rfl rfl)
theorem dX3_couldBe_27 : decode cX3_couldBe 27 = .ok (.iload_n 2, 1) := dk_28 (dk_at dksX3_couldBe_1 5 rfl rfl)
theorem dX3_couldBe_28 : decode cX3_couldBe 28 = .ok (.aload_n 0, 1) := dk_42 (dk_at dksX3_couldBe_1 6 rfl rfl)
theorem dX3_couldBe_29 : decode cX3_couldBe 29 = .ok (.getfield 7, 3) := dk_180 0 7 (dk_at dksX3_couldBe_1 7 rfl rfl)
theorem dX3_couldBe_32 : decode cX3_couldBe 32 = .ok (.sipush 775, 3) := dk_17 3 7 (dk_at dksX3_couldBe_1 10 rfl rfl)
theorem dX3_couldBe_35 : decode cX3_couldBe 35 = .ok (.iconst 2, 1) := dk_5 (dk_at dksX3_couldBe_1 13 rfl rfl)
theorem dX3_couldBe_36 : decode cX3_couldBe 36 = .ok (.iload_n 3, 1) := dk_29 (dk_at dksX3_couldBe_1 14 rfl rfl)
theorem dX3_couldBe_37 : decode cX3_couldBe 37 = .ok (.imul, 1) := dk_104 (dk_at dksX3_couldBe_1 15 rfl rfl)
theorem dX3_couldBe_38 : decode cX3_couldBe 38 = .ok (.iadd, 1) := dk_96 (dk_at dksX3_couldBe_1 16 rfl rfl)
theorem dX3_couldBe_39 : decode cX3_couldBe 39 = .ok (.iconst 1, 1) := dk_4 (dk_at dksX3_couldBe_1 17 rfl rfl)
theorem dX3_couldBe_40 : decode cX3_couldBe 40 = .ok (.iadd, 1) := dk_96 (dk_at dksX3_couldBe_1 18 rfl rfl)
theorem dX3_couldBe_41 : decode cX3_couldBe 41 = .ok (.iaload, 1) := dk_46 (dk_at dksX3_couldBe_1 19 rfl rfl)
theorem dX3_couldBe_42 : decode cX3_couldBe 42 = .ok (.invokevirtual 325, 3) := dk_182 1 69 (dk_at dksX3_couldBe_1 20 rfl rfl)
theorem dX3_couldBe_45 : decode cX3_couldBe 45 = .ok (.aload_n 0, 1) := dk_42 (dk_at dksX3_couldBe_1 23 rfl rfl)
theorem dX3_couldBe_46 : decode cX3_couldBe 46 = .ok (.getfield 7, 3) := dk_180 0 7 (dk_at dksX3_couldBe_2 0 rfl rfl)
theorem dX3_couldBe_49 : decode cX3_couldBe 49 = .ok (.sipush 775, 3) := dk_17 3 7 (dk_at dksX3_couldBe_2 3 rfl rfl)
theorem dX3_couldBe_52 : decode cX3_couldBe 52 = .ok (.iconst 2, 1) := dk_5 (dk_at dksX3_couldBe_2 6 rfl rfl)
theorem dX3_couldBe_53 : decode cX3_couldBe 53 = .ok (.iload_n 3, 1) := dk_29 (dk_at dksX3_couldBe_2 7 rfl rfl)
theorem dX3_couldBe_54 : decode cX3_couldBe 54 = .ok (.imul, 1) := dk_104 (dk_at dksX3_couldBe_2 8 rfl rfl)
theorem dX3_couldBe_55 : decode cX3_couldBe 55 = .ok (.iadd, 1) := dk_96 (dk_at dksX3_couldBe_2 9 rfl rfl)
theorem dX3_couldBe_56 : decode cX3_couldBe 56 = .ok (.iaload, 1) := dk_46 (dk_at dksX3_couldBe_2 10 rfl rfl)
theorem dX3_couldBe_57 : decode cX3_couldBe 57 = .ok (.if_icmp .eq 5, 3) := dk_159 0 5 (dk_at dksX3_couldBe_2 11 rfl rfl)
theorem dX3_couldBe_60 : decode cX3_couldBe 60 = .ok (.iconst 0, 1) := dk_3 (dk_at dksX3_couldBe_2 14 rfl rfl)
theorem dX3_couldBe_61 : decode cX3_couldBe 61 = .ok (.ireturn, 1) := dk_172 (dk_at dksX3_couldBe_2 15 rfl rfl)
theorem dX3_couldBe_62 : decode cX3_couldBe 62 = .ok (.iinc 3 1, 3) := dk_132 3 1 (dk_at dksX3_couldBe_2 16 rfl rfl)
theorem dX3_couldBe_65 : decode cX3_couldBe 65 = .ok (.goto (-52), 3) := dk_167 255 204 (dk_at dksX3_couldBe_2 19 rfl rfl)
theorem dX3_couldBe_68 : decode cX3_couldBe 68 = .ok (.iconst 1, 1) := dk_4 (dk_at dksX3_couldBe_2 22 rfl rfl)
theorem dX3_couldBe_69 : decode cX3_couldBe 69 = .ok (.ireturn, 1) := dk_172 (dk_at dksX3_couldBe_2 23 rfl rfl)
abbrev cX3_yard : ByteArray := prog_17_method_86_code
def yX3_yard : MethodName := ⟨RX3, "yard", "()I"⟩
def dkwX3_yard_1 : List UInt8 := [60, 132, 2, 1, 167, 255, 232, 27, 172]
abbrev dktX3_yard_1 : List UInt8 := dkwX3_yard_1 ++ []
def dkwX3_yard_0 : List UInt8 := [3, 60, 4, 61, 28, 16, 12, 162, 0, 24, 42, 28, 182, 1, 123, 42, 27, 182, 1, 123, 162, 0, 5, 28]
abbrev dktX3_yard_0 : List UInt8 := dkwX3_yard_0 ++ dktX3_yard_1
theorem dksX3_yard_0 : cX3_yard.data.toList.drop 0 = dktX3_yard_0 := by decide +kernel
theorem dksX3_yard_1 : cX3_yard.data.toList.drop 24 = dktX3_yard_1 := dk_seg dksX3_yard_0 24 rfl rfl
theorem dX3_yard_0 : decode cX3_yard 0 = .ok (.iconst 0, 1) := dk_3 (dk_at dksX3_yard_0 0 rfl rfl)
theorem dX3_yard_1 : decode cX3_yard 1 = .ok (.istore_n 1, 1) := dk_60 (dk_at dksX3_yard_0 1 rfl rfl)
theorem dX3_yard_2 : decode cX3_yard 2 = .ok (.iconst 1, 1) := dk_4 (dk_at dksX3_yard_0 2 rfl rfl)
theorem dX3_yard_3 : decode cX3_yard 3 = .ok (.istore_n 2, 1) := dk_61 (dk_at dksX3_yard_0 3 rfl rfl)
theorem dX3_yard_4 : decode cX3_yard 4 = .ok (.iload_n 2, 1) := dk_28 (dk_at dksX3_yard_0 4 rfl rfl)
theorem dX3_yard_5 : decode cX3_yard 5 = .ok (.bipush 12, 2) := dk_16 12 (dk_at dksX3_yard_0 5 rfl rfl)
theorem dX3_yard_7 : decode cX3_yard 7 = .ok (.if_icmp .ge 24, 3) := dk_162 0 24 (dk_at dksX3_yard_0 7 rfl rfl)
theorem dX3_yard_10 : decode cX3_yard 10 = .ok (.aload_n 0, 1) := dk_42 (dk_at dksX3_yard_0 10 rfl rfl)
theorem dX3_yard_11 : decode cX3_yard 11 = .ok (.iload_n 2, 1) := dk_28 (dk_at dksX3_yard_0 11 rfl rfl)
theorem dX3_yard_12 : decode cX3_yard 12 = .ok (.invokevirtual 379, 3) := dk_182 1 123 (dk_at dksX3_yard_0 12 rfl rfl)
theorem dX3_yard_15 : decode cX3_yard 15 = .ok (.aload_n 0, 1) := dk_42 (dk_at dksX3_yard_0 15 rfl rfl)
theorem dX3_yard_16 : decode cX3_yard 16 = .ok (.iload_n 1, 1) := dk_27 (dk_at dksX3_yard_0 16 rfl rfl)
theorem dX3_yard_17 : decode cX3_yard 17 = .ok (.invokevirtual 379, 3) := dk_182 1 123 (dk_at dksX3_yard_0 17 rfl rfl)
theorem dX3_yard_20 : decode cX3_yard 20 = .ok (.if_icmp .ge 5, 3) := dk_162 0 5 (dk_at dksX3_yard_0 20 rfl rfl)
theorem dX3_yard_23 : decode cX3_yard 23 = .ok (.iload_n 2, 1) := dk_28 (dk_at dksX3_yard_0 23 rfl rfl)
theorem dX3_yard_24 : decode cX3_yard 24 = .ok (.istore_n 1, 1) := dk_60 (dk_at dksX3_yard_1 0 rfl rfl)
theorem dX3_yard_25 : decode cX3_yard 25 = .ok (.iinc 2 1, 3) := dk_132 2 1 (dk_at dksX3_yard_1 1 rfl rfl)
theorem dX3_yard_28 : decode cX3_yard 28 = .ok (.goto (-24), 3) := dk_167 255 232 (dk_at dksX3_yard_1 4 rfl rfl)
theorem dX3_yard_31 : decode cX3_yard 31 = .ok (.iload_n 1, 1) := dk_27 (dk_at dksX3_yard_1 7 rfl rfl)
theorem dX3_yard_32 : decode cX3_yard 32 = .ok (.ireturn, 1) := dk_172 (dk_at dksX3_yard_1 8 rfl rfl)
abbrev cX3_mostAlike : ByteArray := prog_17_method_85_code
def yX3_mostAlike : MethodName := ⟨RX3, "mostAlike", "(I)I"⟩
def dkwX3_mostAlike_4 : List UInt8 := [16, 8, 163, 0, 20, 28, 42, 180, 0, 44, 29, 46, 184, 1, 36, 61, 132, 3, 1, 167, 255, 236, 28, 172]
abbrev dktX3_mostAlike_4 : List UInt8 := dkwX3_mostAlike_4 ++ []
def dkwX3_mostAlike_3 : List UInt8 := [96, 92, 46, 4, 96, 79, 132, 3, 1, 167, 255, 214, 132, 2, 1, 167, 255, 194, 3, 61, 3, 62, 29]
abbrev dktX3_mostAlike_3 : List UInt8 := dkwX3_mostAlike_3 ++ dktX3_mostAlike_4
def dkwX3_mostAlike_2 : List UInt8 := [162, 0, 36, 42, 28, 29, 182, 1, 120, 153, 0, 21, 42, 180, 0, 44, 42, 28, 29, 27, 182, 1, 69, 4]
abbrev dktX3_mostAlike_2 : List UInt8 := dkwX3_mostAlike_2 ++ dktX3_mostAlike_3
def dkwX3_mostAlike_1 : List UInt8 := [42, 180, 0, 7, 17, 2, 60, 46, 162, 0, 56, 2, 62, 29, 42, 180, 0, 7, 17, 2, 60, 46]
abbrev dktX3_mostAlike_1 : List UInt8 := dkwX3_mostAlike_1 ++ dktX3_mostAlike_2
def dkwX3_mostAlike_0 : List UInt8 := [3, 61, 28, 16, 8, 163, 0, 16, 42, 180, 0, 44, 28, 3, 79, 132, 2, 1, 167, 255, 240, 3, 61, 28]
abbrev dktX3_mostAlike_0 : List UInt8 := dkwX3_mostAlike_0 ++ dktX3_mostAlike_1
theorem dksX3_mostAlike_0 : cX3_mostAlike.data.toList.drop 0 = dktX3_mostAlike_0 := by decide +kernel
theorem dksX3_mostAlike_1 : cX3_mostAlike.data.toList.drop 24 = dktX3_mostAlike_1 := dk_seg dksX3_mostAlike_0 24 rfl rfl
theorem dksX3_mostAlike_2 : cX3_mostAlike.data.toList.drop 46 = dktX3_mostAlike_2 := dk_seg dksX3_mostAlike_1 22 rfl rfl
theorem dksX3_mostAlike_3 : cX3_mostAlike.data.toList.drop 70 = dktX3_mostAlike_3 := dk_seg dksX3_mostAlike_2 24 rfl rfl
theorem dksX3_mostAlike_4 : cX3_mostAlike.data.toList.drop 93 = dktX3_mostAlike_4 := dk_seg dksX3_mostAlike_3 23 rfl rfl
theorem dX3_mostAlike_0 : decode cX3_mostAlike 0 = .ok (.iconst 0, 1) := dk_3 (dk_at dksX3_mostAlike_0 0 rfl rfl)
theorem dX3_mostAlike_1 : decode cX3_mostAlike 1 = .ok (.istore_n 2, 1) := dk_61 (dk_at dksX3_mostAlike_0 1 rfl rfl)
theorem dX3_mostAlike_2 : decode cX3_mostAlike 2 = .ok (.iload_n 2, 1) := dk_28 (dk_at dksX3_mostAlike_0 2 rfl rfl)
theorem dX3_mostAlike_3 : decode cX3_mostAlike 3 = .ok (.bipush 8, 2) := dk_16 8 (dk_at dksX3_mostAlike_0 3 rfl rfl)
theorem dX3_mostAlike_5 : decode cX3_mostAlike 5 = .ok (.if_icmp .gt 16, 3) := dk_163 0 16 (dk_at dksX3_mostAlike_0 5 rfl rfl)
theorem dX3_mostAlike_8 : decode cX3_mostAlike 8 = .ok (.aload_n 0, 1) := dk_42 (dk_at dksX3_mostAlike_0 8 rfl rfl)
theorem dX3_mostAlike_9 : decode cX3_mostAlike 9 = .ok (.getfield 44, 3) := dk_180 0 44 (dk_at dksX3_mostAlike_0 9 rfl rfl)
theorem dX3_mostAlike_12 : decode cX3_mostAlike 12 = .ok (.iload_n 2, 1) := dk_28 (dk_at dksX3_mostAlike_0 12 rfl rfl)
theorem dX3_mostAlike_13 : decode cX3_mostAlike 13 = .ok (.iconst 0, 1) := dk_3 (dk_at dksX3_mostAlike_0 13 rfl rfl)
theorem dX3_mostAlike_14 : decode cX3_mostAlike 14 = .ok (.iastore, 1) := dk_79 (dk_at dksX3_mostAlike_0 14 rfl rfl)
theorem dX3_mostAlike_15 : decode cX3_mostAlike 15 = .ok (.iinc 2 1, 3) := dk_132 2 1 (dk_at dksX3_mostAlike_0 15 rfl rfl)
theorem dX3_mostAlike_18 : decode cX3_mostAlike 18 = .ok (.goto (-16), 3) := dk_167 255 240 (dk_at dksX3_mostAlike_0 18 rfl rfl)
theorem dX3_mostAlike_21 : decode cX3_mostAlike 21 = .ok (.iconst 0, 1) := dk_3 (dk_at dksX3_mostAlike_0 21 rfl rfl)
theorem dX3_mostAlike_22 : decode cX3_mostAlike 22 = .ok (.istore_n 2, 1) := dk_61 (dk_at dksX3_mostAlike_0 22 rfl rfl)
theorem dX3_mostAlike_23 : decode cX3_mostAlike 23 = .ok (.iload_n 2, 1) := dk_28 (dk_at dksX3_mostAlike_0 23 rfl rfl)
theorem dX3_mostAlike_24 : decode cX3_mostAlike 24 = .ok (.aload_n 0, 1) := dk_42 (dk_at dksX3_mostAlike_1 0 rfl rfl)
theorem dX3_mostAlike_25 : decode cX3_mostAlike 25 = .ok (.getfield 7, 3) := dk_180 0 7 (dk_at dksX3_mostAlike_1 1 rfl rfl)
theorem dX3_mostAlike_28 : decode cX3_mostAlike 28 = .ok (.sipush 572, 3) := dk_17 2 60 (dk_at dksX3_mostAlike_1 4 rfl rfl)
theorem dX3_mostAlike_31 : decode cX3_mostAlike 31 = .ok (.iaload, 1) := dk_46 (dk_at dksX3_mostAlike_1 7 rfl rfl)
theorem dX3_mostAlike_32 : decode cX3_mostAlike 32 = .ok (.if_icmp .ge 56, 3) := dk_162 0 56 (dk_at dksX3_mostAlike_1 8 rfl rfl)
theorem dX3_mostAlike_35 : decode cX3_mostAlike 35 = .ok (.iconst (-1), 1) := dk_2 (dk_at dksX3_mostAlike_1 11 rfl rfl)
theorem dX3_mostAlike_36 : decode cX3_mostAlike 36 = .ok (.istore_n 3, 1) := dk_62 (dk_at dksX3_mostAlike_1 12 rfl rfl)
theorem dX3_mostAlike_37 : decode cX3_mostAlike 37 = .ok (.iload_n 3, 1) := dk_29 (dk_at dksX3_mostAlike_1 13 rfl rfl)
theorem dX3_mostAlike_38 : decode cX3_mostAlike 38 = .ok (.aload_n 0, 1) := dk_42 (dk_at dksX3_mostAlike_1 14 rfl rfl)
theorem dX3_mostAlike_39 : decode cX3_mostAlike 39 = .ok (.getfield 7, 3) := dk_180 0 7 (dk_at dksX3_mostAlike_1 15 rfl rfl)
theorem dX3_mostAlike_42 : decode cX3_mostAlike 42 = .ok (.sipush 572, 3) := dk_17 2 60 (dk_at dksX3_mostAlike_1 18 rfl rfl)
theorem dX3_mostAlike_45 : decode cX3_mostAlike 45 = .ok (.iaload, 1) := dk_46 (dk_at dksX3_mostAlike_1 21 rfl rfl)
theorem dX3_mostAlike_46 : decode cX3_mostAlike 46 = .ok (.if_icmp .ge 36, 3) := dk_162 0 36 (dk_at dksX3_mostAlike_2 0 rfl rfl)
theorem dX3_mostAlike_49 : decode cX3_mostAlike 49 = .ok (.aload_n 0, 1) := dk_42 (dk_at dksX3_mostAlike_2 3 rfl rfl)
theorem dX3_mostAlike_50 : decode cX3_mostAlike 50 = .ok (.iload_n 2, 1) := dk_28 (dk_at dksX3_mostAlike_2 4 rfl rfl)
theorem dX3_mostAlike_51 : decode cX3_mostAlike 51 = .ok (.iload_n 3, 1) := dk_29 (dk_at dksX3_mostAlike_2 5 rfl rfl)
theorem dX3_mostAlike_52 : decode cX3_mostAlike 52 = .ok (.invokevirtual 376, 3) := dk_182 1 120 (dk_at dksX3_mostAlike_2 6 rfl rfl)
theorem dX3_mostAlike_55 : decode cX3_mostAlike 55 = .ok (.ifCond .eq 21, 3) := dk_153 0 21 (dk_at dksX3_mostAlike_2 9 rfl rfl)
theorem dX3_mostAlike_58 : decode cX3_mostAlike 58 = .ok (.aload_n 0, 1) := dk_42 (dk_at dksX3_mostAlike_2 12 rfl rfl)
theorem dX3_mostAlike_59 : decode cX3_mostAlike 59 = .ok (.getfield 44, 3) := dk_180 0 44 (dk_at dksX3_mostAlike_2 13 rfl rfl)
theorem dX3_mostAlike_62 : decode cX3_mostAlike 62 = .ok (.aload_n 0, 1) := dk_42 (dk_at dksX3_mostAlike_2 16 rfl rfl)
theorem dX3_mostAlike_63 : decode cX3_mostAlike 63 = .ok (.iload_n 2, 1) := dk_28 (dk_at dksX3_mostAlike_2 17 rfl rfl)
theorem dX3_mostAlike_64 : decode cX3_mostAlike 64 = .ok (.iload_n 3, 1) := dk_29 (dk_at dksX3_mostAlike_2 18 rfl rfl)
theorem dX3_mostAlike_65 : decode cX3_mostAlike 65 = .ok (.iload_n 1, 1) := dk_27 (dk_at dksX3_mostAlike_2 19 rfl rfl)
theorem dX3_mostAlike_66 : decode cX3_mostAlike 66 = .ok (.invokevirtual 325, 3) := dk_182 1 69 (dk_at dksX3_mostAlike_2 20 rfl rfl)
theorem dX3_mostAlike_69 : decode cX3_mostAlike 69 = .ok (.iconst 1, 1) := dk_4 (dk_at dksX3_mostAlike_2 23 rfl rfl)
theorem dX3_mostAlike_70 : decode cX3_mostAlike 70 = .ok (.iadd, 1) := dk_96 (dk_at dksX3_mostAlike_3 0 rfl rfl)
theorem dX3_mostAlike_71 : decode cX3_mostAlike 71 = .ok (.dup2, 1) := dk_92 (dk_at dksX3_mostAlike_3 1 rfl rfl)
theorem dX3_mostAlike_72 : decode cX3_mostAlike 72 = .ok (.iaload, 1) := dk_46 (dk_at dksX3_mostAlike_3 2 rfl rfl)
theorem dX3_mostAlike_73 : decode cX3_mostAlike 73 = .ok (.iconst 1, 1) := dk_4 (dk_at dksX3_mostAlike_3 3 rfl rfl)
theorem dX3_mostAlike_74 : decode cX3_mostAlike 74 = .ok (.iadd, 1) := dk_96 (dk_at dksX3_mostAlike_3 4 rfl rfl)
theorem dX3_mostAlike_75 : decode cX3_mostAlike 75 = .ok (.iastore, 1) := dk_79 (dk_at dksX3_mostAlike_3 5 rfl rfl)
theorem dX3_mostAlike_76 : decode cX3_mostAlike 76 = .ok (.iinc 3 1, 3) := dk_132 3 1 (dk_at dksX3_mostAlike_3 6 rfl rfl)
theorem dX3_mostAlike_79 : decode cX3_mostAlike 79 = .ok (.goto (-42), 3) := dk_167 255 214 (dk_at dksX3_mostAlike_3 9 rfl rfl)
theorem dX3_mostAlike_82 : decode cX3_mostAlike 82 = .ok (.iinc 2 1, 3) := dk_132 2 1 (dk_at dksX3_mostAlike_3 12 rfl rfl)
theorem dX3_mostAlike_85 : decode cX3_mostAlike 85 = .ok (.goto (-62), 3) := dk_167 255 194 (dk_at dksX3_mostAlike_3 15 rfl rfl)
theorem dX3_mostAlike_88 : decode cX3_mostAlike 88 = .ok (.iconst 0, 1) := dk_3 (dk_at dksX3_mostAlike_3 18 rfl rfl)
theorem dX3_mostAlike_89 : decode cX3_mostAlike 89 = .ok (.istore_n 2, 1) := dk_61 (dk_at dksX3_mostAlike_3 19 rfl rfl)
theorem dX3_mostAlike_90 : decode cX3_mostAlike 90 = .ok (.iconst 0, 1) := dk_3 (dk_at dksX3_mostAlike_3 20 rfl rfl)
theorem dX3_mostAlike_91 : decode cX3_mostAlike 91 = .ok (.istore_n 3, 1) := dk_62 (dk_at dksX3_mostAlike_3 21 rfl rfl)
theorem dX3_mostAlike_92 : decode cX3_mostAlike 92 = .ok (.iload_n 3, 1) := dk_29 (dk_at dksX3_mostAlike_3 22 rfl rfl)
theorem dX3_mostAlike_93 : decode cX3_mostAlike 93 = .ok (.bipush 8, 2) := dk_16 8 (dk_at dksX3_mostAlike_4 0 rfl rfl)
theorem dX3_mostAlike_95 : decode cX3_mostAlike 95 = .ok (.if_icmp .gt 20, 3) := dk_163 0 20 (dk_at dksX3_mostAlike_4 2 rfl rfl)
theorem dX3_mostAlike_98 : decode cX3_mostAlike 98 = .ok (.iload_n 2, 1) := dk_28 (dk_at dksX3_mostAlike_4 5 rfl rfl)
theorem dX3_mostAlike_99 : decode cX3_mostAlike 99 = .ok (.aload_n 0, 1) := dk_42 (dk_at dksX3_mostAlike_4 6 rfl rfl)
theorem dX3_mostAlike_100 : decode cX3_mostAlike 100 = .ok (.getfield 44, 3) := dk_180 0 44 (dk_at dksX3_mostAlike_4 7 rfl rfl)
theorem dX3_mostAlike_103 : decode cX3_mostAlike 103 = .ok (.iload_n 3, 1) := dk_29 (dk_at dksX3_mostAlike_4 10 rfl rfl)
theorem dX3_mostAlike_104 : decode cX3_mostAlike 104 = .ok (.iaload, 1) := dk_46 (dk_at dksX3_mostAlike_4 11 rfl rfl)
theorem dX3_mostAlike_105 : decode cX3_mostAlike 105 = .ok (.invokestatic 292, 3) := dk_184 1 36 (dk_at dksX3_mostAlike_4 12 rfl rfl)
theorem dX3_mostAlike_108 : decode cX3_mostAlike 108 = .ok (.istore_n 2, 1) := dk_61 (dk_at dksX3_mostAlike_4 15 rfl rfl)
theorem dX3_mostAlike_109 : decode cX3_mostAlike 109 = .ok (.iinc 3 1, 3) := dk_132 3 1 (dk_at dksX3_mostAlike_4 16 rfl rfl)
theorem dX3_mostAlike_112 : decode cX3_mostAlike 112 = .ok (.goto (-20), 3) := dk_167 255 236 (dk_at dksX3_mostAlike_4 19 rfl rfl)
theorem dX3_mostAlike_115 : decode cX3_mostAlike 115 = .ok (.iload_n 2, 1) := dk_28 (dk_at dksX3_mostAlike_4 22 rfl rfl)
theorem dX3_mostAlike_116 : decode cX3_mostAlike 116 = .ok (.ireturn, 1) := dk_172 (dk_at dksX3_mostAlike_4 23 rfl rfl)
abbrev cX3_reel : ByteArray := prog_17_method_92_code
def yX3_reel : MethodName := ⟨RX3, "reel", "(I)I"⟩
def dkwX3_reel_4 : List UInt8 := [27, 154, 0, 10, 28, 184, 1, 138, 167, 0, 8, 42, 28, 182, 1, 141, 172]
abbrev dktX3_reel_4 : List UInt8 := dkwX3_reel_4 ++ []
def dkwX3_reel_3 : List UInt8 := [154, 0, 18, 42, 29, 182, 1, 141, 42, 28, 182, 1, 141, 164, 0, 5, 29, 61, 132, 3, 1, 167, 255, 186]
abbrev dktX3_reel_3 : List UInt8 := dkwX3_reel_3 ++ dktX3_reel_4
def dkwX3_reel_2 : List UInt8 := [154, 0, 6, 167, 0, 39, 29, 184, 1, 138, 28, 184, 1, 138, 100, 54, 4, 21, 4, 157, 0, 21, 21, 4]
abbrev dktX3_reel_2 : List UInt8 := dkwX3_reel_2 ++ dktX3_reel_3
def dkwX3_reel_1 : List UInt8 := [42, 180, 0, 7, 17, 2, 59, 46, 120, 162, 0, 62, 42, 29, 182, 1, 135, 42, 180, 0, 47, 29, 46]
abbrev dktX3_reel_1 : List UInt8 := dkwX3_reel_1 ++ dktX3_reel_2
def dkwX3_reel_0 : List UInt8 := [27, 3, 4, 184, 0, 59, 154, 0, 5, 2, 172, 42, 180, 0, 47, 3, 3, 79, 3, 61, 4, 62, 29, 4]
abbrev dktX3_reel_0 : List UInt8 := dkwX3_reel_0 ++ dktX3_reel_1
theorem dksX3_reel_0 : cX3_reel.data.toList.drop 0 = dktX3_reel_0 := by decide +kernel
theorem dksX3_reel_1 : cX3_reel.data.toList.drop 24 = dktX3_reel_1 := dk_seg dksX3_reel_0 24 rfl rfl
theorem dksX3_reel_2 : cX3_reel.data.toList.drop 47 = dktX3_reel_2 := dk_seg dksX3_reel_1 23 rfl rfl
theorem dksX3_reel_3 : cX3_reel.data.toList.drop 71 = dktX3_reel_3 := dk_seg dksX3_reel_2 24 rfl rfl
theorem dksX3_reel_4 : cX3_reel.data.toList.drop 95 = dktX3_reel_4 := dk_seg dksX3_reel_3 24 rfl rfl
theorem dX3_reel_0 : decode cX3_reel 0 = .ok (.iload_n 1, 1) := dk_27 (dk_at dksX3_reel_0 0 rfl rfl)
theorem dX3_reel_1 : decode cX3_reel 1 = .ok (.iconst 0, 1) := dk_3 (dk_at dksX3_reel_0 1 rfl rfl)
theorem dX3_reel_2 : decode cX3_reel 2 = .ok (.iconst 1, 1) := dk_4 (dk_at dksX3_reel_0 2 rfl rfl)
theorem dX3_reel_3 : decode cX3_reel 3 = .ok (.invokestatic 59, 3) := dk_184 0 59 (dk_at dksX3_reel_0 3 rfl rfl)
theorem dX3_reel_6 : decode cX3_reel 6 = .ok (.ifCond .ne 5, 3) := dk_154 0 5 (dk_at dksX3_reel_0 6 rfl rfl)
theorem dX3_reel_9 : decode cX3_reel 9 = .ok (.iconst (-1), 1) := dk_2 (dk_at dksX3_reel_0 9 rfl rfl)
theorem dX3_reel_10 : decode cX3_reel 10 = .ok (.ireturn, 1) := dk_172 (dk_at dksX3_reel_0 10 rfl rfl)
theorem dX3_reel_11 : decode cX3_reel 11 = .ok (.aload_n 0, 1) := dk_42 (dk_at dksX3_reel_0 11 rfl rfl)
theorem dX3_reel_12 : decode cX3_reel 12 = .ok (.getfield 47, 3) := dk_180 0 47 (dk_at dksX3_reel_0 12 rfl rfl)
theorem dX3_reel_15 : decode cX3_reel 15 = .ok (.iconst 0, 1) := dk_3 (dk_at dksX3_reel_0 15 rfl rfl)
theorem dX3_reel_16 : decode cX3_reel 16 = .ok (.iconst 0, 1) := dk_3 (dk_at dksX3_reel_0 16 rfl rfl)
theorem dX3_reel_17 : decode cX3_reel 17 = .ok (.iastore, 1) := dk_79 (dk_at dksX3_reel_0 17 rfl rfl)
theorem dX3_reel_18 : decode cX3_reel 18 = .ok (.iconst 0, 1) := dk_3 (dk_at dksX3_reel_0 18 rfl rfl)
theorem dX3_reel_19 : decode cX3_reel 19 = .ok (.istore_n 2, 1) := dk_61 (dk_at dksX3_reel_0 19 rfl rfl)
theorem dX3_reel_20 : decode cX3_reel 20 = .ok (.iconst 1, 1) := dk_4 (dk_at dksX3_reel_0 20 rfl rfl)
theorem dX3_reel_21 : decode cX3_reel 21 = .ok (.istore_n 3, 1) := dk_62 (dk_at dksX3_reel_0 21 rfl rfl)
theorem dX3_reel_22 : decode cX3_reel 22 = .ok (.iload_n 3, 1) := dk_29 (dk_at dksX3_reel_0 22 rfl rfl)
theorem dX3_reel_23 : decode cX3_reel 23 = .ok (.iconst 1, 1) := dk_4 (dk_at dksX3_reel_0 23 rfl rfl)
theorem dX3_reel_24 : decode cX3_reel 24 = .ok (.aload_n 0, 1) := dk_42 (dk_at dksX3_reel_1 0 rfl rfl)
theorem dX3_reel_25 : decode cX3_reel 25 = .ok (.getfield 7, 3) := dk_180 0 7 (dk_at dksX3_reel_1 1 rfl rfl)
theorem dX3_reel_28 : decode cX3_reel 28 = .ok (.sipush 571, 3) := dk_17 2 59 (dk_at dksX3_reel_1 4 rfl rfl)
theorem dX3_reel_31 : decode cX3_reel 31 = .ok (.iaload, 1) := dk_46 (dk_at dksX3_reel_1 7 rfl rfl)
theorem dX3_reel_32 : decode cX3_reel 32 = .ok (.ishl, 1) := dk_120 (dk_at dksX3_reel_1 8 rfl rfl)
theorem dX3_reel_33 : decode cX3_reel 33 = .ok (.if_icmp .ge 62, 3) := dk_162 0 62 (dk_at dksX3_reel_1 9 rfl rfl)
theorem dX3_reel_36 : decode cX3_reel 36 = .ok (.aload_n 0, 1) := dk_42 (dk_at dksX3_reel_1 12 rfl rfl)
theorem dX3_reel_37 : decode cX3_reel 37 = .ok (.iload_n 3, 1) := dk_29 (dk_at dksX3_reel_1 13 rfl rfl)
theorem dX3_reel_38 : decode cX3_reel 38 = .ok (.invokevirtual 391, 3) := dk_182 1 135 (dk_at dksX3_reel_1 14 rfl rfl)
theorem dX3_reel_41 : decode cX3_reel 41 = .ok (.aload_n 0, 1) := dk_42 (dk_at dksX3_reel_1 17 rfl rfl)
theorem dX3_reel_42 : decode cX3_reel 42 = .ok (.getfield 47, 3) := dk_180 0 47 (dk_at dksX3_reel_1 18 rfl rfl)
theorem dX3_reel_45 : decode cX3_reel 45 = .ok (.iload_n 3, 1) := dk_29 (dk_at dksX3_reel_1 21 rfl rfl)
theorem dX3_reel_46 : decode cX3_reel 46 = .ok (.iaload, 1) := dk_46 (dk_at dksX3_reel_1 22 rfl rfl)
theorem dX3_reel_47 : decode cX3_reel 47 = .ok (.ifCond .ne 6, 3) := dk_154 0 6 (dk_at dksX3_reel_2 0 rfl rfl)
theorem dX3_reel_50 : decode cX3_reel 50 = .ok (.goto 39, 3) := dk_167 0 39 (dk_at dksX3_reel_2 3 rfl rfl)
theorem dX3_reel_53 : decode cX3_reel 53 = .ok (.iload_n 3, 1) := dk_29 (dk_at dksX3_reel_2 6 rfl rfl)
theorem dX3_reel_54 : decode cX3_reel 54 = .ok (.invokestatic 394, 3) := dk_184 1 138 (dk_at dksX3_reel_2 7 rfl rfl)
theorem dX3_reel_57 : decode cX3_reel 57 = .ok (.iload_n 2, 1) := dk_28 (dk_at dksX3_reel_2 10 rfl rfl)
theorem dX3_reel_58 : decode cX3_reel 58 = .ok (.invokestatic 394, 3) := dk_184 1 138 (dk_at dksX3_reel_2 11 rfl rfl)
theorem dX3_reel_61 : decode cX3_reel 61 = .ok (.isub, 1) := dk_100 (dk_at dksX3_reel_2 14 rfl rfl)
theorem dX3_reel_62 : decode cX3_reel 62 = .ok (.istore 4, 2) := dk_54 4 (dk_at dksX3_reel_2 15 rfl rfl)
theorem dX3_reel_64 : decode cX3_reel 64 = .ok (.iload 4, 2) := dk_21 4 (dk_at dksX3_reel_2 17 rfl rfl)
theorem dX3_reel_66 : decode cX3_reel 66 = .ok (.ifCond .gt 21, 3) := dk_157 0 21 (dk_at dksX3_reel_2 19 rfl rfl)
theorem dX3_reel_69 : decode cX3_reel 69 = .ok (.iload 4, 2) := dk_21 4 (dk_at dksX3_reel_2 22 rfl rfl)
theorem dX3_reel_71 : decode cX3_reel 71 = .ok (.ifCond .ne 18, 3) := dk_154 0 18 (dk_at dksX3_reel_3 0 rfl rfl)
theorem dX3_reel_74 : decode cX3_reel 74 = .ok (.aload_n 0, 1) := dk_42 (dk_at dksX3_reel_3 3 rfl rfl)
theorem dX3_reel_75 : decode cX3_reel 75 = .ok (.iload_n 3, 1) := dk_29 (dk_at dksX3_reel_3 4 rfl rfl)
theorem dX3_reel_76 : decode cX3_reel 76 = .ok (.invokevirtual 397, 3) := dk_182 1 141 (dk_at dksX3_reel_3 5 rfl rfl)
theorem dX3_reel_79 : decode cX3_reel 79 = .ok (.aload_n 0, 1) := dk_42 (dk_at dksX3_reel_3 8 rfl rfl)
theorem dX3_reel_80 : decode cX3_reel 80 = .ok (.iload_n 2, 1) := dk_28 (dk_at dksX3_reel_3 9 rfl rfl)
theorem dX3_reel_81 : decode cX3_reel 81 = .ok (.invokevirtual 397, 3) := dk_182 1 141 (dk_at dksX3_reel_3 10 rfl rfl)
theorem dX3_reel_84 : decode cX3_reel 84 = .ok (.if_icmp .le 5, 3) := dk_164 0 5 (dk_at dksX3_reel_3 13 rfl rfl)
theorem dX3_reel_87 : decode cX3_reel 87 = .ok (.iload_n 3, 1) := dk_29 (dk_at dksX3_reel_3 16 rfl rfl)
theorem dX3_reel_88 : decode cX3_reel 88 = .ok (.istore_n 2, 1) := dk_61 (dk_at dksX3_reel_3 17 rfl rfl)
theorem dX3_reel_89 : decode cX3_reel 89 = .ok (.iinc 3 1, 3) := dk_132 3 1 (dk_at dksX3_reel_3 18 rfl rfl)
theorem dX3_reel_92 : decode cX3_reel 92 = .ok (.goto (-70), 3) := dk_167 255 186 (dk_at dksX3_reel_3 21 rfl rfl)
theorem dX3_reel_95 : decode cX3_reel 95 = .ok (.iload_n 1, 1) := dk_27 (dk_at dksX3_reel_4 0 rfl rfl)
theorem dX3_reel_96 : decode cX3_reel 96 = .ok (.ifCond .ne 10, 3) := dk_154 0 10 (dk_at dksX3_reel_4 1 rfl rfl)
theorem dX3_reel_99 : decode cX3_reel 99 = .ok (.iload_n 2, 1) := dk_28 (dk_at dksX3_reel_4 4 rfl rfl)
theorem dX3_reel_100 : decode cX3_reel 100 = .ok (.invokestatic 394, 3) := dk_184 1 138 (dk_at dksX3_reel_4 5 rfl rfl)
theorem dX3_reel_103 : decode cX3_reel 103 = .ok (.goto 8, 3) := dk_167 0 8 (dk_at dksX3_reel_4 8 rfl rfl)
theorem dX3_reel_106 : decode cX3_reel 106 = .ok (.aload_n 0, 1) := dk_42 (dk_at dksX3_reel_4 11 rfl rfl)
theorem dX3_reel_107 : decode cX3_reel 107 = .ok (.iload_n 2, 1) := dk_28 (dk_at dksX3_reel_4 12 rfl rfl)
theorem dX3_reel_108 : decode cX3_reel 108 = .ok (.invokevirtual 397, 3) := dk_182 1 141 (dk_at dksX3_reel_4 13 rfl rfl)
theorem dX3_reel_111 : decode cX3_reel 111 = .ok (.ireturn, 1) := dk_172 (dk_at dksX3_reel_4 16 rfl rfl)
abbrev cX3_laysReel : ByteArray := prog_17_method_90_code
def yX3_laysReel : MethodName := ⟨RX3, "laysReel", "(I)V"⟩
def dkwX3_laysReel_6 : List UInt8 := [132, 2, 1, 167, 255, 119, 177]
abbrev dktX3_laysReel_6 : List UInt8 := dkwX3_laysReel_6 ++ []
def dkwX3_laysReel_5 : List UInt8 := [167, 255, 203, 42, 180, 0, 47, 27, 92, 46, 21, 4, 153, 0, 9, 4, 28, 120, 167, 0, 4, 3, 128, 79]
abbrev dktX3_laysReel_5 : List UInt8 := dkwX3_laysReel_5 ++ dktX3_laysReel_6
def dkwX3_laysReel_4 : List UInt8 := [160, 0, 17, 42, 28, 21, 5, 182, 1, 132, 153, 0, 7, 4, 167, 0, 4, 3, 54, 4, 132, 5, 1]
abbrev dktX3_laysReel_4 : List UInt8 := dkwX3_laysReel_4 ++ dktX3_laysReel_5
def dkwX3_laysReel_3 : List UInt8 := [17, 2, 59, 46, 162, 0, 46, 21, 4, 154, 0, 28, 42, 180, 0, 47, 29, 46, 21, 5, 122, 4, 126, 4]
abbrev dktX3_laysReel_3 : List UInt8 := dkwX3_laysReel_3 ++ dktX3_laysReel_4
def dkwX3_laysReel_2 : List UInt8 := [2, 130, 126, 62, 29, 154, 0, 7, 4, 167, 0, 4, 3, 54, 4, 3, 54, 5, 21, 5, 42, 180, 0, 7]
abbrev dktX3_laysReel_2 : List UInt8 := dkwX3_laysReel_2 ++ dktX3_laysReel_3
def dkwX3_laysReel_1 : List UInt8 := [4, 126, 153, 0, 117, 42, 180, 0, 7, 16, 19, 28, 96, 46, 154, 0, 6, 167, 0, 102, 27, 4, 28, 120]
abbrev dktX3_laysReel_1 : List UInt8 := dkwX3_laysReel_1 ++ dktX3_laysReel_2
def dkwX3_laysReel_0 : List UInt8 := [42, 180, 0, 47, 27, 3, 79, 3, 61, 28, 42, 180, 0, 7, 17, 2, 59, 46, 162, 0, 131, 27, 28, 122]
abbrev dktX3_laysReel_0 : List UInt8 := dkwX3_laysReel_0 ++ dktX3_laysReel_1
theorem dksX3_laysReel_0 : cX3_laysReel.data.toList.drop 0 = dktX3_laysReel_0 := by decide +kernel
theorem dksX3_laysReel_1 : cX3_laysReel.data.toList.drop 24 = dktX3_laysReel_1 := dk_seg dksX3_laysReel_0 24 rfl rfl
theorem dksX3_laysReel_2 : cX3_laysReel.data.toList.drop 48 = dktX3_laysReel_2 := dk_seg dksX3_laysReel_1 24 rfl rfl
theorem dksX3_laysReel_3 : cX3_laysReel.data.toList.drop 72 = dktX3_laysReel_3 := dk_seg dksX3_laysReel_2 24 rfl rfl
theorem dksX3_laysReel_4 : cX3_laysReel.data.toList.drop 96 = dktX3_laysReel_4 := dk_seg dksX3_laysReel_3 24 rfl rfl
theorem dksX3_laysReel_5 : cX3_laysReel.data.toList.drop 119 = dktX3_laysReel_5 := dk_seg dksX3_laysReel_4 23 rfl rfl
theorem dksX3_laysReel_6 : cX3_laysReel.data.toList.drop 143 = dktX3_laysReel_6 := dk_seg dksX3_laysReel_5 24 rfl rfl
theorem dX3_laysReel_0 : decode cX3_laysReel 0 = .ok (.aload_n 0, 1) := dk_42 (dk_at dksX3_laysReel_0 0 rfl rfl)
theorem dX3_laysReel_1 : decode cX3_laysReel 1 = .ok (.getfield 47, 3) := dk_180 0 47 (dk_at dksX3_laysReel_0 1 rfl rfl)
theorem dX3_laysReel_4 : decode cX3_laysReel 4 = .ok (.iload_n 1, 1) := dk_27 (dk_at dksX3_laysReel_0 4 rfl rfl)
theorem dX3_laysReel_5 : decode cX3_laysReel 5 = .ok (.iconst 0, 1) := dk_3 (dk_at dksX3_laysReel_0 5 rfl rfl)
theorem dX3_laysReel_6 : decode cX3_laysReel 6 = .ok (.iastore, 1) := dk_79 (dk_at dksX3_laysReel_0 6 rfl rfl)
theorem dX3_laysReel_7 : decode cX3_laysReel 7 = .ok (.iconst 0, 1) := dk_3 (dk_at dksX3_laysReel_0 7 rfl rfl)
theorem dX3_laysReel_8 : decode cX3_laysReel 8 = .ok (.istore_n 2, 1) := dk_61 (dk_at dksX3_laysReel_0 8 rfl rfl)
theorem dX3_laysReel_9 : decode cX3_laysReel 9 = .ok (.iload_n 2, 1) := dk_28 (dk_at dksX3_laysReel_0 9 rfl rfl)
theorem dX3_laysReel_10 : decode cX3_laysReel 10 = .ok (.aload_n 0, 1) := dk_42 (dk_at dksX3_laysReel_0 10 rfl rfl)
theorem dX3_laysReel_11 : decode cX3_laysReel 11 = .ok (.getfield 7, 3) := dk_180 0 7 (dk_at dksX3_laysReel_0 11 rfl rfl)
theorem dX3_laysReel_14 : decode cX3_laysReel 14 = .ok (.sipush 571, 3) := dk_17 2 59 (dk_at dksX3_laysReel_0 14 rfl rfl)
theorem dX3_laysReel_17 : decode cX3_laysReel 17 = .ok (.iaload, 1) := dk_46 (dk_at dksX3_laysReel_0 17 rfl rfl)
theorem dX3_laysReel_18 : decode cX3_laysReel 18 = .ok (.if_icmp .ge 131, 3) := dk_162 0 131 (dk_at dksX3_laysReel_0 18 rfl rfl)
theorem dX3_laysReel_21 : decode cX3_laysReel 21 = .ok (.iload_n 1, 1) := dk_27 (dk_at dksX3_laysReel_0 21 rfl rfl)
theorem dX3_laysReel_22 : decode cX3_laysReel 22 = .ok (.iload_n 2, 1) := dk_28 (dk_at dksX3_laysReel_0 22 rfl rfl)
theorem dX3_laysReel_23 : decode cX3_laysReel 23 = .ok (.ishr, 1) := dk_122 (dk_at dksX3_laysReel_0 23 rfl rfl)
theorem dX3_laysReel_24 : decode cX3_laysReel 24 = .ok (.iconst 1, 1) := dk_4 (dk_at dksX3_laysReel_1 0 rfl rfl)
theorem dX3_laysReel_25 : decode cX3_laysReel 25 = .ok (.iand, 1) := dk_126 (dk_at dksX3_laysReel_1 1 rfl rfl)
theorem dX3_laysReel_26 : decode cX3_laysReel 26 = .ok (.ifCond .eq 117, 3) := dk_153 0 117 (dk_at dksX3_laysReel_1 2 rfl rfl)
theorem dX3_laysReel_29 : decode cX3_laysReel 29 = .ok (.aload_n 0, 1) := dk_42 (dk_at dksX3_laysReel_1 5 rfl rfl)
theorem dX3_laysReel_30 : decode cX3_laysReel 30 = .ok (.getfield 7, 3) := dk_180 0 7 (dk_at dksX3_laysReel_1 6 rfl rfl)
theorem dX3_laysReel_33 : decode cX3_laysReel 33 = .ok (.bipush 19, 2) := dk_16 19 (dk_at dksX3_laysReel_1 9 rfl rfl)
theorem dX3_laysReel_35 : decode cX3_laysReel 35 = .ok (.iload_n 2, 1) := dk_28 (dk_at dksX3_laysReel_1 11 rfl rfl)
theorem dX3_laysReel_36 : decode cX3_laysReel 36 = .ok (.iadd, 1) := dk_96 (dk_at dksX3_laysReel_1 12 rfl rfl)
theorem dX3_laysReel_37 : decode cX3_laysReel 37 = .ok (.iaload, 1) := dk_46 (dk_at dksX3_laysReel_1 13 rfl rfl)
theorem dX3_laysReel_38 : decode cX3_laysReel 38 = .ok (.ifCond .ne 6, 3) := dk_154 0 6 (dk_at dksX3_laysReel_1 14 rfl rfl)
theorem dX3_laysReel_41 : decode cX3_laysReel 41 = .ok (.goto 102, 3) := dk_167 0 102 (dk_at dksX3_laysReel_1 17 rfl rfl)
theorem dX3_laysReel_44 : decode cX3_laysReel 44 = .ok (.iload_n 1, 1) := dk_27 (dk_at dksX3_laysReel_1 20 rfl rfl)
theorem dX3_laysReel_45 : decode cX3_laysReel 45 = .ok (.iconst 1, 1) := dk_4 (dk_at dksX3_laysReel_1 21 rfl rfl)
theorem dX3_laysReel_46 : decode cX3_laysReel 46 = .ok (.iload_n 2, 1) := dk_28 (dk_at dksX3_laysReel_1 22 rfl rfl)
theorem dX3_laysReel_47 : decode cX3_laysReel 47 = .ok (.ishl, 1) := dk_120 (dk_at dksX3_laysReel_1 23 rfl rfl)
theorem dX3_laysReel_48 : decode cX3_laysReel 48 = .ok (.iconst (-1), 1) := dk_2 (dk_at dksX3_laysReel_2 0 rfl rfl)
theorem dX3_laysReel_49 : decode cX3_laysReel 49 = .ok (.ixor, 1) := dk_130 (dk_at dksX3_laysReel_2 1 rfl rfl)
theorem dX3_laysReel_50 : decode cX3_laysReel 50 = .ok (.iand, 1) := dk_126 (dk_at dksX3_laysReel_2 2 rfl rfl)
theorem dX3_laysReel_51 : decode cX3_laysReel 51 = .ok (.istore_n 3, 1) := dk_62 (dk_at dksX3_laysReel_2 3 rfl rfl)
theorem dX3_laysReel_52 : decode cX3_laysReel 52 = .ok (.iload_n 3, 1) := dk_29 (dk_at dksX3_laysReel_2 4 rfl rfl)
theorem dX3_laysReel_53 : decode cX3_laysReel 53 = .ok (.ifCond .ne 7, 3) := dk_154 0 7 (dk_at dksX3_laysReel_2 5 rfl rfl)
theorem dX3_laysReel_56 : decode cX3_laysReel 56 = .ok (.iconst 1, 1) := dk_4 (dk_at dksX3_laysReel_2 8 rfl rfl)
theorem dX3_laysReel_57 : decode cX3_laysReel 57 = .ok (.goto 4, 3) := dk_167 0 4 (dk_at dksX3_laysReel_2 9 rfl rfl)
theorem dX3_laysReel_60 : decode cX3_laysReel 60 = .ok (.iconst 0, 1) := dk_3 (dk_at dksX3_laysReel_2 12 rfl rfl)
theorem dX3_laysReel_61 : decode cX3_laysReel 61 = .ok (.istore 4, 2) := dk_54 4 (dk_at dksX3_laysReel_2 13 rfl rfl)
theorem dX3_laysReel_63 : decode cX3_laysReel 63 = .ok (.iconst 0, 1) := dk_3 (dk_at dksX3_laysReel_2 15 rfl rfl)
theorem dX3_laysReel_64 : decode cX3_laysReel 64 = .ok (.istore 5, 2) := dk_54 5 (dk_at dksX3_laysReel_2 16 rfl rfl)
theorem dX3_laysReel_66 : decode cX3_laysReel 66 = .ok (.iload 5, 2) := dk_21 5 (dk_at dksX3_laysReel_2 18 rfl rfl)
theorem dX3_laysReel_68 : decode cX3_laysReel 68 = .ok (.aload_n 0, 1) := dk_42 (dk_at dksX3_laysReel_2 20 rfl rfl)
theorem dX3_laysReel_69 : decode cX3_laysReel 69 = .ok (.getfield 7, 3) := dk_180 0 7 (dk_at dksX3_laysReel_2 21 rfl rfl)
theorem dX3_laysReel_72 : decode cX3_laysReel 72 = .ok (.sipush 571, 3) := dk_17 2 59 (dk_at dksX3_laysReel_3 0 rfl rfl)
theorem dX3_laysReel_75 : decode cX3_laysReel 75 = .ok (.iaload, 1) := dk_46 (dk_at dksX3_laysReel_3 3 rfl rfl)
theorem dX3_laysReel_76 : decode cX3_laysReel 76 = .ok (.if_icmp .ge 46, 3) := dk_162 0 46 (dk_at dksX3_laysReel_3 4 rfl rfl)
theorem dX3_laysReel_79 : decode cX3_laysReel 79 = .ok (.iload 4, 2) := dk_21 4 (dk_at dksX3_laysReel_3 7 rfl rfl)
theorem dX3_laysReel_81 : decode cX3_laysReel 81 = .ok (.ifCond .ne 28, 3) := dk_154 0 28 (dk_at dksX3_laysReel_3 9 rfl rfl)
theorem dX3_laysReel_84 : decode cX3_laysReel 84 = .ok (.aload_n 0, 1) := dk_42 (dk_at dksX3_laysReel_3 12 rfl rfl)
theorem dX3_laysReel_85 : decode cX3_laysReel 85 = .ok (.getfield 47, 3) := dk_180 0 47 (dk_at dksX3_laysReel_3 13 rfl rfl)
theorem dX3_laysReel_88 : decode cX3_laysReel 88 = .ok (.iload_n 3, 1) := dk_29 (dk_at dksX3_laysReel_3 16 rfl rfl)
theorem dX3_laysReel_89 : decode cX3_laysReel 89 = .ok (.iaload, 1) := dk_46 (dk_at dksX3_laysReel_3 17 rfl rfl)
theorem dX3_laysReel_90 : decode cX3_laysReel 90 = .ok (.iload 5, 2) := dk_21 5 (dk_at dksX3_laysReel_3 18 rfl rfl)
theorem dX3_laysReel_92 : decode cX3_laysReel 92 = .ok (.ishr, 1) := dk_122 (dk_at dksX3_laysReel_3 20 rfl rfl)
theorem dX3_laysReel_93 : decode cX3_laysReel 93 = .ok (.iconst 1, 1) := dk_4 (dk_at dksX3_laysReel_3 21 rfl rfl)
theorem dX3_laysReel_94 : decode cX3_laysReel 94 = .ok (.iand, 1) := dk_126 (dk_at dksX3_laysReel_3 22 rfl rfl)
theorem dX3_laysReel_95 : decode cX3_laysReel 95 = .ok (.iconst 1, 1) := dk_4 (dk_at dksX3_laysReel_3 23 rfl rfl)
theorem dX3_laysReel_96 : decode cX3_laysReel 96 = .ok (.if_icmp .ne 17, 3) := dk_160 0 17 (dk_at dksX3_laysReel_4 0 rfl rfl)
theorem dX3_laysReel_99 : decode cX3_laysReel 99 = .ok (.aload_n 0, 1) := dk_42 (dk_at dksX3_laysReel_4 3 rfl rfl)
theorem dX3_laysReel_100 : decode cX3_laysReel 100 = .ok (.iload_n 2, 1) := dk_28 (dk_at dksX3_laysReel_4 4 rfl rfl)
theorem dX3_laysReel_101 : decode cX3_laysReel 101 = .ok (.iload 5, 2) := dk_21 5 (dk_at dksX3_laysReel_4 5 rfl rfl)
theorem dX3_laysReel_103 : decode cX3_laysReel 103 = .ok (.invokevirtual 388, 3) := dk_182 1 132 (dk_at dksX3_laysReel_4 7 rfl rfl)
theorem dX3_laysReel_106 : decode cX3_laysReel 106 = .ok (.ifCond .eq 7, 3) := dk_153 0 7 (dk_at dksX3_laysReel_4 10 rfl rfl)
theorem dX3_laysReel_109 : decode cX3_laysReel 109 = .ok (.iconst 1, 1) := dk_4 (dk_at dksX3_laysReel_4 13 rfl rfl)
theorem dX3_laysReel_110 : decode cX3_laysReel 110 = .ok (.goto 4, 3) := dk_167 0 4 (dk_at dksX3_laysReel_4 14 rfl rfl)
theorem dX3_laysReel_113 : decode cX3_laysReel 113 = .ok (.iconst 0, 1) := dk_3 (dk_at dksX3_laysReel_4 17 rfl rfl)
theorem dX3_laysReel_114 : decode cX3_laysReel 114 = .ok (.istore 4, 2) := dk_54 4 (dk_at dksX3_laysReel_4 18 rfl rfl)
theorem dX3_laysReel_116 : decode cX3_laysReel 116 = .ok (.iinc 5 1, 3) := dk_132 5 1 (dk_at dksX3_laysReel_4 20 rfl rfl)
theorem dX3_laysReel_119 : decode cX3_laysReel 119 = .ok (.goto (-53), 3) := dk_167 255 203 (dk_at dksX3_laysReel_5 0 rfl rfl)
theorem dX3_laysReel_122 : decode cX3_laysReel 122 = .ok (.aload_n 0, 1) := dk_42 (dk_at dksX3_laysReel_5 3 rfl rfl)
theorem dX3_laysReel_123 : decode cX3_laysReel 123 = .ok (.getfield 47, 3) := dk_180 0 47 (dk_at dksX3_laysReel_5 4 rfl rfl)
theorem dX3_laysReel_126 : decode cX3_laysReel 126 = .ok (.iload_n 1, 1) := dk_27 (dk_at dksX3_laysReel_5 7 rfl rfl)
theorem dX3_laysReel_127 : decode cX3_laysReel 127 = .ok (.dup2, 1) := dk_92 (dk_at dksX3_laysReel_5 8 rfl rfl)
theorem dX3_laysReel_128 : decode cX3_laysReel 128 = .ok (.iaload, 1) := dk_46 (dk_at dksX3_laysReel_5 9 rfl rfl)
theorem dX3_laysReel_129 : decode cX3_laysReel 129 = .ok (.iload 4, 2) := dk_21 4 (dk_at dksX3_laysReel_5 10 rfl rfl)
theorem dX3_laysReel_131 : decode cX3_laysReel 131 = .ok (.ifCond .eq 9, 3) := dk_153 0 9 (dk_at dksX3_laysReel_5 12 rfl rfl)
theorem dX3_laysReel_134 : decode cX3_laysReel 134 = .ok (.iconst 1, 1) := dk_4 (dk_at dksX3_laysReel_5 15 rfl rfl)
theorem dX3_laysReel_135 : decode cX3_laysReel 135 = .ok (.iload_n 2, 1) := dk_28 (dk_at dksX3_laysReel_5 16 rfl rfl)
theorem dX3_laysReel_136 : decode cX3_laysReel 136 = .ok (.ishl, 1) := dk_120 (dk_at dksX3_laysReel_5 17 rfl rfl)
theorem dX3_laysReel_137 : decode cX3_laysReel 137 = .ok (.goto 4, 3) := dk_167 0 4 (dk_at dksX3_laysReel_5 18 rfl rfl)
theorem dX3_laysReel_140 : decode cX3_laysReel 140 = .ok (.iconst 0, 1) := dk_3 (dk_at dksX3_laysReel_5 21 rfl rfl)
theorem dX3_laysReel_141 : decode cX3_laysReel 141 = .ok (.ior, 1) := dk_128 (dk_at dksX3_laysReel_5 22 rfl rfl)
theorem dX3_laysReel_142 : decode cX3_laysReel 142 = .ok (.iastore, 1) := dk_79 (dk_at dksX3_laysReel_5 23 rfl rfl)
theorem dX3_laysReel_143 : decode cX3_laysReel 143 = .ok (.iinc 2 1, 3) := dk_132 2 1 (dk_at dksX3_laysReel_6 0 rfl rfl)
theorem dX3_laysReel_146 : decode cX3_laysReel 146 = .ok (.goto (-137), 3) := dk_167 255 119 (dk_at dksX3_laysReel_6 3 rfl rfl)
theorem dX3_laysReel_149 : decode cX3_laysReel 149 = .ok (.return_, 1) := dk_177 (dk_at dksX3_laysReel_6 6 rfl rfl)
abbrev cX3_follows : ByteArray := prog_17_method_89_code
def yX3_follows : MethodName := ⟨RX3, "follows", "(II)Z"⟩
def dkwX3_follows_0 : List UInt8 := [42, 27, 3, 182, 1, 110, 42, 28, 182, 1, 129, 160, 0, 7, 4, 167, 0, 4, 3, 172]
abbrev dktX3_follows_0 : List UInt8 := dkwX3_follows_0 ++ []
theorem dksX3_follows_0 : cX3_follows.data.toList.drop 0 = dktX3_follows_0 := by decide +kernel
theorem dX3_follows_0 : decode cX3_follows 0 = .ok (.aload_n 0, 1) := dk_42 (dk_at dksX3_follows_0 0 rfl rfl)
theorem dX3_follows_1 : decode cX3_follows 1 = .ok (.iload_n 1, 1) := dk_27 (dk_at dksX3_follows_0 1 rfl rfl)
theorem dX3_follows_2 : decode cX3_follows 2 = .ok (.iconst 0, 1) := dk_3 (dk_at dksX3_follows_0 2 rfl rfl)
theorem dX3_follows_3 : decode cX3_follows 3 = .ok (.invokevirtual 366, 3) := dk_182 1 110 (dk_at dksX3_follows_0 3 rfl rfl)
theorem dX3_follows_6 : decode cX3_follows 6 = .ok (.aload_n 0, 1) := dk_42 (dk_at dksX3_follows_0 6 rfl rfl)
theorem dX3_follows_7 : decode cX3_follows 7 = .ok (.iload_n 2, 1) := dk_28 (dk_at dksX3_follows_0 7 rfl rfl)
theorem dX3_follows_8 : decode cX3_follows 8 = .ok (.invokevirtual 385, 3) := dk_182 1 129 (dk_at dksX3_follows_0 8 rfl rfl)
theorem dX3_follows_11 : decode cX3_follows 11 = .ok (.if_icmp .ne 7, 3) := dk_160 0 7 (dk_at dksX3_follows_0 11 rfl rfl)
theorem dX3_follows_14 : decode cX3_follows 14 = .ok (.iconst 1, 1) := dk_4 (dk_at dksX3_follows_0 14 rfl rfl)
theorem dX3_follows_15 : decode cX3_follows 15 = .ok (.goto 4, 3) := dk_167 0 4 (dk_at dksX3_follows_0 15 rfl rfl)
theorem dX3_follows_18 : decode cX3_follows 18 = .ok (.iconst 0, 1) := dk_3 (dk_at dksX3_follows_0 18 rfl rfl)
theorem dX3_follows_19 : decode cX3_follows 19 = .ok (.ireturn, 1) := dk_172 (dk_at dksX3_follows_0 19 rfl rfl)
abbrev cX3_lastMark : ByteArray := prog_17_method_88_code
def yX3_lastMark : MethodName := ⟨RX3, "lastMark", "(I)I"⟩
def dkwX3_lastMark_0 : List UInt8 := [42, 27, 42, 180, 0, 7, 16, 19, 27, 96, 46, 4, 100, 182, 1, 110, 172]
abbrev dktX3_lastMark_0 : List UInt8 := dkwX3_lastMark_0 ++ []
theorem dksX3_lastMark_0 : cX3_lastMark.data.toList.drop 0 = dktX3_lastMark_0 := by decide +kernel
theorem dX3_lastMark_0 : decode cX3_lastMark 0 = .ok (.aload_n 0, 1) := dk_42 (dk_at dksX3_lastMark_0 0 rfl rfl)
theorem dX3_lastMark_1 : decode cX3_lastMark 1 = .ok (.iload_n 1, 1) := dk_27 (dk_at dksX3_lastMark_0 1 rfl rfl)
theorem dX3_lastMark_2 : decode cX3_lastMark 2 = .ok (.aload_n 0, 1) := dk_42 (dk_at dksX3_lastMark_0 2 rfl rfl)
theorem dX3_lastMark_3 : decode cX3_lastMark 3 = .ok (.getfield 7, 3) := dk_180 0 7 (dk_at dksX3_lastMark_0 3 rfl rfl)
theorem dX3_lastMark_6 : decode cX3_lastMark 6 = .ok (.bipush 19, 2) := dk_16 19 (dk_at dksX3_lastMark_0 6 rfl rfl)
theorem dX3_lastMark_8 : decode cX3_lastMark 8 = .ok (.iload_n 1, 1) := dk_27 (dk_at dksX3_lastMark_0 8 rfl rfl)
theorem dX3_lastMark_9 : decode cX3_lastMark 9 = .ok (.iadd, 1) := dk_96 (dk_at dksX3_lastMark_0 9 rfl rfl)
theorem dX3_lastMark_10 : decode cX3_lastMark 10 = .ok (.iaload, 1) := dk_46 (dk_at dksX3_lastMark_0 10 rfl rfl)
theorem dX3_lastMark_11 : decode cX3_lastMark 11 = .ok (.iconst 1, 1) := dk_4 (dk_at dksX3_lastMark_0 11 rfl rfl)
theorem dX3_lastMark_12 : decode cX3_lastMark 12 = .ok (.isub, 1) := dk_100 (dk_at dksX3_lastMark_0 12 rfl rfl)
theorem dX3_lastMark_13 : decode cX3_lastMark 13 = .ok (.invokevirtual 366, 3) := dk_182 1 110 (dk_at dksX3_lastMark_0 13 rfl rfl)
theorem dX3_lastMark_16 : decode cX3_lastMark 16 = .ok (.ireturn, 1) := dk_172 (dk_at dksX3_lastMark_0 16 rfl rfl)
abbrev cX3_count : ByteArray := prog_17_method_11_code
def yX3_count : MethodName := ⟨RX3, "count", "(I)I"⟩
def dkwX3_count_1 : List UInt8 := [27, 172]
abbrev dktX3_count_1 : List UInt8 := dkwX3_count_1 ++ []
def dkwX3_count_0 : List UInt8 := [3, 60, 3, 61, 28, 16, 16, 162, 0, 17, 27, 26, 28, 122, 4, 126, 96, 60, 132, 2, 1, 167, 255, 239]
abbrev dktX3_count_0 : List UInt8 := dkwX3_count_0 ++ dktX3_count_1
theorem dksX3_count_0 : cX3_count.data.toList.drop 0 = dktX3_count_0 := by decide +kernel
theorem dksX3_count_1 : cX3_count.data.toList.drop 24 = dktX3_count_1 := dk_seg dksX3_count_0 24 rfl rfl
theorem dX3_count_0 : decode cX3_count 0 = .ok (.iconst 0, 1) := dk_3 (dk_at dksX3_count_0 0 rfl rfl)
theorem dX3_count_1 : decode cX3_count 1 = .ok (.istore_n 1, 1) := dk_60 (dk_at dksX3_count_0 1 rfl rfl)
theorem dX3_count_2 : decode cX3_count 2 = .ok (.iconst 0, 1) := dk_3 (dk_at dksX3_count_0 2 rfl rfl)
theorem dX3_count_3 : decode cX3_count 3 = .ok (.istore_n 2, 1) := dk_61 (dk_at dksX3_count_0 3 rfl rfl)
theorem dX3_count_4 : decode cX3_count 4 = .ok (.iload_n 2, 1) := dk_28 (dk_at dksX3_count_0 4 rfl rfl)
theorem dX3_count_5 : decode cX3_count 5 = .ok (.bipush 16, 2) := dk_16 16 (dk_at dksX3_count_0 5 rfl rfl)
theorem dX3_count_7 : decode cX3_count 7 = .ok (.if_icmp .ge 17, 3) := dk_162 0 17 (dk_at dksX3_count_0 7 rfl rfl)
theorem dX3_count_10 : decode cX3_count 10 = .ok (.iload_n 1, 1) := dk_27 (dk_at dksX3_count_0 10 rfl rfl)
theorem dX3_count_11 : decode cX3_count 11 = .ok (.iload_n 0, 1) := dk_26 (dk_at dksX3_count_0 11 rfl rfl)
theorem dX3_count_12 : decode cX3_count 12 = .ok (.iload_n 2, 1) := dk_28 (dk_at dksX3_count_0 12 rfl rfl)
theorem dX3_count_13 : decode cX3_count 13 = .ok (.ishr, 1) := dk_122 (dk_at dksX3_count_0 13 rfl rfl)
theorem dX3_count_14 : decode cX3_count 14 = .ok (.iconst 1, 1) := dk_4 (dk_at dksX3_count_0 14 rfl rfl)
theorem dX3_count_15 : decode cX3_count 15 = .ok (.iand, 1) := dk_126 (dk_at dksX3_count_0 15 rfl rfl)
theorem dX3_count_16 : decode cX3_count 16 = .ok (.iadd, 1) := dk_96 (dk_at dksX3_count_0 16 rfl rfl)
theorem dX3_count_17 : decode cX3_count 17 = .ok (.istore_n 1, 1) := dk_60 (dk_at dksX3_count_0 17 rfl rfl)
theorem dX3_count_18 : decode cX3_count 18 = .ok (.iinc 2 1, 3) := dk_132 2 1 (dk_at dksX3_count_0 18 rfl rfl)
theorem dX3_count_21 : decode cX3_count 21 = .ok (.goto (-17), 3) := dk_167 255 239 (dk_at dksX3_count_0 21 rfl rfl)
theorem dX3_count_24 : decode cX3_count 24 = .ok (.iload_n 1, 1) := dk_27 (dk_at dksX3_count_1 0 rfl rfl)
theorem dX3_count_25 : decode cX3_count 25 = .ok (.ireturn, 1) := dk_172 (dk_at dksX3_count_1 1 rfl rfl)
abbrev cX3_strengthOf : ByteArray := prog_17_method_91_code
def yX3_strengthOf : MethodName := ⟨RX3, "strengthOf", "(I)I"⟩
def dkwX3_strengthOf_2 : List UInt8 := [28, 172]
abbrev dktX3_strengthOf_2 : List UInt8 := dkwX3_strengthOf_2 ++ []
def dkwX3_strengthOf_1 : List UInt8 := [160, 0, 15, 42, 180, 0, 7, 16, 31, 29, 96, 46, 167, 0, 4, 3, 96, 61, 132, 3, 1, 167, 255, 216]
abbrev dktX3_strengthOf_1 : List UInt8 := dkwX3_strengthOf_1 ++ dktX3_strengthOf_2
def dkwX3_strengthOf_0 : List UInt8 := [3, 61, 3, 62, 29, 42, 180, 0, 7, 17, 2, 59, 46, 162, 0, 34, 28, 27, 29, 122, 4, 126, 4]
abbrev dktX3_strengthOf_0 : List UInt8 := dkwX3_strengthOf_0 ++ dktX3_strengthOf_1
theorem dksX3_strengthOf_0 : cX3_strengthOf.data.toList.drop 0 = dktX3_strengthOf_0 := by decide +kernel
theorem dksX3_strengthOf_1 : cX3_strengthOf.data.toList.drop 23 = dktX3_strengthOf_1 := dk_seg dksX3_strengthOf_0 23 rfl rfl
theorem dksX3_strengthOf_2 : cX3_strengthOf.data.toList.drop 47 = dktX3_strengthOf_2 := dk_seg dksX3_strengthOf_1 24 rfl rfl
theorem dX3_strengthOf_0 : decode cX3_strengthOf 0 = .ok (.iconst 0, 1) := dk_3 (dk_at dksX3_strengthOf_0 0 rfl rfl)
theorem dX3_strengthOf_1 : decode cX3_strengthOf 1 = .ok (.istore_n 2, 1) := dk_61 (dk_at dksX3_strengthOf_0 1 rfl rfl)
theorem dX3_strengthOf_2 : decode cX3_strengthOf 2 = .ok (.iconst 0, 1) := dk_3 (dk_at dksX3_strengthOf_0 2 rfl rfl)
theorem dX3_strengthOf_3 : decode cX3_strengthOf 3 = .ok (.istore_n 3, 1) := dk_62 (dk_at dksX3_strengthOf_0 3 rfl rfl)
theorem dX3_strengthOf_4 : decode cX3_strengthOf 4 = .ok (.iload_n 3, 1) := dk_29 (dk_at dksX3_strengthOf_0 4 rfl rfl)
theorem dX3_strengthOf_5 : decode cX3_strengthOf 5 = .ok (.aload_n 0, 1) := dk_42 (dk_at dksX3_strengthOf_0 5 rfl rfl)
theorem dX3_strengthOf_6 : decode cX3_strengthOf 6 = .ok (.getfield 7, 3) := dk_180 0 7 (dk_at dksX3_strengthOf_0 6 rfl rfl)
theorem dX3_strengthOf_9 : decode cX3_strengthOf 9 = .ok (.sipush 571, 3) := dk_17 2 59 (dk_at dksX3_strengthOf_0 9 rfl rfl)
theorem dX3_strengthOf_12 : decode cX3_strengthOf 12 = .ok (.iaload, 1) := dk_46 (dk_at dksX3_strengthOf_0 12 rfl rfl)
theorem dX3_strengthOf_13 : decode cX3_strengthOf 13 = .ok (.if_icmp .ge 34, 3) := dk_162 0 34 (dk_at dksX3_strengthOf_0 13 rfl rfl)
theorem dX3_strengthOf_16 : decode cX3_strengthOf 16 = .ok (.iload_n 2, 1) := dk_28 (dk_at dksX3_strengthOf_0 16 rfl rfl)
theorem dX3_strengthOf_17 : decode cX3_strengthOf 17 = .ok (.iload_n 1, 1) := dk_27 (dk_at dksX3_strengthOf_0 17 rfl rfl)
theorem dX3_strengthOf_18 : decode cX3_strengthOf 18 = .ok (.iload_n 3, 1) := dk_29 (dk_at dksX3_strengthOf_0 18 rfl rfl)
theorem dX3_strengthOf_19 : decode cX3_strengthOf 19 = .ok (.ishr, 1) := dk_122 (dk_at dksX3_strengthOf_0 19 rfl rfl)
theorem dX3_strengthOf_20 : decode cX3_strengthOf 20 = .ok (.iconst 1, 1) := dk_4 (dk_at dksX3_strengthOf_0 20 rfl rfl)
theorem dX3_strengthOf_21 : decode cX3_strengthOf 21 = .ok (.iand, 1) := dk_126 (dk_at dksX3_strengthOf_0 21 rfl rfl)
theorem dX3_strengthOf_22 : decode cX3_strengthOf 22 = .ok (.iconst 1, 1) := dk_4 (dk_at dksX3_strengthOf_0 22 rfl rfl)
theorem dX3_strengthOf_23 : decode cX3_strengthOf 23 = .ok (.if_icmp .ne 15, 3) := dk_160 0 15 (dk_at dksX3_strengthOf_1 0 rfl rfl)
theorem dX3_strengthOf_26 : decode cX3_strengthOf 26 = .ok (.aload_n 0, 1) := dk_42 (dk_at dksX3_strengthOf_1 3 rfl rfl)
theorem dX3_strengthOf_27 : decode cX3_strengthOf 27 = .ok (.getfield 7, 3) := dk_180 0 7 (dk_at dksX3_strengthOf_1 4 rfl rfl)
theorem dX3_strengthOf_30 : decode cX3_strengthOf 30 = .ok (.bipush 31, 2) := dk_16 31 (dk_at dksX3_strengthOf_1 7 rfl rfl)
theorem dX3_strengthOf_32 : decode cX3_strengthOf 32 = .ok (.iload_n 3, 1) := dk_29 (dk_at dksX3_strengthOf_1 9 rfl rfl)
theorem dX3_strengthOf_33 : decode cX3_strengthOf 33 = .ok (.iadd, 1) := dk_96 (dk_at dksX3_strengthOf_1 10 rfl rfl)
theorem dX3_strengthOf_34 : decode cX3_strengthOf 34 = .ok (.iaload, 1) := dk_46 (dk_at dksX3_strengthOf_1 11 rfl rfl)
theorem dX3_strengthOf_35 : decode cX3_strengthOf 35 = .ok (.goto 4, 3) := dk_167 0 4 (dk_at dksX3_strengthOf_1 12 rfl rfl)
theorem dX3_strengthOf_38 : decode cX3_strengthOf 38 = .ok (.iconst 0, 1) := dk_3 (dk_at dksX3_strengthOf_1 15 rfl rfl)
theorem dX3_strengthOf_39 : decode cX3_strengthOf 39 = .ok (.iadd, 1) := dk_96 (dk_at dksX3_strengthOf_1 16 rfl rfl)
theorem dX3_strengthOf_40 : decode cX3_strengthOf 40 = .ok (.istore_n 2, 1) := dk_61 (dk_at dksX3_strengthOf_1 17 rfl rfl)
theorem dX3_strengthOf_41 : decode cX3_strengthOf 41 = .ok (.iinc 3 1, 3) := dk_132 3 1 (dk_at dksX3_strengthOf_1 18 rfl rfl)
theorem dX3_strengthOf_44 : decode cX3_strengthOf 44 = .ok (.goto (-40), 3) := dk_167 255 216 (dk_at dksX3_strengthOf_1 21 rfl rfl)
theorem dX3_strengthOf_47 : decode cX3_strengthOf 47 = .ok (.iload_n 2, 1) := dk_28 (dk_at dksX3_strengthOf_2 0 rfl rfl)
theorem dX3_strengthOf_48 : decode cX3_strengthOf 48 = .ok (.ireturn, 1) := dk_172 (dk_at dksX3_strengthOf_2 1 rfl rfl)
abbrev cX3_unlike : ByteArray := prog_17_method_93_code
def yX3_unlike : MethodName := ⟨RX3, "unlike", "(II)I"⟩
def dkwX3_unlike_8 : List UInt8 := [167, 255, 110, 132, 3, 255, 167, 255, 89, 42, 180, 0, 50, 3, 46, 172]
abbrev dktX3_unlike_8 : List UInt8 := dkwX3_unlike_8 ++ []
def dkwX3_unlike_7 : List UInt8 := [184, 0, 235, 54, 7, 42, 180, 0, 50, 16, 41, 29, 104, 21, 4, 96, 21, 7, 79, 132, 4, 255]
abbrev dktX3_unlike_7 : List UInt8 := dkwX3_unlike_7 ++ dktX3_unlike_8
def dkwX3_unlike_6 : List UInt8 := [96, 16, 41, 96, 46, 42, 180, 0, 50, 16, 41, 29, 104, 21, 4, 96, 4, 96, 46, 184, 0, 235, 96]
abbrev dktX3_unlike_6 : List UInt8 := dkwX3_unlike_6 ++ dktX3_unlike_7
def dkwX3_unlike_5 : List UInt8 := [160, 0, 7, 3, 167, 0, 4, 4, 96, 54, 8, 21, 8, 4, 42, 180, 0, 50, 16, 41, 29, 104, 21, 4]
abbrev dktX3_unlike_5 : List UInt8 := dkwX3_unlike_5 ++ dktX3_unlike_6
def dkwX3_unlike_4 : List UInt8 := [16, 41, 29, 104, 21, 4, 96, 16, 42, 96, 46, 42, 27, 29, 182, 1, 110, 42, 28, 21, 4, 182, 1, 110]
abbrev dktX3_unlike_4 : List UInt8 := dkwX3_unlike_4 ++ dktX3_unlike_5
def dkwX3_unlike_3 : List UInt8 := [100, 54, 6, 21, 5, 21, 6, 96, 54, 7, 21, 5, 158, 0, 88, 21, 6, 158, 0, 83, 42, 180, 0, 50]
abbrev dktX3_unlike_3 : List UInt8 := dkwX3_unlike_3 ++ dktX3_unlike_4
def dkwX3_unlike_2 : List UInt8 := [42, 180, 0, 7, 16, 19, 27, 96, 46, 29, 100, 54, 5, 42, 180, 0, 7, 16, 19, 28, 96, 46, 21, 4]
abbrev dktX3_unlike_2 : List UInt8 := dkwX3_unlike_2 ++ dktX3_unlike_3
def dkwX3_unlike_1 : List UInt8 := [27, 96, 46, 62, 29, 155, 0, 169, 42, 180, 0, 7, 16, 19, 28, 96, 46, 54, 4, 21, 4, 155, 0, 147]
abbrev dktX3_unlike_1 : List UInt8 := dkwX3_unlike_1 ++ dktX3_unlike_2
def dkwX3_unlike_0 : List UInt8 := [42, 27, 182, 0, 71, 153, 0, 11, 42, 28, 182, 0, 71, 154, 0, 5, 2, 172, 42, 180, 0, 7, 16, 19]
abbrev dktX3_unlike_0 : List UInt8 := dkwX3_unlike_0 ++ dktX3_unlike_1
theorem dksX3_unlike_0 : cX3_unlike.data.toList.drop 0 = dktX3_unlike_0 := by decide +kernel
theorem dksX3_unlike_1 : cX3_unlike.data.toList.drop 24 = dktX3_unlike_1 := dk_seg dksX3_unlike_0 24 rfl rfl
theorem dksX3_unlike_2 : cX3_unlike.data.toList.drop 48 = dktX3_unlike_2 := dk_seg dksX3_unlike_1 24 rfl rfl
theorem dksX3_unlike_3 : cX3_unlike.data.toList.drop 72 = dktX3_unlike_3 := dk_seg dksX3_unlike_2 24 rfl rfl
theorem dksX3_unlike_4 : cX3_unlike.data.toList.drop 96 = dktX3_unlike_4 := dk_seg dksX3_unlike_3 24 rfl rfl
theorem dksX3_unlike_5 : cX3_unlike.data.toList.drop 120 = dktX3_unlike_5 := dk_seg dksX3_unlike_4 24 rfl rfl
theorem dksX3_unlike_6 : cX3_unlike.data.toList.drop 144 = dktX3_unlike_6 := dk_seg dksX3_unlike_5 24 rfl rfl
theorem dksX3_unlike_7 : cX3_unlike.data.toList.drop 167 = dktX3_unlike_7 := dk_seg dksX3_unlike_6 23 rfl rfl
theorem dksX3_unlike_8 : cX3_unlike.data.toList.drop 189 = dktX3_unlike_8 := dk_seg dksX3_unlike_7 22 rfl rfl
theorem dX3_unlike_0 : decode cX3_unlike 0 = .ok (.aload_n 0, 1) := dk_42 (dk_at dksX3_unlike_0 0 rfl rfl)
theorem dX3_unlike_1 : decode cX3_unlike 1 = .ok (.iload_n 1, 1) := dk_27 (dk_at dksX3_unlike_0 1 rfl rfl)
theorem dX3_unlike_2 : decode cX3_unlike 2 = .ok (.invokevirtual 71, 3) := dk_182 0 71 (dk_at dksX3_unlike_0 2 rfl rfl)
theorem dX3_unlike_5 : decode cX3_unlike 5 = .ok (.ifCond .eq 11, 3) := dk_153 0 11 (dk_at dksX3_unlike_0 5 rfl rfl)
theorem dX3_unlike_8 : decode cX3_unlike 8 = .ok (.aload_n 0, 1) := dk_42 (dk_at dksX3_unlike_0 8 rfl rfl)
theorem dX3_unlike_9 : decode cX3_unlike 9 = .ok (.iload_n 2, 1) := dk_28 (dk_at dksX3_unlike_0 9 rfl rfl)
theorem dX3_unlike_10 : decode cX3_unlike 10 = .ok (.invokevirtual 71, 3) := dk_182 0 71 (dk_at dksX3_unlike_0 10 rfl rfl)
theorem dX3_unlike_13 : decode cX3_unlike 13 = .ok (.ifCond .ne 5, 3) := dk_154 0 5 (dk_at dksX3_unlike_0 13 rfl rfl)
theorem dX3_unlike_16 : decode cX3_unlike 16 = .ok (.iconst (-1), 1) := dk_2 (dk_at dksX3_unlike_0 16 rfl rfl)
theorem dX3_unlike_17 : decode cX3_unlike 17 = .ok (.ireturn, 1) := dk_172 (dk_at dksX3_unlike_0 17 rfl rfl)
theorem dX3_unlike_18 : decode cX3_unlike 18 = .ok (.aload_n 0, 1) := dk_42 (dk_at dksX3_unlike_0 18 rfl rfl)
theorem dX3_unlike_19 : decode cX3_unlike 19 = .ok (.getfield 7, 3) := dk_180 0 7 (dk_at dksX3_unlike_0 19 rfl rfl)
theorem dX3_unlike_22 : decode cX3_unlike 22 = .ok (.bipush 19, 2) := dk_16 19 (dk_at dksX3_unlike_0 22 rfl rfl)
theorem dX3_unlike_24 : decode cX3_unlike 24 = .ok (.iload_n 1, 1) := dk_27 (dk_at dksX3_unlike_1 0 rfl rfl)
theorem dX3_unlike_25 : decode cX3_unlike 25 = .ok (.iadd, 1) := dk_96 (dk_at dksX3_unlike_1 1 rfl rfl)
theorem dX3_unlike_26 : decode cX3_unlike 26 = .ok (.iaload, 1) := dk_46 (dk_at dksX3_unlike_1 2 rfl rfl)
theorem dX3_unlike_27 : decode cX3_unlike 27 = .ok (.istore_n 3, 1) := dk_62 (dk_at dksX3_unlike_1 3 rfl rfl)
theorem dX3_unlike_28 : decode cX3_unlike 28 = .ok (.iload_n 3, 1) := dk_29 (dk_at dksX3_unlike_1 4 rfl rfl)
theorem dX3_unlike_29 : decode cX3_unlike 29 = .ok (.ifCond .lt 169, 3) := dk_155 0 169 (dk_at dksX3_unlike_1 5 rfl rfl)
theorem dX3_unlike_32 : decode cX3_unlike 32 = .ok (.aload_n 0, 1) := dk_42 (dk_at dksX3_unlike_1 8 rfl rfl)
theorem dX3_unlike_33 : decode cX3_unlike 33 = .ok (.getfield 7, 3) := dk_180 0 7 (dk_at dksX3_unlike_1 9 rfl rfl)
theorem dX3_unlike_36 : decode cX3_unlike 36 = .ok (.bipush 19, 2) := dk_16 19 (dk_at dksX3_unlike_1 12 rfl rfl)
theorem dX3_unlike_38 : decode cX3_unlike 38 = .ok (.iload_n 2, 1) := dk_28 (dk_at dksX3_unlike_1 14 rfl rfl)
theorem dX3_unlike_39 : decode cX3_unlike 39 = .ok (.iadd, 1) := dk_96 (dk_at dksX3_unlike_1 15 rfl rfl)
theorem dX3_unlike_40 : decode cX3_unlike 40 = .ok (.iaload, 1) := dk_46 (dk_at dksX3_unlike_1 16 rfl rfl)
theorem dX3_unlike_41 : decode cX3_unlike 41 = .ok (.istore 4, 2) := dk_54 4 (dk_at dksX3_unlike_1 17 rfl rfl)
theorem dX3_unlike_43 : decode cX3_unlike 43 = .ok (.iload 4, 2) := dk_21 4 (dk_at dksX3_unlike_1 19 rfl rfl)
theorem dX3_unlike_45 : decode cX3_unlike 45 = .ok (.ifCond .lt 147, 3) := dk_155 0 147 (dk_at dksX3_unlike_1 21 rfl rfl)
theorem dX3_unlike_48 : decode cX3_unlike 48 = .ok (.aload_n 0, 1) := dk_42 (dk_at dksX3_unlike_2 0 rfl rfl)
theorem dX3_unlike_49 : decode cX3_unlike 49 = .ok (.getfield 7, 3) := dk_180 0 7 (dk_at dksX3_unlike_2 1 rfl rfl)
theorem dX3_unlike_52 : decode cX3_unlike 52 = .ok (.bipush 19, 2) := dk_16 19 (dk_at dksX3_unlike_2 4 rfl rfl)
theorem dX3_unlike_54 : decode cX3_unlike 54 = .ok (.iload_n 1, 1) := dk_27 (dk_at dksX3_unlike_2 6 rfl rfl)
theorem dX3_unlike_55 : decode cX3_unlike 55 = .ok (.iadd, 1) := dk_96 (dk_at dksX3_unlike_2 7 rfl rfl)
theorem dX3_unlike_56 : decode cX3_unlike 56 = .ok (.iaload, 1) := dk_46 (dk_at dksX3_unlike_2 8 rfl rfl)
theorem dX3_unlike_57 : decode cX3_unlike 57 = .ok (.iload_n 3, 1) := dk_29 (dk_at dksX3_unlike_2 9 rfl rfl)
theorem dX3_unlike_58 : decode cX3_unlike 58 = .ok (.isub, 1) := dk_100 (dk_at dksX3_unlike_2 10 rfl rfl)
theorem dX3_unlike_59 : decode cX3_unlike 59 = .ok (.istore 5, 2) := dk_54 5 (dk_at dksX3_unlike_2 11 rfl rfl)
theorem dX3_unlike_61 : decode cX3_unlike 61 = .ok (.aload_n 0, 1) := dk_42 (dk_at dksX3_unlike_2 13 rfl rfl)
theorem dX3_unlike_62 : decode cX3_unlike 62 = .ok (.getfield 7, 3) := dk_180 0 7 (dk_at dksX3_unlike_2 14 rfl rfl)
theorem dX3_unlike_65 : decode cX3_unlike 65 = .ok (.bipush 19, 2) := dk_16 19 (dk_at dksX3_unlike_2 17 rfl rfl)
theorem dX3_unlike_67 : decode cX3_unlike 67 = .ok (.iload_n 2, 1) := dk_28 (dk_at dksX3_unlike_2 19 rfl rfl)
theorem dX3_unlike_68 : decode cX3_unlike 68 = .ok (.iadd, 1) := dk_96 (dk_at dksX3_unlike_2 20 rfl rfl)
theorem dX3_unlike_69 : decode cX3_unlike 69 = .ok (.iaload, 1) := dk_46 (dk_at dksX3_unlike_2 21 rfl rfl)
theorem dX3_unlike_70 : decode cX3_unlike 70 = .ok (.iload 4, 2) := dk_21 4 (dk_at dksX3_unlike_2 22 rfl rfl)
theorem dX3_unlike_72 : decode cX3_unlike 72 = .ok (.isub, 1) := dk_100 (dk_at dksX3_unlike_3 0 rfl rfl)
theorem dX3_unlike_73 : decode cX3_unlike 73 = .ok (.istore 6, 2) := dk_54 6 (dk_at dksX3_unlike_3 1 rfl rfl)
theorem dX3_unlike_75 : decode cX3_unlike 75 = .ok (.iload 5, 2) := dk_21 5 (dk_at dksX3_unlike_3 3 rfl rfl)
theorem dX3_unlike_77 : decode cX3_unlike 77 = .ok (.iload 6, 2) := dk_21 6 (dk_at dksX3_unlike_3 5 rfl rfl)
theorem dX3_unlike_79 : decode cX3_unlike 79 = .ok (.iadd, 1) := dk_96 (dk_at dksX3_unlike_3 7 rfl rfl)
theorem dX3_unlike_80 : decode cX3_unlike 80 = .ok (.istore 7, 2) := dk_54 7 (dk_at dksX3_unlike_3 8 rfl rfl)
theorem dX3_unlike_82 : decode cX3_unlike 82 = .ok (.iload 5, 2) := dk_21 5 (dk_at dksX3_unlike_3 10 rfl rfl)
theorem dX3_unlike_84 : decode cX3_unlike 84 = .ok (.ifCond .le 88, 3) := dk_158 0 88 (dk_at dksX3_unlike_3 12 rfl rfl)
theorem dX3_unlike_87 : decode cX3_unlike 87 = .ok (.iload 6, 2) := dk_21 6 (dk_at dksX3_unlike_3 15 rfl rfl)
theorem dX3_unlike_89 : decode cX3_unlike 89 = .ok (.ifCond .le 83, 3) := dk_158 0 83 (dk_at dksX3_unlike_3 17 rfl rfl)
theorem dX3_unlike_92 : decode cX3_unlike 92 = .ok (.aload_n 0, 1) := dk_42 (dk_at dksX3_unlike_3 20 rfl rfl)
theorem dX3_unlike_93 : decode cX3_unlike 93 = .ok (.getfield 50, 3) := dk_180 0 50 (dk_at dksX3_unlike_3 21 rfl rfl)
theorem dX3_unlike_96 : decode cX3_unlike 96 = .ok (.bipush 41, 2) := dk_16 41 (dk_at dksX3_unlike_4 0 rfl rfl)
theorem dX3_unlike_98 : decode cX3_unlike 98 = .ok (.iload_n 3, 1) := dk_29 (dk_at dksX3_unlike_4 2 rfl rfl)
theorem dX3_unlike_99 : decode cX3_unlike 99 = .ok (.imul, 1) := dk_104 (dk_at dksX3_unlike_4 3 rfl rfl)
theorem dX3_unlike_100 : decode cX3_unlike 100 = .ok (.iload 4, 2) := dk_21 4 (dk_at dksX3_unlike_4 4 rfl rfl)
theorem dX3_unlike_102 : decode cX3_unlike 102 = .ok (.iadd, 1) := dk_96 (dk_at dksX3_unlike_4 6 rfl rfl)
theorem dX3_unlike_103 : decode cX3_unlike 103 = .ok (.bipush 42, 2) := dk_16 42 (dk_at dksX3_unlike_4 7 rfl rfl)
theorem dX3_unlike_105 : decode cX3_unlike 105 = .ok (.iadd, 1) := dk_96 (dk_at dksX3_unlike_4 9 rfl rfl)
theorem dX3_unlike_106 : decode cX3_unlike 106 = .ok (.iaload, 1) := dk_46 (dk_at dksX3_unlike_4 10 rfl rfl)
theorem dX3_unlike_107 : decode cX3_unlike 107 = .ok (.aload_n 0, 1) := dk_42 (dk_at dksX3_unlike_4 11 rfl rfl)
theorem dX3_unlike_108 : decode cX3_unlike 108 = .ok (.iload_n 1, 1) := dk_27 (dk_at dksX3_unlike_4 12 rfl rfl)
theorem dX3_unlike_109 : decode cX3_unlike 109 = .ok (.iload_n 3, 1) := dk_29 (dk_at dksX3_unlike_4 13 rfl rfl)
theorem dX3_unlike_110 : decode cX3_unlike 110 = .ok (.invokevirtual 366, 3) := dk_182 1 110 (dk_at dksX3_unlike_4 14 rfl rfl)
theorem dX3_unlike_113 : decode cX3_unlike 113 = .ok (.aload_n 0, 1) := dk_42 (dk_at dksX3_unlike_4 17 rfl rfl)
theorem dX3_unlike_114 : decode cX3_unlike 114 = .ok (.iload_n 2, 1) := dk_28 (dk_at dksX3_unlike_4 18 rfl rfl)
theorem dX3_unlike_115 : decode cX3_unlike 115 = .ok (.iload 4, 2) := dk_21 4 (dk_at dksX3_unlike_4 19 rfl rfl)
theorem dX3_unlike_117 : decode cX3_unlike 117 = .ok (.invokevirtual 366, 3) := dk_182 1 110 (dk_at dksX3_unlike_4 21 rfl rfl)
theorem dX3_unlike_120 : decode cX3_unlike 120 = .ok (.if_icmp .ne 7, 3) := dk_160 0 7 (dk_at dksX3_unlike_5 0 rfl rfl)
theorem dX3_unlike_123 : decode cX3_unlike 123 = .ok (.iconst 0, 1) := dk_3 (dk_at dksX3_unlike_5 3 rfl rfl)
theorem dX3_unlike_124 : decode cX3_unlike 124 = .ok (.goto 4, 3) := dk_167 0 4 (dk_at dksX3_unlike_5 4 rfl rfl)
theorem dX3_unlike_127 : decode cX3_unlike 127 = .ok (.iconst 1, 1) := dk_4 (dk_at dksX3_unlike_5 7 rfl rfl)
theorem dX3_unlike_128 : decode cX3_unlike 128 = .ok (.iadd, 1) := dk_96 (dk_at dksX3_unlike_5 8 rfl rfl)
theorem dX3_unlike_129 : decode cX3_unlike 129 = .ok (.istore 8, 2) := dk_54 8 (dk_at dksX3_unlike_5 9 rfl rfl)
theorem dX3_unlike_131 : decode cX3_unlike 131 = .ok (.iload 8, 2) := dk_21 8 (dk_at dksX3_unlike_5 11 rfl rfl)
theorem dX3_unlike_133 : decode cX3_unlike 133 = .ok (.iconst 1, 1) := dk_4 (dk_at dksX3_unlike_5 13 rfl rfl)
theorem dX3_unlike_134 : decode cX3_unlike 134 = .ok (.aload_n 0, 1) := dk_42 (dk_at dksX3_unlike_5 14 rfl rfl)
theorem dX3_unlike_135 : decode cX3_unlike 135 = .ok (.getfield 50, 3) := dk_180 0 50 (dk_at dksX3_unlike_5 15 rfl rfl)
theorem dX3_unlike_138 : decode cX3_unlike 138 = .ok (.bipush 41, 2) := dk_16 41 (dk_at dksX3_unlike_5 18 rfl rfl)
theorem dX3_unlike_140 : decode cX3_unlike 140 = .ok (.iload_n 3, 1) := dk_29 (dk_at dksX3_unlike_5 20 rfl rfl)
theorem dX3_unlike_141 : decode cX3_unlike 141 = .ok (.imul, 1) := dk_104 (dk_at dksX3_unlike_5 21 rfl rfl)
theorem dX3_unlike_142 : decode cX3_unlike 142 = .ok (.iload 4, 2) := dk_21 4 (dk_at dksX3_unlike_5 22 rfl rfl)
theorem dX3_unlike_144 : decode cX3_unlike 144 = .ok (.iadd, 1) := dk_96 (dk_at dksX3_unlike_6 0 rfl rfl)
theorem dX3_unlike_145 : decode cX3_unlike 145 = .ok (.bipush 41, 2) := dk_16 41 (dk_at dksX3_unlike_6 1 rfl rfl)
theorem dX3_unlike_147 : decode cX3_unlike 147 = .ok (.iadd, 1) := dk_96 (dk_at dksX3_unlike_6 3 rfl rfl)
theorem dX3_unlike_148 : decode cX3_unlike 148 = .ok (.iaload, 1) := dk_46 (dk_at dksX3_unlike_6 4 rfl rfl)
theorem dX3_unlike_149 : decode cX3_unlike 149 = .ok (.aload_n 0, 1) := dk_42 (dk_at dksX3_unlike_6 5 rfl rfl)
theorem dX3_unlike_150 : decode cX3_unlike 150 = .ok (.getfield 50, 3) := dk_180 0 50 (dk_at dksX3_unlike_6 6 rfl rfl)
theorem dX3_unlike_153 : decode cX3_unlike 153 = .ok (.bipush 41, 2) := dk_16 41 (dk_at dksX3_unlike_6 9 rfl rfl)
theorem dX3_unlike_155 : decode cX3_unlike 155 = .ok (.iload_n 3, 1) := dk_29 (dk_at dksX3_unlike_6 11 rfl rfl)
theorem dX3_unlike_156 : decode cX3_unlike 156 = .ok (.imul, 1) := dk_104 (dk_at dksX3_unlike_6 12 rfl rfl)
theorem dX3_unlike_157 : decode cX3_unlike 157 = .ok (.iload 4, 2) := dk_21 4 (dk_at dksX3_unlike_6 13 rfl rfl)
theorem dX3_unlike_159 : decode cX3_unlike 159 = .ok (.iadd, 1) := dk_96 (dk_at dksX3_unlike_6 15 rfl rfl)
theorem dX3_unlike_160 : decode cX3_unlike 160 = .ok (.iconst 1, 1) := dk_4 (dk_at dksX3_unlike_6 16 rfl rfl)
theorem dX3_unlike_161 : decode cX3_unlike 161 = .ok (.iadd, 1) := dk_96 (dk_at dksX3_unlike_6 17 rfl rfl)
theorem dX3_unlike_162 : decode cX3_unlike 162 = .ok (.iaload, 1) := dk_46 (dk_at dksX3_unlike_6 18 rfl rfl)
theorem dX3_unlike_163 : decode cX3_unlike 163 = .ok (.invokestatic 235, 3) := dk_184 0 235 (dk_at dksX3_unlike_6 19 rfl rfl)
theorem dX3_unlike_166 : decode cX3_unlike 166 = .ok (.iadd, 1) := dk_96 (dk_at dksX3_unlike_6 22 rfl rfl)
theorem dX3_unlike_167 : decode cX3_unlike 167 = .ok (.invokestatic 235, 3) := dk_184 0 235 (dk_at dksX3_unlike_7 0 rfl rfl)
theorem dX3_unlike_170 : decode cX3_unlike 170 = .ok (.istore 7, 2) := dk_54 7 (dk_at dksX3_unlike_7 3 rfl rfl)
theorem dX3_unlike_172 : decode cX3_unlike 172 = .ok (.aload_n 0, 1) := dk_42 (dk_at dksX3_unlike_7 5 rfl rfl)
theorem dX3_unlike_173 : decode cX3_unlike 173 = .ok (.getfield 50, 3) := dk_180 0 50 (dk_at dksX3_unlike_7 6 rfl rfl)
theorem dX3_unlike_176 : decode cX3_unlike 176 = .ok (.bipush 41, 2) := dk_16 41 (dk_at dksX3_unlike_7 9 rfl rfl)
theorem dX3_unlike_178 : decode cX3_unlike 178 = .ok (.iload_n 3, 1) := dk_29 (dk_at dksX3_unlike_7 11 rfl rfl)
theorem dX3_unlike_179 : decode cX3_unlike 179 = .ok (.imul, 1) := dk_104 (dk_at dksX3_unlike_7 12 rfl rfl)
theorem dX3_unlike_180 : decode cX3_unlike 180 = .ok (.iload 4, 2) := dk_21 4 (dk_at dksX3_unlike_7 13 rfl rfl)
theorem dX3_unlike_182 : decode cX3_unlike 182 = .ok (.iadd, 1) := dk_96 (dk_at dksX3_unlike_7 15 rfl rfl)
theorem dX3_unlike_183 : decode cX3_unlike 183 = .ok (.iload 7, 2) := dk_21 7 (dk_at dksX3_unlike_7 16 rfl rfl)
theorem dX3_unlike_185 : decode cX3_unlike 185 = .ok (.iastore, 1) := dk_79 (dk_at dksX3_unlike_7 18 rfl rfl)
theorem dX3_unlike_186 : decode cX3_unlike 186 = .ok (.iinc 4 (-1), 3) := dk_132 4 255 (dk_at dksX3_unlike_7 19 rfl rfl)
theorem dX3_unlike_189 : decode cX3_unlike 189 = .ok (.goto (-146), 3) := dk_167 255 110 (dk_at dksX3_unlike_8 0 rfl rfl)
theorem dX3_unlike_192 : decode cX3_unlike 192 = .ok (.iinc 3 (-1), 3) := dk_132 3 255 (dk_at dksX3_unlike_8 3 rfl rfl)
theorem dX3_unlike_195 : decode cX3_unlike 195 = .ok (.goto (-167), 3) := dk_167 255 89 (dk_at dksX3_unlike_8 6 rfl rfl)
theorem dX3_unlike_198 : decode cX3_unlike 198 = .ok (.aload_n 0, 1) := dk_42 (dk_at dksX3_unlike_8 9 rfl rfl)
theorem dX3_unlike_199 : decode cX3_unlike 199 = .ok (.getfield 50, 3) := dk_180 0 50 (dk_at dksX3_unlike_8 10 rfl rfl)
theorem dX3_unlike_202 : decode cX3_unlike 202 = .ok (.iconst 0, 1) := dk_3 (dk_at dksX3_unlike_8 13 rfl rfl)
theorem dX3_unlike_203 : decode cX3_unlike 203 = .ok (.iaload, 1) := dk_46 (dk_at dksX3_unlike_8 14 rfl rfl)
theorem dX3_unlike_204 : decode cX3_unlike 204 = .ok (.ireturn, 1) := dk_172 (dk_at dksX3_unlike_8 15 rfl rfl)
abbrev cX3_tally : ByteArray := prog_17_method_95_code
def yX3_tally : MethodName := ⟨RX3, "tally", "(I)I"⟩
def dkwX3_tally_2 : List UInt8 := [29, 61, 132, 3, 1, 167, 255, 232, 42, 28, 182, 1, 144, 154, 0, 7, 2, 167, 0, 4, 28, 172]
abbrev dktX3_tally_2 : List UInt8 := dkwX3_tally_2 ++ []
def dkwX3_tally_1 : List UInt8 := [172, 3, 61, 4, 62, 29, 16, 8, 162, 0, 24, 42, 29, 182, 1, 144, 42, 28, 182, 1, 144, 164, 0, 5]
abbrev dktX3_tally_1 : List UInt8 := dkwX3_tally_1 ++ dktX3_tally_2
def dkwX3_tally_0 : List UInt8 := [27, 2, 159, 0, 23, 27, 3, 16, 7, 184, 0, 59, 153, 0, 11, 42, 27, 182, 1, 144, 167, 0, 4, 2]
abbrev dktX3_tally_0 : List UInt8 := dkwX3_tally_0 ++ dktX3_tally_1
theorem dksX3_tally_0 : cX3_tally.data.toList.drop 0 = dktX3_tally_0 := by decide +kernel
theorem dksX3_tally_1 : cX3_tally.data.toList.drop 24 = dktX3_tally_1 := dk_seg dksX3_tally_0 24 rfl rfl
theorem dksX3_tally_2 : cX3_tally.data.toList.drop 48 = dktX3_tally_2 := dk_seg dksX3_tally_1 24 rfl rfl
theorem dX3_tally_0 : decode cX3_tally 0 = .ok (.iload_n 1, 1) := dk_27 (dk_at dksX3_tally_0 0 rfl rfl)
theorem dX3_tally_1 : decode cX3_tally 1 = .ok (.iconst (-1), 1) := dk_2 (dk_at dksX3_tally_0 1 rfl rfl)
theorem dX3_tally_2 : decode cX3_tally 2 = .ok (.if_icmp .eq 23, 3) := dk_159 0 23 (dk_at dksX3_tally_0 2 rfl rfl)
theorem dX3_tally_5 : decode cX3_tally 5 = .ok (.iload_n 1, 1) := dk_27 (dk_at dksX3_tally_0 5 rfl rfl)
theorem dX3_tally_6 : decode cX3_tally 6 = .ok (.iconst 0, 1) := dk_3 (dk_at dksX3_tally_0 6 rfl rfl)
theorem dX3_tally_7 : decode cX3_tally 7 = .ok (.bipush 7, 2) := dk_16 7 (dk_at dksX3_tally_0 7 rfl rfl)
theorem dX3_tally_9 : decode cX3_tally 9 = .ok (.invokestatic 59, 3) := dk_184 0 59 (dk_at dksX3_tally_0 9 rfl rfl)
theorem dX3_tally_12 : decode cX3_tally 12 = .ok (.ifCond .eq 11, 3) := dk_153 0 11 (dk_at dksX3_tally_0 12 rfl rfl)
theorem dX3_tally_15 : decode cX3_tally 15 = .ok (.aload_n 0, 1) := dk_42 (dk_at dksX3_tally_0 15 rfl rfl)
theorem dX3_tally_16 : decode cX3_tally 16 = .ok (.iload_n 1, 1) := dk_27 (dk_at dksX3_tally_0 16 rfl rfl)
theorem dX3_tally_17 : decode cX3_tally 17 = .ok (.invokevirtual 400, 3) := dk_182 1 144 (dk_at dksX3_tally_0 17 rfl rfl)
theorem dX3_tally_20 : decode cX3_tally 20 = .ok (.goto 4, 3) := dk_167 0 4 (dk_at dksX3_tally_0 20 rfl rfl)
theorem dX3_tally_23 : decode cX3_tally 23 = .ok (.iconst (-1), 1) := dk_2 (dk_at dksX3_tally_0 23 rfl rfl)
theorem dX3_tally_24 : decode cX3_tally 24 = .ok (.ireturn, 1) := dk_172 (dk_at dksX3_tally_1 0 rfl rfl)
theorem dX3_tally_25 : decode cX3_tally 25 = .ok (.iconst 0, 1) := dk_3 (dk_at dksX3_tally_1 1 rfl rfl)
theorem dX3_tally_26 : decode cX3_tally 26 = .ok (.istore_n 2, 1) := dk_61 (dk_at dksX3_tally_1 2 rfl rfl)
theorem dX3_tally_27 : decode cX3_tally 27 = .ok (.iconst 1, 1) := dk_4 (dk_at dksX3_tally_1 3 rfl rfl)
theorem dX3_tally_28 : decode cX3_tally 28 = .ok (.istore_n 3, 1) := dk_62 (dk_at dksX3_tally_1 4 rfl rfl)
theorem dX3_tally_29 : decode cX3_tally 29 = .ok (.iload_n 3, 1) := dk_29 (dk_at dksX3_tally_1 5 rfl rfl)
theorem dX3_tally_30 : decode cX3_tally 30 = .ok (.bipush 8, 2) := dk_16 8 (dk_at dksX3_tally_1 6 rfl rfl)
theorem dX3_tally_32 : decode cX3_tally 32 = .ok (.if_icmp .ge 24, 3) := dk_162 0 24 (dk_at dksX3_tally_1 8 rfl rfl)
theorem dX3_tally_35 : decode cX3_tally 35 = .ok (.aload_n 0, 1) := dk_42 (dk_at dksX3_tally_1 11 rfl rfl)
theorem dX3_tally_36 : decode cX3_tally 36 = .ok (.iload_n 3, 1) := dk_29 (dk_at dksX3_tally_1 12 rfl rfl)
theorem dX3_tally_37 : decode cX3_tally 37 = .ok (.invokevirtual 400, 3) := dk_182 1 144 (dk_at dksX3_tally_1 13 rfl rfl)
theorem dX3_tally_40 : decode cX3_tally 40 = .ok (.aload_n 0, 1) := dk_42 (dk_at dksX3_tally_1 16 rfl rfl)
theorem dX3_tally_41 : decode cX3_tally 41 = .ok (.iload_n 2, 1) := dk_28 (dk_at dksX3_tally_1 17 rfl rfl)
theorem dX3_tally_42 : decode cX3_tally 42 = .ok (.invokevirtual 400, 3) := dk_182 1 144 (dk_at dksX3_tally_1 18 rfl rfl)
theorem dX3_tally_45 : decode cX3_tally 45 = .ok (.if_icmp .le 5, 3) := dk_164 0 5 (dk_at dksX3_tally_1 21 rfl rfl)
theorem dX3_tally_48 : decode cX3_tally 48 = .ok (.iload_n 3, 1) := dk_29 (dk_at dksX3_tally_2 0 rfl rfl)
theorem dX3_tally_49 : decode cX3_tally 49 = .ok (.istore_n 2, 1) := dk_61 (dk_at dksX3_tally_2 1 rfl rfl)
theorem dX3_tally_50 : decode cX3_tally 50 = .ok (.iinc 3 1, 3) := dk_132 3 1 (dk_at dksX3_tally_2 2 rfl rfl)
theorem dX3_tally_53 : decode cX3_tally 53 = .ok (.goto (-24), 3) := dk_167 255 232 (dk_at dksX3_tally_2 5 rfl rfl)
theorem dX3_tally_56 : decode cX3_tally 56 = .ok (.aload_n 0, 1) := dk_42 (dk_at dksX3_tally_2 8 rfl rfl)
theorem dX3_tally_57 : decode cX3_tally 57 = .ok (.iload_n 2, 1) := dk_28 (dk_at dksX3_tally_2 9 rfl rfl)
theorem dX3_tally_58 : decode cX3_tally 58 = .ok (.invokevirtual 400, 3) := dk_182 1 144 (dk_at dksX3_tally_2 10 rfl rfl)
theorem dX3_tally_61 : decode cX3_tally 61 = .ok (.ifCond .ne 7, 3) := dk_154 0 7 (dk_at dksX3_tally_2 13 rfl rfl)
theorem dX3_tally_64 : decode cX3_tally 64 = .ok (.iconst (-1), 1) := dk_2 (dk_at dksX3_tally_2 16 rfl rfl)
theorem dX3_tally_65 : decode cX3_tally 65 = .ok (.goto 4, 3) := dk_167 0 4 (dk_at dksX3_tally_2 17 rfl rfl)
theorem dX3_tally_68 : decode cX3_tally 68 = .ok (.iload_n 2, 1) := dk_28 (dk_at dksX3_tally_2 20 rfl rfl)
theorem dX3_tally_69 : decode cX3_tally 69 = .ok (.ireturn, 1) := dk_172 (dk_at dksX3_tally_2 21 rfl rfl)
abbrev cX3_tallyOf : ByteArray := prog_17_method_94_code
def yX3_tallyOf : MethodName := ⟨RX3, "tallyOf", "(I)I"⟩
def dkwX3_tallyOf_2 : List UInt8 := [167, 0, 4, 3, 96, 61, 132, 4, 1, 167, 255, 220, 132, 3, 1, 167, 255, 199, 28, 172]
abbrev dktX3_tallyOf_2 : List UInt8 := dkwX3_tallyOf_2 ++ []
def dkwX3_tallyOf_1 : List UInt8 := [180, 0, 7, 16, 19, 29, 96, 46, 162, 0, 28, 28, 42, 29, 21, 4, 182, 1, 110, 27, 160, 0, 7, 4]
abbrev dktX3_tallyOf_1 : List UInt8 := dkwX3_tallyOf_1 ++ dktX3_tallyOf_2
def dkwX3_tallyOf_0 : List UInt8 := [3, 61, 3, 62, 29, 42, 180, 0, 7, 17, 2, 59, 46, 162, 0, 51, 3, 54, 4, 21, 4, 42]
abbrev dktX3_tallyOf_0 : List UInt8 := dkwX3_tallyOf_0 ++ dktX3_tallyOf_1
theorem dksX3_tallyOf_0 : cX3_tallyOf.data.toList.drop 0 = dktX3_tallyOf_0 := by decide +kernel
theorem dksX3_tallyOf_1 : cX3_tallyOf.data.toList.drop 22 = dktX3_tallyOf_1 := dk_seg dksX3_tallyOf_0 22 rfl rfl
theorem dksX3_tallyOf_2 : cX3_tallyOf.data.toList.drop 46 = dktX3_tallyOf_2 := dk_seg dksX3_tallyOf_1 24 rfl rfl
theorem dX3_tallyOf_0 : decode cX3_tallyOf 0 = .ok (.iconst 0, 1) := dk_3 (dk_at dksX3_tallyOf_0 0 rfl rfl)
theorem dX3_tallyOf_1 : decode cX3_tallyOf 1 = .ok (.istore_n 2, 1) := dk_61 (dk_at dksX3_tallyOf_0 1 rfl rfl)
theorem dX3_tallyOf_2 : decode cX3_tallyOf 2 = .ok (.iconst 0, 1) := dk_3 (dk_at dksX3_tallyOf_0 2 rfl rfl)
theorem dX3_tallyOf_3 : decode cX3_tallyOf 3 = .ok (.istore_n 3, 1) := dk_62 (dk_at dksX3_tallyOf_0 3 rfl rfl)
theorem dX3_tallyOf_4 : decode cX3_tallyOf 4 = .ok (.iload_n 3, 1) := dk_29 (dk_at dksX3_tallyOf_0 4 rfl rfl)
theorem dX3_tallyOf_5 : decode cX3_tallyOf 5 = .ok (.aload_n 0, 1) := dk_42 (dk_at dksX3_tallyOf_0 5 rfl rfl)
theorem dX3_tallyOf_6 : decode cX3_tallyOf 6 = .ok (.getfield 7, 3) := dk_180 0 7 (dk_at dksX3_tallyOf_0 6 rfl rfl)
theorem dX3_tallyOf_9 : decode cX3_tallyOf 9 = .ok (.sipush 571, 3) := dk_17 2 59 (dk_at dksX3_tallyOf_0 9 rfl rfl)
theorem dX3_tallyOf_12 : decode cX3_tallyOf 12 = .ok (.iaload, 1) := dk_46 (dk_at dksX3_tallyOf_0 12 rfl rfl)
theorem dX3_tallyOf_13 : decode cX3_tallyOf 13 = .ok (.if_icmp .ge 51, 3) := dk_162 0 51 (dk_at dksX3_tallyOf_0 13 rfl rfl)
theorem dX3_tallyOf_16 : decode cX3_tallyOf 16 = .ok (.iconst 0, 1) := dk_3 (dk_at dksX3_tallyOf_0 16 rfl rfl)
theorem dX3_tallyOf_17 : decode cX3_tallyOf 17 = .ok (.istore 4, 2) := dk_54 4 (dk_at dksX3_tallyOf_0 17 rfl rfl)
theorem dX3_tallyOf_19 : decode cX3_tallyOf 19 = .ok (.iload 4, 2) := dk_21 4 (dk_at dksX3_tallyOf_0 19 rfl rfl)
theorem dX3_tallyOf_21 : decode cX3_tallyOf 21 = .ok (.aload_n 0, 1) := dk_42 (dk_at dksX3_tallyOf_0 21 rfl rfl)
theorem dX3_tallyOf_22 : decode cX3_tallyOf 22 = .ok (.getfield 7, 3) := dk_180 0 7 (dk_at dksX3_tallyOf_1 0 rfl rfl)
theorem dX3_tallyOf_25 : decode cX3_tallyOf 25 = .ok (.bipush 19, 2) := dk_16 19 (dk_at dksX3_tallyOf_1 3 rfl rfl)
theorem dX3_tallyOf_27 : decode cX3_tallyOf 27 = .ok (.iload_n 3, 1) := dk_29 (dk_at dksX3_tallyOf_1 5 rfl rfl)
theorem dX3_tallyOf_28 : decode cX3_tallyOf 28 = .ok (.iadd, 1) := dk_96 (dk_at dksX3_tallyOf_1 6 rfl rfl)
theorem dX3_tallyOf_29 : decode cX3_tallyOf 29 = .ok (.iaload, 1) := dk_46 (dk_at dksX3_tallyOf_1 7 rfl rfl)
theorem dX3_tallyOf_30 : decode cX3_tallyOf 30 = .ok (.if_icmp .ge 28, 3) := dk_162 0 28 (dk_at dksX3_tallyOf_1 8 rfl rfl)
theorem dX3_tallyOf_33 : decode cX3_tallyOf 33 = .ok (.iload_n 2, 1) := dk_28 (dk_at dksX3_tallyOf_1 11 rfl rfl)
theorem dX3_tallyOf_34 : decode cX3_tallyOf 34 = .ok (.aload_n 0, 1) := dk_42 (dk_at dksX3_tallyOf_1 12 rfl rfl)
theorem dX3_tallyOf_35 : decode cX3_tallyOf 35 = .ok (.iload_n 3, 1) := dk_29 (dk_at dksX3_tallyOf_1 13 rfl rfl)
theorem dX3_tallyOf_36 : decode cX3_tallyOf 36 = .ok (.iload 4, 2) := dk_21 4 (dk_at dksX3_tallyOf_1 14 rfl rfl)
theorem dX3_tallyOf_38 : decode cX3_tallyOf 38 = .ok (.invokevirtual 366, 3) := dk_182 1 110 (dk_at dksX3_tallyOf_1 16 rfl rfl)
theorem dX3_tallyOf_41 : decode cX3_tallyOf 41 = .ok (.iload_n 1, 1) := dk_27 (dk_at dksX3_tallyOf_1 19 rfl rfl)
theorem dX3_tallyOf_42 : decode cX3_tallyOf 42 = .ok (.if_icmp .ne 7, 3) := dk_160 0 7 (dk_at dksX3_tallyOf_1 20 rfl rfl)
theorem dX3_tallyOf_45 : decode cX3_tallyOf 45 = .ok (.iconst 1, 1) := dk_4 (dk_at dksX3_tallyOf_1 23 rfl rfl)
theorem dX3_tallyOf_46 : decode cX3_tallyOf 46 = .ok (.goto 4, 3) := dk_167 0 4 (dk_at dksX3_tallyOf_2 0 rfl rfl)
theorem dX3_tallyOf_49 : decode cX3_tallyOf 49 = .ok (.iconst 0, 1) := dk_3 (dk_at dksX3_tallyOf_2 3 rfl rfl)
theorem dX3_tallyOf_50 : decode cX3_tallyOf 50 = .ok (.iadd, 1) := dk_96 (dk_at dksX3_tallyOf_2 4 rfl rfl)
theorem dX3_tallyOf_51 : decode cX3_tallyOf 51 = .ok (.istore_n 2, 1) := dk_61 (dk_at dksX3_tallyOf_2 5 rfl rfl)
theorem dX3_tallyOf_52 : decode cX3_tallyOf 52 = .ok (.iinc 4 1, 3) := dk_132 4 1 (dk_at dksX3_tallyOf_2 6 rfl rfl)
theorem dX3_tallyOf_55 : decode cX3_tallyOf 55 = .ok (.goto (-36), 3) := dk_167 255 220 (dk_at dksX3_tallyOf_2 9 rfl rfl)
theorem dX3_tallyOf_58 : decode cX3_tallyOf 58 = .ok (.iinc 3 1, 3) := dk_132 3 1 (dk_at dksX3_tallyOf_2 12 rfl rfl)
theorem dX3_tallyOf_61 : decode cX3_tallyOf 61 = .ok (.goto (-57), 3) := dk_167 255 199 (dk_at dksX3_tallyOf_2 15 rfl rfl)
theorem dX3_tallyOf_64 : decode cX3_tallyOf 64 = .ok (.iload_n 2, 1) := dk_28 (dk_at dksX3_tallyOf_2 18 rfl rfl)
theorem dX3_tallyOf_65 : decode cX3_tallyOf 65 = .ok (.ireturn, 1) := dk_172 (dk_at dksX3_tallyOf_2 19 rfl rfl)
abbrev cX3_splice : ByteArray := prog_17_method_97_code
def yX3_splice : MethodName := ⟨RX3, "splice", "(II)I"⟩
def dkwX3_splice_2 : List UInt8 := [29, 182, 1, 147, 154, 0, 9, 132, 3, 255, 167, 255, 243, 29, 172]
abbrev dktX3_splice_2 : List UInt8 := dkwX3_splice_2 ++ []
def dkwX3_splice_1 : List UInt8 := [180, 0, 7, 16, 19, 27, 96, 46, 42, 180, 0, 7, 16, 19, 28, 96, 46, 184, 0, 235, 62, 42, 27, 28]
abbrev dktX3_splice_1 : List UInt8 := dkwX3_splice_1 ++ dktX3_splice_2
def dkwX3_splice_0 : List UInt8 := [42, 27, 182, 0, 71, 153, 0, 16, 42, 28, 182, 0, 71, 153, 0, 8, 27, 28, 160, 0, 5, 2, 172, 42]
abbrev dktX3_splice_0 : List UInt8 := dkwX3_splice_0 ++ dktX3_splice_1
theorem dksX3_splice_0 : cX3_splice.data.toList.drop 0 = dktX3_splice_0 := by decide +kernel
theorem dksX3_splice_1 : cX3_splice.data.toList.drop 24 = dktX3_splice_1 := dk_seg dksX3_splice_0 24 rfl rfl
theorem dksX3_splice_2 : cX3_splice.data.toList.drop 48 = dktX3_splice_2 := dk_seg dksX3_splice_1 24 rfl rfl
theorem dX3_splice_0 : decode cX3_splice 0 = .ok (.aload_n 0, 1) := dk_42 (dk_at dksX3_splice_0 0 rfl rfl)
theorem dX3_splice_1 : decode cX3_splice 1 = .ok (.iload_n 1, 1) := dk_27 (dk_at dksX3_splice_0 1 rfl rfl)
theorem dX3_splice_2 : decode cX3_splice 2 = .ok (.invokevirtual 71, 3) := dk_182 0 71 (dk_at dksX3_splice_0 2 rfl rfl)
theorem dX3_splice_5 : decode cX3_splice 5 = .ok (.ifCond .eq 16, 3) := dk_153 0 16 (dk_at dksX3_splice_0 5 rfl rfl)
theorem dX3_splice_8 : decode cX3_splice 8 = .ok (.aload_n 0, 1) := dk_42 (dk_at dksX3_splice_0 8 rfl rfl)
theorem dX3_splice_9 : decode cX3_splice 9 = .ok (.iload_n 2, 1) := dk_28 (dk_at dksX3_splice_0 9 rfl rfl)
theorem dX3_splice_10 : decode cX3_splice 10 = .ok (.invokevirtual 71, 3) := dk_182 0 71 (dk_at dksX3_splice_0 10 rfl rfl)
theorem dX3_splice_13 : decode cX3_splice 13 = .ok (.ifCond .eq 8, 3) := dk_153 0 8 (dk_at dksX3_splice_0 13 rfl rfl)
theorem dX3_splice_16 : decode cX3_splice 16 = .ok (.iload_n 1, 1) := dk_27 (dk_at dksX3_splice_0 16 rfl rfl)
theorem dX3_splice_17 : decode cX3_splice 17 = .ok (.iload_n 2, 1) := dk_28 (dk_at dksX3_splice_0 17 rfl rfl)
theorem dX3_splice_18 : decode cX3_splice 18 = .ok (.if_icmp .ne 5, 3) := dk_160 0 5 (dk_at dksX3_splice_0 18 rfl rfl)
theorem dX3_splice_21 : decode cX3_splice 21 = .ok (.iconst (-1), 1) := dk_2 (dk_at dksX3_splice_0 21 rfl rfl)
theorem dX3_splice_22 : decode cX3_splice 22 = .ok (.ireturn, 1) := dk_172 (dk_at dksX3_splice_0 22 rfl rfl)
theorem dX3_splice_23 : decode cX3_splice 23 = .ok (.aload_n 0, 1) := dk_42 (dk_at dksX3_splice_0 23 rfl rfl)
theorem dX3_splice_24 : decode cX3_splice 24 = .ok (.getfield 7, 3) := dk_180 0 7 (dk_at dksX3_splice_1 0 rfl rfl)
theorem dX3_splice_27 : decode cX3_splice 27 = .ok (.bipush 19, 2) := dk_16 19 (dk_at dksX3_splice_1 3 rfl rfl)
theorem dX3_splice_29 : decode cX3_splice 29 = .ok (.iload_n 1, 1) := dk_27 (dk_at dksX3_splice_1 5 rfl rfl)
theorem dX3_splice_30 : decode cX3_splice 30 = .ok (.iadd, 1) := dk_96 (dk_at dksX3_splice_1 6 rfl rfl)
theorem dX3_splice_31 : decode cX3_splice 31 = .ok (.iaload, 1) := dk_46 (dk_at dksX3_splice_1 7 rfl rfl)
theorem dX3_splice_32 : decode cX3_splice 32 = .ok (.aload_n 0, 1) := dk_42 (dk_at dksX3_splice_1 8 rfl rfl)
theorem dX3_splice_33 : decode cX3_splice 33 = .ok (.getfield 7, 3) := dk_180 0 7 (dk_at dksX3_splice_1 9 rfl rfl)
theorem dX3_splice_36 : decode cX3_splice 36 = .ok (.bipush 19, 2) := dk_16 19 (dk_at dksX3_splice_1 12 rfl rfl)
theorem dX3_splice_38 : decode cX3_splice 38 = .ok (.iload_n 2, 1) := dk_28 (dk_at dksX3_splice_1 14 rfl rfl)
theorem dX3_splice_39 : decode cX3_splice 39 = .ok (.iadd, 1) := dk_96 (dk_at dksX3_splice_1 15 rfl rfl)
theorem dX3_splice_40 : decode cX3_splice 40 = .ok (.iaload, 1) := dk_46 (dk_at dksX3_splice_1 16 rfl rfl)
theorem dX3_splice_41 : decode cX3_splice 41 = .ok (.invokestatic 235, 3) := dk_184 0 235 (dk_at dksX3_splice_1 17 rfl rfl)
theorem dX3_splice_44 : decode cX3_splice 44 = .ok (.istore_n 3, 1) := dk_62 (dk_at dksX3_splice_1 20 rfl rfl)
theorem dX3_splice_45 : decode cX3_splice 45 = .ok (.aload_n 0, 1) := dk_42 (dk_at dksX3_splice_1 21 rfl rfl)
theorem dX3_splice_46 : decode cX3_splice 46 = .ok (.iload_n 1, 1) := dk_27 (dk_at dksX3_splice_1 22 rfl rfl)
theorem dX3_splice_47 : decode cX3_splice 47 = .ok (.iload_n 2, 1) := dk_28 (dk_at dksX3_splice_1 23 rfl rfl)
theorem dX3_splice_48 : decode cX3_splice 48 = .ok (.iload_n 3, 1) := dk_29 (dk_at dksX3_splice_2 0 rfl rfl)
theorem dX3_splice_49 : decode cX3_splice 49 = .ok (.invokevirtual 403, 3) := dk_182 1 147 (dk_at dksX3_splice_2 1 rfl rfl)
theorem dX3_splice_52 : decode cX3_splice 52 = .ok (.ifCond .ne 9, 3) := dk_154 0 9 (dk_at dksX3_splice_2 4 rfl rfl)
theorem dX3_splice_55 : decode cX3_splice 55 = .ok (.iinc 3 (-1), 3) := dk_132 3 255 (dk_at dksX3_splice_2 7 rfl rfl)
theorem dX3_splice_58 : decode cX3_splice 58 = .ok (.goto (-13), 3) := dk_167 255 243 (dk_at dksX3_splice_2 10 rfl rfl)
theorem dX3_splice_61 : decode cX3_splice 61 = .ok (.iload_n 3, 1) := dk_29 (dk_at dksX3_splice_2 13 rfl rfl)
theorem dX3_splice_62 : decode cX3_splice 62 = .ok (.ireturn, 1) := dk_172 (dk_at dksX3_splice_2 14 rfl rfl)
abbrev cX3_splices : ByteArray := prog_17_method_96_code
def yX3_splices : MethodName := ⟨RX3, "splices", "(III)Z"⟩
def dkwX3_splices_1 : List UInt8 := [96, 182, 1, 110, 42, 28, 21, 4, 182, 1, 110, 159, 0, 5, 3, 172, 132, 4, 1, 167, 255, 216, 4, 172]
abbrev dktX3_splices_1 : List UInt8 := dkwX3_splices_1 ++ []
def dkwX3_splices_0 : List UInt8 := [3, 54, 4, 21, 4, 29, 162, 0, 40, 42, 27, 42, 180, 0, 7, 16, 19, 27, 96, 46, 29, 100, 21, 4]
abbrev dktX3_splices_0 : List UInt8 := dkwX3_splices_0 ++ dktX3_splices_1
theorem dksX3_splices_0 : cX3_splices.data.toList.drop 0 = dktX3_splices_0 := by decide +kernel
theorem dksX3_splices_1 : cX3_splices.data.toList.drop 24 = dktX3_splices_1 := dk_seg dksX3_splices_0 24 rfl rfl
theorem dX3_splices_0 : decode cX3_splices 0 = .ok (.iconst 0, 1) := dk_3 (dk_at dksX3_splices_0 0 rfl rfl)
theorem dX3_splices_1 : decode cX3_splices 1 = .ok (.istore 4, 2) := dk_54 4 (dk_at dksX3_splices_0 1 rfl rfl)
theorem dX3_splices_3 : decode cX3_splices 3 = .ok (.iload 4, 2) := dk_21 4 (dk_at dksX3_splices_0 3 rfl rfl)
theorem dX3_splices_5 : decode cX3_splices 5 = .ok (.iload_n 3, 1) := dk_29 (dk_at dksX3_splices_0 5 rfl rfl)
theorem dX3_splices_6 : decode cX3_splices 6 = .ok (.if_icmp .ge 40, 3) := dk_162 0 40 (dk_at dksX3_splices_0 6 rfl rfl)
theorem dX3_splices_9 : decode cX3_splices 9 = .ok (.aload_n 0, 1) := dk_42 (dk_at dksX3_splices_0 9 rfl rfl)
theorem dX3_splices_10 : decode cX3_splices 10 = .ok (.iload_n 1, 1) := dk_27 (dk_at dksX3_splices_0 10 rfl rfl)
theorem dX3_splices_11 : decode cX3_splices 11 = .ok (.aload_n 0, 1) := dk_42 (dk_at dksX3_splices_0 11 rfl rfl)
theorem dX3_splices_12 : decode cX3_splices 12 = .ok (.getfield 7, 3) := dk_180 0 7 (dk_at dksX3_splices_0 12 rfl rfl)
theorem dX3_splices_15 : decode cX3_splices 15 = .ok (.bipush 19, 2) := dk_16 19 (dk_at dksX3_splices_0 15 rfl rfl)
theorem dX3_splices_17 : decode cX3_splices 17 = .ok (.iload_n 1, 1) := dk_27 (dk_at dksX3_splices_0 17 rfl rfl)
theorem dX3_splices_18 : decode cX3_splices 18 = .ok (.iadd, 1) := dk_96 (dk_at dksX3_splices_0 18 rfl rfl)
theorem dX3_splices_19 : decode cX3_splices 19 = .ok (.iaload, 1) := dk_46 (dk_at dksX3_splices_0 19 rfl rfl)
theorem dX3_splices_20 : decode cX3_splices 20 = .ok (.iload_n 3, 1) := dk_29 (dk_at dksX3_splices_0 20 rfl rfl)
theorem dX3_splices_21 : decode cX3_splices 21 = .ok (.isub, 1) := dk_100 (dk_at dksX3_splices_0 21 rfl rfl)
theorem dX3_splices_22 : decode cX3_splices 22 = .ok (.iload 4, 2) := dk_21 4 (dk_at dksX3_splices_0 22 rfl rfl)
theorem dX3_splices_24 : decode cX3_splices 24 = .ok (.iadd, 1) := dk_96 (dk_at dksX3_splices_1 0 rfl rfl)
theorem dX3_splices_25 : decode cX3_splices 25 = .ok (.invokevirtual 366, 3) := dk_182 1 110 (dk_at dksX3_splices_1 1 rfl rfl)
theorem dX3_splices_28 : decode cX3_splices 28 = .ok (.aload_n 0, 1) := dk_42 (dk_at dksX3_splices_1 4 rfl rfl)
theorem dX3_splices_29 : decode cX3_splices 29 = .ok (.iload_n 2, 1) := dk_28 (dk_at dksX3_splices_1 5 rfl rfl)
theorem dX3_splices_30 : decode cX3_splices 30 = .ok (.iload 4, 2) := dk_21 4 (dk_at dksX3_splices_1 6 rfl rfl)
theorem dX3_splices_32 : decode cX3_splices 32 = .ok (.invokevirtual 366, 3) := dk_182 1 110 (dk_at dksX3_splices_1 8 rfl rfl)
theorem dX3_splices_35 : decode cX3_splices 35 = .ok (.if_icmp .eq 5, 3) := dk_159 0 5 (dk_at dksX3_splices_1 11 rfl rfl)
theorem dX3_splices_38 : decode cX3_splices 38 = .ok (.iconst 0, 1) := dk_3 (dk_at dksX3_splices_1 14 rfl rfl)
theorem dX3_splices_39 : decode cX3_splices 39 = .ok (.ireturn, 1) := dk_172 (dk_at dksX3_splices_1 15 rfl rfl)
theorem dX3_splices_40 : decode cX3_splices 40 = .ok (.iinc 4 1, 3) := dk_132 4 1 (dk_at dksX3_splices_1 16 rfl rfl)
theorem dX3_splices_43 : decode cX3_splices 43 = .ok (.goto (-40), 3) := dk_167 255 216 (dk_at dksX3_splices_1 19 rfl rfl)
theorem dX3_splices_46 : decode cX3_splices 46 = .ok (.iconst 1, 1) := dk_4 (dk_at dksX3_splices_1 22 rfl rfl)
theorem dX3_splices_47 : decode cX3_splices 47 = .ok (.ireturn, 1) := dk_172 (dk_at dksX3_splices_1 23 rfl rfl)
abbrev cX3_both : ByteArray := prog_17_method_99_code
def yX3_both : MethodName := ⟨RX3, "both", "(II)I"⟩
def dkwX3_both_4 : List UInt8 := [172]
abbrev dktX3_both_4 : List UInt8 := dkwX3_both_4 ++ []
def dkwX3_both_3 : List UInt8 := [21, 4, 172, 132, 4, 1, 167, 255, 215, 132, 3, 255, 167, 255, 202, 28, 154, 0, 7, 3, 167, 0, 4, 2]
abbrev dktX3_both_3 : List UInt8 := dkwX3_both_3 ++ dktX3_both_4
def dkwX3_both_2 : List UInt8 := [96, 46, 163, 0, 31, 42, 27, 21, 4, 29, 182, 1, 150, 153, 0, 14, 28, 154, 0, 7, 29, 167, 0, 5]
abbrev dktX3_both_2 : List UInt8 := dkwX3_both_2 ++ dktX3_both_3
def dkwX3_both_1 : List UInt8 := [16, 19, 27, 96, 46, 62, 29, 158, 0, 56, 3, 54, 4, 21, 4, 29, 96, 42, 180, 0, 7, 16, 19, 27]
abbrev dktX3_both_1 : List UInt8 := dkwX3_both_1 ++ dktX3_both_2
def dkwX3_both_0 : List UInt8 := [42, 27, 182, 0, 71, 153, 0, 12, 28, 3, 4, 184, 0, 59, 154, 0, 5, 2, 172, 42, 180, 0, 7]
abbrev dktX3_both_0 : List UInt8 := dkwX3_both_0 ++ dktX3_both_1
theorem dksX3_both_0 : cX3_both.data.toList.drop 0 = dktX3_both_0 := by decide +kernel
theorem dksX3_both_1 : cX3_both.data.toList.drop 23 = dktX3_both_1 := dk_seg dksX3_both_0 23 rfl rfl
theorem dksX3_both_2 : cX3_both.data.toList.drop 47 = dktX3_both_2 := dk_seg dksX3_both_1 24 rfl rfl
theorem dksX3_both_3 : cX3_both.data.toList.drop 71 = dktX3_both_3 := dk_seg dksX3_both_2 24 rfl rfl
theorem dksX3_both_4 : cX3_both.data.toList.drop 95 = dktX3_both_4 := dk_seg dksX3_both_3 24 rfl rfl
theorem dX3_both_0 : decode cX3_both 0 = .ok (.aload_n 0, 1) := dk_42 (dk_at dksX3_both_0 0 rfl rfl)
theorem dX3_both_1 : decode cX3_both 1 = .ok (.iload_n 1, 1) := dk_27 (dk_at dksX3_both_0 1 rfl rfl)
theorem dX3_both_2 : decode cX3_both 2 = .ok (.invokevirtual 71, 3) := dk_182 0 71 (dk_at dksX3_both_0 2 rfl rfl)
theorem dX3_both_5 : decode cX3_both 5 = .ok (.ifCond .eq 12, 3) := dk_153 0 12 (dk_at dksX3_both_0 5 rfl rfl)
theorem dX3_both_8 : decode cX3_both 8 = .ok (.iload_n 2, 1) := dk_28 (dk_at dksX3_both_0 8 rfl rfl)
theorem dX3_both_9 : decode cX3_both 9 = .ok (.iconst 0, 1) := dk_3 (dk_at dksX3_both_0 9 rfl rfl)
theorem dX3_both_10 : decode cX3_both 10 = .ok (.iconst 1, 1) := dk_4 (dk_at dksX3_both_0 10 rfl rfl)
theorem dX3_both_11 : decode cX3_both 11 = .ok (.invokestatic 59, 3) := dk_184 0 59 (dk_at dksX3_both_0 11 rfl rfl)
theorem dX3_both_14 : decode cX3_both 14 = .ok (.ifCond .ne 5, 3) := dk_154 0 5 (dk_at dksX3_both_0 14 rfl rfl)
theorem dX3_both_17 : decode cX3_both 17 = .ok (.iconst (-1), 1) := dk_2 (dk_at dksX3_both_0 17 rfl rfl)
theorem dX3_both_18 : decode cX3_both 18 = .ok (.ireturn, 1) := dk_172 (dk_at dksX3_both_0 18 rfl rfl)
theorem dX3_both_19 : decode cX3_both 19 = .ok (.aload_n 0, 1) := dk_42 (dk_at dksX3_both_0 19 rfl rfl)
theorem dX3_both_20 : decode cX3_both 20 = .ok (.getfield 7, 3) := dk_180 0 7 (dk_at dksX3_both_0 20 rfl rfl)
theorem dX3_both_23 : decode cX3_both 23 = .ok (.bipush 19, 2) := dk_16 19 (dk_at dksX3_both_1 0 rfl rfl)
theorem dX3_both_25 : decode cX3_both 25 = .ok (.iload_n 1, 1) := dk_27 (dk_at dksX3_both_1 2 rfl rfl)
theorem dX3_both_26 : decode cX3_both 26 = .ok (.iadd, 1) := dk_96 (dk_at dksX3_both_1 3 rfl rfl)
theorem dX3_both_27 : decode cX3_both 27 = .ok (.iaload, 1) := dk_46 (dk_at dksX3_both_1 4 rfl rfl)
theorem dX3_both_28 : decode cX3_both 28 = .ok (.istore_n 3, 1) := dk_62 (dk_at dksX3_both_1 5 rfl rfl)
theorem dX3_both_29 : decode cX3_both 29 = .ok (.iload_n 3, 1) := dk_29 (dk_at dksX3_both_1 6 rfl rfl)
theorem dX3_both_30 : decode cX3_both 30 = .ok (.ifCond .le 56, 3) := dk_158 0 56 (dk_at dksX3_both_1 7 rfl rfl)
theorem dX3_both_33 : decode cX3_both 33 = .ok (.iconst 0, 1) := dk_3 (dk_at dksX3_both_1 10 rfl rfl)
theorem dX3_both_34 : decode cX3_both 34 = .ok (.istore 4, 2) := dk_54 4 (dk_at dksX3_both_1 11 rfl rfl)
theorem dX3_both_36 : decode cX3_both 36 = .ok (.iload 4, 2) := dk_21 4 (dk_at dksX3_both_1 13 rfl rfl)
theorem dX3_both_38 : decode cX3_both 38 = .ok (.iload_n 3, 1) := dk_29 (dk_at dksX3_both_1 15 rfl rfl)
theorem dX3_both_39 : decode cX3_both 39 = .ok (.iadd, 1) := dk_96 (dk_at dksX3_both_1 16 rfl rfl)
theorem dX3_both_40 : decode cX3_both 40 = .ok (.aload_n 0, 1) := dk_42 (dk_at dksX3_both_1 17 rfl rfl)
theorem dX3_both_41 : decode cX3_both 41 = .ok (.getfield 7, 3) := dk_180 0 7 (dk_at dksX3_both_1 18 rfl rfl)
theorem dX3_both_44 : decode cX3_both 44 = .ok (.bipush 19, 2) := dk_16 19 (dk_at dksX3_both_1 21 rfl rfl)
theorem dX3_both_46 : decode cX3_both 46 = .ok (.iload_n 1, 1) := dk_27 (dk_at dksX3_both_1 23 rfl rfl)
theorem dX3_both_47 : decode cX3_both 47 = .ok (.iadd, 1) := dk_96 (dk_at dksX3_both_2 0 rfl rfl)
theorem dX3_both_48 : decode cX3_both 48 = .ok (.iaload, 1) := dk_46 (dk_at dksX3_both_2 1 rfl rfl)
theorem dX3_both_49 : decode cX3_both 49 = .ok (.if_icmp .gt 31, 3) := dk_163 0 31 (dk_at dksX3_both_2 2 rfl rfl)
theorem dX3_both_52 : decode cX3_both 52 = .ok (.aload_n 0, 1) := dk_42 (dk_at dksX3_both_2 5 rfl rfl)
theorem dX3_both_53 : decode cX3_both 53 = .ok (.iload_n 1, 1) := dk_27 (dk_at dksX3_both_2 6 rfl rfl)
theorem dX3_both_54 : decode cX3_both 54 = .ok (.iload 4, 2) := dk_21 4 (dk_at dksX3_both_2 7 rfl rfl)
theorem dX3_both_56 : decode cX3_both 56 = .ok (.iload_n 3, 1) := dk_29 (dk_at dksX3_both_2 9 rfl rfl)
theorem dX3_both_57 : decode cX3_both 57 = .ok (.invokevirtual 406, 3) := dk_182 1 150 (dk_at dksX3_both_2 10 rfl rfl)
theorem dX3_both_60 : decode cX3_both 60 = .ok (.ifCond .eq 14, 3) := dk_153 0 14 (dk_at dksX3_both_2 13 rfl rfl)
theorem dX3_both_63 : decode cX3_both 63 = .ok (.iload_n 2, 1) := dk_28 (dk_at dksX3_both_2 16 rfl rfl)
theorem dX3_both_64 : decode cX3_both 64 = .ok (.ifCond .ne 7, 3) := dk_154 0 7 (dk_at dksX3_both_2 17 rfl rfl)
theorem dX3_both_67 : decode cX3_both 67 = .ok (.iload_n 3, 1) := dk_29 (dk_at dksX3_both_2 20 rfl rfl)
theorem dX3_both_68 : decode cX3_both 68 = .ok (.goto 5, 3) := dk_167 0 5 (dk_at dksX3_both_2 21 rfl rfl)
theorem dX3_both_71 : decode cX3_both 71 = .ok (.iload 4, 2) := dk_21 4 (dk_at dksX3_both_3 0 rfl rfl)
theorem dX3_both_73 : decode cX3_both 73 = .ok (.ireturn, 1) := dk_172 (dk_at dksX3_both_3 2 rfl rfl)
theorem dX3_both_74 : decode cX3_both 74 = .ok (.iinc 4 1, 3) := dk_132 4 1 (dk_at dksX3_both_3 3 rfl rfl)
theorem dX3_both_77 : decode cX3_both 77 = .ok (.goto (-41), 3) := dk_167 255 215 (dk_at dksX3_both_3 6 rfl rfl)
theorem dX3_both_80 : decode cX3_both 80 = .ok (.iinc 3 (-1), 3) := dk_132 3 255 (dk_at dksX3_both_3 9 rfl rfl)
theorem dX3_both_83 : decode cX3_both 83 = .ok (.goto (-54), 3) := dk_167 255 202 (dk_at dksX3_both_3 12 rfl rfl)
theorem dX3_both_86 : decode cX3_both 86 = .ok (.iload_n 2, 1) := dk_28 (dk_at dksX3_both_3 15 rfl rfl)
theorem dX3_both_87 : decode cX3_both 87 = .ok (.ifCond .ne 7, 3) := dk_154 0 7 (dk_at dksX3_both_3 16 rfl rfl)
theorem dX3_both_90 : decode cX3_both 90 = .ok (.iconst 0, 1) := dk_3 (dk_at dksX3_both_3 19 rfl rfl)
theorem dX3_both_91 : decode cX3_both 91 = .ok (.goto 4, 3) := dk_167 0 4 (dk_at dksX3_both_3 20 rfl rfl)
theorem dX3_both_94 : decode cX3_both 94 = .ok (.iconst (-1), 1) := dk_2 (dk_at dksX3_both_3 23 rfl rfl)
theorem dX3_both_95 : decode cX3_both 95 = .ok (.ireturn, 1) := dk_172 (dk_at dksX3_both_4 0 rfl rfl)
abbrev cX3_readsBoth : ByteArray := prog_17_method_98_code
def yX3_readsBoth : MethodName := ⟨RX3, "readsBoth", "(III)Z"⟩
def dkwX3_readsBoth_1 : List UInt8 := [100, 21, 4, 100, 182, 1, 110, 159, 0, 5, 3, 172, 132, 4, 1, 167, 255, 220, 4, 172]
abbrev dktX3_readsBoth_1 : List UInt8 := dkwX3_readsBoth_1 ++ []
def dkwX3_readsBoth_0 : List UInt8 := [3, 54, 4, 21, 4, 29, 162, 0, 36, 42, 27, 28, 21, 4, 96, 182, 1, 110, 42, 27, 28, 29, 96, 4]
abbrev dktX3_readsBoth_0 : List UInt8 := dkwX3_readsBoth_0 ++ dktX3_readsBoth_1
theorem dksX3_readsBoth_0 : cX3_readsBoth.data.toList.drop 0 = dktX3_readsBoth_0 := by decide +kernel
theorem dksX3_readsBoth_1 : cX3_readsBoth.data.toList.drop 24 = dktX3_readsBoth_1 := dk_seg dksX3_readsBoth_0 24 rfl rfl
theorem dX3_readsBoth_0 : decode cX3_readsBoth 0 = .ok (.iconst 0, 1) := dk_3 (dk_at dksX3_readsBoth_0 0 rfl rfl)
theorem dX3_readsBoth_1 : decode cX3_readsBoth 1 = .ok (.istore 4, 2) := dk_54 4 (dk_at dksX3_readsBoth_0 1 rfl rfl)
theorem dX3_readsBoth_3 : decode cX3_readsBoth 3 = .ok (.iload 4, 2) := dk_21 4 (dk_at dksX3_readsBoth_0 3 rfl rfl)
theorem dX3_readsBoth_5 : decode cX3_readsBoth 5 = .ok (.iload_n 3, 1) := dk_29 (dk_at dksX3_readsBoth_0 5 rfl rfl)
theorem dX3_readsBoth_6 : decode cX3_readsBoth 6 = .ok (.if_icmp .ge 36, 3) := dk_162 0 36 (dk_at dksX3_readsBoth_0 6 rfl rfl)
theorem dX3_readsBoth_9 : decode cX3_readsBoth 9 = .ok (.aload_n 0, 1) := dk_42 (dk_at dksX3_readsBoth_0 9 rfl rfl)
theorem dX3_readsBoth_10 : decode cX3_readsBoth 10 = .ok (.iload_n 1, 1) := dk_27 (dk_at dksX3_readsBoth_0 10 rfl rfl)
theorem dX3_readsBoth_11 : decode cX3_readsBoth 11 = .ok (.iload_n 2, 1) := dk_28 (dk_at dksX3_readsBoth_0 11 rfl rfl)
theorem dX3_readsBoth_12 : decode cX3_readsBoth 12 = .ok (.iload 4, 2) := dk_21 4 (dk_at dksX3_readsBoth_0 12 rfl rfl)
theorem dX3_readsBoth_14 : decode cX3_readsBoth 14 = .ok (.iadd, 1) := dk_96 (dk_at dksX3_readsBoth_0 14 rfl rfl)
theorem dX3_readsBoth_15 : decode cX3_readsBoth 15 = .ok (.invokevirtual 366, 3) := dk_182 1 110 (dk_at dksX3_readsBoth_0 15 rfl rfl)
theorem dX3_readsBoth_18 : decode cX3_readsBoth 18 = .ok (.aload_n 0, 1) := dk_42 (dk_at dksX3_readsBoth_0 18 rfl rfl)
theorem dX3_readsBoth_19 : decode cX3_readsBoth 19 = .ok (.iload_n 1, 1) := dk_27 (dk_at dksX3_readsBoth_0 19 rfl rfl)
theorem dX3_readsBoth_20 : decode cX3_readsBoth 20 = .ok (.iload_n 2, 1) := dk_28 (dk_at dksX3_readsBoth_0 20 rfl rfl)
theorem dX3_readsBoth_21 : decode cX3_readsBoth 21 = .ok (.iload_n 3, 1) := dk_29 (dk_at dksX3_readsBoth_0 21 rfl rfl)
theorem dX3_readsBoth_22 : decode cX3_readsBoth 22 = .ok (.iadd, 1) := dk_96 (dk_at dksX3_readsBoth_0 22 rfl rfl)
theorem dX3_readsBoth_23 : decode cX3_readsBoth 23 = .ok (.iconst 1, 1) := dk_4 (dk_at dksX3_readsBoth_0 23 rfl rfl)
theorem dX3_readsBoth_24 : decode cX3_readsBoth 24 = .ok (.isub, 1) := dk_100 (dk_at dksX3_readsBoth_1 0 rfl rfl)
theorem dX3_readsBoth_25 : decode cX3_readsBoth 25 = .ok (.iload 4, 2) := dk_21 4 (dk_at dksX3_readsBoth_1 1 rfl rfl)
theorem dX3_readsBoth_27 : decode cX3_readsBoth 27 = .ok (.isub, 1) := dk_100 (dk_at dksX3_readsBoth_1 3 rfl rfl)
theorem dX3_readsBoth_28 : decode cX3_readsBoth 28 = .ok (.invokevirtual 366, 3) := dk_182 1 110 (dk_at dksX3_readsBoth_1 4 rfl rfl)
theorem dX3_readsBoth_31 : decode cX3_readsBoth 31 = .ok (.if_icmp .eq 5, 3) := dk_159 0 5 (dk_at dksX3_readsBoth_1 7 rfl rfl)
theorem dX3_readsBoth_34 : decode cX3_readsBoth 34 = .ok (.iconst 0, 1) := dk_3 (dk_at dksX3_readsBoth_1 10 rfl rfl)
theorem dX3_readsBoth_35 : decode cX3_readsBoth 35 = .ok (.ireturn, 1) := dk_172 (dk_at dksX3_readsBoth_1 11 rfl rfl)
theorem dX3_readsBoth_36 : decode cX3_readsBoth 36 = .ok (.iinc 4 1, 3) := dk_132 4 1 (dk_at dksX3_readsBoth_1 12 rfl rfl)
theorem dX3_readsBoth_39 : decode cX3_readsBoth 39 = .ok (.goto (-36), 3) := dk_167 255 220 (dk_at dksX3_readsBoth_1 15 rfl rfl)
theorem dX3_readsBoth_42 : decode cX3_readsBoth 42 = .ok (.iconst 1, 1) := dk_4 (dk_at dksX3_readsBoth_1 18 rfl rfl)
theorem dX3_readsBoth_43 : decode cX3_readsBoth 43 = .ok (.ireturn, 1) := dk_172 (dk_at dksX3_readsBoth_1 19 rfl rfl)
abbrev cX3_pull : ByteArray := prog_17_method_100_code
def yX3_pull : MethodName := ⟨RX3, "pull", "(I)I"⟩
def dkwX3_pull_5 : List UInt8 := [27, 2, 160, 0, 7, 29, 167, 0, 4, 28, 172]
abbrev dktX3_pull_5 : List UInt8 := dkwX3_pull_5 ++ []
def dkwX3_pull_4 : List UInt8 := [180, 0, 7, 16, 31, 29, 96, 46, 162, 0, 8, 21, 4, 167, 0, 4, 29, 62, 132, 4, 1, 167, 255, 165]
abbrev dktX3_pull_4 : List UInt8 := dkwX3_pull_4 ++ dktX3_pull_5
def dkwX3_pull_3 : List UInt8 := [167, 0, 4, 3, 128, 61, 29, 2, 159, 0, 25, 42, 180, 0, 7, 16, 31, 21, 4, 96, 46, 42]
abbrev dktX3_pull_3 : List UInt8 := dkwX3_pull_3 ++ dktX3_pull_4
def dkwX3_pull_2 : List UInt8 := [167, 0, 62, 28, 42, 180, 0, 7, 16, 31, 21, 4, 96, 46, 27, 161, 0, 10, 4, 21, 4, 120]
abbrev dktX3_pull_2 : List UInt8 := dkwX3_pull_2 ++ dktX3_pull_3
def dkwX3_pull_1 : List UInt8 := [180, 0, 7, 17, 2, 59, 46, 162, 0, 84, 42, 180, 0, 7, 16, 19, 21, 4, 96, 46, 154, 0, 6]
abbrev dktX3_pull_1 : List UInt8 := dkwX3_pull_1 ++ dktX3_pull_2
def dkwX3_pull_0 : List UInt8 := [27, 2, 17, 3, 231, 184, 0, 59, 154, 0, 5, 2, 172, 3, 61, 2, 62, 3, 54, 4, 21, 4, 42]
abbrev dktX3_pull_0 : List UInt8 := dkwX3_pull_0 ++ dktX3_pull_1
theorem dksX3_pull_0 : cX3_pull.data.toList.drop 0 = dktX3_pull_0 := by decide +kernel
theorem dksX3_pull_1 : cX3_pull.data.toList.drop 23 = dktX3_pull_1 := dk_seg dksX3_pull_0 23 rfl rfl
theorem dksX3_pull_2 : cX3_pull.data.toList.drop 46 = dktX3_pull_2 := dk_seg dksX3_pull_1 23 rfl rfl
theorem dksX3_pull_3 : cX3_pull.data.toList.drop 68 = dktX3_pull_3 := dk_seg dksX3_pull_2 22 rfl rfl
theorem dksX3_pull_4 : cX3_pull.data.toList.drop 90 = dktX3_pull_4 := dk_seg dksX3_pull_3 22 rfl rfl
theorem dksX3_pull_5 : cX3_pull.data.toList.drop 114 = dktX3_pull_5 := dk_seg dksX3_pull_4 24 rfl rfl
theorem dX3_pull_0 : decode cX3_pull 0 = .ok (.iload_n 1, 1) := dk_27 (dk_at dksX3_pull_0 0 rfl rfl)
theorem dX3_pull_1 : decode cX3_pull 1 = .ok (.iconst (-1), 1) := dk_2 (dk_at dksX3_pull_0 1 rfl rfl)
theorem dX3_pull_2 : decode cX3_pull 2 = .ok (.sipush 999, 3) := dk_17 3 231 (dk_at dksX3_pull_0 2 rfl rfl)
theorem dX3_pull_5 : decode cX3_pull 5 = .ok (.invokestatic 59, 3) := dk_184 0 59 (dk_at dksX3_pull_0 5 rfl rfl)
theorem dX3_pull_8 : decode cX3_pull 8 = .ok (.ifCond .ne 5, 3) := dk_154 0 5 (dk_at dksX3_pull_0 8 rfl rfl)
theorem dX3_pull_11 : decode cX3_pull 11 = .ok (.iconst (-1), 1) := dk_2 (dk_at dksX3_pull_0 11 rfl rfl)
theorem dX3_pull_12 : decode cX3_pull 12 = .ok (.ireturn, 1) := dk_172 (dk_at dksX3_pull_0 12 rfl rfl)
theorem dX3_pull_13 : decode cX3_pull 13 = .ok (.iconst 0, 1) := dk_3 (dk_at dksX3_pull_0 13 rfl rfl)
theorem dX3_pull_14 : decode cX3_pull 14 = .ok (.istore_n 2, 1) := dk_61 (dk_at dksX3_pull_0 14 rfl rfl)
theorem dX3_pull_15 : decode cX3_pull 15 = .ok (.iconst (-1), 1) := dk_2 (dk_at dksX3_pull_0 15 rfl rfl)
theorem dX3_pull_16 : decode cX3_pull 16 = .ok (.istore_n 3, 1) := dk_62 (dk_at dksX3_pull_0 16 rfl rfl)
theorem dX3_pull_17 : decode cX3_pull 17 = .ok (.iconst 0, 1) := dk_3 (dk_at dksX3_pull_0 17 rfl rfl)
theorem dX3_pull_18 : decode cX3_pull 18 = .ok (.istore 4, 2) := dk_54 4 (dk_at dksX3_pull_0 18 rfl rfl)
theorem dX3_pull_20 : decode cX3_pull 20 = .ok (.iload 4, 2) := dk_21 4 (dk_at dksX3_pull_0 20 rfl rfl)
theorem dX3_pull_22 : decode cX3_pull 22 = .ok (.aload_n 0, 1) := dk_42 (dk_at dksX3_pull_0 22 rfl rfl)
theorem dX3_pull_23 : decode cX3_pull 23 = .ok (.getfield 7, 3) := dk_180 0 7 (dk_at dksX3_pull_1 0 rfl rfl)
theorem dX3_pull_26 : decode cX3_pull 26 = .ok (.sipush 571, 3) := dk_17 2 59 (dk_at dksX3_pull_1 3 rfl rfl)
theorem dX3_pull_29 : decode cX3_pull 29 = .ok (.iaload, 1) := dk_46 (dk_at dksX3_pull_1 6 rfl rfl)
theorem dX3_pull_30 : decode cX3_pull 30 = .ok (.if_icmp .ge 84, 3) := dk_162 0 84 (dk_at dksX3_pull_1 7 rfl rfl)
theorem dX3_pull_33 : decode cX3_pull 33 = .ok (.aload_n 0, 1) := dk_42 (dk_at dksX3_pull_1 10 rfl rfl)
theorem dX3_pull_34 : decode cX3_pull 34 = .ok (.getfield 7, 3) := dk_180 0 7 (dk_at dksX3_pull_1 11 rfl rfl)
theorem dX3_pull_37 : decode cX3_pull 37 = .ok (.bipush 19, 2) := dk_16 19 (dk_at dksX3_pull_1 14 rfl rfl)
theorem dX3_pull_39 : decode cX3_pull 39 = .ok (.iload 4, 2) := dk_21 4 (dk_at dksX3_pull_1 16 rfl rfl)
theorem dX3_pull_41 : decode cX3_pull 41 = .ok (.iadd, 1) := dk_96 (dk_at dksX3_pull_1 18 rfl rfl)
theorem dX3_pull_42 : decode cX3_pull 42 = .ok (.iaload, 1) := dk_46 (dk_at dksX3_pull_1 19 rfl rfl)
theorem dX3_pull_43 : decode cX3_pull 43 = .ok (.ifCond .ne 6, 3) := dk_154 0 6 (dk_at dksX3_pull_1 20 rfl rfl)
theorem dX3_pull_46 : decode cX3_pull 46 = .ok (.goto 62, 3) := dk_167 0 62 (dk_at dksX3_pull_2 0 rfl rfl)
theorem dX3_pull_49 : decode cX3_pull 49 = .ok (.iload_n 2, 1) := dk_28 (dk_at dksX3_pull_2 3 rfl rfl)
theorem dX3_pull_50 : decode cX3_pull 50 = .ok (.aload_n 0, 1) := dk_42 (dk_at dksX3_pull_2 4 rfl rfl)
theorem dX3_pull_51 : decode cX3_pull 51 = .ok (.getfield 7, 3) := dk_180 0 7 (dk_at dksX3_pull_2 5 rfl rfl)
theorem dX3_pull_54 : decode cX3_pull 54 = .ok (.bipush 31, 2) := dk_16 31 (dk_at dksX3_pull_2 8 rfl rfl)
theorem dX3_pull_56 : decode cX3_pull 56 = .ok (.iload 4, 2) := dk_21 4 (dk_at dksX3_pull_2 10 rfl rfl)
theorem dX3_pull_58 : decode cX3_pull 58 = .ok (.iadd, 1) := dk_96 (dk_at dksX3_pull_2 12 rfl rfl)
theorem dX3_pull_59 : decode cX3_pull 59 = .ok (.iaload, 1) := dk_46 (dk_at dksX3_pull_2 13 rfl rfl)
theorem dX3_pull_60 : decode cX3_pull 60 = .ok (.iload_n 1, 1) := dk_27 (dk_at dksX3_pull_2 14 rfl rfl)
theorem dX3_pull_61 : decode cX3_pull 61 = .ok (.if_icmp .lt 10, 3) := dk_161 0 10 (dk_at dksX3_pull_2 15 rfl rfl)
theorem dX3_pull_64 : decode cX3_pull 64 = .ok (.iconst 1, 1) := dk_4 (dk_at dksX3_pull_2 18 rfl rfl)
theorem dX3_pull_65 : decode cX3_pull 65 = .ok (.iload 4, 2) := dk_21 4 (dk_at dksX3_pull_2 19 rfl rfl)
theorem dX3_pull_67 : decode cX3_pull 67 = .ok (.ishl, 1) := dk_120 (dk_at dksX3_pull_2 21 rfl rfl)
theorem dX3_pull_68 : decode cX3_pull 68 = .ok (.goto 4, 3) := dk_167 0 4 (dk_at dksX3_pull_3 0 rfl rfl)
theorem dX3_pull_71 : decode cX3_pull 71 = .ok (.iconst 0, 1) := dk_3 (dk_at dksX3_pull_3 3 rfl rfl)
theorem dX3_pull_72 : decode cX3_pull 72 = .ok (.ior, 1) := dk_128 (dk_at dksX3_pull_3 4 rfl rfl)
theorem dX3_pull_73 : decode cX3_pull 73 = .ok (.istore_n 2, 1) := dk_61 (dk_at dksX3_pull_3 5 rfl rfl)
theorem dX3_pull_74 : decode cX3_pull 74 = .ok (.iload_n 3, 1) := dk_29 (dk_at dksX3_pull_3 6 rfl rfl)
theorem dX3_pull_75 : decode cX3_pull 75 = .ok (.iconst (-1), 1) := dk_2 (dk_at dksX3_pull_3 7 rfl rfl)
theorem dX3_pull_76 : decode cX3_pull 76 = .ok (.if_icmp .eq 25, 3) := dk_159 0 25 (dk_at dksX3_pull_3 8 rfl rfl)
theorem dX3_pull_79 : decode cX3_pull 79 = .ok (.aload_n 0, 1) := dk_42 (dk_at dksX3_pull_3 11 rfl rfl)
theorem dX3_pull_80 : decode cX3_pull 80 = .ok (.getfield 7, 3) := dk_180 0 7 (dk_at dksX3_pull_3 12 rfl rfl)
theorem dX3_pull_83 : decode cX3_pull 83 = .ok (.bipush 31, 2) := dk_16 31 (dk_at dksX3_pull_3 15 rfl rfl)
theorem dX3_pull_85 : decode cX3_pull 85 = .ok (.iload 4, 2) := dk_21 4 (dk_at dksX3_pull_3 17 rfl rfl)
theorem dX3_pull_87 : decode cX3_pull 87 = .ok (.iadd, 1) := dk_96 (dk_at dksX3_pull_3 19 rfl rfl)
theorem dX3_pull_88 : decode cX3_pull 88 = .ok (.iaload, 1) := dk_46 (dk_at dksX3_pull_3 20 rfl rfl)
theorem dX3_pull_89 : decode cX3_pull 89 = .ok (.aload_n 0, 1) := dk_42 (dk_at dksX3_pull_3 21 rfl rfl)
theorem dX3_pull_90 : decode cX3_pull 90 = .ok (.getfield 7, 3) := dk_180 0 7 (dk_at dksX3_pull_4 0 rfl rfl)
theorem dX3_pull_93 : decode cX3_pull 93 = .ok (.bipush 31, 2) := dk_16 31 (dk_at dksX3_pull_4 3 rfl rfl)
theorem dX3_pull_95 : decode cX3_pull 95 = .ok (.iload_n 3, 1) := dk_29 (dk_at dksX3_pull_4 5 rfl rfl)
theorem dX3_pull_96 : decode cX3_pull 96 = .ok (.iadd, 1) := dk_96 (dk_at dksX3_pull_4 6 rfl rfl)
theorem dX3_pull_97 : decode cX3_pull 97 = .ok (.iaload, 1) := dk_46 (dk_at dksX3_pull_4 7 rfl rfl)
theorem dX3_pull_98 : decode cX3_pull 98 = .ok (.if_icmp .ge 8, 3) := dk_162 0 8 (dk_at dksX3_pull_4 8 rfl rfl)
theorem dX3_pull_101 : decode cX3_pull 101 = .ok (.iload 4, 2) := dk_21 4 (dk_at dksX3_pull_4 11 rfl rfl)
theorem dX3_pull_103 : decode cX3_pull 103 = .ok (.goto 4, 3) := dk_167 0 4 (dk_at dksX3_pull_4 13 rfl rfl)
theorem dX3_pull_106 : decode cX3_pull 106 = .ok (.iload_n 3, 1) := dk_29 (dk_at dksX3_pull_4 16 rfl rfl)
theorem dX3_pull_107 : decode cX3_pull 107 = .ok (.istore_n 3, 1) := dk_62 (dk_at dksX3_pull_4 17 rfl rfl)
theorem dX3_pull_108 : decode cX3_pull 108 = .ok (.iinc 4 1, 3) := dk_132 4 1 (dk_at dksX3_pull_4 18 rfl rfl)
theorem dX3_pull_111 : decode cX3_pull 111 = .ok (.goto (-91), 3) := dk_167 255 165 (dk_at dksX3_pull_4 21 rfl rfl)
theorem dX3_pull_114 : decode cX3_pull 114 = .ok (.iload_n 1, 1) := dk_27 (dk_at dksX3_pull_5 0 rfl rfl)
theorem dX3_pull_115 : decode cX3_pull 115 = .ok (.iconst (-1), 1) := dk_2 (dk_at dksX3_pull_5 1 rfl rfl)
theorem dX3_pull_116 : decode cX3_pull 116 = .ok (.if_icmp .ne 7, 3) := dk_160 0 7 (dk_at dksX3_pull_5 2 rfl rfl)
theorem dX3_pull_119 : decode cX3_pull 119 = .ok (.iload_n 3, 1) := dk_29 (dk_at dksX3_pull_5 5 rfl rfl)
theorem dX3_pull_120 : decode cX3_pull 120 = .ok (.goto 4, 3) := dk_167 0 4 (dk_at dksX3_pull_5 6 rfl rfl)
theorem dX3_pull_123 : decode cX3_pull 123 = .ok (.iload_n 2, 1) := dk_28 (dk_at dksX3_pull_5 9 rfl rfl)
theorem dX3_pull_124 : decode cX3_pull 124 = .ok (.ireturn, 1) := dk_172 (dk_at dksX3_pull_5 10 rfl rfl)
abbrev cX3_knot : ByteArray := prog_17_method_101_code
def yX3_knot : MethodName := ⟨RX3, "knot", "(II)I"⟩
def dkwX3_knot_5 : List UInt8 := [17, 2, 66, 46, 172]
abbrev dktX3_knot_5 : List UInt8 := dkwX3_knot_5 ++ []
def dkwX3_knot_4 : List UInt8 := [104, 96, 4, 96, 28, 79, 42, 180, 0, 7, 17, 2, 66, 92, 46, 4, 96, 79, 42, 180, 0, 7]
abbrev dktX3_knot_4 : List UInt8 := dkwX3_knot_4 ++ dktX3_knot_5
def dkwX3_knot_3 : List UInt8 := [17, 2, 66, 46, 104, 96, 27, 79, 42, 180, 0, 7, 17, 3, 31, 5, 42, 180, 0, 7, 17, 2, 66, 46]
abbrev dktX3_knot_3 : List UInt8 := dkwX3_knot_3 ++ dktX3_knot_4
def dkwX3_knot_2 : List UInt8 := [17, 2, 66, 46, 16, 12, 160, 0, 5, 2, 172, 42, 180, 0, 7, 17, 3, 31, 5, 42, 180, 0, 7]
abbrev dktX3_knot_2 : List UInt8 := dkwX3_knot_2 ++ dktX3_knot_3
def dkwX3_knot_1 : List UInt8 := [153, 0, 31, 28, 3, 16, 9, 184, 0, 59, 153, 0, 21, 27, 28, 159, 0, 16, 42, 180, 0, 7]
abbrev dktX3_knot_1 : List UInt8 := dkwX3_knot_1 ++ dktX3_knot_2
def dkwX3_knot_0 : List UInt8 := [27, 2, 160, 0, 14, 42, 180, 0, 7, 17, 2, 66, 3, 79, 3, 172, 27, 3, 16, 9, 184, 0, 59]
abbrev dktX3_knot_0 : List UInt8 := dkwX3_knot_0 ++ dktX3_knot_1
theorem dksX3_knot_0 : cX3_knot.data.toList.drop 0 = dktX3_knot_0 := by decide +kernel
theorem dksX3_knot_1 : cX3_knot.data.toList.drop 23 = dktX3_knot_1 := dk_seg dksX3_knot_0 23 rfl rfl
theorem dksX3_knot_2 : cX3_knot.data.toList.drop 45 = dktX3_knot_2 := dk_seg dksX3_knot_1 22 rfl rfl
theorem dksX3_knot_3 : cX3_knot.data.toList.drop 68 = dktX3_knot_3 := dk_seg dksX3_knot_2 23 rfl rfl
theorem dksX3_knot_4 : cX3_knot.data.toList.drop 92 = dktX3_knot_4 := dk_seg dksX3_knot_3 24 rfl rfl
theorem dksX3_knot_5 : cX3_knot.data.toList.drop 114 = dktX3_knot_5 := dk_seg dksX3_knot_4 22 rfl rfl
theorem dX3_knot_0 : decode cX3_knot 0 = .ok (.iload_n 1, 1) := dk_27 (dk_at dksX3_knot_0 0 rfl rfl)
theorem dX3_knot_1 : decode cX3_knot 1 = .ok (.iconst (-1), 1) := dk_2 (dk_at dksX3_knot_0 1 rfl rfl)
theorem dX3_knot_2 : decode cX3_knot 2 = .ok (.if_icmp .ne 14, 3) := dk_160 0 14 (dk_at dksX3_knot_0 2 rfl rfl)
theorem dX3_knot_5 : decode cX3_knot 5 = .ok (.aload_n 0, 1) := dk_42 (dk_at dksX3_knot_0 5 rfl rfl)
theorem dX3_knot_6 : decode cX3_knot 6 = .ok (.getfield 7, 3) := dk_180 0 7 (dk_at dksX3_knot_0 6 rfl rfl)
theorem dX3_knot_9 : decode cX3_knot 9 = .ok (.sipush 578, 3) := dk_17 2 66 (dk_at dksX3_knot_0 9 rfl rfl)
theorem dX3_knot_12 : decode cX3_knot 12 = .ok (.iconst 0, 1) := dk_3 (dk_at dksX3_knot_0 12 rfl rfl)
theorem dX3_knot_13 : decode cX3_knot 13 = .ok (.iastore, 1) := dk_79 (dk_at dksX3_knot_0 13 rfl rfl)
theorem dX3_knot_14 : decode cX3_knot 14 = .ok (.iconst 0, 1) := dk_3 (dk_at dksX3_knot_0 14 rfl rfl)
theorem dX3_knot_15 : decode cX3_knot 15 = .ok (.ireturn, 1) := dk_172 (dk_at dksX3_knot_0 15 rfl rfl)
theorem dX3_knot_16 : decode cX3_knot 16 = .ok (.iload_n 1, 1) := dk_27 (dk_at dksX3_knot_0 16 rfl rfl)
theorem dX3_knot_17 : decode cX3_knot 17 = .ok (.iconst 0, 1) := dk_3 (dk_at dksX3_knot_0 17 rfl rfl)
theorem dX3_knot_18 : decode cX3_knot 18 = .ok (.bipush 9, 2) := dk_16 9 (dk_at dksX3_knot_0 18 rfl rfl)
theorem dX3_knot_20 : decode cX3_knot 20 = .ok (.invokestatic 59, 3) := dk_184 0 59 (dk_at dksX3_knot_0 20 rfl rfl)
theorem dX3_knot_23 : decode cX3_knot 23 = .ok (.ifCond .eq 31, 3) := dk_153 0 31 (dk_at dksX3_knot_1 0 rfl rfl)
theorem dX3_knot_26 : decode cX3_knot 26 = .ok (.iload_n 2, 1) := dk_28 (dk_at dksX3_knot_1 3 rfl rfl)
theorem dX3_knot_27 : decode cX3_knot 27 = .ok (.iconst 0, 1) := dk_3 (dk_at dksX3_knot_1 4 rfl rfl)
theorem dX3_knot_28 : decode cX3_knot 28 = .ok (.bipush 9, 2) := dk_16 9 (dk_at dksX3_knot_1 5 rfl rfl)
theorem dX3_knot_30 : decode cX3_knot 30 = .ok (.invokestatic 59, 3) := dk_184 0 59 (dk_at dksX3_knot_1 7 rfl rfl)
theorem dX3_knot_33 : decode cX3_knot 33 = .ok (.ifCond .eq 21, 3) := dk_153 0 21 (dk_at dksX3_knot_1 10 rfl rfl)
theorem dX3_knot_36 : decode cX3_knot 36 = .ok (.iload_n 1, 1) := dk_27 (dk_at dksX3_knot_1 13 rfl rfl)
theorem dX3_knot_37 : decode cX3_knot 37 = .ok (.iload_n 2, 1) := dk_28 (dk_at dksX3_knot_1 14 rfl rfl)
theorem dX3_knot_38 : decode cX3_knot 38 = .ok (.if_icmp .eq 16, 3) := dk_159 0 16 (dk_at dksX3_knot_1 15 rfl rfl)
theorem dX3_knot_41 : decode cX3_knot 41 = .ok (.aload_n 0, 1) := dk_42 (dk_at dksX3_knot_1 18 rfl rfl)
theorem dX3_knot_42 : decode cX3_knot 42 = .ok (.getfield 7, 3) := dk_180 0 7 (dk_at dksX3_knot_1 19 rfl rfl)
theorem dX3_knot_45 : decode cX3_knot 45 = .ok (.sipush 578, 3) := dk_17 2 66 (dk_at dksX3_knot_2 0 rfl rfl)
theorem dX3_knot_48 : decode cX3_knot 48 = .ok (.iaload, 1) := dk_46 (dk_at dksX3_knot_2 3 rfl rfl)
theorem dX3_knot_49 : decode cX3_knot 49 = .ok (.bipush 12, 2) := dk_16 12 (dk_at dksX3_knot_2 4 rfl rfl)
theorem dX3_knot_51 : decode cX3_knot 51 = .ok (.if_icmp .ne 5, 3) := dk_160 0 5 (dk_at dksX3_knot_2 6 rfl rfl)
theorem dX3_knot_54 : decode cX3_knot 54 = .ok (.iconst (-1), 1) := dk_2 (dk_at dksX3_knot_2 9 rfl rfl)
theorem dX3_knot_55 : decode cX3_knot 55 = .ok (.ireturn, 1) := dk_172 (dk_at dksX3_knot_2 10 rfl rfl)
theorem dX3_knot_56 : decode cX3_knot 56 = .ok (.aload_n 0, 1) := dk_42 (dk_at dksX3_knot_2 11 rfl rfl)
theorem dX3_knot_57 : decode cX3_knot 57 = .ok (.getfield 7, 3) := dk_180 0 7 (dk_at dksX3_knot_2 12 rfl rfl)
theorem dX3_knot_60 : decode cX3_knot 60 = .ok (.sipush 799, 3) := dk_17 3 31 (dk_at dksX3_knot_2 15 rfl rfl)
theorem dX3_knot_63 : decode cX3_knot 63 = .ok (.iconst 2, 1) := dk_5 (dk_at dksX3_knot_2 18 rfl rfl)
theorem dX3_knot_64 : decode cX3_knot 64 = .ok (.aload_n 0, 1) := dk_42 (dk_at dksX3_knot_2 19 rfl rfl)
theorem dX3_knot_65 : decode cX3_knot 65 = .ok (.getfield 7, 3) := dk_180 0 7 (dk_at dksX3_knot_2 20 rfl rfl)
theorem dX3_knot_68 : decode cX3_knot 68 = .ok (.sipush 578, 3) := dk_17 2 66 (dk_at dksX3_knot_3 0 rfl rfl)
theorem dX3_knot_71 : decode cX3_knot 71 = .ok (.iaload, 1) := dk_46 (dk_at dksX3_knot_3 3 rfl rfl)
theorem dX3_knot_72 : decode cX3_knot 72 = .ok (.imul, 1) := dk_104 (dk_at dksX3_knot_3 4 rfl rfl)
theorem dX3_knot_73 : decode cX3_knot 73 = .ok (.iadd, 1) := dk_96 (dk_at dksX3_knot_3 5 rfl rfl)
theorem dX3_knot_74 : decode cX3_knot 74 = .ok (.iload_n 1, 1) := dk_27 (dk_at dksX3_knot_3 6 rfl rfl)
theorem dX3_knot_75 : decode cX3_knot 75 = .ok (.iastore, 1) := dk_79 (dk_at dksX3_knot_3 7 rfl rfl)
theorem dX3_knot_76 : decode cX3_knot 76 = .ok (.aload_n 0, 1) := dk_42 (dk_at dksX3_knot_3 8 rfl rfl)
theorem dX3_knot_77 : decode cX3_knot 77 = .ok (.getfield 7, 3) := dk_180 0 7 (dk_at dksX3_knot_3 9 rfl rfl)
theorem dX3_knot_80 : decode cX3_knot 80 = .ok (.sipush 799, 3) := dk_17 3 31 (dk_at dksX3_knot_3 12 rfl rfl)
theorem dX3_knot_83 : decode cX3_knot 83 = .ok (.iconst 2, 1) := dk_5 (dk_at dksX3_knot_3 15 rfl rfl)
theorem dX3_knot_84 : decode cX3_knot 84 = .ok (.aload_n 0, 1) := dk_42 (dk_at dksX3_knot_3 16 rfl rfl)
theorem dX3_knot_85 : decode cX3_knot 85 = .ok (.getfield 7, 3) := dk_180 0 7 (dk_at dksX3_knot_3 17 rfl rfl)
theorem dX3_knot_88 : decode cX3_knot 88 = .ok (.sipush 578, 3) := dk_17 2 66 (dk_at dksX3_knot_3 20 rfl rfl)
theorem dX3_knot_91 : decode cX3_knot 91 = .ok (.iaload, 1) := dk_46 (dk_at dksX3_knot_3 23 rfl rfl)
theorem dX3_knot_92 : decode cX3_knot 92 = .ok (.imul, 1) := dk_104 (dk_at dksX3_knot_4 0 rfl rfl)
theorem dX3_knot_93 : decode cX3_knot 93 = .ok (.iadd, 1) := dk_96 (dk_at dksX3_knot_4 1 rfl rfl)
theorem dX3_knot_94 : decode cX3_knot 94 = .ok (.iconst 1, 1) := dk_4 (dk_at dksX3_knot_4 2 rfl rfl)
theorem dX3_knot_95 : decode cX3_knot 95 = .ok (.iadd, 1) := dk_96 (dk_at dksX3_knot_4 3 rfl rfl)
theorem dX3_knot_96 : decode cX3_knot 96 = .ok (.iload_n 2, 1) := dk_28 (dk_at dksX3_knot_4 4 rfl rfl)
theorem dX3_knot_97 : decode cX3_knot 97 = .ok (.iastore, 1) := dk_79 (dk_at dksX3_knot_4 5 rfl rfl)
theorem dX3_knot_98 : decode cX3_knot 98 = .ok (.aload_n 0, 1) := dk_42 (dk_at dksX3_knot_4 6 rfl rfl)
theorem dX3_knot_99 : decode cX3_knot 99 = .ok (.getfield 7, 3) := dk_180 0 7 (dk_at dksX3_knot_4 7 rfl rfl)
theorem dX3_knot_102 : decode cX3_knot 102 = .ok (.sipush 578, 3) := dk_17 2 66 (dk_at dksX3_knot_4 10 rfl rfl)
theorem dX3_knot_105 : decode cX3_knot 105 = .ok (.dup2, 1) := dk_92 (dk_at dksX3_knot_4 13 rfl rfl)
theorem dX3_knot_106 : decode cX3_knot 106 = .ok (.iaload, 1) := dk_46 (dk_at dksX3_knot_4 14 rfl rfl)
theorem dX3_knot_107 : decode cX3_knot 107 = .ok (.iconst 1, 1) := dk_4 (dk_at dksX3_knot_4 15 rfl rfl)
theorem dX3_knot_108 : decode cX3_knot 108 = .ok (.iadd, 1) := dk_96 (dk_at dksX3_knot_4 16 rfl rfl)
theorem dX3_knot_109 : decode cX3_knot 109 = .ok (.iastore, 1) := dk_79 (dk_at dksX3_knot_4 17 rfl rfl)
theorem dX3_knot_110 : decode cX3_knot 110 = .ok (.aload_n 0, 1) := dk_42 (dk_at dksX3_knot_4 18 rfl rfl)
theorem dX3_knot_111 : decode cX3_knot 111 = .ok (.getfield 7, 3) := dk_180 0 7 (dk_at dksX3_knot_4 19 rfl rfl)
theorem dX3_knot_114 : decode cX3_knot 114 = .ok (.sipush 578, 3) := dk_17 2 66 (dk_at dksX3_knot_5 0 rfl rfl)
theorem dX3_knot_117 : decode cX3_knot 117 = .ok (.iaload, 1) := dk_46 (dk_at dksX3_knot_5 3 rfl rfl)
theorem dX3_knot_118 : decode cX3_knot 118 = .ok (.ireturn, 1) := dk_172 (dk_at dksX3_knot_5 4 rfl rfl)
abbrev cX3_cuts : ByteArray := prog_17_method_103_code
def yX3_cuts : MethodName := ⟨RX3, "cuts", "(I)I"⟩
def dkwX3_cuts_2 : List UInt8 := [167, 255, 225, 27, 154, 0, 10, 28, 184, 1, 138, 167, 0, 4, 28, 172]
abbrev dktX3_cuts_2 : List UInt8 := dkwX3_cuts_2 ++ []
def dkwX3_cuts_1 : List UInt8 := [29, 184, 1, 138, 28, 184, 1, 138, 162, 0, 13, 42, 29, 182, 1, 153, 153, 0, 5, 29, 61, 132, 3, 1]
abbrev dktX3_cuts_1 : List UInt8 := dkwX3_cuts_1 ++ dktX3_cuts_2
def dkwX3_cuts_0 : List UInt8 := [27, 3, 4, 184, 0, 59, 154, 0, 5, 2, 172, 17, 3, 255, 61, 3, 62, 29, 17, 4, 0, 162, 0, 30]
abbrev dktX3_cuts_0 : List UInt8 := dkwX3_cuts_0 ++ dktX3_cuts_1
theorem dksX3_cuts_0 : cX3_cuts.data.toList.drop 0 = dktX3_cuts_0 := by decide +kernel
theorem dksX3_cuts_1 : cX3_cuts.data.toList.drop 24 = dktX3_cuts_1 := dk_seg dksX3_cuts_0 24 rfl rfl
theorem dksX3_cuts_2 : cX3_cuts.data.toList.drop 48 = dktX3_cuts_2 := dk_seg dksX3_cuts_1 24 rfl rfl
theorem dX3_cuts_0 : decode cX3_cuts 0 = .ok (.iload_n 1, 1) := dk_27 (dk_at dksX3_cuts_0 0 rfl rfl)
theorem dX3_cuts_1 : decode cX3_cuts 1 = .ok (.iconst 0, 1) := dk_3 (dk_at dksX3_cuts_0 1 rfl rfl)
theorem dX3_cuts_2 : decode cX3_cuts 2 = .ok (.iconst 1, 1) := dk_4 (dk_at dksX3_cuts_0 2 rfl rfl)
theorem dX3_cuts_3 : decode cX3_cuts 3 = .ok (.invokestatic 59, 3) := dk_184 0 59 (dk_at dksX3_cuts_0 3 rfl rfl)
theorem dX3_cuts_6 : decode cX3_cuts 6 = .ok (.ifCond .ne 5, 3) := dk_154 0 5 (dk_at dksX3_cuts_0 6 rfl rfl)
theorem dX3_cuts_9 : decode cX3_cuts 9 = .ok (.iconst (-1), 1) := dk_2 (dk_at dksX3_cuts_0 9 rfl rfl)
theorem dX3_cuts_10 : decode cX3_cuts 10 = .ok (.ireturn, 1) := dk_172 (dk_at dksX3_cuts_0 10 rfl rfl)
theorem dX3_cuts_11 : decode cX3_cuts 11 = .ok (.sipush 1023, 3) := dk_17 3 255 (dk_at dksX3_cuts_0 11 rfl rfl)
theorem dX3_cuts_14 : decode cX3_cuts 14 = .ok (.istore_n 2, 1) := dk_61 (dk_at dksX3_cuts_0 14 rfl rfl)
theorem dX3_cuts_15 : decode cX3_cuts 15 = .ok (.iconst 0, 1) := dk_3 (dk_at dksX3_cuts_0 15 rfl rfl)
theorem dX3_cuts_16 : decode cX3_cuts 16 = .ok (.istore_n 3, 1) := dk_62 (dk_at dksX3_cuts_0 16 rfl rfl)
theorem dX3_cuts_17 : decode cX3_cuts 17 = .ok (.iload_n 3, 1) := dk_29 (dk_at dksX3_cuts_0 17 rfl rfl)
theorem dX3_cuts_18 : decode cX3_cuts 18 = .ok (.sipush 1024, 3) := dk_17 4 0 (dk_at dksX3_cuts_0 18 rfl rfl)
theorem dX3_cuts_21 : decode cX3_cuts 21 = .ok (.if_icmp .ge 30, 3) := dk_162 0 30 (dk_at dksX3_cuts_0 21 rfl rfl)
theorem dX3_cuts_24 : decode cX3_cuts 24 = .ok (.iload_n 3, 1) := dk_29 (dk_at dksX3_cuts_1 0 rfl rfl)
theorem dX3_cuts_25 : decode cX3_cuts 25 = .ok (.invokestatic 394, 3) := dk_184 1 138 (dk_at dksX3_cuts_1 1 rfl rfl)
theorem dX3_cuts_28 : decode cX3_cuts 28 = .ok (.iload_n 2, 1) := dk_28 (dk_at dksX3_cuts_1 4 rfl rfl)
theorem dX3_cuts_29 : decode cX3_cuts 29 = .ok (.invokestatic 394, 3) := dk_184 1 138 (dk_at dksX3_cuts_1 5 rfl rfl)
theorem dX3_cuts_32 : decode cX3_cuts 32 = .ok (.if_icmp .ge 13, 3) := dk_162 0 13 (dk_at dksX3_cuts_1 8 rfl rfl)
theorem dX3_cuts_35 : decode cX3_cuts 35 = .ok (.aload_n 0, 1) := dk_42 (dk_at dksX3_cuts_1 11 rfl rfl)
theorem dX3_cuts_36 : decode cX3_cuts 36 = .ok (.iload_n 3, 1) := dk_29 (dk_at dksX3_cuts_1 12 rfl rfl)
theorem dX3_cuts_37 : decode cX3_cuts 37 = .ok (.invokevirtual 409, 3) := dk_182 1 153 (dk_at dksX3_cuts_1 13 rfl rfl)
theorem dX3_cuts_40 : decode cX3_cuts 40 = .ok (.ifCond .eq 5, 3) := dk_153 0 5 (dk_at dksX3_cuts_1 16 rfl rfl)
theorem dX3_cuts_43 : decode cX3_cuts 43 = .ok (.iload_n 3, 1) := dk_29 (dk_at dksX3_cuts_1 19 rfl rfl)
theorem dX3_cuts_44 : decode cX3_cuts 44 = .ok (.istore_n 2, 1) := dk_61 (dk_at dksX3_cuts_1 20 rfl rfl)
theorem dX3_cuts_45 : decode cX3_cuts 45 = .ok (.iinc 3 1, 3) := dk_132 3 1 (dk_at dksX3_cuts_1 21 rfl rfl)
theorem dX3_cuts_48 : decode cX3_cuts 48 = .ok (.goto (-31), 3) := dk_167 255 225 (dk_at dksX3_cuts_2 0 rfl rfl)
theorem dX3_cuts_51 : decode cX3_cuts 51 = .ok (.iload_n 1, 1) := dk_27 (dk_at dksX3_cuts_2 3 rfl rfl)
theorem dX3_cuts_52 : decode cX3_cuts 52 = .ok (.ifCond .ne 10, 3) := dk_154 0 10 (dk_at dksX3_cuts_2 4 rfl rfl)
theorem dX3_cuts_55 : decode cX3_cuts 55 = .ok (.iload_n 2, 1) := dk_28 (dk_at dksX3_cuts_2 7 rfl rfl)
theorem dX3_cuts_56 : decode cX3_cuts 56 = .ok (.invokestatic 394, 3) := dk_184 1 138 (dk_at dksX3_cuts_2 8 rfl rfl)
theorem dX3_cuts_59 : decode cX3_cuts 59 = .ok (.goto 4, 3) := dk_167 0 4 (dk_at dksX3_cuts_2 11 rfl rfl)
theorem dX3_cuts_62 : decode cX3_cuts 62 = .ok (.iload_n 2, 1) := dk_28 (dk_at dksX3_cuts_2 14 rfl rfl)
theorem dX3_cuts_63 : decode cX3_cuts 63 = .ok (.ireturn, 1) := dk_172 (dk_at dksX3_cuts_2 15 rfl rfl)
abbrev cX3_isCut : ByteArray := prog_17_method_102_code
def yX3_isCut : MethodName := ⟨RX3, "isCut", "(I)Z"⟩
def dkwX3_isCut_2 : List UInt8 := [122, 4, 126, 154, 0, 5, 3, 172, 132, 2, 1, 167, 255, 199, 4, 172]
abbrev dktX3_isCut_2 : List UInt8 := dkwX3_isCut_2 ++ []
def dkwX3_isCut_1 : List UInt8 := [104, 96, 46, 122, 4, 126, 154, 0, 26, 27, 42, 180, 0, 7, 17, 3, 31, 5, 28, 104, 96, 4, 96, 46]
abbrev dktX3_isCut_1 : List UInt8 := dkwX3_isCut_1 ++ dktX3_isCut_2
def dkwX3_isCut_0 : List UInt8 := [3, 61, 28, 42, 180, 0, 7, 17, 2, 66, 46, 162, 0, 51, 27, 42, 180, 0, 7, 17, 3, 31, 5, 28]
abbrev dktX3_isCut_0 : List UInt8 := dkwX3_isCut_0 ++ dktX3_isCut_1
theorem dksX3_isCut_0 : cX3_isCut.data.toList.drop 0 = dktX3_isCut_0 := by decide +kernel
theorem dksX3_isCut_1 : cX3_isCut.data.toList.drop 24 = dktX3_isCut_1 := dk_seg dksX3_isCut_0 24 rfl rfl
theorem dksX3_isCut_2 : cX3_isCut.data.toList.drop 48 = dktX3_isCut_2 := dk_seg dksX3_isCut_1 24 rfl rfl
theorem dX3_isCut_0 : decode cX3_isCut 0 = .ok (.iconst 0, 1) := dk_3 (dk_at dksX3_isCut_0 0 rfl rfl)
theorem dX3_isCut_1 : decode cX3_isCut 1 = .ok (.istore_n 2, 1) := dk_61 (dk_at dksX3_isCut_0 1 rfl rfl)
theorem dX3_isCut_2 : decode cX3_isCut 2 = .ok (.iload_n 2, 1) := dk_28 (dk_at dksX3_isCut_0 2 rfl rfl)
theorem dX3_isCut_3 : decode cX3_isCut 3 = .ok (.aload_n 0, 1) := dk_42 (dk_at dksX3_isCut_0 3 rfl rfl)
theorem dX3_isCut_4 : decode cX3_isCut 4 = .ok (.getfield 7, 3) := dk_180 0 7 (dk_at dksX3_isCut_0 4 rfl rfl)
theorem dX3_isCut_7 : decode cX3_isCut 7 = .ok (.sipush 578, 3) := dk_17 2 66 (dk_at dksX3_isCut_0 7 rfl rfl)
theorem dX3_isCut_10 : decode cX3_isCut 10 = .ok (.iaload, 1) := dk_46 (dk_at dksX3_isCut_0 10 rfl rfl)
theorem dX3_isCut_11 : decode cX3_isCut 11 = .ok (.if_icmp .ge 51, 3) := dk_162 0 51 (dk_at dksX3_isCut_0 11 rfl rfl)
theorem dX3_isCut_14 : decode cX3_isCut 14 = .ok (.iload_n 1, 1) := dk_27 (dk_at dksX3_isCut_0 14 rfl rfl)
theorem dX3_isCut_15 : decode cX3_isCut 15 = .ok (.aload_n 0, 1) := dk_42 (dk_at dksX3_isCut_0 15 rfl rfl)
theorem dX3_isCut_16 : decode cX3_isCut 16 = .ok (.getfield 7, 3) := dk_180 0 7 (dk_at dksX3_isCut_0 16 rfl rfl)
theorem dX3_isCut_19 : decode cX3_isCut 19 = .ok (.sipush 799, 3) := dk_17 3 31 (dk_at dksX3_isCut_0 19 rfl rfl)
theorem dX3_isCut_22 : decode cX3_isCut 22 = .ok (.iconst 2, 1) := dk_5 (dk_at dksX3_isCut_0 22 rfl rfl)
theorem dX3_isCut_23 : decode cX3_isCut 23 = .ok (.iload_n 2, 1) := dk_28 (dk_at dksX3_isCut_0 23 rfl rfl)
theorem dX3_isCut_24 : decode cX3_isCut 24 = .ok (.imul, 1) := dk_104 (dk_at dksX3_isCut_1 0 rfl rfl)
theorem dX3_isCut_25 : decode cX3_isCut 25 = .ok (.iadd, 1) := dk_96 (dk_at dksX3_isCut_1 1 rfl rfl)
theorem dX3_isCut_26 : decode cX3_isCut 26 = .ok (.iaload, 1) := dk_46 (dk_at dksX3_isCut_1 2 rfl rfl)
theorem dX3_isCut_27 : decode cX3_isCut 27 = .ok (.ishr, 1) := dk_122 (dk_at dksX3_isCut_1 3 rfl rfl)
theorem dX3_isCut_28 : decode cX3_isCut 28 = .ok (.iconst 1, 1) := dk_4 (dk_at dksX3_isCut_1 4 rfl rfl)
theorem dX3_isCut_29 : decode cX3_isCut 29 = .ok (.iand, 1) := dk_126 (dk_at dksX3_isCut_1 5 rfl rfl)
theorem dX3_isCut_30 : decode cX3_isCut 30 = .ok (.ifCond .ne 26, 3) := dk_154 0 26 (dk_at dksX3_isCut_1 6 rfl rfl)
theorem dX3_isCut_33 : decode cX3_isCut 33 = .ok (.iload_n 1, 1) := dk_27 (dk_at dksX3_isCut_1 9 rfl rfl)
theorem dX3_isCut_34 : decode cX3_isCut 34 = .ok (.aload_n 0, 1) := dk_42 (dk_at dksX3_isCut_1 10 rfl rfl)
theorem dX3_isCut_35 : decode cX3_isCut 35 = .ok (.getfield 7, 3) := dk_180 0 7 (dk_at dksX3_isCut_1 11 rfl rfl)
theorem dX3_isCut_38 : decode cX3_isCut 38 = .ok (.sipush 799, 3) := dk_17 3 31 (dk_at dksX3_isCut_1 14 rfl rfl)
theorem dX3_isCut_41 : decode cX3_isCut 41 = .ok (.iconst 2, 1) := dk_5 (dk_at dksX3_isCut_1 17 rfl rfl)
theorem dX3_isCut_42 : decode cX3_isCut 42 = .ok (.iload_n 2, 1) := dk_28 (dk_at dksX3_isCut_1 18 rfl rfl)
theorem dX3_isCut_43 : decode cX3_isCut 43 = .ok (.imul, 1) := dk_104 (dk_at dksX3_isCut_1 19 rfl rfl)
theorem dX3_isCut_44 : decode cX3_isCut 44 = .ok (.iadd, 1) := dk_96 (dk_at dksX3_isCut_1 20 rfl rfl)
theorem dX3_isCut_45 : decode cX3_isCut 45 = .ok (.iconst 1, 1) := dk_4 (dk_at dksX3_isCut_1 21 rfl rfl)
theorem dX3_isCut_46 : decode cX3_isCut 46 = .ok (.iadd, 1) := dk_96 (dk_at dksX3_isCut_1 22 rfl rfl)
theorem dX3_isCut_47 : decode cX3_isCut 47 = .ok (.iaload, 1) := dk_46 (dk_at dksX3_isCut_1 23 rfl rfl)
theorem dX3_isCut_48 : decode cX3_isCut 48 = .ok (.ishr, 1) := dk_122 (dk_at dksX3_isCut_2 0 rfl rfl)
theorem dX3_isCut_49 : decode cX3_isCut 49 = .ok (.iconst 1, 1) := dk_4 (dk_at dksX3_isCut_2 1 rfl rfl)
theorem dX3_isCut_50 : decode cX3_isCut 50 = .ok (.iand, 1) := dk_126 (dk_at dksX3_isCut_2 2 rfl rfl)
theorem dX3_isCut_51 : decode cX3_isCut 51 = .ok (.ifCond .ne 5, 3) := dk_154 0 5 (dk_at dksX3_isCut_2 3 rfl rfl)
theorem dX3_isCut_54 : decode cX3_isCut 54 = .ok (.iconst 0, 1) := dk_3 (dk_at dksX3_isCut_2 6 rfl rfl)
theorem dX3_isCut_55 : decode cX3_isCut 55 = .ok (.ireturn, 1) := dk_172 (dk_at dksX3_isCut_2 7 rfl rfl)
theorem dX3_isCut_56 : decode cX3_isCut 56 = .ok (.iinc 2 1, 3) := dk_132 2 1 (dk_at dksX3_isCut_2 8 rfl rfl)
theorem dX3_isCut_59 : decode cX3_isCut 59 = .ok (.goto (-57), 3) := dk_167 255 199 (dk_at dksX3_isCut_2 11 rfl rfl)
theorem dX3_isCut_62 : decode cX3_isCut 62 = .ok (.iconst 1, 1) := dk_4 (dk_at dksX3_isCut_2 14 rfl rfl)
theorem dX3_isCut_63 : decode cX3_isCut 63 = .ok (.ireturn, 1) := dk_172 (dk_at dksX3_isCut_2 15 rfl rfl)
abbrev cX3_keeps : ByteArray := prog_17_method_105_code
def yX3_keeps : MethodName := ⟨RX3, "keeps", "(II)I"⟩
def dkwX3_keeps_3 : List UInt8 := [21, 4, 62, 132, 4, 1, 167, 255, 208, 28, 154, 0, 12, 42, 29, 5, 182, 1, 156, 167, 0, 4, 29, 172]
abbrev dktX3_keeps_3 : List UInt8 := dkwX3_keeps_3 ++ []
def dkwX3_keeps_2 : List UInt8 := [182, 1, 156, 27, 163, 0, 22, 42, 21, 4, 5, 182, 1, 156, 42, 29, 5, 182, 1, 156, 164, 0, 6]
abbrev dktX3_keeps_2 : List UInt8 := dkwX3_keeps_2 ++ dktX3_keeps_3
def dkwX3_keeps_1 : List UInt8 := [4, 54, 4, 21, 4, 4, 42, 180, 0, 7, 17, 2, 60, 46, 120, 162, 0, 39, 42, 21, 4, 4]
abbrev dktX3_keeps_1 : List UInt8 := dkwX3_keeps_1 ++ dktX3_keeps_2
def dkwX3_keeps_0 : List UInt8 := [27, 4, 17, 0, 200, 184, 0, 59, 153, 0, 12, 28, 3, 4, 184, 0, 59, 154, 0, 5, 2, 172, 3, 62]
abbrev dktX3_keeps_0 : List UInt8 := dkwX3_keeps_0 ++ dktX3_keeps_1
theorem dksX3_keeps_0 : cX3_keeps.data.toList.drop 0 = dktX3_keeps_0 := by decide +kernel
theorem dksX3_keeps_1 : cX3_keeps.data.toList.drop 24 = dktX3_keeps_1 := dk_seg dksX3_keeps_0 24 rfl rfl
theorem dksX3_keeps_2 : cX3_keeps.data.toList.drop 46 = dktX3_keeps_2 := dk_seg dksX3_keeps_1 22 rfl rfl
theorem dksX3_keeps_3 : cX3_keeps.data.toList.drop 69 = dktX3_keeps_3 := dk_seg dksX3_keeps_2 23 rfl rfl
theorem dX3_keeps_0 : decode cX3_keeps 0 = .ok (.iload_n 1, 1) := dk_27 (dk_at dksX3_keeps_0 0 rfl rfl)
theorem dX3_keeps_1 : decode cX3_keeps 1 = .ok (.iconst 1, 1) := dk_4 (dk_at dksX3_keeps_0 1 rfl rfl)
theorem dX3_keeps_2 : decode cX3_keeps 2 = .ok (.sipush 200, 3) := dk_17 0 200 (dk_at dksX3_keeps_0 2 rfl rfl)
theorem dX3_keeps_5 : decode cX3_keeps 5 = .ok (.invokestatic 59, 3) := dk_184 0 59 (dk_at dksX3_keeps_0 5 rfl rfl)
theorem dX3_keeps_8 : decode cX3_keeps 8 = .ok (.ifCond .eq 12, 3) := dk_153 0 12 (dk_at dksX3_keeps_0 8 rfl rfl)
theorem dX3_keeps_11 : decode cX3_keeps 11 = .ok (.iload_n 2, 1) := dk_28 (dk_at dksX3_keeps_0 11 rfl rfl)
theorem dX3_keeps_12 : decode cX3_keeps 12 = .ok (.iconst 0, 1) := dk_3 (dk_at dksX3_keeps_0 12 rfl rfl)
theorem dX3_keeps_13 : decode cX3_keeps 13 = .ok (.iconst 1, 1) := dk_4 (dk_at dksX3_keeps_0 13 rfl rfl)
theorem dX3_keeps_14 : decode cX3_keeps 14 = .ok (.invokestatic 59, 3) := dk_184 0 59 (dk_at dksX3_keeps_0 14 rfl rfl)
theorem dX3_keeps_17 : decode cX3_keeps 17 = .ok (.ifCond .ne 5, 3) := dk_154 0 5 (dk_at dksX3_keeps_0 17 rfl rfl)
theorem dX3_keeps_20 : decode cX3_keeps 20 = .ok (.iconst (-1), 1) := dk_2 (dk_at dksX3_keeps_0 20 rfl rfl)
theorem dX3_keeps_21 : decode cX3_keeps 21 = .ok (.ireturn, 1) := dk_172 (dk_at dksX3_keeps_0 21 rfl rfl)
theorem dX3_keeps_22 : decode cX3_keeps 22 = .ok (.iconst 0, 1) := dk_3 (dk_at dksX3_keeps_0 22 rfl rfl)
theorem dX3_keeps_23 : decode cX3_keeps 23 = .ok (.istore_n 3, 1) := dk_62 (dk_at dksX3_keeps_0 23 rfl rfl)
theorem dX3_keeps_24 : decode cX3_keeps 24 = .ok (.iconst 1, 1) := dk_4 (dk_at dksX3_keeps_1 0 rfl rfl)
theorem dX3_keeps_25 : decode cX3_keeps 25 = .ok (.istore 4, 2) := dk_54 4 (dk_at dksX3_keeps_1 1 rfl rfl)
theorem dX3_keeps_27 : decode cX3_keeps 27 = .ok (.iload 4, 2) := dk_21 4 (dk_at dksX3_keeps_1 3 rfl rfl)
theorem dX3_keeps_29 : decode cX3_keeps 29 = .ok (.iconst 1, 1) := dk_4 (dk_at dksX3_keeps_1 5 rfl rfl)
theorem dX3_keeps_30 : decode cX3_keeps 30 = .ok (.aload_n 0, 1) := dk_42 (dk_at dksX3_keeps_1 6 rfl rfl)
theorem dX3_keeps_31 : decode cX3_keeps 31 = .ok (.getfield 7, 3) := dk_180 0 7 (dk_at dksX3_keeps_1 7 rfl rfl)
theorem dX3_keeps_34 : decode cX3_keeps 34 = .ok (.sipush 572, 3) := dk_17 2 60 (dk_at dksX3_keeps_1 10 rfl rfl)
theorem dX3_keeps_37 : decode cX3_keeps 37 = .ok (.iaload, 1) := dk_46 (dk_at dksX3_keeps_1 13 rfl rfl)
theorem dX3_keeps_38 : decode cX3_keeps 38 = .ok (.ishl, 1) := dk_120 (dk_at dksX3_keeps_1 14 rfl rfl)
theorem dX3_keeps_39 : decode cX3_keeps 39 = .ok (.if_icmp .ge 39, 3) := dk_162 0 39 (dk_at dksX3_keeps_1 15 rfl rfl)
theorem dX3_keeps_42 : decode cX3_keeps 42 = .ok (.aload_n 0, 1) := dk_42 (dk_at dksX3_keeps_1 18 rfl rfl)
theorem dX3_keeps_43 : decode cX3_keeps 43 = .ok (.iload 4, 2) := dk_21 4 (dk_at dksX3_keeps_1 19 rfl rfl)
theorem dX3_keeps_45 : decode cX3_keeps 45 = .ok (.iconst 1, 1) := dk_4 (dk_at dksX3_keeps_1 21 rfl rfl)
theorem dX3_keeps_46 : decode cX3_keeps 46 = .ok (.invokevirtual 412, 3) := dk_182 1 156 (dk_at dksX3_keeps_2 0 rfl rfl)
theorem dX3_keeps_49 : decode cX3_keeps 49 = .ok (.iload_n 1, 1) := dk_27 (dk_at dksX3_keeps_2 3 rfl rfl)
theorem dX3_keeps_50 : decode cX3_keeps 50 = .ok (.if_icmp .gt 22, 3) := dk_163 0 22 (dk_at dksX3_keeps_2 4 rfl rfl)
theorem dX3_keeps_53 : decode cX3_keeps 53 = .ok (.aload_n 0, 1) := dk_42 (dk_at dksX3_keeps_2 7 rfl rfl)
theorem dX3_keeps_54 : decode cX3_keeps 54 = .ok (.iload 4, 2) := dk_21 4 (dk_at dksX3_keeps_2 8 rfl rfl)
theorem dX3_keeps_56 : decode cX3_keeps 56 = .ok (.iconst 2, 1) := dk_5 (dk_at dksX3_keeps_2 10 rfl rfl)
theorem dX3_keeps_57 : decode cX3_keeps 57 = .ok (.invokevirtual 412, 3) := dk_182 1 156 (dk_at dksX3_keeps_2 11 rfl rfl)
theorem dX3_keeps_60 : decode cX3_keeps 60 = .ok (.aload_n 0, 1) := dk_42 (dk_at dksX3_keeps_2 14 rfl rfl)
theorem dX3_keeps_61 : decode cX3_keeps 61 = .ok (.iload_n 3, 1) := dk_29 (dk_at dksX3_keeps_2 15 rfl rfl)
theorem dX3_keeps_62 : decode cX3_keeps 62 = .ok (.iconst 2, 1) := dk_5 (dk_at dksX3_keeps_2 16 rfl rfl)
theorem dX3_keeps_63 : decode cX3_keeps 63 = .ok (.invokevirtual 412, 3) := dk_182 1 156 (dk_at dksX3_keeps_2 17 rfl rfl)
theorem dX3_keeps_66 : decode cX3_keeps 66 = .ok (.if_icmp .le 6, 3) := dk_164 0 6 (dk_at dksX3_keeps_2 20 rfl rfl)
theorem dX3_keeps_69 : decode cX3_keeps 69 = .ok (.iload 4, 2) := dk_21 4 (dk_at dksX3_keeps_3 0 rfl rfl)
theorem dX3_keeps_71 : decode cX3_keeps 71 = .ok (.istore_n 3, 1) := dk_62 (dk_at dksX3_keeps_3 2 rfl rfl)
theorem dX3_keeps_72 : decode cX3_keeps 72 = .ok (.iinc 4 1, 3) := dk_132 4 1 (dk_at dksX3_keeps_3 3 rfl rfl)
theorem dX3_keeps_75 : decode cX3_keeps 75 = .ok (.goto (-48), 3) := dk_167 255 208 (dk_at dksX3_keeps_3 6 rfl rfl)
theorem dX3_keeps_78 : decode cX3_keeps 78 = .ok (.iload_n 2, 1) := dk_28 (dk_at dksX3_keeps_3 9 rfl rfl)
theorem dX3_keeps_79 : decode cX3_keeps 79 = .ok (.ifCond .ne 12, 3) := dk_154 0 12 (dk_at dksX3_keeps_3 10 rfl rfl)
theorem dX3_keeps_82 : decode cX3_keeps 82 = .ok (.aload_n 0, 1) := dk_42 (dk_at dksX3_keeps_3 13 rfl rfl)
theorem dX3_keeps_83 : decode cX3_keeps 83 = .ok (.iload_n 3, 1) := dk_29 (dk_at dksX3_keeps_3 14 rfl rfl)
theorem dX3_keeps_84 : decode cX3_keeps 84 = .ok (.iconst 2, 1) := dk_5 (dk_at dksX3_keeps_3 15 rfl rfl)
theorem dX3_keeps_85 : decode cX3_keeps 85 = .ok (.invokevirtual 412, 3) := dk_182 1 156 (dk_at dksX3_keeps_3 16 rfl rfl)
theorem dX3_keeps_88 : decode cX3_keeps 88 = .ok (.goto 4, 3) := dk_167 0 4 (dk_at dksX3_keeps_3 19 rfl rfl)
theorem dX3_keeps_91 : decode cX3_keeps 91 = .ok (.iload_n 3, 1) := dk_29 (dk_at dksX3_keeps_3 22 rfl rfl)
theorem dX3_keeps_92 : decode cX3_keeps 92 = .ok (.ireturn, 1) := dk_172 (dk_at dksX3_keeps_3 23 rfl rfl)
abbrev cX3_sumOf : ByteArray := prog_17_method_104_code
def yX3_sumOf : MethodName := ⟨RX3, "sumOf", "(II)I"⟩
def dkwX3_sumOf_2 : List UInt8 := [29, 172]
abbrev dktX3_sumOf_2 : List UInt8 := dkwX3_sumOf_2 ++ []
def dkwX3_sumOf_1 : List UInt8 := [126, 4, 160, 0, 13, 42, 21, 4, 28, 182, 1, 43, 167, 0, 4, 3, 96, 62, 132, 4, 1, 167, 255, 216]
abbrev dktX3_sumOf_1 : List UInt8 := dkwX3_sumOf_1 ++ dktX3_sumOf_2
def dkwX3_sumOf_0 : List UInt8 := [3, 62, 3, 54, 4, 21, 4, 42, 180, 0, 7, 17, 2, 60, 46, 162, 0, 33, 29, 27, 21, 4, 122, 4]
abbrev dktX3_sumOf_0 : List UInt8 := dkwX3_sumOf_0 ++ dktX3_sumOf_1
theorem dksX3_sumOf_0 : cX3_sumOf.data.toList.drop 0 = dktX3_sumOf_0 := by decide +kernel
theorem dksX3_sumOf_1 : cX3_sumOf.data.toList.drop 24 = dktX3_sumOf_1 := dk_seg dksX3_sumOf_0 24 rfl rfl
theorem dksX3_sumOf_2 : cX3_sumOf.data.toList.drop 48 = dktX3_sumOf_2 := dk_seg dksX3_sumOf_1 24 rfl rfl
theorem dX3_sumOf_0 : decode cX3_sumOf 0 = .ok (.iconst 0, 1) := dk_3 (dk_at dksX3_sumOf_0 0 rfl rfl)
theorem dX3_sumOf_1 : decode cX3_sumOf 1 = .ok (.istore_n 3, 1) := dk_62 (dk_at dksX3_sumOf_0 1 rfl rfl)
theorem dX3_sumOf_2 : decode cX3_sumOf 2 = .ok (.iconst 0, 1) := dk_3 (dk_at dksX3_sumOf_0 2 rfl rfl)
theorem dX3_sumOf_3 : decode cX3_sumOf 3 = .ok (.istore 4, 2) := dk_54 4 (dk_at dksX3_sumOf_0 3 rfl rfl)
theorem dX3_sumOf_5 : decode cX3_sumOf 5 = .ok (.iload 4, 2) := dk_21 4 (dk_at dksX3_sumOf_0 5 rfl rfl)
theorem dX3_sumOf_7 : decode cX3_sumOf 7 = .ok (.aload_n 0, 1) := dk_42 (dk_at dksX3_sumOf_0 7 rfl rfl)
theorem dX3_sumOf_8 : decode cX3_sumOf 8 = .ok (.getfield 7, 3) := dk_180 0 7 (dk_at dksX3_sumOf_0 8 rfl rfl)
theorem dX3_sumOf_11 : decode cX3_sumOf 11 = .ok (.sipush 572, 3) := dk_17 2 60 (dk_at dksX3_sumOf_0 11 rfl rfl)
theorem dX3_sumOf_14 : decode cX3_sumOf 14 = .ok (.iaload, 1) := dk_46 (dk_at dksX3_sumOf_0 14 rfl rfl)
theorem dX3_sumOf_15 : decode cX3_sumOf 15 = .ok (.if_icmp .ge 33, 3) := dk_162 0 33 (dk_at dksX3_sumOf_0 15 rfl rfl)
theorem dX3_sumOf_18 : decode cX3_sumOf 18 = .ok (.iload_n 3, 1) := dk_29 (dk_at dksX3_sumOf_0 18 rfl rfl)
theorem dX3_sumOf_19 : decode cX3_sumOf 19 = .ok (.iload_n 1, 1) := dk_27 (dk_at dksX3_sumOf_0 19 rfl rfl)
theorem dX3_sumOf_20 : decode cX3_sumOf 20 = .ok (.iload 4, 2) := dk_21 4 (dk_at dksX3_sumOf_0 20 rfl rfl)
theorem dX3_sumOf_22 : decode cX3_sumOf 22 = .ok (.ishr, 1) := dk_122 (dk_at dksX3_sumOf_0 22 rfl rfl)
theorem dX3_sumOf_23 : decode cX3_sumOf 23 = .ok (.iconst 1, 1) := dk_4 (dk_at dksX3_sumOf_0 23 rfl rfl)
theorem dX3_sumOf_24 : decode cX3_sumOf 24 = .ok (.iand, 1) := dk_126 (dk_at dksX3_sumOf_1 0 rfl rfl)
theorem dX3_sumOf_25 : decode cX3_sumOf 25 = .ok (.iconst 1, 1) := dk_4 (dk_at dksX3_sumOf_1 1 rfl rfl)
theorem dX3_sumOf_26 : decode cX3_sumOf 26 = .ok (.if_icmp .ne 13, 3) := dk_160 0 13 (dk_at dksX3_sumOf_1 2 rfl rfl)
theorem dX3_sumOf_29 : decode cX3_sumOf 29 = .ok (.aload_n 0, 1) := dk_42 (dk_at dksX3_sumOf_1 5 rfl rfl)
theorem dX3_sumOf_30 : decode cX3_sumOf 30 = .ok (.iload 4, 2) := dk_21 4 (dk_at dksX3_sumOf_1 6 rfl rfl)
theorem dX3_sumOf_32 : decode cX3_sumOf 32 = .ok (.iload_n 2, 1) := dk_28 (dk_at dksX3_sumOf_1 8 rfl rfl)
theorem dX3_sumOf_33 : decode cX3_sumOf 33 = .ok (.invokevirtual 299, 3) := dk_182 1 43 (dk_at dksX3_sumOf_1 9 rfl rfl)
theorem dX3_sumOf_36 : decode cX3_sumOf 36 = .ok (.goto 4, 3) := dk_167 0 4 (dk_at dksX3_sumOf_1 12 rfl rfl)
theorem dX3_sumOf_39 : decode cX3_sumOf 39 = .ok (.iconst 0, 1) := dk_3 (dk_at dksX3_sumOf_1 15 rfl rfl)
theorem dX3_sumOf_40 : decode cX3_sumOf 40 = .ok (.iadd, 1) := dk_96 (dk_at dksX3_sumOf_1 16 rfl rfl)
theorem dX3_sumOf_41 : decode cX3_sumOf 41 = .ok (.istore_n 3, 1) := dk_62 (dk_at dksX3_sumOf_1 17 rfl rfl)
theorem dX3_sumOf_42 : decode cX3_sumOf 42 = .ok (.iinc 4 1, 3) := dk_132 4 1 (dk_at dksX3_sumOf_1 18 rfl rfl)
theorem dX3_sumOf_45 : decode cX3_sumOf 45 = .ok (.goto (-40), 3) := dk_167 255 216 (dk_at dksX3_sumOf_1 21 rfl rfl)
theorem dX3_sumOf_48 : decode cX3_sumOf 48 = .ok (.iload_n 3, 1) := dk_29 (dk_at dksX3_sumOf_2 0 rfl rfl)
theorem dX3_sumOf_49 : decode cX3_sumOf 49 = .ok (.ireturn, 1) := dk_172 (dk_at dksX3_sumOf_2 1 rfl rfl)
abbrev cX3_trays : ByteArray := prog_17_method_109_code
def yX3_trays : MethodName := ⟨RX3, "trays", "(I)I"⟩
def dkwX3_trays_0 : List UInt8 := [42, 27, 182, 0, 243, 153, 0, 11, 42, 27, 182, 1, 165, 167, 0, 4, 2, 172]
abbrev dktX3_trays_0 : List UInt8 := dkwX3_trays_0 ++ []
theorem dksX3_trays_0 : cX3_trays.data.toList.drop 0 = dktX3_trays_0 := by decide +kernel
theorem dX3_trays_0 : decode cX3_trays 0 = .ok (.aload_n 0, 1) := dk_42 (dk_at dksX3_trays_0 0 rfl rfl)
theorem dX3_trays_1 : decode cX3_trays 1 = .ok (.iload_n 1, 1) := dk_27 (dk_at dksX3_trays_0 1 rfl rfl)
theorem dX3_trays_2 : decode cX3_trays 2 = .ok (.invokevirtual 243, 3) := dk_182 0 243 (dk_at dksX3_trays_0 2 rfl rfl)
theorem dX3_trays_5 : decode cX3_trays 5 = .ok (.ifCond .eq 11, 3) := dk_153 0 11 (dk_at dksX3_trays_0 5 rfl rfl)
theorem dX3_trays_8 : decode cX3_trays 8 = .ok (.aload_n 0, 1) := dk_42 (dk_at dksX3_trays_0 8 rfl rfl)
theorem dX3_trays_9 : decode cX3_trays 9 = .ok (.iload_n 1, 1) := dk_27 (dk_at dksX3_trays_0 9 rfl rfl)
theorem dX3_trays_10 : decode cX3_trays 10 = .ok (.invokevirtual 421, 3) := dk_182 1 165 (dk_at dksX3_trays_0 10 rfl rfl)
theorem dX3_trays_13 : decode cX3_trays 13 = .ok (.goto 4, 3) := dk_167 0 4 (dk_at dksX3_trays_0 13 rfl rfl)
theorem dX3_trays_16 : decode cX3_trays 16 = .ok (.iconst (-1), 1) := dk_2 (dk_at dksX3_trays_0 16 rfl rfl)
theorem dX3_trays_17 : decode cX3_trays 17 = .ok (.ireturn, 1) := dk_172 (dk_at dksX3_trays_0 17 rfl rfl)
abbrev cX3_traysOf : ByteArray := prog_17_method_108_code
def yX3_traysOf : MethodName := ⟨RX3, "traysOf", "(I)I"⟩
def dkwX3_traysOf_2 : List UInt8 := [167, 255, 213, 28, 172]
abbrev dktX3_traysOf_2 : List UInt8 := dkwX3_traysOf_2 ++ []
def dkwX3_traysOf_1 : List UInt8 := [153, 0, 18, 4, 42, 180, 0, 7, 17, 2, 69, 29, 96, 46, 120, 167, 0, 4, 3, 128, 61, 132, 3, 1]
abbrev dktX3_traysOf_1 : List UInt8 := dkwX3_traysOf_1 ++ dktX3_traysOf_2
def dkwX3_traysOf_0 : List UInt8 := [3, 61, 3, 62, 29, 42, 180, 0, 7, 17, 2, 59, 46, 162, 0, 37, 28, 42, 29, 27, 182, 1, 162]
abbrev dktX3_traysOf_0 : List UInt8 := dkwX3_traysOf_0 ++ dktX3_traysOf_1
theorem dksX3_traysOf_0 : cX3_traysOf.data.toList.drop 0 = dktX3_traysOf_0 := by decide +kernel
theorem dksX3_traysOf_1 : cX3_traysOf.data.toList.drop 23 = dktX3_traysOf_1 := dk_seg dksX3_traysOf_0 23 rfl rfl
theorem dksX3_traysOf_2 : cX3_traysOf.data.toList.drop 47 = dktX3_traysOf_2 := dk_seg dksX3_traysOf_1 24 rfl rfl
theorem dX3_traysOf_0 : decode cX3_traysOf 0 = .ok (.iconst 0, 1) := dk_3 (dk_at dksX3_traysOf_0 0 rfl rfl)
theorem dX3_traysOf_1 : decode cX3_traysOf 1 = .ok (.istore_n 2, 1) := dk_61 (dk_at dksX3_traysOf_0 1 rfl rfl)
theorem dX3_traysOf_2 : decode cX3_traysOf 2 = .ok (.iconst 0, 1) := dk_3 (dk_at dksX3_traysOf_0 2 rfl rfl)
theorem dX3_traysOf_3 : decode cX3_traysOf 3 = .ok (.istore_n 3, 1) := dk_62 (dk_at dksX3_traysOf_0 3 rfl rfl)
theorem dX3_traysOf_4 : decode cX3_traysOf 4 = .ok (.iload_n 3, 1) := dk_29 (dk_at dksX3_traysOf_0 4 rfl rfl)
theorem dX3_traysOf_5 : decode cX3_traysOf 5 = .ok (.aload_n 0, 1) := dk_42 (dk_at dksX3_traysOf_0 5 rfl rfl)
theorem dX3_traysOf_6 : decode cX3_traysOf 6 = .ok (.getfield 7, 3) := dk_180 0 7 (dk_at dksX3_traysOf_0 6 rfl rfl)
theorem dX3_traysOf_9 : decode cX3_traysOf 9 = .ok (.sipush 571, 3) := dk_17 2 59 (dk_at dksX3_traysOf_0 9 rfl rfl)
theorem dX3_traysOf_12 : decode cX3_traysOf 12 = .ok (.iaload, 1) := dk_46 (dk_at dksX3_traysOf_0 12 rfl rfl)
theorem dX3_traysOf_13 : decode cX3_traysOf 13 = .ok (.if_icmp .ge 37, 3) := dk_162 0 37 (dk_at dksX3_traysOf_0 13 rfl rfl)
theorem dX3_traysOf_16 : decode cX3_traysOf 16 = .ok (.iload_n 2, 1) := dk_28 (dk_at dksX3_traysOf_0 16 rfl rfl)
theorem dX3_traysOf_17 : decode cX3_traysOf 17 = .ok (.aload_n 0, 1) := dk_42 (dk_at dksX3_traysOf_0 17 rfl rfl)
theorem dX3_traysOf_18 : decode cX3_traysOf 18 = .ok (.iload_n 3, 1) := dk_29 (dk_at dksX3_traysOf_0 18 rfl rfl)
theorem dX3_traysOf_19 : decode cX3_traysOf 19 = .ok (.iload_n 1, 1) := dk_27 (dk_at dksX3_traysOf_0 19 rfl rfl)
theorem dX3_traysOf_20 : decode cX3_traysOf 20 = .ok (.invokevirtual 418, 3) := dk_182 1 162 (dk_at dksX3_traysOf_0 20 rfl rfl)
theorem dX3_traysOf_23 : decode cX3_traysOf 23 = .ok (.ifCond .eq 18, 3) := dk_153 0 18 (dk_at dksX3_traysOf_1 0 rfl rfl)
theorem dX3_traysOf_26 : decode cX3_traysOf 26 = .ok (.iconst 1, 1) := dk_4 (dk_at dksX3_traysOf_1 3 rfl rfl)
theorem dX3_traysOf_27 : decode cX3_traysOf 27 = .ok (.aload_n 0, 1) := dk_42 (dk_at dksX3_traysOf_1 4 rfl rfl)
theorem dX3_traysOf_28 : decode cX3_traysOf 28 = .ok (.getfield 7, 3) := dk_180 0 7 (dk_at dksX3_traysOf_1 5 rfl rfl)
theorem dX3_traysOf_31 : decode cX3_traysOf 31 = .ok (.sipush 581, 3) := dk_17 2 69 (dk_at dksX3_traysOf_1 8 rfl rfl)
theorem dX3_traysOf_34 : decode cX3_traysOf 34 = .ok (.iload_n 3, 1) := dk_29 (dk_at dksX3_traysOf_1 11 rfl rfl)
theorem dX3_traysOf_35 : decode cX3_traysOf 35 = .ok (.iadd, 1) := dk_96 (dk_at dksX3_traysOf_1 12 rfl rfl)
theorem dX3_traysOf_36 : decode cX3_traysOf 36 = .ok (.iaload, 1) := dk_46 (dk_at dksX3_traysOf_1 13 rfl rfl)
theorem dX3_traysOf_37 : decode cX3_traysOf 37 = .ok (.ishl, 1) := dk_120 (dk_at dksX3_traysOf_1 14 rfl rfl)
theorem dX3_traysOf_38 : decode cX3_traysOf 38 = .ok (.goto 4, 3) := dk_167 0 4 (dk_at dksX3_traysOf_1 15 rfl rfl)
theorem dX3_traysOf_41 : decode cX3_traysOf 41 = .ok (.iconst 0, 1) := dk_3 (dk_at dksX3_traysOf_1 18 rfl rfl)
theorem dX3_traysOf_42 : decode cX3_traysOf 42 = .ok (.ior, 1) := dk_128 (dk_at dksX3_traysOf_1 19 rfl rfl)
theorem dX3_traysOf_43 : decode cX3_traysOf 43 = .ok (.istore_n 2, 1) := dk_61 (dk_at dksX3_traysOf_1 20 rfl rfl)
theorem dX3_traysOf_44 : decode cX3_traysOf 44 = .ok (.iinc 3 1, 3) := dk_132 3 1 (dk_at dksX3_traysOf_1 21 rfl rfl)
theorem dX3_traysOf_47 : decode cX3_traysOf 47 = .ok (.goto (-43), 3) := dk_167 255 213 (dk_at dksX3_traysOf_2 0 rfl rfl)
theorem dX3_traysOf_50 : decode cX3_traysOf 50 = .ok (.iload_n 2, 1) := dk_28 (dk_at dksX3_traysOf_2 3 rfl rfl)
theorem dX3_traysOf_51 : decode cX3_traysOf 51 = .ok (.ireturn, 1) := dk_172 (dk_at dksX3_traysOf_2 4 rfl rfl)
abbrev cX3_stands : ByteArray := prog_17_method_107_code
def yX3_stands : MethodName := ⟨RX3, "stands", "(II)Z"⟩
def dkwX3_stands_1 : List UInt8 := [153, 0, 5, 4, 172, 132, 3, 1, 167, 255, 228, 3, 172]
abbrev dktX3_stands_1 : List UInt8 := dkwX3_stands_1 ++ []
def dkwX3_stands_0 : List UInt8 := [3, 62, 29, 42, 180, 0, 7, 16, 19, 27, 96, 46, 162, 0, 21, 42, 27, 28, 29, 182, 1, 159]
abbrev dktX3_stands_0 : List UInt8 := dkwX3_stands_0 ++ dktX3_stands_1
theorem dksX3_stands_0 : cX3_stands.data.toList.drop 0 = dktX3_stands_0 := by decide +kernel
theorem dksX3_stands_1 : cX3_stands.data.toList.drop 22 = dktX3_stands_1 := dk_seg dksX3_stands_0 22 rfl rfl
theorem dX3_stands_0 : decode cX3_stands 0 = .ok (.iconst 0, 1) := dk_3 (dk_at dksX3_stands_0 0 rfl rfl)
theorem dX3_stands_1 : decode cX3_stands 1 = .ok (.istore_n 3, 1) := dk_62 (dk_at dksX3_stands_0 1 rfl rfl)
theorem dX3_stands_2 : decode cX3_stands 2 = .ok (.iload_n 3, 1) := dk_29 (dk_at dksX3_stands_0 2 rfl rfl)
theorem dX3_stands_3 : decode cX3_stands 3 = .ok (.aload_n 0, 1) := dk_42 (dk_at dksX3_stands_0 3 rfl rfl)
theorem dX3_stands_4 : decode cX3_stands 4 = .ok (.getfield 7, 3) := dk_180 0 7 (dk_at dksX3_stands_0 4 rfl rfl)
theorem dX3_stands_7 : decode cX3_stands 7 = .ok (.bipush 19, 2) := dk_16 19 (dk_at dksX3_stands_0 7 rfl rfl)
theorem dX3_stands_9 : decode cX3_stands 9 = .ok (.iload_n 1, 1) := dk_27 (dk_at dksX3_stands_0 9 rfl rfl)
theorem dX3_stands_10 : decode cX3_stands 10 = .ok (.iadd, 1) := dk_96 (dk_at dksX3_stands_0 10 rfl rfl)
theorem dX3_stands_11 : decode cX3_stands 11 = .ok (.iaload, 1) := dk_46 (dk_at dksX3_stands_0 11 rfl rfl)
theorem dX3_stands_12 : decode cX3_stands 12 = .ok (.if_icmp .ge 21, 3) := dk_162 0 21 (dk_at dksX3_stands_0 12 rfl rfl)
theorem dX3_stands_15 : decode cX3_stands 15 = .ok (.aload_n 0, 1) := dk_42 (dk_at dksX3_stands_0 15 rfl rfl)
theorem dX3_stands_16 : decode cX3_stands 16 = .ok (.iload_n 1, 1) := dk_27 (dk_at dksX3_stands_0 16 rfl rfl)
theorem dX3_stands_17 : decode cX3_stands 17 = .ok (.iload_n 2, 1) := dk_28 (dk_at dksX3_stands_0 17 rfl rfl)
theorem dX3_stands_18 : decode cX3_stands 18 = .ok (.iload_n 3, 1) := dk_29 (dk_at dksX3_stands_0 18 rfl rfl)
theorem dX3_stands_19 : decode cX3_stands 19 = .ok (.invokevirtual 415, 3) := dk_182 1 159 (dk_at dksX3_stands_0 19 rfl rfl)
theorem dX3_stands_22 : decode cX3_stands 22 = .ok (.ifCond .eq 5, 3) := dk_153 0 5 (dk_at dksX3_stands_1 0 rfl rfl)
theorem dX3_stands_25 : decode cX3_stands 25 = .ok (.iconst 1, 1) := dk_4 (dk_at dksX3_stands_1 3 rfl rfl)
theorem dX3_stands_26 : decode cX3_stands 26 = .ok (.ireturn, 1) := dk_172 (dk_at dksX3_stands_1 4 rfl rfl)
theorem dX3_stands_27 : decode cX3_stands 27 = .ok (.iinc 3 1, 3) := dk_132 3 1 (dk_at dksX3_stands_1 5 rfl rfl)
theorem dX3_stands_30 : decode cX3_stands 30 = .ok (.goto (-28), 3) := dk_167 255 228 (dk_at dksX3_stands_1 8 rfl rfl)
theorem dX3_stands_33 : decode cX3_stands 33 = .ok (.iconst 0, 1) := dk_3 (dk_at dksX3_stands_1 11 rfl rfl)
theorem dX3_stands_34 : decode cX3_stands 34 = .ok (.ireturn, 1) := dk_172 (dk_at dksX3_stands_1 12 rfl rfl)
abbrev cX3_standsAt : ByteArray := prog_17_method_106_code
def yX3_standsAt : MethodName := ⟨RX3, "standsAt", "(III)Z"⟩
def dkwX3_standsAt_2 : List UInt8 := [159, 0, 5, 3, 172, 132, 4, 1, 167, 255, 203, 4, 172]
abbrev dktX3_standsAt_2 : List UInt8 := dkwX3_standsAt_2 ++ []
def dkwX3_standsAt_1 : List UInt8 := [27, 96, 46, 162, 0, 24, 42, 27, 29, 21, 4, 96, 182, 1, 110, 42, 28, 6, 21, 4, 96, 182, 1, 43]
abbrev dktX3_standsAt_1 : List UInt8 := dkwX3_standsAt_1 ++ dktX3_standsAt_2
def dkwX3_standsAt_0 : List UInt8 := [3, 54, 4, 21, 4, 42, 28, 3, 182, 1, 43, 162, 0, 48, 29, 21, 4, 96, 42, 180, 0, 7, 16, 19]
abbrev dktX3_standsAt_0 : List UInt8 := dkwX3_standsAt_0 ++ dktX3_standsAt_1
theorem dksX3_standsAt_0 : cX3_standsAt.data.toList.drop 0 = dktX3_standsAt_0 := by decide +kernel
theorem dksX3_standsAt_1 : cX3_standsAt.data.toList.drop 24 = dktX3_standsAt_1 := dk_seg dksX3_standsAt_0 24 rfl rfl
theorem dksX3_standsAt_2 : cX3_standsAt.data.toList.drop 48 = dktX3_standsAt_2 := dk_seg dksX3_standsAt_1 24 rfl rfl
theorem dX3_standsAt_0 : decode cX3_standsAt 0 = .ok (.iconst 0, 1) := dk_3 (dk_at dksX3_standsAt_0 0 rfl rfl)
theorem dX3_standsAt_1 : decode cX3_standsAt 1 = .ok (.istore 4, 2) := dk_54 4 (dk_at dksX3_standsAt_0 1 rfl rfl)
theorem dX3_standsAt_3 : decode cX3_standsAt 3 = .ok (.iload 4, 2) := dk_21 4 (dk_at dksX3_standsAt_0 3 rfl rfl)
theorem dX3_standsAt_5 : decode cX3_standsAt 5 = .ok (.aload_n 0, 1) := dk_42 (dk_at dksX3_standsAt_0 5 rfl rfl)
theorem dX3_standsAt_6 : decode cX3_standsAt 6 = .ok (.iload_n 2, 1) := dk_28 (dk_at dksX3_standsAt_0 6 rfl rfl)
theorem dX3_standsAt_7 : decode cX3_standsAt 7 = .ok (.iconst 0, 1) := dk_3 (dk_at dksX3_standsAt_0 7 rfl rfl)
theorem dX3_standsAt_8 : decode cX3_standsAt 8 = .ok (.invokevirtual 299, 3) := dk_182 1 43 (dk_at dksX3_standsAt_0 8 rfl rfl)
theorem dX3_standsAt_11 : decode cX3_standsAt 11 = .ok (.if_icmp .ge 48, 3) := dk_162 0 48 (dk_at dksX3_standsAt_0 11 rfl rfl)
theorem dX3_standsAt_14 : decode cX3_standsAt 14 = .ok (.iload_n 3, 1) := dk_29 (dk_at dksX3_standsAt_0 14 rfl rfl)
theorem dX3_standsAt_15 : decode cX3_standsAt 15 = .ok (.iload 4, 2) := dk_21 4 (dk_at dksX3_standsAt_0 15 rfl rfl)
theorem dX3_standsAt_17 : decode cX3_standsAt 17 = .ok (.iadd, 1) := dk_96 (dk_at dksX3_standsAt_0 17 rfl rfl)
theorem dX3_standsAt_18 : decode cX3_standsAt 18 = .ok (.aload_n 0, 1) := dk_42 (dk_at dksX3_standsAt_0 18 rfl rfl)
theorem dX3_standsAt_19 : decode cX3_standsAt 19 = .ok (.getfield 7, 3) := dk_180 0 7 (dk_at dksX3_standsAt_0 19 rfl rfl)
theorem dX3_standsAt_22 : decode cX3_standsAt 22 = .ok (.bipush 19, 2) := dk_16 19 (dk_at dksX3_standsAt_0 22 rfl rfl)
theorem dX3_standsAt_24 : decode cX3_standsAt 24 = .ok (.iload_n 1, 1) := dk_27 (dk_at dksX3_standsAt_1 0 rfl rfl)
theorem dX3_standsAt_25 : decode cX3_standsAt 25 = .ok (.iadd, 1) := dk_96 (dk_at dksX3_standsAt_1 1 rfl rfl)
theorem dX3_standsAt_26 : decode cX3_standsAt 26 = .ok (.iaload, 1) := dk_46 (dk_at dksX3_standsAt_1 2 rfl rfl)
theorem dX3_standsAt_27 : decode cX3_standsAt 27 = .ok (.if_icmp .ge 24, 3) := dk_162 0 24 (dk_at dksX3_standsAt_1 3 rfl rfl)
theorem dX3_standsAt_30 : decode cX3_standsAt 30 = .ok (.aload_n 0, 1) := dk_42 (dk_at dksX3_standsAt_1 6 rfl rfl)
theorem dX3_standsAt_31 : decode cX3_standsAt 31 = .ok (.iload_n 1, 1) := dk_27 (dk_at dksX3_standsAt_1 7 rfl rfl)
theorem dX3_standsAt_32 : decode cX3_standsAt 32 = .ok (.iload_n 3, 1) := dk_29 (dk_at dksX3_standsAt_1 8 rfl rfl)
theorem dX3_standsAt_33 : decode cX3_standsAt 33 = .ok (.iload 4, 2) := dk_21 4 (dk_at dksX3_standsAt_1 9 rfl rfl)
theorem dX3_standsAt_35 : decode cX3_standsAt 35 = .ok (.iadd, 1) := dk_96 (dk_at dksX3_standsAt_1 11 rfl rfl)
theorem dX3_standsAt_36 : decode cX3_standsAt 36 = .ok (.invokevirtual 366, 3) := dk_182 1 110 (dk_at dksX3_standsAt_1 12 rfl rfl)
theorem dX3_standsAt_39 : decode cX3_standsAt 39 = .ok (.aload_n 0, 1) := dk_42 (dk_at dksX3_standsAt_1 15 rfl rfl)
theorem dX3_standsAt_40 : decode cX3_standsAt 40 = .ok (.iload_n 2, 1) := dk_28 (dk_at dksX3_standsAt_1 16 rfl rfl)
theorem dX3_standsAt_41 : decode cX3_standsAt 41 = .ok (.iconst 3, 1) := dk_6 (dk_at dksX3_standsAt_1 17 rfl rfl)
theorem dX3_standsAt_42 : decode cX3_standsAt 42 = .ok (.iload 4, 2) := dk_21 4 (dk_at dksX3_standsAt_1 18 rfl rfl)
theorem dX3_standsAt_44 : decode cX3_standsAt 44 = .ok (.iadd, 1) := dk_96 (dk_at dksX3_standsAt_1 20 rfl rfl)
theorem dX3_standsAt_45 : decode cX3_standsAt 45 = .ok (.invokevirtual 299, 3) := dk_182 1 43 (dk_at dksX3_standsAt_1 21 rfl rfl)
theorem dX3_standsAt_48 : decode cX3_standsAt 48 = .ok (.if_icmp .eq 5, 3) := dk_159 0 5 (dk_at dksX3_standsAt_2 0 rfl rfl)
theorem dX3_standsAt_51 : decode cX3_standsAt 51 = .ok (.iconst 0, 1) := dk_3 (dk_at dksX3_standsAt_2 3 rfl rfl)
theorem dX3_standsAt_52 : decode cX3_standsAt 52 = .ok (.ireturn, 1) := dk_172 (dk_at dksX3_standsAt_2 4 rfl rfl)
theorem dX3_standsAt_53 : decode cX3_standsAt 53 = .ok (.iinc 4 1, 3) := dk_132 4 1 (dk_at dksX3_standsAt_2 5 rfl rfl)
theorem dX3_standsAt_56 : decode cX3_standsAt 56 = .ok (.goto (-53), 3) := dk_167 255 203 (dk_at dksX3_standsAt_2 8 rfl rfl)
theorem dX3_standsAt_59 : decode cX3_standsAt 59 = .ok (.iconst 1, 1) := dk_4 (dk_at dksX3_standsAt_2 11 rfl rfl)
theorem dX3_standsAt_60 : decode cX3_standsAt 60 = .ok (.ireturn, 1) := dk_172 (dk_at dksX3_standsAt_2 12 rfl rfl)
abbrev cX3_gaps : ByteArray := prog_17_method_110_code
def yX3_gaps : MethodName := ⟨RX3, "gaps", "(I)I"⟩
def dkwX3_gaps_3 : List UInt8 := [167, 255, 202, 28, 172]
abbrev dktX3_gaps_3 : List UInt8 := dkwX3_gaps_3 ++ []
def dkwX3_gaps_2 : List UInt8 := [182, 1, 165, 184, 1, 138, 4, 164, 0, 9, 4, 29, 120, 167, 0, 4, 3, 128, 61, 132, 3, 1]
abbrev dktX3_gaps_2 : List UInt8 := dkwX3_gaps_2 ++ dktX3_gaps_3
def dkwX3_gaps_1 : List UInt8 := [162, 0, 48, 28, 27, 154, 0, 11, 42, 29, 182, 1, 165, 153, 0, 20, 27, 4, 160, 0, 21, 42, 29]
abbrev dktX3_gaps_1 : List UInt8 := dkwX3_gaps_1 ++ dktX3_gaps_2
def dkwX3_gaps_0 : List UInt8 := [27, 3, 4, 184, 0, 59, 154, 0, 5, 2, 172, 3, 61, 3, 62, 29, 42, 180, 0, 7, 17, 2, 60, 46]
abbrev dktX3_gaps_0 : List UInt8 := dkwX3_gaps_0 ++ dktX3_gaps_1
theorem dksX3_gaps_0 : cX3_gaps.data.toList.drop 0 = dktX3_gaps_0 := by decide +kernel
theorem dksX3_gaps_1 : cX3_gaps.data.toList.drop 24 = dktX3_gaps_1 := dk_seg dksX3_gaps_0 24 rfl rfl
theorem dksX3_gaps_2 : cX3_gaps.data.toList.drop 47 = dktX3_gaps_2 := dk_seg dksX3_gaps_1 23 rfl rfl
theorem dksX3_gaps_3 : cX3_gaps.data.toList.drop 69 = dktX3_gaps_3 := dk_seg dksX3_gaps_2 22 rfl rfl
theorem dX3_gaps_0 : decode cX3_gaps 0 = .ok (.iload_n 1, 1) := dk_27 (dk_at dksX3_gaps_0 0 rfl rfl)
theorem dX3_gaps_1 : decode cX3_gaps 1 = .ok (.iconst 0, 1) := dk_3 (dk_at dksX3_gaps_0 1 rfl rfl)
theorem dX3_gaps_2 : decode cX3_gaps 2 = .ok (.iconst 1, 1) := dk_4 (dk_at dksX3_gaps_0 2 rfl rfl)
theorem dX3_gaps_3 : decode cX3_gaps 3 = .ok (.invokestatic 59, 3) := dk_184 0 59 (dk_at dksX3_gaps_0 3 rfl rfl)
theorem dX3_gaps_6 : decode cX3_gaps 6 = .ok (.ifCond .ne 5, 3) := dk_154 0 5 (dk_at dksX3_gaps_0 6 rfl rfl)
theorem dX3_gaps_9 : decode cX3_gaps 9 = .ok (.iconst (-1), 1) := dk_2 (dk_at dksX3_gaps_0 9 rfl rfl)
theorem dX3_gaps_10 : decode cX3_gaps 10 = .ok (.ireturn, 1) := dk_172 (dk_at dksX3_gaps_0 10 rfl rfl)
theorem dX3_gaps_11 : decode cX3_gaps 11 = .ok (.iconst 0, 1) := dk_3 (dk_at dksX3_gaps_0 11 rfl rfl)
theorem dX3_gaps_12 : decode cX3_gaps 12 = .ok (.istore_n 2, 1) := dk_61 (dk_at dksX3_gaps_0 12 rfl rfl)
theorem dX3_gaps_13 : decode cX3_gaps 13 = .ok (.iconst 0, 1) := dk_3 (dk_at dksX3_gaps_0 13 rfl rfl)
theorem dX3_gaps_14 : decode cX3_gaps 14 = .ok (.istore_n 3, 1) := dk_62 (dk_at dksX3_gaps_0 14 rfl rfl)
theorem dX3_gaps_15 : decode cX3_gaps 15 = .ok (.iload_n 3, 1) := dk_29 (dk_at dksX3_gaps_0 15 rfl rfl)
theorem dX3_gaps_16 : decode cX3_gaps 16 = .ok (.aload_n 0, 1) := dk_42 (dk_at dksX3_gaps_0 16 rfl rfl)
theorem dX3_gaps_17 : decode cX3_gaps 17 = .ok (.getfield 7, 3) := dk_180 0 7 (dk_at dksX3_gaps_0 17 rfl rfl)
theorem dX3_gaps_20 : decode cX3_gaps 20 = .ok (.sipush 572, 3) := dk_17 2 60 (dk_at dksX3_gaps_0 20 rfl rfl)
theorem dX3_gaps_23 : decode cX3_gaps 23 = .ok (.iaload, 1) := dk_46 (dk_at dksX3_gaps_0 23 rfl rfl)
theorem dX3_gaps_24 : decode cX3_gaps 24 = .ok (.if_icmp .ge 48, 3) := dk_162 0 48 (dk_at dksX3_gaps_1 0 rfl rfl)
theorem dX3_gaps_27 : decode cX3_gaps 27 = .ok (.iload_n 2, 1) := dk_28 (dk_at dksX3_gaps_1 3 rfl rfl)
theorem dX3_gaps_28 : decode cX3_gaps 28 = .ok (.iload_n 1, 1) := dk_27 (dk_at dksX3_gaps_1 4 rfl rfl)
theorem dX3_gaps_29 : decode cX3_gaps 29 = .ok (.ifCond .ne 11, 3) := dk_154 0 11 (dk_at dksX3_gaps_1 5 rfl rfl)
theorem dX3_gaps_32 : decode cX3_gaps 32 = .ok (.aload_n 0, 1) := dk_42 (dk_at dksX3_gaps_1 8 rfl rfl)
theorem dX3_gaps_33 : decode cX3_gaps 33 = .ok (.iload_n 3, 1) := dk_29 (dk_at dksX3_gaps_1 9 rfl rfl)
theorem dX3_gaps_34 : decode cX3_gaps 34 = .ok (.invokevirtual 421, 3) := dk_182 1 165 (dk_at dksX3_gaps_1 10 rfl rfl)
theorem dX3_gaps_37 : decode cX3_gaps 37 = .ok (.ifCond .eq 20, 3) := dk_153 0 20 (dk_at dksX3_gaps_1 13 rfl rfl)
theorem dX3_gaps_40 : decode cX3_gaps 40 = .ok (.iload_n 1, 1) := dk_27 (dk_at dksX3_gaps_1 16 rfl rfl)
theorem dX3_gaps_41 : decode cX3_gaps 41 = .ok (.iconst 1, 1) := dk_4 (dk_at dksX3_gaps_1 17 rfl rfl)
theorem dX3_gaps_42 : decode cX3_gaps 42 = .ok (.if_icmp .ne 21, 3) := dk_160 0 21 (dk_at dksX3_gaps_1 18 rfl rfl)
theorem dX3_gaps_45 : decode cX3_gaps 45 = .ok (.aload_n 0, 1) := dk_42 (dk_at dksX3_gaps_1 21 rfl rfl)
theorem dX3_gaps_46 : decode cX3_gaps 46 = .ok (.iload_n 3, 1) := dk_29 (dk_at dksX3_gaps_1 22 rfl rfl)
theorem dX3_gaps_47 : decode cX3_gaps 47 = .ok (.invokevirtual 421, 3) := dk_182 1 165 (dk_at dksX3_gaps_2 0 rfl rfl)
theorem dX3_gaps_50 : decode cX3_gaps 50 = .ok (.invokestatic 394, 3) := dk_184 1 138 (dk_at dksX3_gaps_2 3 rfl rfl)
theorem dX3_gaps_53 : decode cX3_gaps 53 = .ok (.iconst 1, 1) := dk_4 (dk_at dksX3_gaps_2 6 rfl rfl)
theorem dX3_gaps_54 : decode cX3_gaps 54 = .ok (.if_icmp .le 9, 3) := dk_164 0 9 (dk_at dksX3_gaps_2 7 rfl rfl)
theorem dX3_gaps_57 : decode cX3_gaps 57 = .ok (.iconst 1, 1) := dk_4 (dk_at dksX3_gaps_2 10 rfl rfl)
theorem dX3_gaps_58 : decode cX3_gaps 58 = .ok (.iload_n 3, 1) := dk_29 (dk_at dksX3_gaps_2 11 rfl rfl)
theorem dX3_gaps_59 : decode cX3_gaps 59 = .ok (.ishl, 1) := dk_120 (dk_at dksX3_gaps_2 12 rfl rfl)
theorem dX3_gaps_60 : decode cX3_gaps 60 = .ok (.goto 4, 3) := dk_167 0 4 (dk_at dksX3_gaps_2 13 rfl rfl)
theorem dX3_gaps_63 : decode cX3_gaps 63 = .ok (.iconst 0, 1) := dk_3 (dk_at dksX3_gaps_2 16 rfl rfl)
theorem dX3_gaps_64 : decode cX3_gaps 64 = .ok (.ior, 1) := dk_128 (dk_at dksX3_gaps_2 17 rfl rfl)
theorem dX3_gaps_65 : decode cX3_gaps 65 = .ok (.istore_n 2, 1) := dk_61 (dk_at dksX3_gaps_2 18 rfl rfl)
theorem dX3_gaps_66 : decode cX3_gaps 66 = .ok (.iinc 3 1, 3) := dk_132 3 1 (dk_at dksX3_gaps_2 19 rfl rfl)
theorem dX3_gaps_69 : decode cX3_gaps 69 = .ok (.goto (-54), 3) := dk_167 255 202 (dk_at dksX3_gaps_3 0 rfl rfl)
theorem dX3_gaps_72 : decode cX3_gaps 72 = .ok (.iload_n 2, 1) := dk_28 (dk_at dksX3_gaps_3 3 rfl rfl)
theorem dX3_gaps_73 : decode cX3_gaps 73 = .ok (.ireturn, 1) := dk_172 (dk_at dksX3_gaps_3 4 rfl rfl)
abbrev cX3_answered : ByteArray := prog_17_method_113_code
def yX3_answered : MethodName := ⟨RX3, "answered", "(I)I"⟩
def dkwX3_answered_3 : List UInt8 := [167, 0, 16, 27, 4, 160, 0, 10, 29, 184, 1, 138, 167, 0, 4, 29, 172]
abbrev dktX3_answered_3 : List UInt8 := dkwX3_answered_3 ++ []
def dkwX3_answered_2 : List UInt8 := [184, 1, 138, 29, 184, 1, 138, 162, 0, 6, 21, 4, 62, 132, 4, 1, 167, 255, 221, 27, 154, 0, 7, 28]
abbrev dktX3_answered_2 : List UInt8 := dkwX3_answered_2 ++ dktX3_answered_3
def dkwX3_answered_1 : List UInt8 := [62, 3, 54, 4, 21, 4, 16, 15, 162, 0, 34, 42, 21, 4, 182, 1, 171, 28, 160, 0, 18, 21, 4]
abbrev dktX3_answered_1 : List UInt8 := dkwX3_answered_1 ++ dktX3_answered_2
def dkwX3_answered_0 : List UInt8 := [27, 3, 5, 184, 0, 59, 154, 0, 5, 2, 172, 42, 182, 1, 168, 42, 16, 15, 182, 1, 171, 61, 16, 15]
abbrev dktX3_answered_0 : List UInt8 := dkwX3_answered_0 ++ dktX3_answered_1
theorem dksX3_answered_0 : cX3_answered.data.toList.drop 0 = dktX3_answered_0 := by decide +kernel
theorem dksX3_answered_1 : cX3_answered.data.toList.drop 24 = dktX3_answered_1 := dk_seg dksX3_answered_0 24 rfl rfl
theorem dksX3_answered_2 : cX3_answered.data.toList.drop 47 = dktX3_answered_2 := dk_seg dksX3_answered_1 23 rfl rfl
theorem dksX3_answered_3 : cX3_answered.data.toList.drop 71 = dktX3_answered_3 := dk_seg dksX3_answered_2 24 rfl rfl
theorem dX3_answered_0 : decode cX3_answered 0 = .ok (.iload_n 1, 1) := dk_27 (dk_at dksX3_answered_0 0 rfl rfl)
theorem dX3_answered_1 : decode cX3_answered 1 = .ok (.iconst 0, 1) := dk_3 (dk_at dksX3_answered_0 1 rfl rfl)
theorem dX3_answered_2 : decode cX3_answered 2 = .ok (.iconst 2, 1) := dk_5 (dk_at dksX3_answered_0 2 rfl rfl)
theorem dX3_answered_3 : decode cX3_answered 3 = .ok (.invokestatic 59, 3) := dk_184 0 59 (dk_at dksX3_answered_0 3 rfl rfl)
theorem dX3_answered_6 : decode cX3_answered 6 = .ok (.ifCond .ne 5, 3) := dk_154 0 5 (dk_at dksX3_answered_0 6 rfl rfl)
theorem dX3_answered_9 : decode cX3_answered 9 = .ok (.iconst (-1), 1) := dk_2 (dk_at dksX3_answered_0 9 rfl rfl)
theorem dX3_answered_10 : decode cX3_answered 10 = .ok (.ireturn, 1) := dk_172 (dk_at dksX3_answered_0 10 rfl rfl)
theorem dX3_answered_11 : decode cX3_answered 11 = .ok (.aload_n 0, 1) := dk_42 (dk_at dksX3_answered_0 11 rfl rfl)
theorem dX3_answered_12 : decode cX3_answered 12 = .ok (.invokevirtual 424, 3) := dk_182 1 168 (dk_at dksX3_answered_0 12 rfl rfl)
theorem dX3_answered_15 : decode cX3_answered 15 = .ok (.aload_n 0, 1) := dk_42 (dk_at dksX3_answered_0 15 rfl rfl)
theorem dX3_answered_16 : decode cX3_answered 16 = .ok (.bipush 15, 2) := dk_16 15 (dk_at dksX3_answered_0 16 rfl rfl)
theorem dX3_answered_18 : decode cX3_answered 18 = .ok (.invokevirtual 427, 3) := dk_182 1 171 (dk_at dksX3_answered_0 18 rfl rfl)
theorem dX3_answered_21 : decode cX3_answered 21 = .ok (.istore_n 2, 1) := dk_61 (dk_at dksX3_answered_0 21 rfl rfl)
theorem dX3_answered_22 : decode cX3_answered 22 = .ok (.bipush 15, 2) := dk_16 15 (dk_at dksX3_answered_0 22 rfl rfl)
theorem dX3_answered_24 : decode cX3_answered 24 = .ok (.istore_n 3, 1) := dk_62 (dk_at dksX3_answered_1 0 rfl rfl)
theorem dX3_answered_25 : decode cX3_answered 25 = .ok (.iconst 0, 1) := dk_3 (dk_at dksX3_answered_1 1 rfl rfl)
theorem dX3_answered_26 : decode cX3_answered 26 = .ok (.istore 4, 2) := dk_54 4 (dk_at dksX3_answered_1 2 rfl rfl)
theorem dX3_answered_28 : decode cX3_answered 28 = .ok (.iload 4, 2) := dk_21 4 (dk_at dksX3_answered_1 4 rfl rfl)
theorem dX3_answered_30 : decode cX3_answered 30 = .ok (.bipush 15, 2) := dk_16 15 (dk_at dksX3_answered_1 6 rfl rfl)
theorem dX3_answered_32 : decode cX3_answered 32 = .ok (.if_icmp .ge 34, 3) := dk_162 0 34 (dk_at dksX3_answered_1 8 rfl rfl)
theorem dX3_answered_35 : decode cX3_answered 35 = .ok (.aload_n 0, 1) := dk_42 (dk_at dksX3_answered_1 11 rfl rfl)
theorem dX3_answered_36 : decode cX3_answered 36 = .ok (.iload 4, 2) := dk_21 4 (dk_at dksX3_answered_1 12 rfl rfl)
theorem dX3_answered_38 : decode cX3_answered 38 = .ok (.invokevirtual 427, 3) := dk_182 1 171 (dk_at dksX3_answered_1 14 rfl rfl)
theorem dX3_answered_41 : decode cX3_answered 41 = .ok (.iload_n 2, 1) := dk_28 (dk_at dksX3_answered_1 17 rfl rfl)
theorem dX3_answered_42 : decode cX3_answered 42 = .ok (.if_icmp .ne 18, 3) := dk_160 0 18 (dk_at dksX3_answered_1 18 rfl rfl)
theorem dX3_answered_45 : decode cX3_answered 45 = .ok (.iload 4, 2) := dk_21 4 (dk_at dksX3_answered_1 21 rfl rfl)
theorem dX3_answered_47 : decode cX3_answered 47 = .ok (.invokestatic 394, 3) := dk_184 1 138 (dk_at dksX3_answered_2 0 rfl rfl)
theorem dX3_answered_50 : decode cX3_answered 50 = .ok (.iload_n 3, 1) := dk_29 (dk_at dksX3_answered_2 3 rfl rfl)
theorem dX3_answered_51 : decode cX3_answered 51 = .ok (.invokestatic 394, 3) := dk_184 1 138 (dk_at dksX3_answered_2 4 rfl rfl)
theorem dX3_answered_54 : decode cX3_answered 54 = .ok (.if_icmp .ge 6, 3) := dk_162 0 6 (dk_at dksX3_answered_2 7 rfl rfl)
theorem dX3_answered_57 : decode cX3_answered 57 = .ok (.iload 4, 2) := dk_21 4 (dk_at dksX3_answered_2 10 rfl rfl)
theorem dX3_answered_59 : decode cX3_answered 59 = .ok (.istore_n 3, 1) := dk_62 (dk_at dksX3_answered_2 12 rfl rfl)
theorem dX3_answered_60 : decode cX3_answered 60 = .ok (.iinc 4 1, 3) := dk_132 4 1 (dk_at dksX3_answered_2 13 rfl rfl)
theorem dX3_answered_63 : decode cX3_answered 63 = .ok (.goto (-35), 3) := dk_167 255 221 (dk_at dksX3_answered_2 16 rfl rfl)
theorem dX3_answered_66 : decode cX3_answered 66 = .ok (.iload_n 1, 1) := dk_27 (dk_at dksX3_answered_2 19 rfl rfl)
theorem dX3_answered_67 : decode cX3_answered 67 = .ok (.ifCond .ne 7, 3) := dk_154 0 7 (dk_at dksX3_answered_2 20 rfl rfl)
theorem dX3_answered_70 : decode cX3_answered 70 = .ok (.iload_n 2, 1) := dk_28 (dk_at dksX3_answered_2 23 rfl rfl)
theorem dX3_answered_71 : decode cX3_answered 71 = .ok (.goto 16, 3) := dk_167 0 16 (dk_at dksX3_answered_3 0 rfl rfl)
theorem dX3_answered_74 : decode cX3_answered 74 = .ok (.iload_n 1, 1) := dk_27 (dk_at dksX3_answered_3 3 rfl rfl)
theorem dX3_answered_75 : decode cX3_answered 75 = .ok (.iconst 1, 1) := dk_4 (dk_at dksX3_answered_3 4 rfl rfl)
theorem dX3_answered_76 : decode cX3_answered 76 = .ok (.if_icmp .ne 10, 3) := dk_160 0 10 (dk_at dksX3_answered_3 5 rfl rfl)
theorem dX3_answered_79 : decode cX3_answered 79 = .ok (.iload_n 3, 1) := dk_29 (dk_at dksX3_answered_3 8 rfl rfl)
theorem dX3_answered_80 : decode cX3_answered 80 = .ok (.invokestatic 394, 3) := dk_184 1 138 (dk_at dksX3_answered_3 9 rfl rfl)
theorem dX3_answered_83 : decode cX3_answered 83 = .ok (.goto 4, 3) := dk_167 0 4 (dk_at dksX3_answered_3 12 rfl rfl)
theorem dX3_answered_86 : decode cX3_answered 86 = .ok (.iload_n 3, 1) := dk_29 (dk_at dksX3_answered_3 15 rfl rfl)
theorem dX3_answered_87 : decode cX3_answered 87 = .ok (.ireturn, 1) := dk_172 (dk_at dksX3_answered_3 16 rfl rfl)
abbrev cX3_laysQueries : ByteArray := prog_17_method_111_code
def yX3_laysQueries : MethodName := ⟨RX3, "laysQueries", "()V"⟩
def dkwX3_laysQueries_3 : List UInt8 := [79, 132, 2, 1, 167, 255, 205, 132, 1, 1, 167, 255, 178, 177]
abbrev dktX3_laysQueries_3 : List UInt8 := dkwX3_laysQueries_3 ++ []
def dkwX3_laysQueries_2 : List UInt8 := [17, 2, 247, 27, 96, 46, 28, 122, 4, 126, 4, 160, 0, 11, 42, 28, 182, 1, 165, 167, 0, 4, 3, 128]
abbrev dktX3_laysQueries_2 : List UInt8 := dkwX3_laysQueries_2 ++ dktX3_laysQueries_3
def dkwX3_laysQueries_1 : List UInt8 := [42, 180, 0, 7, 17, 2, 60, 46, 162, 0, 45, 42, 180, 0, 53, 27, 92, 46, 42, 180, 0, 7]
abbrev dktX3_laysQueries_1 : List UInt8 := dkwX3_laysQueries_1 ++ dktX3_laysQueries_2
def dkwX3_laysQueries_0 : List UInt8 := [3, 60, 27, 42, 180, 0, 7, 17, 2, 64, 46, 162, 0, 72, 42, 180, 0, 53, 27, 3, 79, 3, 61, 28]
abbrev dktX3_laysQueries_0 : List UInt8 := dkwX3_laysQueries_0 ++ dktX3_laysQueries_1
theorem dksX3_laysQueries_0 : cX3_laysQueries.data.toList.drop 0 = dktX3_laysQueries_0 := by decide +kernel
theorem dksX3_laysQueries_1 : cX3_laysQueries.data.toList.drop 24 = dktX3_laysQueries_1 := dk_seg dksX3_laysQueries_0 24 rfl rfl
theorem dksX3_laysQueries_2 : cX3_laysQueries.data.toList.drop 46 = dktX3_laysQueries_2 := dk_seg dksX3_laysQueries_1 22 rfl rfl
theorem dksX3_laysQueries_3 : cX3_laysQueries.data.toList.drop 70 = dktX3_laysQueries_3 := dk_seg dksX3_laysQueries_2 24 rfl rfl
theorem dX3_laysQueries_0 : decode cX3_laysQueries 0 = .ok (.iconst 0, 1) := dk_3 (dk_at dksX3_laysQueries_0 0 rfl rfl)
theorem dX3_laysQueries_1 : decode cX3_laysQueries 1 = .ok (.istore_n 1, 1) := dk_60 (dk_at dksX3_laysQueries_0 1 rfl rfl)
theorem dX3_laysQueries_2 : decode cX3_laysQueries 2 = .ok (.iload_n 1, 1) := dk_27 (dk_at dksX3_laysQueries_0 2 rfl rfl)
theorem dX3_laysQueries_3 : decode cX3_laysQueries 3 = .ok (.aload_n 0, 1) := dk_42 (dk_at dksX3_laysQueries_0 3 rfl rfl)
theorem dX3_laysQueries_4 : decode cX3_laysQueries 4 = .ok (.getfield 7, 3) := dk_180 0 7 (dk_at dksX3_laysQueries_0 4 rfl rfl)
theorem dX3_laysQueries_7 : decode cX3_laysQueries 7 = .ok (.sipush 576, 3) := dk_17 2 64 (dk_at dksX3_laysQueries_0 7 rfl rfl)
theorem dX3_laysQueries_10 : decode cX3_laysQueries 10 = .ok (.iaload, 1) := dk_46 (dk_at dksX3_laysQueries_0 10 rfl rfl)
theorem dX3_laysQueries_11 : decode cX3_laysQueries 11 = .ok (.if_icmp .ge 72, 3) := dk_162 0 72 (dk_at dksX3_laysQueries_0 11 rfl rfl)
theorem dX3_laysQueries_14 : decode cX3_laysQueries 14 = .ok (.aload_n 0, 1) := dk_42 (dk_at dksX3_laysQueries_0 14 rfl rfl)
theorem dX3_laysQueries_15 : decode cX3_laysQueries 15 = .ok (.getfield 53, 3) := dk_180 0 53 (dk_at dksX3_laysQueries_0 15 rfl rfl)
theorem dX3_laysQueries_18 : decode cX3_laysQueries 18 = .ok (.iload_n 1, 1) := dk_27 (dk_at dksX3_laysQueries_0 18 rfl rfl)
theorem dX3_laysQueries_19 : decode cX3_laysQueries 19 = .ok (.iconst 0, 1) := dk_3 (dk_at dksX3_laysQueries_0 19 rfl rfl)
theorem dX3_laysQueries_20 : decode cX3_laysQueries 20 = .ok (.iastore, 1) := dk_79 (dk_at dksX3_laysQueries_0 20 rfl rfl)
theorem dX3_laysQueries_21 : decode cX3_laysQueries 21 = .ok (.iconst 0, 1) := dk_3 (dk_at dksX3_laysQueries_0 21 rfl rfl)
theorem dX3_laysQueries_22 : decode cX3_laysQueries 22 = .ok (.istore_n 2, 1) := dk_61 (dk_at dksX3_laysQueries_0 22 rfl rfl)
theorem dX3_laysQueries_23 : decode cX3_laysQueries 23 = .ok (.iload_n 2, 1) := dk_28 (dk_at dksX3_laysQueries_0 23 rfl rfl)
theorem dX3_laysQueries_24 : decode cX3_laysQueries 24 = .ok (.aload_n 0, 1) := dk_42 (dk_at dksX3_laysQueries_1 0 rfl rfl)
theorem dX3_laysQueries_25 : decode cX3_laysQueries 25 = .ok (.getfield 7, 3) := dk_180 0 7 (dk_at dksX3_laysQueries_1 1 rfl rfl)
theorem dX3_laysQueries_28 : decode cX3_laysQueries 28 = .ok (.sipush 572, 3) := dk_17 2 60 (dk_at dksX3_laysQueries_1 4 rfl rfl)
theorem dX3_laysQueries_31 : decode cX3_laysQueries 31 = .ok (.iaload, 1) := dk_46 (dk_at dksX3_laysQueries_1 7 rfl rfl)
theorem dX3_laysQueries_32 : decode cX3_laysQueries 32 = .ok (.if_icmp .ge 45, 3) := dk_162 0 45 (dk_at dksX3_laysQueries_1 8 rfl rfl)
theorem dX3_laysQueries_35 : decode cX3_laysQueries 35 = .ok (.aload_n 0, 1) := dk_42 (dk_at dksX3_laysQueries_1 11 rfl rfl)
theorem dX3_laysQueries_36 : decode cX3_laysQueries 36 = .ok (.getfield 53, 3) := dk_180 0 53 (dk_at dksX3_laysQueries_1 12 rfl rfl)
theorem dX3_laysQueries_39 : decode cX3_laysQueries 39 = .ok (.iload_n 1, 1) := dk_27 (dk_at dksX3_laysQueries_1 15 rfl rfl)
theorem dX3_laysQueries_40 : decode cX3_laysQueries 40 = .ok (.dup2, 1) := dk_92 (dk_at dksX3_laysQueries_1 16 rfl rfl)
theorem dX3_laysQueries_41 : decode cX3_laysQueries 41 = .ok (.iaload, 1) := dk_46 (dk_at dksX3_laysQueries_1 17 rfl rfl)
theorem dX3_laysQueries_42 : decode cX3_laysQueries 42 = .ok (.aload_n 0, 1) := dk_42 (dk_at dksX3_laysQueries_1 18 rfl rfl)
theorem dX3_laysQueries_43 : decode cX3_laysQueries 43 = .ok (.getfield 7, 3) := dk_180 0 7 (dk_at dksX3_laysQueries_1 19 rfl rfl)
theorem dX3_laysQueries_46 : decode cX3_laysQueries 46 = .ok (.sipush 759, 3) := dk_17 2 247 (dk_at dksX3_laysQueries_2 0 rfl rfl)
theorem dX3_laysQueries_49 : decode cX3_laysQueries 49 = .ok (.iload_n 1, 1) := dk_27 (dk_at dksX3_laysQueries_2 3 rfl rfl)
theorem dX3_laysQueries_50 : decode cX3_laysQueries 50 = .ok (.iadd, 1) := dk_96 (dk_at dksX3_laysQueries_2 4 rfl rfl)
theorem dX3_laysQueries_51 : decode cX3_laysQueries 51 = .ok (.iaload, 1) := dk_46 (dk_at dksX3_laysQueries_2 5 rfl rfl)
theorem dX3_laysQueries_52 : decode cX3_laysQueries 52 = .ok (.iload_n 2, 1) := dk_28 (dk_at dksX3_laysQueries_2 6 rfl rfl)
theorem dX3_laysQueries_53 : decode cX3_laysQueries 53 = .ok (.ishr, 1) := dk_122 (dk_at dksX3_laysQueries_2 7 rfl rfl)
theorem dX3_laysQueries_54 : decode cX3_laysQueries 54 = .ok (.iconst 1, 1) := dk_4 (dk_at dksX3_laysQueries_2 8 rfl rfl)
theorem dX3_laysQueries_55 : decode cX3_laysQueries 55 = .ok (.iand, 1) := dk_126 (dk_at dksX3_laysQueries_2 9 rfl rfl)
theorem dX3_laysQueries_56 : decode cX3_laysQueries 56 = .ok (.iconst 1, 1) := dk_4 (dk_at dksX3_laysQueries_2 10 rfl rfl)
theorem dX3_laysQueries_57 : decode cX3_laysQueries 57 = .ok (.if_icmp .ne 11, 3) := dk_160 0 11 (dk_at dksX3_laysQueries_2 11 rfl rfl)
theorem dX3_laysQueries_60 : decode cX3_laysQueries 60 = .ok (.aload_n 0, 1) := dk_42 (dk_at dksX3_laysQueries_2 14 rfl rfl)
theorem dX3_laysQueries_61 : decode cX3_laysQueries 61 = .ok (.iload_n 2, 1) := dk_28 (dk_at dksX3_laysQueries_2 15 rfl rfl)
theorem dX3_laysQueries_62 : decode cX3_laysQueries 62 = .ok (.invokevirtual 421, 3) := dk_182 1 165 (dk_at dksX3_laysQueries_2 16 rfl rfl)
theorem dX3_laysQueries_65 : decode cX3_laysQueries 65 = .ok (.goto 4, 3) := dk_167 0 4 (dk_at dksX3_laysQueries_2 19 rfl rfl)
theorem dX3_laysQueries_68 : decode cX3_laysQueries 68 = .ok (.iconst 0, 1) := dk_3 (dk_at dksX3_laysQueries_2 22 rfl rfl)
theorem dX3_laysQueries_69 : decode cX3_laysQueries 69 = .ok (.ior, 1) := dk_128 (dk_at dksX3_laysQueries_2 23 rfl rfl)
theorem dX3_laysQueries_70 : decode cX3_laysQueries 70 = .ok (.iastore, 1) := dk_79 (dk_at dksX3_laysQueries_3 0 rfl rfl)
theorem dX3_laysQueries_71 : decode cX3_laysQueries 71 = .ok (.iinc 2 1, 3) := dk_132 2 1 (dk_at dksX3_laysQueries_3 1 rfl rfl)
theorem dX3_laysQueries_74 : decode cX3_laysQueries 74 = .ok (.goto (-51), 3) := dk_167 255 205 (dk_at dksX3_laysQueries_3 4 rfl rfl)
theorem dX3_laysQueries_77 : decode cX3_laysQueries 77 = .ok (.iinc 1 1, 3) := dk_132 1 1 (dk_at dksX3_laysQueries_3 7 rfl rfl)
theorem dX3_laysQueries_80 : decode cX3_laysQueries 80 = .ok (.goto (-78), 3) := dk_167 255 178 (dk_at dksX3_laysQueries_3 10 rfl rfl)
theorem dX3_laysQueries_83 : decode cX3_laysQueries 83 = .ok (.return_, 1) := dk_177 (dk_at dksX3_laysQueries_3 13 rfl rfl)
abbrev cX3_answeredBy : ByteArray := prog_17_method_112_code
def yX3_answeredBy : MethodName := ⟨RX3, "answeredBy", "(I)I"⟩
def dkwX3_answeredBy_1 : List UInt8 := [126, 153, 0, 7, 4, 167, 0, 4, 3, 96, 61, 132, 3, 1, 167, 255, 222, 28, 172]
abbrev dktX3_answeredBy_1 : List UInt8 := dkwX3_answeredBy_1 ++ []
def dkwX3_answeredBy_0 : List UInt8 := [3, 61, 3, 62, 29, 42, 180, 0, 7, 17, 2, 64, 46, 162, 0, 28, 28, 42, 180, 0, 53, 29, 46, 27]
abbrev dktX3_answeredBy_0 : List UInt8 := dkwX3_answeredBy_0 ++ dktX3_answeredBy_1
theorem dksX3_answeredBy_0 : cX3_answeredBy.data.toList.drop 0 = dktX3_answeredBy_0 := by decide +kernel
theorem dksX3_answeredBy_1 : cX3_answeredBy.data.toList.drop 24 = dktX3_answeredBy_1 := dk_seg dksX3_answeredBy_0 24 rfl rfl
theorem dX3_answeredBy_0 : decode cX3_answeredBy 0 = .ok (.iconst 0, 1) := dk_3 (dk_at dksX3_answeredBy_0 0 rfl rfl)
theorem dX3_answeredBy_1 : decode cX3_answeredBy 1 = .ok (.istore_n 2, 1) := dk_61 (dk_at dksX3_answeredBy_0 1 rfl rfl)
theorem dX3_answeredBy_2 : decode cX3_answeredBy 2 = .ok (.iconst 0, 1) := dk_3 (dk_at dksX3_answeredBy_0 2 rfl rfl)
theorem dX3_answeredBy_3 : decode cX3_answeredBy 3 = .ok (.istore_n 3, 1) := dk_62 (dk_at dksX3_answeredBy_0 3 rfl rfl)
theorem dX3_answeredBy_4 : decode cX3_answeredBy 4 = .ok (.iload_n 3, 1) := dk_29 (dk_at dksX3_answeredBy_0 4 rfl rfl)
theorem dX3_answeredBy_5 : decode cX3_answeredBy 5 = .ok (.aload_n 0, 1) := dk_42 (dk_at dksX3_answeredBy_0 5 rfl rfl)
theorem dX3_answeredBy_6 : decode cX3_answeredBy 6 = .ok (.getfield 7, 3) := dk_180 0 7 (dk_at dksX3_answeredBy_0 6 rfl rfl)
theorem dX3_answeredBy_9 : decode cX3_answeredBy 9 = .ok (.sipush 576, 3) := dk_17 2 64 (dk_at dksX3_answeredBy_0 9 rfl rfl)
theorem dX3_answeredBy_12 : decode cX3_answeredBy 12 = .ok (.iaload, 1) := dk_46 (dk_at dksX3_answeredBy_0 12 rfl rfl)
theorem dX3_answeredBy_13 : decode cX3_answeredBy 13 = .ok (.if_icmp .ge 28, 3) := dk_162 0 28 (dk_at dksX3_answeredBy_0 13 rfl rfl)
theorem dX3_answeredBy_16 : decode cX3_answeredBy 16 = .ok (.iload_n 2, 1) := dk_28 (dk_at dksX3_answeredBy_0 16 rfl rfl)
theorem dX3_answeredBy_17 : decode cX3_answeredBy 17 = .ok (.aload_n 0, 1) := dk_42 (dk_at dksX3_answeredBy_0 17 rfl rfl)
theorem dX3_answeredBy_18 : decode cX3_answeredBy 18 = .ok (.getfield 53, 3) := dk_180 0 53 (dk_at dksX3_answeredBy_0 18 rfl rfl)
theorem dX3_answeredBy_21 : decode cX3_answeredBy 21 = .ok (.iload_n 3, 1) := dk_29 (dk_at dksX3_answeredBy_0 21 rfl rfl)
theorem dX3_answeredBy_22 : decode cX3_answeredBy 22 = .ok (.iaload, 1) := dk_46 (dk_at dksX3_answeredBy_0 22 rfl rfl)
theorem dX3_answeredBy_23 : decode cX3_answeredBy 23 = .ok (.iload_n 1, 1) := dk_27 (dk_at dksX3_answeredBy_0 23 rfl rfl)
theorem dX3_answeredBy_24 : decode cX3_answeredBy 24 = .ok (.iand, 1) := dk_126 (dk_at dksX3_answeredBy_1 0 rfl rfl)
theorem dX3_answeredBy_25 : decode cX3_answeredBy 25 = .ok (.ifCond .eq 7, 3) := dk_153 0 7 (dk_at dksX3_answeredBy_1 1 rfl rfl)
theorem dX3_answeredBy_28 : decode cX3_answeredBy 28 = .ok (.iconst 1, 1) := dk_4 (dk_at dksX3_answeredBy_1 4 rfl rfl)
theorem dX3_answeredBy_29 : decode cX3_answeredBy 29 = .ok (.goto 4, 3) := dk_167 0 4 (dk_at dksX3_answeredBy_1 5 rfl rfl)
theorem dX3_answeredBy_32 : decode cX3_answeredBy 32 = .ok (.iconst 0, 1) := dk_3 (dk_at dksX3_answeredBy_1 8 rfl rfl)
theorem dX3_answeredBy_33 : decode cX3_answeredBy 33 = .ok (.iadd, 1) := dk_96 (dk_at dksX3_answeredBy_1 9 rfl rfl)
theorem dX3_answeredBy_34 : decode cX3_answeredBy 34 = .ok (.istore_n 2, 1) := dk_61 (dk_at dksX3_answeredBy_1 10 rfl rfl)
theorem dX3_answeredBy_35 : decode cX3_answeredBy 35 = .ok (.iinc 3 1, 3) := dk_132 3 1 (dk_at dksX3_answeredBy_1 11 rfl rfl)
theorem dX3_answeredBy_38 : decode cX3_answeredBy 38 = .ok (.goto (-34), 3) := dk_167 255 222 (dk_at dksX3_answeredBy_1 14 rfl rfl)
theorem dX3_answeredBy_41 : decode cX3_answeredBy 41 = .ok (.iload_n 2, 1) := dk_28 (dk_at dksX3_answeredBy_1 17 rfl rfl)
theorem dX3_answeredBy_42 : decode cX3_answeredBy 42 = .ok (.ireturn, 1) := dk_172 (dk_at dksX3_answeredBy_1 18 rfl rfl)
abbrev cX3_scarf : ByteArray := prog_17_method_114_code
def yX3_scarf : MethodName := ⟨RX3, "scarf", "(I)I"⟩
def dkwX3_scarf_3 : List UInt8 := [96, 79, 42, 180, 0, 7, 17, 2, 67, 46, 172]
abbrev dktX3_scarf_3 : List UInt8 := dkwX3_scarf_3 ++ []
def dkwX3_scarf_2 : List UInt8 := [17, 3, 55, 42, 180, 0, 7, 17, 2, 67, 46, 96, 27, 79, 42, 180, 0, 7, 17, 2, 67, 92, 46, 4]
abbrev dktX3_scarf_2 : List UInt8 := dkwX3_scarf_2 ++ dktX3_scarf_3
def dkwX3_scarf_1 : List UInt8 := [153, 0, 16, 42, 180, 0, 7, 17, 2, 67, 46, 16, 16, 160, 0, 5, 2, 172, 42, 180, 0, 7]
abbrev dktX3_scarf_1 : List UInt8 := dkwX3_scarf_1 ++ dktX3_scarf_2
def dkwX3_scarf_0 : List UInt8 := [27, 2, 160, 0, 14, 42, 180, 0, 7, 17, 2, 67, 3, 79, 3, 172, 27, 3, 16, 7, 184, 0, 59]
abbrev dktX3_scarf_0 : List UInt8 := dkwX3_scarf_0 ++ dktX3_scarf_1
theorem dksX3_scarf_0 : cX3_scarf.data.toList.drop 0 = dktX3_scarf_0 := by decide +kernel
theorem dksX3_scarf_1 : cX3_scarf.data.toList.drop 23 = dktX3_scarf_1 := dk_seg dksX3_scarf_0 23 rfl rfl
theorem dksX3_scarf_2 : cX3_scarf.data.toList.drop 45 = dktX3_scarf_2 := dk_seg dksX3_scarf_1 22 rfl rfl
theorem dksX3_scarf_3 : cX3_scarf.data.toList.drop 69 = dktX3_scarf_3 := dk_seg dksX3_scarf_2 24 rfl rfl
theorem dX3_scarf_0 : decode cX3_scarf 0 = .ok (.iload_n 1, 1) := dk_27 (dk_at dksX3_scarf_0 0 rfl rfl)
theorem dX3_scarf_1 : decode cX3_scarf 1 = .ok (.iconst (-1), 1) := dk_2 (dk_at dksX3_scarf_0 1 rfl rfl)
theorem dX3_scarf_2 : decode cX3_scarf 2 = .ok (.if_icmp .ne 14, 3) := dk_160 0 14 (dk_at dksX3_scarf_0 2 rfl rfl)
theorem dX3_scarf_5 : decode cX3_scarf 5 = .ok (.aload_n 0, 1) := dk_42 (dk_at dksX3_scarf_0 5 rfl rfl)
theorem dX3_scarf_6 : decode cX3_scarf 6 = .ok (.getfield 7, 3) := dk_180 0 7 (dk_at dksX3_scarf_0 6 rfl rfl)
theorem dX3_scarf_9 : decode cX3_scarf 9 = .ok (.sipush 579, 3) := dk_17 2 67 (dk_at dksX3_scarf_0 9 rfl rfl)
theorem dX3_scarf_12 : decode cX3_scarf 12 = .ok (.iconst 0, 1) := dk_3 (dk_at dksX3_scarf_0 12 rfl rfl)
theorem dX3_scarf_13 : decode cX3_scarf 13 = .ok (.iastore, 1) := dk_79 (dk_at dksX3_scarf_0 13 rfl rfl)
theorem dX3_scarf_14 : decode cX3_scarf 14 = .ok (.iconst 0, 1) := dk_3 (dk_at dksX3_scarf_0 14 rfl rfl)
theorem dX3_scarf_15 : decode cX3_scarf 15 = .ok (.ireturn, 1) := dk_172 (dk_at dksX3_scarf_0 15 rfl rfl)
theorem dX3_scarf_16 : decode cX3_scarf 16 = .ok (.iload_n 1, 1) := dk_27 (dk_at dksX3_scarf_0 16 rfl rfl)
theorem dX3_scarf_17 : decode cX3_scarf 17 = .ok (.iconst 0, 1) := dk_3 (dk_at dksX3_scarf_0 17 rfl rfl)
theorem dX3_scarf_18 : decode cX3_scarf 18 = .ok (.bipush 7, 2) := dk_16 7 (dk_at dksX3_scarf_0 18 rfl rfl)
theorem dX3_scarf_20 : decode cX3_scarf 20 = .ok (.invokestatic 59, 3) := dk_184 0 59 (dk_at dksX3_scarf_0 20 rfl rfl)
theorem dX3_scarf_23 : decode cX3_scarf 23 = .ok (.ifCond .eq 16, 3) := dk_153 0 16 (dk_at dksX3_scarf_1 0 rfl rfl)
theorem dX3_scarf_26 : decode cX3_scarf 26 = .ok (.aload_n 0, 1) := dk_42 (dk_at dksX3_scarf_1 3 rfl rfl)
theorem dX3_scarf_27 : decode cX3_scarf 27 = .ok (.getfield 7, 3) := dk_180 0 7 (dk_at dksX3_scarf_1 4 rfl rfl)
theorem dX3_scarf_30 : decode cX3_scarf 30 = .ok (.sipush 579, 3) := dk_17 2 67 (dk_at dksX3_scarf_1 7 rfl rfl)
theorem dX3_scarf_33 : decode cX3_scarf 33 = .ok (.iaload, 1) := dk_46 (dk_at dksX3_scarf_1 10 rfl rfl)
theorem dX3_scarf_34 : decode cX3_scarf 34 = .ok (.bipush 16, 2) := dk_16 16 (dk_at dksX3_scarf_1 11 rfl rfl)
theorem dX3_scarf_36 : decode cX3_scarf 36 = .ok (.if_icmp .ne 5, 3) := dk_160 0 5 (dk_at dksX3_scarf_1 13 rfl rfl)
theorem dX3_scarf_39 : decode cX3_scarf 39 = .ok (.iconst (-1), 1) := dk_2 (dk_at dksX3_scarf_1 16 rfl rfl)
theorem dX3_scarf_40 : decode cX3_scarf 40 = .ok (.ireturn, 1) := dk_172 (dk_at dksX3_scarf_1 17 rfl rfl)
theorem dX3_scarf_41 : decode cX3_scarf 41 = .ok (.aload_n 0, 1) := dk_42 (dk_at dksX3_scarf_1 18 rfl rfl)
theorem dX3_scarf_42 : decode cX3_scarf 42 = .ok (.getfield 7, 3) := dk_180 0 7 (dk_at dksX3_scarf_1 19 rfl rfl)
theorem dX3_scarf_45 : decode cX3_scarf 45 = .ok (.sipush 823, 3) := dk_17 3 55 (dk_at dksX3_scarf_2 0 rfl rfl)
theorem dX3_scarf_48 : decode cX3_scarf 48 = .ok (.aload_n 0, 1) := dk_42 (dk_at dksX3_scarf_2 3 rfl rfl)
theorem dX3_scarf_49 : decode cX3_scarf 49 = .ok (.getfield 7, 3) := dk_180 0 7 (dk_at dksX3_scarf_2 4 rfl rfl)
theorem dX3_scarf_52 : decode cX3_scarf 52 = .ok (.sipush 579, 3) := dk_17 2 67 (dk_at dksX3_scarf_2 7 rfl rfl)
theorem dX3_scarf_55 : decode cX3_scarf 55 = .ok (.iaload, 1) := dk_46 (dk_at dksX3_scarf_2 10 rfl rfl)
theorem dX3_scarf_56 : decode cX3_scarf 56 = .ok (.iadd, 1) := dk_96 (dk_at dksX3_scarf_2 11 rfl rfl)
theorem dX3_scarf_57 : decode cX3_scarf 57 = .ok (.iload_n 1, 1) := dk_27 (dk_at dksX3_scarf_2 12 rfl rfl)
theorem dX3_scarf_58 : decode cX3_scarf 58 = .ok (.iastore, 1) := dk_79 (dk_at dksX3_scarf_2 13 rfl rfl)
theorem dX3_scarf_59 : decode cX3_scarf 59 = .ok (.aload_n 0, 1) := dk_42 (dk_at dksX3_scarf_2 14 rfl rfl)
theorem dX3_scarf_60 : decode cX3_scarf 60 = .ok (.getfield 7, 3) := dk_180 0 7 (dk_at dksX3_scarf_2 15 rfl rfl)
theorem dX3_scarf_63 : decode cX3_scarf 63 = .ok (.sipush 579, 3) := dk_17 2 67 (dk_at dksX3_scarf_2 18 rfl rfl)
theorem dX3_scarf_66 : decode cX3_scarf 66 = .ok (.dup2, 1) := dk_92 (dk_at dksX3_scarf_2 21 rfl rfl)
theorem dX3_scarf_67 : decode cX3_scarf 67 = .ok (.iaload, 1) := dk_46 (dk_at dksX3_scarf_2 22 rfl rfl)
theorem dX3_scarf_68 : decode cX3_scarf 68 = .ok (.iconst 1, 1) := dk_4 (dk_at dksX3_scarf_2 23 rfl rfl)
theorem dX3_scarf_69 : decode cX3_scarf 69 = .ok (.iadd, 1) := dk_96 (dk_at dksX3_scarf_3 0 rfl rfl)
theorem dX3_scarf_70 : decode cX3_scarf 70 = .ok (.iastore, 1) := dk_79 (dk_at dksX3_scarf_3 1 rfl rfl)
theorem dX3_scarf_71 : decode cX3_scarf 71 = .ok (.aload_n 0, 1) := dk_42 (dk_at dksX3_scarf_3 2 rfl rfl)
theorem dX3_scarf_72 : decode cX3_scarf 72 = .ok (.getfield 7, 3) := dk_180 0 7 (dk_at dksX3_scarf_3 3 rfl rfl)
theorem dX3_scarf_75 : decode cX3_scarf 75 = .ok (.sipush 579, 3) := dk_17 2 67 (dk_at dksX3_scarf_3 6 rfl rfl)
theorem dX3_scarf_78 : decode cX3_scarf 78 = .ok (.iaload, 1) := dk_46 (dk_at dksX3_scarf_3 9 rfl rfl)
theorem dX3_scarf_79 : decode cX3_scarf 79 = .ok (.ireturn, 1) := dk_172 (dk_at dksX3_scarf_3 10 rfl rfl)
abbrev cX3_whose : ByteArray := prog_17_method_118_code
def yX3_whose : MethodName := ⟨RX3, "whose", "(I)I"⟩
def dkwX3_whose_3 : List UInt8 := [167, 0, 20, 27, 154, 0, 11, 42, 28, 182, 1, 177, 167, 0, 8, 42, 28, 182, 1, 180, 172]
abbrev dktX3_whose_3 : List UInt8 := dkwX3_whose_3 ++ []
def dkwX3_whose_2 : List UInt8 := [164, 0, 5, 29, 61, 132, 3, 1, 167, 255, 217, 27, 4, 160, 0, 5, 28, 172, 28, 2, 160, 0, 7, 3]
abbrev dktX3_whose_2 : List UInt8 := dkwX3_whose_2 ++ dktX3_whose_3
def dkwX3_whose_1 : List UInt8 := [162, 0, 33, 42, 29, 182, 1, 177, 28, 2, 160, 0, 7, 3, 167, 0, 8, 42, 28, 182, 1, 177]
abbrev dktX3_whose_1 : List UInt8 := dkwX3_whose_1 ++ dktX3_whose_2
def dkwX3_whose_0 : List UInt8 := [27, 3, 5, 184, 0, 59, 154, 0, 5, 2, 172, 2, 61, 3, 62, 29, 42, 180, 0, 7, 17, 2, 59, 46]
abbrev dktX3_whose_0 : List UInt8 := dkwX3_whose_0 ++ dktX3_whose_1
theorem dksX3_whose_0 : cX3_whose.data.toList.drop 0 = dktX3_whose_0 := by decide +kernel
theorem dksX3_whose_1 : cX3_whose.data.toList.drop 24 = dktX3_whose_1 := dk_seg dksX3_whose_0 24 rfl rfl
theorem dksX3_whose_2 : cX3_whose.data.toList.drop 46 = dktX3_whose_2 := dk_seg dksX3_whose_1 22 rfl rfl
theorem dksX3_whose_3 : cX3_whose.data.toList.drop 70 = dktX3_whose_3 := dk_seg dksX3_whose_2 24 rfl rfl
theorem dX3_whose_0 : decode cX3_whose 0 = .ok (.iload_n 1, 1) := dk_27 (dk_at dksX3_whose_0 0 rfl rfl)
theorem dX3_whose_1 : decode cX3_whose 1 = .ok (.iconst 0, 1) := dk_3 (dk_at dksX3_whose_0 1 rfl rfl)
theorem dX3_whose_2 : decode cX3_whose 2 = .ok (.iconst 2, 1) := dk_5 (dk_at dksX3_whose_0 2 rfl rfl)
theorem dX3_whose_3 : decode cX3_whose 3 = .ok (.invokestatic 59, 3) := dk_184 0 59 (dk_at dksX3_whose_0 3 rfl rfl)
theorem dX3_whose_6 : decode cX3_whose 6 = .ok (.ifCond .ne 5, 3) := dk_154 0 5 (dk_at dksX3_whose_0 6 rfl rfl)
theorem dX3_whose_9 : decode cX3_whose 9 = .ok (.iconst (-1), 1) := dk_2 (dk_at dksX3_whose_0 9 rfl rfl)
theorem dX3_whose_10 : decode cX3_whose 10 = .ok (.ireturn, 1) := dk_172 (dk_at dksX3_whose_0 10 rfl rfl)
theorem dX3_whose_11 : decode cX3_whose 11 = .ok (.iconst (-1), 1) := dk_2 (dk_at dksX3_whose_0 11 rfl rfl)
theorem dX3_whose_12 : decode cX3_whose 12 = .ok (.istore_n 2, 1) := dk_61 (dk_at dksX3_whose_0 12 rfl rfl)
theorem dX3_whose_13 : decode cX3_whose 13 = .ok (.iconst 0, 1) := dk_3 (dk_at dksX3_whose_0 13 rfl rfl)
theorem dX3_whose_14 : decode cX3_whose 14 = .ok (.istore_n 3, 1) := dk_62 (dk_at dksX3_whose_0 14 rfl rfl)
theorem dX3_whose_15 : decode cX3_whose 15 = .ok (.iload_n 3, 1) := dk_29 (dk_at dksX3_whose_0 15 rfl rfl)
theorem dX3_whose_16 : decode cX3_whose 16 = .ok (.aload_n 0, 1) := dk_42 (dk_at dksX3_whose_0 16 rfl rfl)
theorem dX3_whose_17 : decode cX3_whose 17 = .ok (.getfield 7, 3) := dk_180 0 7 (dk_at dksX3_whose_0 17 rfl rfl)
theorem dX3_whose_20 : decode cX3_whose 20 = .ok (.sipush 571, 3) := dk_17 2 59 (dk_at dksX3_whose_0 20 rfl rfl)
theorem dX3_whose_23 : decode cX3_whose 23 = .ok (.iaload, 1) := dk_46 (dk_at dksX3_whose_0 23 rfl rfl)
theorem dX3_whose_24 : decode cX3_whose 24 = .ok (.if_icmp .ge 33, 3) := dk_162 0 33 (dk_at dksX3_whose_1 0 rfl rfl)
theorem dX3_whose_27 : decode cX3_whose 27 = .ok (.aload_n 0, 1) := dk_42 (dk_at dksX3_whose_1 3 rfl rfl)
theorem dX3_whose_28 : decode cX3_whose 28 = .ok (.iload_n 3, 1) := dk_29 (dk_at dksX3_whose_1 4 rfl rfl)
theorem dX3_whose_29 : decode cX3_whose 29 = .ok (.invokevirtual 433, 3) := dk_182 1 177 (dk_at dksX3_whose_1 5 rfl rfl)
theorem dX3_whose_32 : decode cX3_whose 32 = .ok (.iload_n 2, 1) := dk_28 (dk_at dksX3_whose_1 8 rfl rfl)
theorem dX3_whose_33 : decode cX3_whose 33 = .ok (.iconst (-1), 1) := dk_2 (dk_at dksX3_whose_1 9 rfl rfl)
theorem dX3_whose_34 : decode cX3_whose 34 = .ok (.if_icmp .ne 7, 3) := dk_160 0 7 (dk_at dksX3_whose_1 10 rfl rfl)
theorem dX3_whose_37 : decode cX3_whose 37 = .ok (.iconst 0, 1) := dk_3 (dk_at dksX3_whose_1 13 rfl rfl)
theorem dX3_whose_38 : decode cX3_whose 38 = .ok (.goto 8, 3) := dk_167 0 8 (dk_at dksX3_whose_1 14 rfl rfl)
theorem dX3_whose_41 : decode cX3_whose 41 = .ok (.aload_n 0, 1) := dk_42 (dk_at dksX3_whose_1 17 rfl rfl)
theorem dX3_whose_42 : decode cX3_whose 42 = .ok (.iload_n 2, 1) := dk_28 (dk_at dksX3_whose_1 18 rfl rfl)
theorem dX3_whose_43 : decode cX3_whose 43 = .ok (.invokevirtual 433, 3) := dk_182 1 177 (dk_at dksX3_whose_1 19 rfl rfl)
theorem dX3_whose_46 : decode cX3_whose 46 = .ok (.if_icmp .le 5, 3) := dk_164 0 5 (dk_at dksX3_whose_2 0 rfl rfl)
theorem dX3_whose_49 : decode cX3_whose 49 = .ok (.iload_n 3, 1) := dk_29 (dk_at dksX3_whose_2 3 rfl rfl)
theorem dX3_whose_50 : decode cX3_whose 50 = .ok (.istore_n 2, 1) := dk_61 (dk_at dksX3_whose_2 4 rfl rfl)
theorem dX3_whose_51 : decode cX3_whose 51 = .ok (.iinc 3 1, 3) := dk_132 3 1 (dk_at dksX3_whose_2 5 rfl rfl)
theorem dX3_whose_54 : decode cX3_whose 54 = .ok (.goto (-39), 3) := dk_167 255 217 (dk_at dksX3_whose_2 8 rfl rfl)
theorem dX3_whose_57 : decode cX3_whose 57 = .ok (.iload_n 1, 1) := dk_27 (dk_at dksX3_whose_2 11 rfl rfl)
theorem dX3_whose_58 : decode cX3_whose 58 = .ok (.iconst 1, 1) := dk_4 (dk_at dksX3_whose_2 12 rfl rfl)
theorem dX3_whose_59 : decode cX3_whose 59 = .ok (.if_icmp .ne 5, 3) := dk_160 0 5 (dk_at dksX3_whose_2 13 rfl rfl)
theorem dX3_whose_62 : decode cX3_whose 62 = .ok (.iload_n 2, 1) := dk_28 (dk_at dksX3_whose_2 16 rfl rfl)
theorem dX3_whose_63 : decode cX3_whose 63 = .ok (.ireturn, 1) := dk_172 (dk_at dksX3_whose_2 17 rfl rfl)
theorem dX3_whose_64 : decode cX3_whose 64 = .ok (.iload_n 2, 1) := dk_28 (dk_at dksX3_whose_2 18 rfl rfl)
theorem dX3_whose_65 : decode cX3_whose 65 = .ok (.iconst (-1), 1) := dk_2 (dk_at dksX3_whose_2 19 rfl rfl)
theorem dX3_whose_66 : decode cX3_whose 66 = .ok (.if_icmp .ne 7, 3) := dk_160 0 7 (dk_at dksX3_whose_2 20 rfl rfl)
theorem dX3_whose_69 : decode cX3_whose 69 = .ok (.iconst 0, 1) := dk_3 (dk_at dksX3_whose_2 23 rfl rfl)
theorem dX3_whose_70 : decode cX3_whose 70 = .ok (.goto 20, 3) := dk_167 0 20 (dk_at dksX3_whose_3 0 rfl rfl)
theorem dX3_whose_73 : decode cX3_whose 73 = .ok (.iload_n 1, 1) := dk_27 (dk_at dksX3_whose_3 3 rfl rfl)
theorem dX3_whose_74 : decode cX3_whose 74 = .ok (.ifCond .ne 11, 3) := dk_154 0 11 (dk_at dksX3_whose_3 4 rfl rfl)
theorem dX3_whose_77 : decode cX3_whose 77 = .ok (.aload_n 0, 1) := dk_42 (dk_at dksX3_whose_3 7 rfl rfl)
theorem dX3_whose_78 : decode cX3_whose 78 = .ok (.iload_n 2, 1) := dk_28 (dk_at dksX3_whose_3 8 rfl rfl)
theorem dX3_whose_79 : decode cX3_whose 79 = .ok (.invokevirtual 433, 3) := dk_182 1 177 (dk_at dksX3_whose_3 9 rfl rfl)
theorem dX3_whose_82 : decode cX3_whose 82 = .ok (.goto 8, 3) := dk_167 0 8 (dk_at dksX3_whose_3 12 rfl rfl)
theorem dX3_whose_85 : decode cX3_whose 85 = .ok (.aload_n 0, 1) := dk_42 (dk_at dksX3_whose_3 15 rfl rfl)
theorem dX3_whose_86 : decode cX3_whose 86 = .ok (.iload_n 2, 1) := dk_28 (dk_at dksX3_whose_3 16 rfl rfl)
theorem dX3_whose_87 : decode cX3_whose 87 = .ok (.invokevirtual 436, 3) := dk_182 1 180 (dk_at dksX3_whose_3 17 rfl rfl)
theorem dX3_whose_90 : decode cX3_whose 90 = .ok (.ireturn, 1) := dk_172 (dk_at dksX3_whose_3 20 rfl rfl)
abbrev cX3_longestOf : ByteArray := prog_17_method_116_code
def yX3_longestOf : MethodName := ⟨RX3, "longestOf", "(I)I"⟩
def dkwX3_longestOf_2 : List UInt8 := [132, 4, 1, 167, 255, 227, 132, 3, 1, 167, 255, 205, 28, 172]
abbrev dktX3_longestOf_2 : List UInt8 := dkwX3_longestOf_2 ++ []
def dkwX3_longestOf_1 : List UInt8 := [180, 0, 7, 17, 2, 67, 46, 162, 0, 22, 28, 42, 27, 29, 21, 4, 182, 1, 174, 184, 1, 36, 61]
abbrev dktX3_longestOf_1 : List UInt8 := dkwX3_longestOf_1 ++ dktX3_longestOf_2
def dkwX3_longestOf_0 : List UInt8 := [3, 61, 3, 62, 29, 42, 180, 0, 7, 16, 19, 27, 96, 46, 162, 0, 44, 3, 54, 4, 21, 4, 42]
abbrev dktX3_longestOf_0 : List UInt8 := dkwX3_longestOf_0 ++ dktX3_longestOf_1
theorem dksX3_longestOf_0 : cX3_longestOf.data.toList.drop 0 = dktX3_longestOf_0 := by decide +kernel
theorem dksX3_longestOf_1 : cX3_longestOf.data.toList.drop 23 = dktX3_longestOf_1 := dk_seg dksX3_longestOf_0 23 rfl rfl
theorem dksX3_longestOf_2 : cX3_longestOf.data.toList.drop 46 = dktX3_longestOf_2 := dk_seg dksX3_longestOf_1 23 rfl rfl
theorem dX3_longestOf_0 : decode cX3_longestOf 0 = .ok (.iconst 0, 1) := dk_3 (dk_at dksX3_longestOf_0 0 rfl rfl)
theorem dX3_longestOf_1 : decode cX3_longestOf 1 = .ok (.istore_n 2, 1) := dk_61 (dk_at dksX3_longestOf_0 1 rfl rfl)
theorem dX3_longestOf_2 : decode cX3_longestOf 2 = .ok (.iconst 0, 1) := dk_3 (dk_at dksX3_longestOf_0 2 rfl rfl)
theorem dX3_longestOf_3 : decode cX3_longestOf 3 = .ok (.istore_n 3, 1) := dk_62 (dk_at dksX3_longestOf_0 3 rfl rfl)
theorem dX3_longestOf_4 : decode cX3_longestOf 4 = .ok (.iload_n 3, 1) := dk_29 (dk_at dksX3_longestOf_0 4 rfl rfl)
theorem dX3_longestOf_5 : decode cX3_longestOf 5 = .ok (.aload_n 0, 1) := dk_42 (dk_at dksX3_longestOf_0 5 rfl rfl)
theorem dX3_longestOf_6 : decode cX3_longestOf 6 = .ok (.getfield 7, 3) := dk_180 0 7 (dk_at dksX3_longestOf_0 6 rfl rfl)
theorem dX3_longestOf_9 : decode cX3_longestOf 9 = .ok (.bipush 19, 2) := dk_16 19 (dk_at dksX3_longestOf_0 9 rfl rfl)
theorem dX3_longestOf_11 : decode cX3_longestOf 11 = .ok (.iload_n 1, 1) := dk_27 (dk_at dksX3_longestOf_0 11 rfl rfl)
theorem dX3_longestOf_12 : decode cX3_longestOf 12 = .ok (.iadd, 1) := dk_96 (dk_at dksX3_longestOf_0 12 rfl rfl)
theorem dX3_longestOf_13 : decode cX3_longestOf 13 = .ok (.iaload, 1) := dk_46 (dk_at dksX3_longestOf_0 13 rfl rfl)
theorem dX3_longestOf_14 : decode cX3_longestOf 14 = .ok (.if_icmp .ge 44, 3) := dk_162 0 44 (dk_at dksX3_longestOf_0 14 rfl rfl)
theorem dX3_longestOf_17 : decode cX3_longestOf 17 = .ok (.iconst 0, 1) := dk_3 (dk_at dksX3_longestOf_0 17 rfl rfl)
theorem dX3_longestOf_18 : decode cX3_longestOf 18 = .ok (.istore 4, 2) := dk_54 4 (dk_at dksX3_longestOf_0 18 rfl rfl)
theorem dX3_longestOf_20 : decode cX3_longestOf 20 = .ok (.iload 4, 2) := dk_21 4 (dk_at dksX3_longestOf_0 20 rfl rfl)
theorem dX3_longestOf_22 : decode cX3_longestOf 22 = .ok (.aload_n 0, 1) := dk_42 (dk_at dksX3_longestOf_0 22 rfl rfl)
theorem dX3_longestOf_23 : decode cX3_longestOf 23 = .ok (.getfield 7, 3) := dk_180 0 7 (dk_at dksX3_longestOf_1 0 rfl rfl)
theorem dX3_longestOf_26 : decode cX3_longestOf 26 = .ok (.sipush 579, 3) := dk_17 2 67 (dk_at dksX3_longestOf_1 3 rfl rfl)
theorem dX3_longestOf_29 : decode cX3_longestOf 29 = .ok (.iaload, 1) := dk_46 (dk_at dksX3_longestOf_1 6 rfl rfl)
theorem dX3_longestOf_30 : decode cX3_longestOf 30 = .ok (.if_icmp .ge 22, 3) := dk_162 0 22 (dk_at dksX3_longestOf_1 7 rfl rfl)
theorem dX3_longestOf_33 : decode cX3_longestOf 33 = .ok (.iload_n 2, 1) := dk_28 (dk_at dksX3_longestOf_1 10 rfl rfl)
theorem dX3_longestOf_34 : decode cX3_longestOf 34 = .ok (.aload_n 0, 1) := dk_42 (dk_at dksX3_longestOf_1 11 rfl rfl)
theorem dX3_longestOf_35 : decode cX3_longestOf 35 = .ok (.iload_n 1, 1) := dk_27 (dk_at dksX3_longestOf_1 12 rfl rfl)
theorem dX3_longestOf_36 : decode cX3_longestOf 36 = .ok (.iload_n 3, 1) := dk_29 (dk_at dksX3_longestOf_1 13 rfl rfl)
theorem dX3_longestOf_37 : decode cX3_longestOf 37 = .ok (.iload 4, 2) := dk_21 4 (dk_at dksX3_longestOf_1 14 rfl rfl)
theorem dX3_longestOf_39 : decode cX3_longestOf 39 = .ok (.invokevirtual 430, 3) := dk_182 1 174 (dk_at dksX3_longestOf_1 16 rfl rfl)
theorem dX3_longestOf_42 : decode cX3_longestOf 42 = .ok (.invokestatic 292, 3) := dk_184 1 36 (dk_at dksX3_longestOf_1 19 rfl rfl)
theorem dX3_longestOf_45 : decode cX3_longestOf 45 = .ok (.istore_n 2, 1) := dk_61 (dk_at dksX3_longestOf_1 22 rfl rfl)
theorem dX3_longestOf_46 : decode cX3_longestOf 46 = .ok (.iinc 4 1, 3) := dk_132 4 1 (dk_at dksX3_longestOf_2 0 rfl rfl)
theorem dX3_longestOf_49 : decode cX3_longestOf 49 = .ok (.goto (-29), 3) := dk_167 255 227 (dk_at dksX3_longestOf_2 3 rfl rfl)
theorem dX3_longestOf_52 : decode cX3_longestOf 52 = .ok (.iinc 3 1, 3) := dk_132 3 1 (dk_at dksX3_longestOf_2 6 rfl rfl)
theorem dX3_longestOf_55 : decode cX3_longestOf 55 = .ok (.goto (-51), 3) := dk_167 255 205 (dk_at dksX3_longestOf_2 9 rfl rfl)
theorem dX3_longestOf_58 : decode cX3_longestOf 58 = .ok (.iload_n 2, 1) := dk_28 (dk_at dksX3_longestOf_2 12 rfl rfl)
theorem dX3_longestOf_59 : decode cX3_longestOf 59 = .ok (.ireturn, 1) := dk_172 (dk_at dksX3_longestOf_2 13 rfl rfl)
abbrev cX3_longAt : ByteArray := prog_17_method_115_code
def yX3_longAt : MethodName := ⟨RX3, "longAt", "(III)I"⟩
def dkwX3_longAt_2 : List UInt8 := [17, 3, 55, 29, 96, 21, 4, 96, 46, 160, 0, 9, 132, 4, 1, 167, 255, 197, 21, 4, 172]
abbrev dktX3_longAt_2 : List UInt8 := dkwX3_longAt_2 ++ []
def dkwX3_longAt_1 : List UInt8 := [180, 0, 7, 17, 2, 67, 46, 162, 0, 34, 42, 27, 28, 21, 4, 96, 182, 1, 110, 42, 180, 0, 7]
abbrev dktX3_longAt_1 : List UInt8 := dkwX3_longAt_1 ++ dktX3_longAt_2
def dkwX3_longAt_0 : List UInt8 := [3, 54, 4, 28, 21, 4, 96, 42, 180, 0, 7, 16, 19, 27, 96, 46, 162, 0, 49, 29, 21, 4, 96, 42]
abbrev dktX3_longAt_0 : List UInt8 := dkwX3_longAt_0 ++ dktX3_longAt_1
theorem dksX3_longAt_0 : cX3_longAt.data.toList.drop 0 = dktX3_longAt_0 := by decide +kernel
theorem dksX3_longAt_1 : cX3_longAt.data.toList.drop 24 = dktX3_longAt_1 := dk_seg dksX3_longAt_0 24 rfl rfl
theorem dksX3_longAt_2 : cX3_longAt.data.toList.drop 47 = dktX3_longAt_2 := dk_seg dksX3_longAt_1 23 rfl rfl
theorem dX3_longAt_0 : decode cX3_longAt 0 = .ok (.iconst 0, 1) := dk_3 (dk_at dksX3_longAt_0 0 rfl rfl)
theorem dX3_longAt_1 : decode cX3_longAt 1 = .ok (.istore 4, 2) := dk_54 4 (dk_at dksX3_longAt_0 1 rfl rfl)
theorem dX3_longAt_3 : decode cX3_longAt 3 = .ok (.iload_n 2, 1) := dk_28 (dk_at dksX3_longAt_0 3 rfl rfl)
theorem dX3_longAt_4 : decode cX3_longAt 4 = .ok (.iload 4, 2) := dk_21 4 (dk_at dksX3_longAt_0 4 rfl rfl)
theorem dX3_longAt_6 : decode cX3_longAt 6 = .ok (.iadd, 1) := dk_96 (dk_at dksX3_longAt_0 6 rfl rfl)
theorem dX3_longAt_7 : decode cX3_longAt 7 = .ok (.aload_n 0, 1) := dk_42 (dk_at dksX3_longAt_0 7 rfl rfl)
theorem dX3_longAt_8 : decode cX3_longAt 8 = .ok (.getfield 7, 3) := dk_180 0 7 (dk_at dksX3_longAt_0 8 rfl rfl)
theorem dX3_longAt_11 : decode cX3_longAt 11 = .ok (.bipush 19, 2) := dk_16 19 (dk_at dksX3_longAt_0 11 rfl rfl)
theorem dX3_longAt_13 : decode cX3_longAt 13 = .ok (.iload_n 1, 1) := dk_27 (dk_at dksX3_longAt_0 13 rfl rfl)
theorem dX3_longAt_14 : decode cX3_longAt 14 = .ok (.iadd, 1) := dk_96 (dk_at dksX3_longAt_0 14 rfl rfl)
theorem dX3_longAt_15 : decode cX3_longAt 15 = .ok (.iaload, 1) := dk_46 (dk_at dksX3_longAt_0 15 rfl rfl)
theorem dX3_longAt_16 : decode cX3_longAt 16 = .ok (.if_icmp .ge 49, 3) := dk_162 0 49 (dk_at dksX3_longAt_0 16 rfl rfl)
theorem dX3_longAt_19 : decode cX3_longAt 19 = .ok (.iload_n 3, 1) := dk_29 (dk_at dksX3_longAt_0 19 rfl rfl)
theorem dX3_longAt_20 : decode cX3_longAt 20 = .ok (.iload 4, 2) := dk_21 4 (dk_at dksX3_longAt_0 20 rfl rfl)
theorem dX3_longAt_22 : decode cX3_longAt 22 = .ok (.iadd, 1) := dk_96 (dk_at dksX3_longAt_0 22 rfl rfl)
theorem dX3_longAt_23 : decode cX3_longAt 23 = .ok (.aload_n 0, 1) := dk_42 (dk_at dksX3_longAt_0 23 rfl rfl)
theorem dX3_longAt_24 : decode cX3_longAt 24 = .ok (.getfield 7, 3) := dk_180 0 7 (dk_at dksX3_longAt_1 0 rfl rfl)
theorem dX3_longAt_27 : decode cX3_longAt 27 = .ok (.sipush 579, 3) := dk_17 2 67 (dk_at dksX3_longAt_1 3 rfl rfl)
theorem dX3_longAt_30 : decode cX3_longAt 30 = .ok (.iaload, 1) := dk_46 (dk_at dksX3_longAt_1 6 rfl rfl)
theorem dX3_longAt_31 : decode cX3_longAt 31 = .ok (.if_icmp .ge 34, 3) := dk_162 0 34 (dk_at dksX3_longAt_1 7 rfl rfl)
theorem dX3_longAt_34 : decode cX3_longAt 34 = .ok (.aload_n 0, 1) := dk_42 (dk_at dksX3_longAt_1 10 rfl rfl)
theorem dX3_longAt_35 : decode cX3_longAt 35 = .ok (.iload_n 1, 1) := dk_27 (dk_at dksX3_longAt_1 11 rfl rfl)
theorem dX3_longAt_36 : decode cX3_longAt 36 = .ok (.iload_n 2, 1) := dk_28 (dk_at dksX3_longAt_1 12 rfl rfl)
theorem dX3_longAt_37 : decode cX3_longAt 37 = .ok (.iload 4, 2) := dk_21 4 (dk_at dksX3_longAt_1 13 rfl rfl)
theorem dX3_longAt_39 : decode cX3_longAt 39 = .ok (.iadd, 1) := dk_96 (dk_at dksX3_longAt_1 15 rfl rfl)
theorem dX3_longAt_40 : decode cX3_longAt 40 = .ok (.invokevirtual 366, 3) := dk_182 1 110 (dk_at dksX3_longAt_1 16 rfl rfl)
theorem dX3_longAt_43 : decode cX3_longAt 43 = .ok (.aload_n 0, 1) := dk_42 (dk_at dksX3_longAt_1 19 rfl rfl)
theorem dX3_longAt_44 : decode cX3_longAt 44 = .ok (.getfield 7, 3) := dk_180 0 7 (dk_at dksX3_longAt_1 20 rfl rfl)
theorem dX3_longAt_47 : decode cX3_longAt 47 = .ok (.sipush 823, 3) := dk_17 3 55 (dk_at dksX3_longAt_2 0 rfl rfl)
theorem dX3_longAt_50 : decode cX3_longAt 50 = .ok (.iload_n 3, 1) := dk_29 (dk_at dksX3_longAt_2 3 rfl rfl)
theorem dX3_longAt_51 : decode cX3_longAt 51 = .ok (.iadd, 1) := dk_96 (dk_at dksX3_longAt_2 4 rfl rfl)
theorem dX3_longAt_52 : decode cX3_longAt 52 = .ok (.iload 4, 2) := dk_21 4 (dk_at dksX3_longAt_2 5 rfl rfl)
theorem dX3_longAt_54 : decode cX3_longAt 54 = .ok (.iadd, 1) := dk_96 (dk_at dksX3_longAt_2 7 rfl rfl)
theorem dX3_longAt_55 : decode cX3_longAt 55 = .ok (.iaload, 1) := dk_46 (dk_at dksX3_longAt_2 8 rfl rfl)
theorem dX3_longAt_56 : decode cX3_longAt 56 = .ok (.if_icmp .ne 9, 3) := dk_160 0 9 (dk_at dksX3_longAt_2 9 rfl rfl)
theorem dX3_longAt_59 : decode cX3_longAt 59 = .ok (.iinc 4 1, 3) := dk_132 4 1 (dk_at dksX3_longAt_2 12 rfl rfl)
theorem dX3_longAt_62 : decode cX3_longAt 62 = .ok (.goto (-59), 3) := dk_167 255 197 (dk_at dksX3_longAt_2 15 rfl rfl)
theorem dX3_longAt_65 : decode cX3_longAt 65 = .ok (.iload 4, 2) := dk_21 4 (dk_at dksX3_longAt_2 18 rfl rfl)
theorem dX3_longAt_67 : decode cX3_longAt 67 = .ok (.ireturn, 1) := dk_172 (dk_at dksX3_longAt_2 20 rfl rfl)
abbrev cX3_inOrder : ByteArray := prog_17_method_117_code
def yX3_inOrder : MethodName := ⟨RX3, "inOrder", "(I)I"⟩
def dkwX3_inOrder_7 : List UInt8 := [167, 255, 112, 132, 2, 255, 167, 255, 92, 42, 180, 0, 50, 3, 46, 172]
abbrev dktX3_inOrder_7 : List UInt8 := dkwX3_inOrder_7 ++ []
def dkwX3_inOrder_6 : List UInt8 := [16, 41, 96, 46, 42, 180, 0, 50, 16, 41, 28, 104, 29, 96, 4, 96, 46, 184, 1, 36, 79, 132, 3, 255]
abbrev dktX3_inOrder_6 : List UInt8 := dkwX3_inOrder_6 ++ dktX3_inOrder_7
def dkwX3_inOrder_5 : List UInt8 := [16, 41, 28, 104, 29, 96, 16, 42, 96, 46, 96, 167, 0, 33, 42, 180, 0, 50, 16, 41, 28, 104, 29, 96]
abbrev dktX3_inOrder_5 : List UInt8 := dkwX3_inOrder_5 ++ dktX3_inOrder_6
def dkwX3_inOrder_4 : List UInt8 := [28, 104, 29, 96, 21, 4, 153, 0, 7, 3, 167, 0, 57, 21, 5, 153, 0, 22, 4, 42, 180, 0, 50]
abbrev dktX3_inOrder_4 : List UInt8 := dkwX3_inOrder_4 ++ dktX3_inOrder_5
def dkwX3_inOrder_3 : List UInt8 := [96, 46, 42, 27, 29, 182, 1, 110, 160, 0, 7, 4, 167, 0, 4, 3, 54, 5, 42, 180, 0, 50, 16, 41]
abbrev dktX3_inOrder_3 : List UInt8 := dkwX3_inOrder_3 ++ dktX3_inOrder_4
def dkwX3_inOrder_2 : List UInt8 := [46, 160, 0, 7, 4, 167, 0, 4, 3, 54, 4, 21, 4, 154, 0, 26, 42, 180, 0, 7, 17, 3, 55, 28]
abbrev dktX3_inOrder_2 : List UInt8 := dkwX3_inOrder_2 ++ dktX3_inOrder_3
def dkwX3_inOrder_1 : List UInt8 := [155, 0, 146, 28, 42, 180, 0, 7, 17, 2, 67, 46, 159, 0, 16, 29, 42, 180, 0, 7, 16, 19, 27, 96]
abbrev dktX3_inOrder_1 : List UInt8 := dkwX3_inOrder_1 ++ dktX3_inOrder_2
def dkwX3_inOrder_0 : List UInt8 := [42, 180, 0, 7, 17, 2, 67, 46, 61, 28, 155, 0, 166, 42, 180, 0, 7, 16, 19, 27, 96, 46, 62, 29]
abbrev dktX3_inOrder_0 : List UInt8 := dkwX3_inOrder_0 ++ dktX3_inOrder_1
theorem dksX3_inOrder_0 : cX3_inOrder.data.toList.drop 0 = dktX3_inOrder_0 := by decide +kernel
theorem dksX3_inOrder_1 : cX3_inOrder.data.toList.drop 24 = dktX3_inOrder_1 := dk_seg dksX3_inOrder_0 24 rfl rfl
theorem dksX3_inOrder_2 : cX3_inOrder.data.toList.drop 48 = dktX3_inOrder_2 := dk_seg dksX3_inOrder_1 24 rfl rfl
theorem dksX3_inOrder_3 : cX3_inOrder.data.toList.drop 72 = dktX3_inOrder_3 := dk_seg dksX3_inOrder_2 24 rfl rfl
theorem dksX3_inOrder_4 : cX3_inOrder.data.toList.drop 96 = dktX3_inOrder_4 := dk_seg dksX3_inOrder_3 24 rfl rfl
theorem dksX3_inOrder_5 : cX3_inOrder.data.toList.drop 119 = dktX3_inOrder_5 := dk_seg dksX3_inOrder_4 23 rfl rfl
theorem dksX3_inOrder_6 : cX3_inOrder.data.toList.drop 143 = dktX3_inOrder_6 := dk_seg dksX3_inOrder_5 24 rfl rfl
theorem dksX3_inOrder_7 : cX3_inOrder.data.toList.drop 167 = dktX3_inOrder_7 := dk_seg dksX3_inOrder_6 24 rfl rfl
theorem dX3_inOrder_0 : decode cX3_inOrder 0 = .ok (.aload_n 0, 1) := dk_42 (dk_at dksX3_inOrder_0 0 rfl rfl)
theorem dX3_inOrder_1 : decode cX3_inOrder 1 = .ok (.getfield 7, 3) := dk_180 0 7 (dk_at dksX3_inOrder_0 1 rfl rfl)
theorem dX3_inOrder_4 : decode cX3_inOrder 4 = .ok (.sipush 579, 3) := dk_17 2 67 (dk_at dksX3_inOrder_0 4 rfl rfl)
theorem dX3_inOrder_7 : decode cX3_inOrder 7 = .ok (.iaload, 1) := dk_46 (dk_at dksX3_inOrder_0 7 rfl rfl)
theorem dX3_inOrder_8 : decode cX3_inOrder 8 = .ok (.istore_n 2, 1) := dk_61 (dk_at dksX3_inOrder_0 8 rfl rfl)
theorem dX3_inOrder_9 : decode cX3_inOrder 9 = .ok (.iload_n 2, 1) := dk_28 (dk_at dksX3_inOrder_0 9 rfl rfl)
theorem dX3_inOrder_10 : decode cX3_inOrder 10 = .ok (.ifCond .lt 166, 3) := dk_155 0 166 (dk_at dksX3_inOrder_0 10 rfl rfl)
theorem dX3_inOrder_13 : decode cX3_inOrder 13 = .ok (.aload_n 0, 1) := dk_42 (dk_at dksX3_inOrder_0 13 rfl rfl)
theorem dX3_inOrder_14 : decode cX3_inOrder 14 = .ok (.getfield 7, 3) := dk_180 0 7 (dk_at dksX3_inOrder_0 14 rfl rfl)
theorem dX3_inOrder_17 : decode cX3_inOrder 17 = .ok (.bipush 19, 2) := dk_16 19 (dk_at dksX3_inOrder_0 17 rfl rfl)
theorem dX3_inOrder_19 : decode cX3_inOrder 19 = .ok (.iload_n 1, 1) := dk_27 (dk_at dksX3_inOrder_0 19 rfl rfl)
theorem dX3_inOrder_20 : decode cX3_inOrder 20 = .ok (.iadd, 1) := dk_96 (dk_at dksX3_inOrder_0 20 rfl rfl)
theorem dX3_inOrder_21 : decode cX3_inOrder 21 = .ok (.iaload, 1) := dk_46 (dk_at dksX3_inOrder_0 21 rfl rfl)
theorem dX3_inOrder_22 : decode cX3_inOrder 22 = .ok (.istore_n 3, 1) := dk_62 (dk_at dksX3_inOrder_0 22 rfl rfl)
theorem dX3_inOrder_23 : decode cX3_inOrder 23 = .ok (.iload_n 3, 1) := dk_29 (dk_at dksX3_inOrder_0 23 rfl rfl)
theorem dX3_inOrder_24 : decode cX3_inOrder 24 = .ok (.ifCond .lt 146, 3) := dk_155 0 146 (dk_at dksX3_inOrder_1 0 rfl rfl)
theorem dX3_inOrder_27 : decode cX3_inOrder 27 = .ok (.iload_n 2, 1) := dk_28 (dk_at dksX3_inOrder_1 3 rfl rfl)
theorem dX3_inOrder_28 : decode cX3_inOrder 28 = .ok (.aload_n 0, 1) := dk_42 (dk_at dksX3_inOrder_1 4 rfl rfl)
theorem dX3_inOrder_29 : decode cX3_inOrder 29 = .ok (.getfield 7, 3) := dk_180 0 7 (dk_at dksX3_inOrder_1 5 rfl rfl)
theorem dX3_inOrder_32 : decode cX3_inOrder 32 = .ok (.sipush 579, 3) := dk_17 2 67 (dk_at dksX3_inOrder_1 8 rfl rfl)
theorem dX3_inOrder_35 : decode cX3_inOrder 35 = .ok (.iaload, 1) := dk_46 (dk_at dksX3_inOrder_1 11 rfl rfl)
theorem dX3_inOrder_36 : decode cX3_inOrder 36 = .ok (.if_icmp .eq 16, 3) := dk_159 0 16 (dk_at dksX3_inOrder_1 12 rfl rfl)
theorem dX3_inOrder_39 : decode cX3_inOrder 39 = .ok (.iload_n 3, 1) := dk_29 (dk_at dksX3_inOrder_1 15 rfl rfl)
theorem dX3_inOrder_40 : decode cX3_inOrder 40 = .ok (.aload_n 0, 1) := dk_42 (dk_at dksX3_inOrder_1 16 rfl rfl)
theorem dX3_inOrder_41 : decode cX3_inOrder 41 = .ok (.getfield 7, 3) := dk_180 0 7 (dk_at dksX3_inOrder_1 17 rfl rfl)
theorem dX3_inOrder_44 : decode cX3_inOrder 44 = .ok (.bipush 19, 2) := dk_16 19 (dk_at dksX3_inOrder_1 20 rfl rfl)
theorem dX3_inOrder_46 : decode cX3_inOrder 46 = .ok (.iload_n 1, 1) := dk_27 (dk_at dksX3_inOrder_1 22 rfl rfl)
theorem dX3_inOrder_47 : decode cX3_inOrder 47 = .ok (.iadd, 1) := dk_96 (dk_at dksX3_inOrder_1 23 rfl rfl)
theorem dX3_inOrder_48 : decode cX3_inOrder 48 = .ok (.iaload, 1) := dk_46 (dk_at dksX3_inOrder_2 0 rfl rfl)
theorem dX3_inOrder_49 : decode cX3_inOrder 49 = .ok (.if_icmp .ne 7, 3) := dk_160 0 7 (dk_at dksX3_inOrder_2 1 rfl rfl)
theorem dX3_inOrder_52 : decode cX3_inOrder 52 = .ok (.iconst 1, 1) := dk_4 (dk_at dksX3_inOrder_2 4 rfl rfl)
theorem dX3_inOrder_53 : decode cX3_inOrder 53 = .ok (.goto 4, 3) := dk_167 0 4 (dk_at dksX3_inOrder_2 5 rfl rfl)
theorem dX3_inOrder_56 : decode cX3_inOrder 56 = .ok (.iconst 0, 1) := dk_3 (dk_at dksX3_inOrder_2 8 rfl rfl)
theorem dX3_inOrder_57 : decode cX3_inOrder 57 = .ok (.istore 4, 2) := dk_54 4 (dk_at dksX3_inOrder_2 9 rfl rfl)
theorem dX3_inOrder_59 : decode cX3_inOrder 59 = .ok (.iload 4, 2) := dk_21 4 (dk_at dksX3_inOrder_2 11 rfl rfl)
theorem dX3_inOrder_61 : decode cX3_inOrder 61 = .ok (.ifCond .ne 26, 3) := dk_154 0 26 (dk_at dksX3_inOrder_2 13 rfl rfl)
theorem dX3_inOrder_64 : decode cX3_inOrder 64 = .ok (.aload_n 0, 1) := dk_42 (dk_at dksX3_inOrder_2 16 rfl rfl)
theorem dX3_inOrder_65 : decode cX3_inOrder 65 = .ok (.getfield 7, 3) := dk_180 0 7 (dk_at dksX3_inOrder_2 17 rfl rfl)
theorem dX3_inOrder_68 : decode cX3_inOrder 68 = .ok (.sipush 823, 3) := dk_17 3 55 (dk_at dksX3_inOrder_2 20 rfl rfl)
theorem dX3_inOrder_71 : decode cX3_inOrder 71 = .ok (.iload_n 2, 1) := dk_28 (dk_at dksX3_inOrder_2 23 rfl rfl)
theorem dX3_inOrder_72 : decode cX3_inOrder 72 = .ok (.iadd, 1) := dk_96 (dk_at dksX3_inOrder_3 0 rfl rfl)
theorem dX3_inOrder_73 : decode cX3_inOrder 73 = .ok (.iaload, 1) := dk_46 (dk_at dksX3_inOrder_3 1 rfl rfl)
theorem dX3_inOrder_74 : decode cX3_inOrder 74 = .ok (.aload_n 0, 1) := dk_42 (dk_at dksX3_inOrder_3 2 rfl rfl)
theorem dX3_inOrder_75 : decode cX3_inOrder 75 = .ok (.iload_n 1, 1) := dk_27 (dk_at dksX3_inOrder_3 3 rfl rfl)
theorem dX3_inOrder_76 : decode cX3_inOrder 76 = .ok (.iload_n 3, 1) := dk_29 (dk_at dksX3_inOrder_3 4 rfl rfl)
theorem dX3_inOrder_77 : decode cX3_inOrder 77 = .ok (.invokevirtual 366, 3) := dk_182 1 110 (dk_at dksX3_inOrder_3 5 rfl rfl)
theorem dX3_inOrder_80 : decode cX3_inOrder 80 = .ok (.if_icmp .ne 7, 3) := dk_160 0 7 (dk_at dksX3_inOrder_3 8 rfl rfl)
theorem dX3_inOrder_83 : decode cX3_inOrder 83 = .ok (.iconst 1, 1) := dk_4 (dk_at dksX3_inOrder_3 11 rfl rfl)
theorem dX3_inOrder_84 : decode cX3_inOrder 84 = .ok (.goto 4, 3) := dk_167 0 4 (dk_at dksX3_inOrder_3 12 rfl rfl)
theorem dX3_inOrder_87 : decode cX3_inOrder 87 = .ok (.iconst 0, 1) := dk_3 (dk_at dksX3_inOrder_3 15 rfl rfl)
theorem dX3_inOrder_88 : decode cX3_inOrder 88 = .ok (.istore 5, 2) := dk_54 5 (dk_at dksX3_inOrder_3 16 rfl rfl)
theorem dX3_inOrder_90 : decode cX3_inOrder 90 = .ok (.aload_n 0, 1) := dk_42 (dk_at dksX3_inOrder_3 18 rfl rfl)
theorem dX3_inOrder_91 : decode cX3_inOrder 91 = .ok (.getfield 50, 3) := dk_180 0 50 (dk_at dksX3_inOrder_3 19 rfl rfl)
theorem dX3_inOrder_94 : decode cX3_inOrder 94 = .ok (.bipush 41, 2) := dk_16 41 (dk_at dksX3_inOrder_3 22 rfl rfl)
theorem dX3_inOrder_96 : decode cX3_inOrder 96 = .ok (.iload_n 2, 1) := dk_28 (dk_at dksX3_inOrder_4 0 rfl rfl)
theorem dX3_inOrder_97 : decode cX3_inOrder 97 = .ok (.imul, 1) := dk_104 (dk_at dksX3_inOrder_4 1 rfl rfl)
theorem dX3_inOrder_98 : decode cX3_inOrder 98 = .ok (.iload_n 3, 1) := dk_29 (dk_at dksX3_inOrder_4 2 rfl rfl)
theorem dX3_inOrder_99 : decode cX3_inOrder 99 = .ok (.iadd, 1) := dk_96 (dk_at dksX3_inOrder_4 3 rfl rfl)
theorem dX3_inOrder_100 : decode cX3_inOrder 100 = .ok (.iload 4, 2) := dk_21 4 (dk_at dksX3_inOrder_4 4 rfl rfl)
theorem dX3_inOrder_102 : decode cX3_inOrder 102 = .ok (.ifCond .eq 7, 3) := dk_153 0 7 (dk_at dksX3_inOrder_4 6 rfl rfl)
theorem dX3_inOrder_105 : decode cX3_inOrder 105 = .ok (.iconst 0, 1) := dk_3 (dk_at dksX3_inOrder_4 9 rfl rfl)
theorem dX3_inOrder_106 : decode cX3_inOrder 106 = .ok (.goto 57, 3) := dk_167 0 57 (dk_at dksX3_inOrder_4 10 rfl rfl)
theorem dX3_inOrder_109 : decode cX3_inOrder 109 = .ok (.iload 5, 2) := dk_21 5 (dk_at dksX3_inOrder_4 13 rfl rfl)
theorem dX3_inOrder_111 : decode cX3_inOrder 111 = .ok (.ifCond .eq 22, 3) := dk_153 0 22 (dk_at dksX3_inOrder_4 15 rfl rfl)
theorem dX3_inOrder_114 : decode cX3_inOrder 114 = .ok (.iconst 1, 1) := dk_4 (dk_at dksX3_inOrder_4 18 rfl rfl)
theorem dX3_inOrder_115 : decode cX3_inOrder 115 = .ok (.aload_n 0, 1) := dk_42 (dk_at dksX3_inOrder_4 19 rfl rfl)
theorem dX3_inOrder_116 : decode cX3_inOrder 116 = .ok (.getfield 50, 3) := dk_180 0 50 (dk_at dksX3_inOrder_4 20 rfl rfl)
theorem dX3_inOrder_119 : decode cX3_inOrder 119 = .ok (.bipush 41, 2) := dk_16 41 (dk_at dksX3_inOrder_5 0 rfl rfl)
theorem dX3_inOrder_121 : decode cX3_inOrder 121 = .ok (.iload_n 2, 1) := dk_28 (dk_at dksX3_inOrder_5 2 rfl rfl)
theorem dX3_inOrder_122 : decode cX3_inOrder 122 = .ok (.imul, 1) := dk_104 (dk_at dksX3_inOrder_5 3 rfl rfl)
theorem dX3_inOrder_123 : decode cX3_inOrder 123 = .ok (.iload_n 3, 1) := dk_29 (dk_at dksX3_inOrder_5 4 rfl rfl)
theorem dX3_inOrder_124 : decode cX3_inOrder 124 = .ok (.iadd, 1) := dk_96 (dk_at dksX3_inOrder_5 5 rfl rfl)
theorem dX3_inOrder_125 : decode cX3_inOrder 125 = .ok (.bipush 42, 2) := dk_16 42 (dk_at dksX3_inOrder_5 6 rfl rfl)
theorem dX3_inOrder_127 : decode cX3_inOrder 127 = .ok (.iadd, 1) := dk_96 (dk_at dksX3_inOrder_5 8 rfl rfl)
theorem dX3_inOrder_128 : decode cX3_inOrder 128 = .ok (.iaload, 1) := dk_46 (dk_at dksX3_inOrder_5 9 rfl rfl)
theorem dX3_inOrder_129 : decode cX3_inOrder 129 = .ok (.iadd, 1) := dk_96 (dk_at dksX3_inOrder_5 10 rfl rfl)
theorem dX3_inOrder_130 : decode cX3_inOrder 130 = .ok (.goto 33, 3) := dk_167 0 33 (dk_at dksX3_inOrder_5 11 rfl rfl)
theorem dX3_inOrder_133 : decode cX3_inOrder 133 = .ok (.aload_n 0, 1) := dk_42 (dk_at dksX3_inOrder_5 14 rfl rfl)
theorem dX3_inOrder_134 : decode cX3_inOrder 134 = .ok (.getfield 50, 3) := dk_180 0 50 (dk_at dksX3_inOrder_5 15 rfl rfl)
theorem dX3_inOrder_137 : decode cX3_inOrder 137 = .ok (.bipush 41, 2) := dk_16 41 (dk_at dksX3_inOrder_5 18 rfl rfl)
theorem dX3_inOrder_139 : decode cX3_inOrder 139 = .ok (.iload_n 2, 1) := dk_28 (dk_at dksX3_inOrder_5 20 rfl rfl)
theorem dX3_inOrder_140 : decode cX3_inOrder 140 = .ok (.imul, 1) := dk_104 (dk_at dksX3_inOrder_5 21 rfl rfl)
theorem dX3_inOrder_141 : decode cX3_inOrder 141 = .ok (.iload_n 3, 1) := dk_29 (dk_at dksX3_inOrder_5 22 rfl rfl)
theorem dX3_inOrder_142 : decode cX3_inOrder 142 = .ok (.iadd, 1) := dk_96 (dk_at dksX3_inOrder_5 23 rfl rfl)
theorem dX3_inOrder_143 : decode cX3_inOrder 143 = .ok (.bipush 41, 2) := dk_16 41 (dk_at dksX3_inOrder_6 0 rfl rfl)
theorem dX3_inOrder_145 : decode cX3_inOrder 145 = .ok (.iadd, 1) := dk_96 (dk_at dksX3_inOrder_6 2 rfl rfl)
theorem dX3_inOrder_146 : decode cX3_inOrder 146 = .ok (.iaload, 1) := dk_46 (dk_at dksX3_inOrder_6 3 rfl rfl)
theorem dX3_inOrder_147 : decode cX3_inOrder 147 = .ok (.aload_n 0, 1) := dk_42 (dk_at dksX3_inOrder_6 4 rfl rfl)
theorem dX3_inOrder_148 : decode cX3_inOrder 148 = .ok (.getfield 50, 3) := dk_180 0 50 (dk_at dksX3_inOrder_6 5 rfl rfl)
theorem dX3_inOrder_151 : decode cX3_inOrder 151 = .ok (.bipush 41, 2) := dk_16 41 (dk_at dksX3_inOrder_6 8 rfl rfl)
theorem dX3_inOrder_153 : decode cX3_inOrder 153 = .ok (.iload_n 2, 1) := dk_28 (dk_at dksX3_inOrder_6 10 rfl rfl)
theorem dX3_inOrder_154 : decode cX3_inOrder 154 = .ok (.imul, 1) := dk_104 (dk_at dksX3_inOrder_6 11 rfl rfl)
theorem dX3_inOrder_155 : decode cX3_inOrder 155 = .ok (.iload_n 3, 1) := dk_29 (dk_at dksX3_inOrder_6 12 rfl rfl)
theorem dX3_inOrder_156 : decode cX3_inOrder 156 = .ok (.iadd, 1) := dk_96 (dk_at dksX3_inOrder_6 13 rfl rfl)
theorem dX3_inOrder_157 : decode cX3_inOrder 157 = .ok (.iconst 1, 1) := dk_4 (dk_at dksX3_inOrder_6 14 rfl rfl)
theorem dX3_inOrder_158 : decode cX3_inOrder 158 = .ok (.iadd, 1) := dk_96 (dk_at dksX3_inOrder_6 15 rfl rfl)
theorem dX3_inOrder_159 : decode cX3_inOrder 159 = .ok (.iaload, 1) := dk_46 (dk_at dksX3_inOrder_6 16 rfl rfl)
theorem dX3_inOrder_160 : decode cX3_inOrder 160 = .ok (.invokestatic 292, 3) := dk_184 1 36 (dk_at dksX3_inOrder_6 17 rfl rfl)
theorem dX3_inOrder_163 : decode cX3_inOrder 163 = .ok (.iastore, 1) := dk_79 (dk_at dksX3_inOrder_6 20 rfl rfl)
theorem dX3_inOrder_164 : decode cX3_inOrder 164 = .ok (.iinc 3 (-1), 3) := dk_132 3 255 (dk_at dksX3_inOrder_6 21 rfl rfl)
theorem dX3_inOrder_167 : decode cX3_inOrder 167 = .ok (.goto (-144), 3) := dk_167 255 112 (dk_at dksX3_inOrder_7 0 rfl rfl)
theorem dX3_inOrder_170 : decode cX3_inOrder 170 = .ok (.iinc 2 (-1), 3) := dk_132 2 255 (dk_at dksX3_inOrder_7 3 rfl rfl)
theorem dX3_inOrder_173 : decode cX3_inOrder 173 = .ok (.goto (-164), 3) := dk_167 255 92 (dk_at dksX3_inOrder_7 6 rfl rfl)
theorem dX3_inOrder_176 : decode cX3_inOrder 176 = .ok (.aload_n 0, 1) := dk_42 (dk_at dksX3_inOrder_7 9 rfl rfl)
theorem dX3_inOrder_177 : decode cX3_inOrder 177 = .ok (.getfield 50, 3) := dk_180 0 50 (dk_at dksX3_inOrder_7 10 rfl rfl)
theorem dX3_inOrder_180 : decode cX3_inOrder 180 = .ok (.iconst 0, 1) := dk_3 (dk_at dksX3_inOrder_7 13 rfl rfl)
theorem dX3_inOrder_181 : decode cX3_inOrder 181 = .ok (.iaload, 1) := dk_46 (dk_at dksX3_inOrder_7 14 rfl rfl)
theorem dX3_inOrder_182 : decode cX3_inOrder 182 = .ok (.ireturn, 1) := dk_172 (dk_at dksX3_inOrder_7 15 rfl rfl)
abbrev cX3_forged : ByteArray := prog_17_method_119_code
def yX3_forged : MethodName := ⟨RX3, "forged", "(III)I"⟩
def dkwX3_forged_5 : List UInt8 := [22, 4, 136, 172]
abbrev dktX3_forged_5 : List UInt8 := dkwX3_forged_5 ++ []
def dkwX3_forged_4 : List UInt8 := [22, 4, 22, 7, 105, 20, 1, 193, 22, 4, 101, 22, 9, 105, 97, 109, 55, 4, 132, 6, 1, 167, 255, 186]
abbrev dktX3_forged_4 : List UInt8 := dkwX3_forged_4 ++ dktX3_forged_5
def dkwX3_forged_3 : List UInt8 := [162, 0, 9, 20, 1, 189, 167, 0, 6, 20, 1, 191, 55, 9, 20, 1, 193, 22, 4, 22, 7, 105, 105]
abbrev dktX3_forged_3 : List UInt8 := dkwX3_forged_3 ++ dktX3_forged_4
def dkwX3_forged_2 : List UInt8 := [162, 0, 70, 21, 6, 28, 162, 0, 9, 20, 1, 185, 167, 0, 6, 20, 1, 187, 55, 7, 21, 6, 28]
abbrev dktX3_forged_2 : List UInt8 := dkwX3_forged_2 ++ dktX3_forged_3
def dkwX3_forged_1 : List UInt8 := [16, 40, 184, 0, 59, 154, 0, 5, 2, 172, 20, 1, 183, 27, 133, 105, 55, 4, 3, 54, 6, 21, 6, 29]
abbrev dktX3_forged_1 : List UInt8 := dkwX3_forged_1 ++ dktX3_forged_2
def dkwX3_forged_0 : List UInt8 := [27, 3, 17, 3, 232, 184, 0, 59, 153, 0, 23, 28, 3, 16, 20, 184, 0, 59, 153, 0, 13, 29, 28]
abbrev dktX3_forged_0 : List UInt8 := dkwX3_forged_0 ++ dktX3_forged_1
theorem dksX3_forged_0 : cX3_forged.data.toList.drop 0 = dktX3_forged_0 := by decide +kernel
theorem dksX3_forged_1 : cX3_forged.data.toList.drop 23 = dktX3_forged_1 := dk_seg dksX3_forged_0 23 rfl rfl
theorem dksX3_forged_2 : cX3_forged.data.toList.drop 47 = dktX3_forged_2 := dk_seg dksX3_forged_1 24 rfl rfl
theorem dksX3_forged_3 : cX3_forged.data.toList.drop 70 = dktX3_forged_3 := dk_seg dksX3_forged_2 23 rfl rfl
theorem dksX3_forged_4 : cX3_forged.data.toList.drop 93 = dktX3_forged_4 := dk_seg dksX3_forged_3 23 rfl rfl
theorem dksX3_forged_5 : cX3_forged.data.toList.drop 117 = dktX3_forged_5 := dk_seg dksX3_forged_4 24 rfl rfl
theorem dX3_forged_0 : decode cX3_forged 0 = .ok (.iload_n 1, 1) := dk_27 (dk_at dksX3_forged_0 0 rfl rfl)
theorem dX3_forged_1 : decode cX3_forged 1 = .ok (.iconst 0, 1) := dk_3 (dk_at dksX3_forged_0 1 rfl rfl)
theorem dX3_forged_2 : decode cX3_forged 2 = .ok (.sipush 1000, 3) := dk_17 3 232 (dk_at dksX3_forged_0 2 rfl rfl)
theorem dX3_forged_5 : decode cX3_forged 5 = .ok (.invokestatic 59, 3) := dk_184 0 59 (dk_at dksX3_forged_0 5 rfl rfl)
theorem dX3_forged_8 : decode cX3_forged 8 = .ok (.ifCond .eq 23, 3) := dk_153 0 23 (dk_at dksX3_forged_0 8 rfl rfl)
theorem dX3_forged_11 : decode cX3_forged 11 = .ok (.iload_n 2, 1) := dk_28 (dk_at dksX3_forged_0 11 rfl rfl)
theorem dX3_forged_12 : decode cX3_forged 12 = .ok (.iconst 0, 1) := dk_3 (dk_at dksX3_forged_0 12 rfl rfl)
theorem dX3_forged_13 : decode cX3_forged 13 = .ok (.bipush 20, 2) := dk_16 20 (dk_at dksX3_forged_0 13 rfl rfl)
theorem dX3_forged_15 : decode cX3_forged 15 = .ok (.invokestatic 59, 3) := dk_184 0 59 (dk_at dksX3_forged_0 15 rfl rfl)
theorem dX3_forged_18 : decode cX3_forged 18 = .ok (.ifCond .eq 13, 3) := dk_153 0 13 (dk_at dksX3_forged_0 18 rfl rfl)
theorem dX3_forged_21 : decode cX3_forged 21 = .ok (.iload_n 3, 1) := dk_29 (dk_at dksX3_forged_0 21 rfl rfl)
theorem dX3_forged_22 : decode cX3_forged 22 = .ok (.iload_n 2, 1) := dk_28 (dk_at dksX3_forged_0 22 rfl rfl)
theorem dX3_forged_23 : decode cX3_forged 23 = .ok (.bipush 40, 2) := dk_16 40 (dk_at dksX3_forged_1 0 rfl rfl)
theorem dX3_forged_25 : decode cX3_forged 25 = .ok (.invokestatic 59, 3) := dk_184 0 59 (dk_at dksX3_forged_1 2 rfl rfl)
theorem dX3_forged_28 : decode cX3_forged 28 = .ok (.ifCond .ne 5, 3) := dk_154 0 5 (dk_at dksX3_forged_1 5 rfl rfl)
theorem dX3_forged_31 : decode cX3_forged 31 = .ok (.iconst (-1), 1) := dk_2 (dk_at dksX3_forged_1 8 rfl rfl)
theorem dX3_forged_32 : decode cX3_forged 32 = .ok (.ireturn, 1) := dk_172 (dk_at dksX3_forged_1 9 rfl rfl)
theorem dX3_forged_33 : decode cX3_forged 33 = .ok (.ldc2_w 439, 3) := dk_20 1 183 (dk_at dksX3_forged_1 10 rfl rfl)
theorem dX3_forged_36 : decode cX3_forged 36 = .ok (.iload_n 1, 1) := dk_27 (dk_at dksX3_forged_1 13 rfl rfl)
theorem dX3_forged_37 : decode cX3_forged 37 = .ok (.i2l, 1) := dk_133 (dk_at dksX3_forged_1 14 rfl rfl)
theorem dX3_forged_38 : decode cX3_forged 38 = .ok (.lmul, 1) := dk_105 (dk_at dksX3_forged_1 15 rfl rfl)
theorem dX3_forged_39 : decode cX3_forged 39 = .ok (.lstore 4, 2) := dk_55 4 (dk_at dksX3_forged_1 16 rfl rfl)
theorem dX3_forged_41 : decode cX3_forged 41 = .ok (.iconst 0, 1) := dk_3 (dk_at dksX3_forged_1 18 rfl rfl)
theorem dX3_forged_42 : decode cX3_forged 42 = .ok (.istore 6, 2) := dk_54 6 (dk_at dksX3_forged_1 19 rfl rfl)
theorem dX3_forged_44 : decode cX3_forged 44 = .ok (.iload 6, 2) := dk_21 6 (dk_at dksX3_forged_1 21 rfl rfl)
theorem dX3_forged_46 : decode cX3_forged 46 = .ok (.iload_n 3, 1) := dk_29 (dk_at dksX3_forged_1 23 rfl rfl)
theorem dX3_forged_47 : decode cX3_forged 47 = .ok (.if_icmp .ge 70, 3) := dk_162 0 70 (dk_at dksX3_forged_2 0 rfl rfl)
theorem dX3_forged_50 : decode cX3_forged 50 = .ok (.iload 6, 2) := dk_21 6 (dk_at dksX3_forged_2 3 rfl rfl)
theorem dX3_forged_52 : decode cX3_forged 52 = .ok (.iload_n 2, 1) := dk_28 (dk_at dksX3_forged_2 5 rfl rfl)
theorem dX3_forged_53 : decode cX3_forged 53 = .ok (.if_icmp .ge 9, 3) := dk_162 0 9 (dk_at dksX3_forged_2 6 rfl rfl)
theorem dX3_forged_56 : decode cX3_forged 56 = .ok (.ldc2_w 441, 3) := dk_20 1 185 (dk_at dksX3_forged_2 9 rfl rfl)
theorem dX3_forged_59 : decode cX3_forged 59 = .ok (.goto 6, 3) := dk_167 0 6 (dk_at dksX3_forged_2 12 rfl rfl)
theorem dX3_forged_62 : decode cX3_forged 62 = .ok (.ldc2_w 443, 3) := dk_20 1 187 (dk_at dksX3_forged_2 15 rfl rfl)
theorem dX3_forged_65 : decode cX3_forged 65 = .ok (.lstore 7, 2) := dk_55 7 (dk_at dksX3_forged_2 18 rfl rfl)
theorem dX3_forged_67 : decode cX3_forged 67 = .ok (.iload 6, 2) := dk_21 6 (dk_at dksX3_forged_2 20 rfl rfl)
theorem dX3_forged_69 : decode cX3_forged 69 = .ok (.iload_n 2, 1) := dk_28 (dk_at dksX3_forged_2 22 rfl rfl)
theorem dX3_forged_70 : decode cX3_forged 70 = .ok (.if_icmp .ge 9, 3) := dk_162 0 9 (dk_at dksX3_forged_3 0 rfl rfl)
theorem dX3_forged_73 : decode cX3_forged 73 = .ok (.ldc2_w 445, 3) := dk_20 1 189 (dk_at dksX3_forged_3 3 rfl rfl)
theorem dX3_forged_76 : decode cX3_forged 76 = .ok (.goto 6, 3) := dk_167 0 6 (dk_at dksX3_forged_3 6 rfl rfl)
theorem dX3_forged_79 : decode cX3_forged 79 = .ok (.ldc2_w 447, 3) := dk_20 1 191 (dk_at dksX3_forged_3 9 rfl rfl)
theorem dX3_forged_82 : decode cX3_forged 82 = .ok (.lstore 9, 2) := dk_55 9 (dk_at dksX3_forged_3 12 rfl rfl)
theorem dX3_forged_84 : decode cX3_forged 84 = .ok (.ldc2_w 449, 3) := dk_20 1 193 (dk_at dksX3_forged_3 14 rfl rfl)
theorem dX3_forged_87 : decode cX3_forged 87 = .ok (.lload 4, 2) := dk_22 4 (dk_at dksX3_forged_3 17 rfl rfl)
theorem dX3_forged_89 : decode cX3_forged 89 = .ok (.lload 7, 2) := dk_22 7 (dk_at dksX3_forged_3 19 rfl rfl)
theorem dX3_forged_91 : decode cX3_forged 91 = .ok (.lmul, 1) := dk_105 (dk_at dksX3_forged_3 21 rfl rfl)
theorem dX3_forged_92 : decode cX3_forged 92 = .ok (.lmul, 1) := dk_105 (dk_at dksX3_forged_3 22 rfl rfl)
theorem dX3_forged_93 : decode cX3_forged 93 = .ok (.lload 4, 2) := dk_22 4 (dk_at dksX3_forged_4 0 rfl rfl)
theorem dX3_forged_95 : decode cX3_forged 95 = .ok (.lload 7, 2) := dk_22 7 (dk_at dksX3_forged_4 2 rfl rfl)
theorem dX3_forged_97 : decode cX3_forged 97 = .ok (.lmul, 1) := dk_105 (dk_at dksX3_forged_4 4 rfl rfl)
theorem dX3_forged_98 : decode cX3_forged 98 = .ok (.ldc2_w 449, 3) := dk_20 1 193 (dk_at dksX3_forged_4 5 rfl rfl)
theorem dX3_forged_101 : decode cX3_forged 101 = .ok (.lload 4, 2) := dk_22 4 (dk_at dksX3_forged_4 8 rfl rfl)
theorem dX3_forged_103 : decode cX3_forged 103 = .ok (.lsub, 1) := dk_101 (dk_at dksX3_forged_4 10 rfl rfl)
theorem dX3_forged_104 : decode cX3_forged 104 = .ok (.lload 9, 2) := dk_22 9 (dk_at dksX3_forged_4 11 rfl rfl)
theorem dX3_forged_106 : decode cX3_forged 106 = .ok (.lmul, 1) := dk_105 (dk_at dksX3_forged_4 13 rfl rfl)
theorem dX3_forged_107 : decode cX3_forged 107 = .ok (.ladd, 1) := dk_97 (dk_at dksX3_forged_4 14 rfl rfl)
theorem dX3_forged_108 : decode cX3_forged 108 = .ok (.ldiv, 1) := dk_109 (dk_at dksX3_forged_4 15 rfl rfl)
theorem dX3_forged_109 : decode cX3_forged 109 = .ok (.lstore 4, 2) := dk_55 4 (dk_at dksX3_forged_4 16 rfl rfl)
theorem dX3_forged_111 : decode cX3_forged 111 = .ok (.iinc 6 1, 3) := dk_132 6 1 (dk_at dksX3_forged_4 18 rfl rfl)
theorem dX3_forged_114 : decode cX3_forged 114 = .ok (.goto (-70), 3) := dk_167 255 186 (dk_at dksX3_forged_4 21 rfl rfl)
theorem dX3_forged_117 : decode cX3_forged 117 = .ok (.lload 4, 2) := dk_22 4 (dk_at dksX3_forged_5 0 rfl rfl)
theorem dX3_forged_119 : decode cX3_forged 119 = .ok (.l2i, 1) := dk_136 (dk_at dksX3_forged_5 2 rfl rfl)
theorem dX3_forged_120 : decode cX3_forged 120 = .ok (.ireturn, 1) := dk_172 (dk_at dksX3_forged_5 3 rfl rfl)
abbrev cX3_own : ByteArray := prog_17_method_120_code
def yX3_own : MethodName := ⟨RX3, "own", "(II)I"⟩
def dkwX3_own_4 : List UInt8 := [17, 2, 68, 92, 46, 4, 96, 79, 42, 180, 0, 7, 17, 2, 68, 46, 172]
abbrev dktX3_own_4 : List UInt8 := dkwX3_own_4 ++ []
def dkwX3_own_3 : List UInt8 := [17, 3, 71, 5, 42, 180, 0, 7, 17, 2, 68, 46, 104, 96, 4, 96, 28, 79, 42, 180, 0, 7]
abbrev dktX3_own_3 : List UInt8 := dkwX3_own_3 ++ dktX3_own_4
def dkwX3_own_2 : List UInt8 := [180, 0, 7, 17, 3, 71, 5, 42, 180, 0, 7, 17, 2, 68, 46, 104, 96, 27, 79, 42, 180, 0, 7]
abbrev dktX3_own_2 : List UInt8 := dkwX3_own_2 ++ dktX3_own_3
def dkwX3_own_1 : List UInt8 := [42, 28, 182, 0, 243, 153, 0, 16, 42, 180, 0, 7, 17, 2, 68, 46, 16, 16, 160, 0, 5, 2, 172, 42]
abbrev dktX3_own_1 : List UInt8 := dkwX3_own_1 ++ dktX3_own_2
def dkwX3_own_0 : List UInt8 := [27, 2, 160, 0, 14, 42, 180, 0, 7, 17, 2, 68, 3, 79, 3, 172, 42, 27, 182, 0, 71, 153, 0, 24]
abbrev dktX3_own_0 : List UInt8 := dkwX3_own_0 ++ dktX3_own_1
theorem dksX3_own_0 : cX3_own.data.toList.drop 0 = dktX3_own_0 := by decide +kernel
theorem dksX3_own_1 : cX3_own.data.toList.drop 24 = dktX3_own_1 := dk_seg dksX3_own_0 24 rfl rfl
theorem dksX3_own_2 : cX3_own.data.toList.drop 48 = dktX3_own_2 := dk_seg dksX3_own_1 24 rfl rfl
theorem dksX3_own_3 : cX3_own.data.toList.drop 71 = dktX3_own_3 := dk_seg dksX3_own_2 23 rfl rfl
theorem dksX3_own_4 : cX3_own.data.toList.drop 93 = dktX3_own_4 := dk_seg dksX3_own_3 22 rfl rfl
theorem dX3_own_0 : decode cX3_own 0 = .ok (.iload_n 1, 1) := dk_27 (dk_at dksX3_own_0 0 rfl rfl)
theorem dX3_own_1 : decode cX3_own 1 = .ok (.iconst (-1), 1) := dk_2 (dk_at dksX3_own_0 1 rfl rfl)
theorem dX3_own_2 : decode cX3_own 2 = .ok (.if_icmp .ne 14, 3) := dk_160 0 14 (dk_at dksX3_own_0 2 rfl rfl)
theorem dX3_own_5 : decode cX3_own 5 = .ok (.aload_n 0, 1) := dk_42 (dk_at dksX3_own_0 5 rfl rfl)
theorem dX3_own_6 : decode cX3_own 6 = .ok (.getfield 7, 3) := dk_180 0 7 (dk_at dksX3_own_0 6 rfl rfl)
theorem dX3_own_9 : decode cX3_own 9 = .ok (.sipush 580, 3) := dk_17 2 68 (dk_at dksX3_own_0 9 rfl rfl)
theorem dX3_own_12 : decode cX3_own 12 = .ok (.iconst 0, 1) := dk_3 (dk_at dksX3_own_0 12 rfl rfl)
theorem dX3_own_13 : decode cX3_own 13 = .ok (.iastore, 1) := dk_79 (dk_at dksX3_own_0 13 rfl rfl)
theorem dX3_own_14 : decode cX3_own 14 = .ok (.iconst 0, 1) := dk_3 (dk_at dksX3_own_0 14 rfl rfl)
theorem dX3_own_15 : decode cX3_own 15 = .ok (.ireturn, 1) := dk_172 (dk_at dksX3_own_0 15 rfl rfl)
theorem dX3_own_16 : decode cX3_own 16 = .ok (.aload_n 0, 1) := dk_42 (dk_at dksX3_own_0 16 rfl rfl)
theorem dX3_own_17 : decode cX3_own 17 = .ok (.iload_n 1, 1) := dk_27 (dk_at dksX3_own_0 17 rfl rfl)
theorem dX3_own_18 : decode cX3_own 18 = .ok (.invokevirtual 71, 3) := dk_182 0 71 (dk_at dksX3_own_0 18 rfl rfl)
theorem dX3_own_21 : decode cX3_own 21 = .ok (.ifCond .eq 24, 3) := dk_153 0 24 (dk_at dksX3_own_0 21 rfl rfl)
theorem dX3_own_24 : decode cX3_own 24 = .ok (.aload_n 0, 1) := dk_42 (dk_at dksX3_own_1 0 rfl rfl)
theorem dX3_own_25 : decode cX3_own 25 = .ok (.iload_n 2, 1) := dk_28 (dk_at dksX3_own_1 1 rfl rfl)
theorem dX3_own_26 : decode cX3_own 26 = .ok (.invokevirtual 243, 3) := dk_182 0 243 (dk_at dksX3_own_1 2 rfl rfl)
theorem dX3_own_29 : decode cX3_own 29 = .ok (.ifCond .eq 16, 3) := dk_153 0 16 (dk_at dksX3_own_1 5 rfl rfl)
theorem dX3_own_32 : decode cX3_own 32 = .ok (.aload_n 0, 1) := dk_42 (dk_at dksX3_own_1 8 rfl rfl)
theorem dX3_own_33 : decode cX3_own 33 = .ok (.getfield 7, 3) := dk_180 0 7 (dk_at dksX3_own_1 9 rfl rfl)
theorem dX3_own_36 : decode cX3_own 36 = .ok (.sipush 580, 3) := dk_17 2 68 (dk_at dksX3_own_1 12 rfl rfl)
theorem dX3_own_39 : decode cX3_own 39 = .ok (.iaload, 1) := dk_46 (dk_at dksX3_own_1 15 rfl rfl)
theorem dX3_own_40 : decode cX3_own 40 = .ok (.bipush 16, 2) := dk_16 16 (dk_at dksX3_own_1 16 rfl rfl)
theorem dX3_own_42 : decode cX3_own 42 = .ok (.if_icmp .ne 5, 3) := dk_160 0 5 (dk_at dksX3_own_1 18 rfl rfl)
theorem dX3_own_45 : decode cX3_own 45 = .ok (.iconst (-1), 1) := dk_2 (dk_at dksX3_own_1 21 rfl rfl)
theorem dX3_own_46 : decode cX3_own 46 = .ok (.ireturn, 1) := dk_172 (dk_at dksX3_own_1 22 rfl rfl)
theorem dX3_own_47 : decode cX3_own 47 = .ok (.aload_n 0, 1) := dk_42 (dk_at dksX3_own_1 23 rfl rfl)
theorem dX3_own_48 : decode cX3_own 48 = .ok (.getfield 7, 3) := dk_180 0 7 (dk_at dksX3_own_2 0 rfl rfl)
theorem dX3_own_51 : decode cX3_own 51 = .ok (.sipush 839, 3) := dk_17 3 71 (dk_at dksX3_own_2 3 rfl rfl)
theorem dX3_own_54 : decode cX3_own 54 = .ok (.iconst 2, 1) := dk_5 (dk_at dksX3_own_2 6 rfl rfl)
theorem dX3_own_55 : decode cX3_own 55 = .ok (.aload_n 0, 1) := dk_42 (dk_at dksX3_own_2 7 rfl rfl)
theorem dX3_own_56 : decode cX3_own 56 = .ok (.getfield 7, 3) := dk_180 0 7 (dk_at dksX3_own_2 8 rfl rfl)
theorem dX3_own_59 : decode cX3_own 59 = .ok (.sipush 580, 3) := dk_17 2 68 (dk_at dksX3_own_2 11 rfl rfl)
theorem dX3_own_62 : decode cX3_own 62 = .ok (.iaload, 1) := dk_46 (dk_at dksX3_own_2 14 rfl rfl)
theorem dX3_own_63 : decode cX3_own 63 = .ok (.imul, 1) := dk_104 (dk_at dksX3_own_2 15 rfl rfl)
theorem dX3_own_64 : decode cX3_own 64 = .ok (.iadd, 1) := dk_96 (dk_at dksX3_own_2 16 rfl rfl)
theorem dX3_own_65 : decode cX3_own 65 = .ok (.iload_n 1, 1) := dk_27 (dk_at dksX3_own_2 17 rfl rfl)
theorem dX3_own_66 : decode cX3_own 66 = .ok (.iastore, 1) := dk_79 (dk_at dksX3_own_2 18 rfl rfl)
theorem dX3_own_67 : decode cX3_own 67 = .ok (.aload_n 0, 1) := dk_42 (dk_at dksX3_own_2 19 rfl rfl)
theorem dX3_own_68 : decode cX3_own 68 = .ok (.getfield 7, 3) := dk_180 0 7 (dk_at dksX3_own_2 20 rfl rfl)
theorem dX3_own_71 : decode cX3_own 71 = .ok (.sipush 839, 3) := dk_17 3 71 (dk_at dksX3_own_3 0 rfl rfl)
theorem dX3_own_74 : decode cX3_own 74 = .ok (.iconst 2, 1) := dk_5 (dk_at dksX3_own_3 3 rfl rfl)
theorem dX3_own_75 : decode cX3_own 75 = .ok (.aload_n 0, 1) := dk_42 (dk_at dksX3_own_3 4 rfl rfl)
theorem dX3_own_76 : decode cX3_own 76 = .ok (.getfield 7, 3) := dk_180 0 7 (dk_at dksX3_own_3 5 rfl rfl)
theorem dX3_own_79 : decode cX3_own 79 = .ok (.sipush 580, 3) := dk_17 2 68 (dk_at dksX3_own_3 8 rfl rfl)
theorem dX3_own_82 : decode cX3_own 82 = .ok (.iaload, 1) := dk_46 (dk_at dksX3_own_3 11 rfl rfl)
theorem dX3_own_83 : decode cX3_own 83 = .ok (.imul, 1) := dk_104 (dk_at dksX3_own_3 12 rfl rfl)
theorem dX3_own_84 : decode cX3_own 84 = .ok (.iadd, 1) := dk_96 (dk_at dksX3_own_3 13 rfl rfl)
theorem dX3_own_85 : decode cX3_own 85 = .ok (.iconst 1, 1) := dk_4 (dk_at dksX3_own_3 14 rfl rfl)
theorem dX3_own_86 : decode cX3_own 86 = .ok (.iadd, 1) := dk_96 (dk_at dksX3_own_3 15 rfl rfl)
theorem dX3_own_87 : decode cX3_own 87 = .ok (.iload_n 2, 1) := dk_28 (dk_at dksX3_own_3 16 rfl rfl)
theorem dX3_own_88 : decode cX3_own 88 = .ok (.iastore, 1) := dk_79 (dk_at dksX3_own_3 17 rfl rfl)
theorem dX3_own_89 : decode cX3_own 89 = .ok (.aload_n 0, 1) := dk_42 (dk_at dksX3_own_3 18 rfl rfl)
theorem dX3_own_90 : decode cX3_own 90 = .ok (.getfield 7, 3) := dk_180 0 7 (dk_at dksX3_own_3 19 rfl rfl)
theorem dX3_own_93 : decode cX3_own 93 = .ok (.sipush 580, 3) := dk_17 2 68 (dk_at dksX3_own_4 0 rfl rfl)
theorem dX3_own_96 : decode cX3_own 96 = .ok (.dup2, 1) := dk_92 (dk_at dksX3_own_4 3 rfl rfl)
theorem dX3_own_97 : decode cX3_own 97 = .ok (.iaload, 1) := dk_46 (dk_at dksX3_own_4 4 rfl rfl)
theorem dX3_own_98 : decode cX3_own 98 = .ok (.iconst 1, 1) := dk_4 (dk_at dksX3_own_4 5 rfl rfl)
theorem dX3_own_99 : decode cX3_own 99 = .ok (.iadd, 1) := dk_96 (dk_at dksX3_own_4 6 rfl rfl)
theorem dX3_own_100 : decode cX3_own 100 = .ok (.iastore, 1) := dk_79 (dk_at dksX3_own_4 7 rfl rfl)
theorem dX3_own_101 : decode cX3_own 101 = .ok (.aload_n 0, 1) := dk_42 (dk_at dksX3_own_4 8 rfl rfl)
theorem dX3_own_102 : decode cX3_own 102 = .ok (.getfield 7, 3) := dk_180 0 7 (dk_at dksX3_own_4 9 rfl rfl)
theorem dX3_own_105 : decode cX3_own 105 = .ok (.sipush 580, 3) := dk_17 2 68 (dk_at dksX3_own_4 12 rfl rfl)
theorem dX3_own_108 : decode cX3_own 108 = .ok (.iaload, 1) := dk_46 (dk_at dksX3_own_4 15 rfl rfl)
theorem dX3_own_109 : decode cX3_own 109 = .ok (.ireturn, 1) := dk_172 (dk_at dksX3_own_4 16 rfl rfl)
abbrev cX3_feedings : ByteArray := prog_17_method_122_code
def yX3_feedings : MethodName := ⟨RX3, "feedings", "()I"⟩
def dkwX3_feedings_7 : List UInt8 := [132, 3, 1, 167, 255, 91, 31, 20, 1, 198, 113, 136, 172]
abbrev dktX3_feedings_7 : List UInt8 := dkwX3_feedings_7 ++ []
def dkwX3_feedings_6 : List UInt8 := [42, 180, 0, 7, 17, 2, 60, 46, 160, 0, 13, 42, 180, 0, 56, 29, 46, 133, 167, 0, 4, 9, 97, 64]
abbrev dktX3_feedings_6 : List UInt8 := dkwX3_feedings_6 ++ dktX3_feedings_7
def dkwX3_feedings_5 : List UInt8 := [132, 7, 1, 167, 255, 177, 42, 180, 0, 56, 29, 22, 5, 20, 1, 198, 113, 136, 79, 31, 29, 184, 1, 138]
abbrev dktX3_feedings_5 : List UInt8 := dkwX3_feedings_5 ++ dktX3_feedings_6
def dkwX3_feedings_4 : List UInt8 := [153, 0, 20, 42, 180, 0, 56, 29, 4, 21, 7, 120, 2, 130, 126, 46, 133, 167, 0, 4, 9, 97, 55, 5]
abbrev dktX3_feedings_4 : List UInt8 := dkwX3_feedings_4 ++ dktX3_feedings_5
def dkwX3_feedings_3 : List UInt8 := [153, 0, 53, 22, 5, 29, 21, 7, 122, 4, 126, 4, 160, 0, 31, 42, 21, 7, 21, 4, 182, 1, 195]
abbrev dktX3_feedings_3 : List UInt8 := dkwX3_feedings_3 ++ dktX3_feedings_4
def dkwX3_feedings_2 : List UInt8 := [17, 2, 59, 46, 162, 0, 72, 21, 4, 3, 42, 180, 0, 7, 17, 2, 60, 46, 4, 100, 184, 0, 59]
abbrev dktX3_feedings_2 : List UInt8 := dkwX3_feedings_2 ++ dktX3_feedings_3
def dkwX3_feedings_1 : List UInt8 := [54, 4, 21, 4, 2, 160, 0, 7, 10, 167, 0, 4, 9, 55, 5, 3, 54, 7, 21, 7, 42, 180, 0, 7]
abbrev dktX3_feedings_1 : List UInt8 := dkwX3_feedings_1 ++ dktX3_feedings_2
def dkwX3_feedings_0 : List UInt8 := [9, 64, 3, 62, 29, 4, 42, 180, 0, 7, 17, 2, 59, 46, 120, 162, 0, 157, 29, 184, 1, 138, 4, 100]
abbrev dktX3_feedings_0 : List UInt8 := dkwX3_feedings_0 ++ dktX3_feedings_1
theorem dksX3_feedings_0 : cX3_feedings.data.toList.drop 0 = dktX3_feedings_0 := by decide +kernel
theorem dksX3_feedings_1 : cX3_feedings.data.toList.drop 24 = dktX3_feedings_1 := dk_seg dksX3_feedings_0 24 rfl rfl
theorem dksX3_feedings_2 : cX3_feedings.data.toList.drop 48 = dktX3_feedings_2 := dk_seg dksX3_feedings_1 24 rfl rfl
theorem dksX3_feedings_3 : cX3_feedings.data.toList.drop 71 = dktX3_feedings_3 := dk_seg dksX3_feedings_2 23 rfl rfl
theorem dksX3_feedings_4 : cX3_feedings.data.toList.drop 94 = dktX3_feedings_4 := dk_seg dksX3_feedings_3 23 rfl rfl
theorem dksX3_feedings_5 : cX3_feedings.data.toList.drop 118 = dktX3_feedings_5 := dk_seg dksX3_feedings_4 24 rfl rfl
theorem dksX3_feedings_6 : cX3_feedings.data.toList.drop 142 = dktX3_feedings_6 := dk_seg dksX3_feedings_5 24 rfl rfl
theorem dksX3_feedings_7 : cX3_feedings.data.toList.drop 166 = dktX3_feedings_7 := dk_seg dksX3_feedings_6 24 rfl rfl
theorem dX3_feedings_0 : decode cX3_feedings 0 = .ok (.lconst 0, 1) := dk_9 (dk_at dksX3_feedings_0 0 rfl rfl)
theorem dX3_feedings_1 : decode cX3_feedings 1 = .ok (.lstore_n 1, 1) := dk_64 (dk_at dksX3_feedings_0 1 rfl rfl)
theorem dX3_feedings_2 : decode cX3_feedings 2 = .ok (.iconst 0, 1) := dk_3 (dk_at dksX3_feedings_0 2 rfl rfl)
theorem dX3_feedings_3 : decode cX3_feedings 3 = .ok (.istore_n 3, 1) := dk_62 (dk_at dksX3_feedings_0 3 rfl rfl)
theorem dX3_feedings_4 : decode cX3_feedings 4 = .ok (.iload_n 3, 1) := dk_29 (dk_at dksX3_feedings_0 4 rfl rfl)
theorem dX3_feedings_5 : decode cX3_feedings 5 = .ok (.iconst 1, 1) := dk_4 (dk_at dksX3_feedings_0 5 rfl rfl)
theorem dX3_feedings_6 : decode cX3_feedings 6 = .ok (.aload_n 0, 1) := dk_42 (dk_at dksX3_feedings_0 6 rfl rfl)
theorem dX3_feedings_7 : decode cX3_feedings 7 = .ok (.getfield 7, 3) := dk_180 0 7 (dk_at dksX3_feedings_0 7 rfl rfl)
theorem dX3_feedings_10 : decode cX3_feedings 10 = .ok (.sipush 571, 3) := dk_17 2 59 (dk_at dksX3_feedings_0 10 rfl rfl)
theorem dX3_feedings_13 : decode cX3_feedings 13 = .ok (.iaload, 1) := dk_46 (dk_at dksX3_feedings_0 13 rfl rfl)
theorem dX3_feedings_14 : decode cX3_feedings 14 = .ok (.ishl, 1) := dk_120 (dk_at dksX3_feedings_0 14 rfl rfl)
theorem dX3_feedings_15 : decode cX3_feedings 15 = .ok (.if_icmp .ge 157, 3) := dk_162 0 157 (dk_at dksX3_feedings_0 15 rfl rfl)
theorem dX3_feedings_18 : decode cX3_feedings 18 = .ok (.iload_n 3, 1) := dk_29 (dk_at dksX3_feedings_0 18 rfl rfl)
theorem dX3_feedings_19 : decode cX3_feedings 19 = .ok (.invokestatic 394, 3) := dk_184 1 138 (dk_at dksX3_feedings_0 19 rfl rfl)
theorem dX3_feedings_22 : decode cX3_feedings 22 = .ok (.iconst 1, 1) := dk_4 (dk_at dksX3_feedings_0 22 rfl rfl)
theorem dX3_feedings_23 : decode cX3_feedings 23 = .ok (.isub, 1) := dk_100 (dk_at dksX3_feedings_0 23 rfl rfl)
theorem dX3_feedings_24 : decode cX3_feedings 24 = .ok (.istore 4, 2) := dk_54 4 (dk_at dksX3_feedings_1 0 rfl rfl)
theorem dX3_feedings_26 : decode cX3_feedings 26 = .ok (.iload 4, 2) := dk_21 4 (dk_at dksX3_feedings_1 2 rfl rfl)
theorem dX3_feedings_28 : decode cX3_feedings 28 = .ok (.iconst (-1), 1) := dk_2 (dk_at dksX3_feedings_1 4 rfl rfl)
theorem dX3_feedings_29 : decode cX3_feedings 29 = .ok (.if_icmp .ne 7, 3) := dk_160 0 7 (dk_at dksX3_feedings_1 5 rfl rfl)
theorem dX3_feedings_32 : decode cX3_feedings 32 = .ok (.lconst 1, 1) := dk_10 (dk_at dksX3_feedings_1 8 rfl rfl)
theorem dX3_feedings_33 : decode cX3_feedings 33 = .ok (.goto 4, 3) := dk_167 0 4 (dk_at dksX3_feedings_1 9 rfl rfl)
theorem dX3_feedings_36 : decode cX3_feedings 36 = .ok (.lconst 0, 1) := dk_9 (dk_at dksX3_feedings_1 12 rfl rfl)
theorem dX3_feedings_37 : decode cX3_feedings 37 = .ok (.lstore 5, 2) := dk_55 5 (dk_at dksX3_feedings_1 13 rfl rfl)
theorem dX3_feedings_39 : decode cX3_feedings 39 = .ok (.iconst 0, 1) := dk_3 (dk_at dksX3_feedings_1 15 rfl rfl)
theorem dX3_feedings_40 : decode cX3_feedings 40 = .ok (.istore 7, 2) := dk_54 7 (dk_at dksX3_feedings_1 16 rfl rfl)
theorem dX3_feedings_42 : decode cX3_feedings 42 = .ok (.iload 7, 2) := dk_21 7 (dk_at dksX3_feedings_1 18 rfl rfl)
theorem dX3_feedings_44 : decode cX3_feedings 44 = .ok (.aload_n 0, 1) := dk_42 (dk_at dksX3_feedings_1 20 rfl rfl)
theorem dX3_feedings_45 : decode cX3_feedings 45 = .ok (.getfield 7, 3) := dk_180 0 7 (dk_at dksX3_feedings_1 21 rfl rfl)
theorem dX3_feedings_48 : decode cX3_feedings 48 = .ok (.sipush 571, 3) := dk_17 2 59 (dk_at dksX3_feedings_2 0 rfl rfl)
theorem dX3_feedings_51 : decode cX3_feedings 51 = .ok (.iaload, 1) := dk_46 (dk_at dksX3_feedings_2 3 rfl rfl)
theorem dX3_feedings_52 : decode cX3_feedings 52 = .ok (.if_icmp .ge 72, 3) := dk_162 0 72 (dk_at dksX3_feedings_2 4 rfl rfl)
theorem dX3_feedings_55 : decode cX3_feedings 55 = .ok (.iload 4, 2) := dk_21 4 (dk_at dksX3_feedings_2 7 rfl rfl)
theorem dX3_feedings_57 : decode cX3_feedings 57 = .ok (.iconst 0, 1) := dk_3 (dk_at dksX3_feedings_2 9 rfl rfl)
theorem dX3_feedings_58 : decode cX3_feedings 58 = .ok (.aload_n 0, 1) := dk_42 (dk_at dksX3_feedings_2 10 rfl rfl)
theorem dX3_feedings_59 : decode cX3_feedings 59 = .ok (.getfield 7, 3) := dk_180 0 7 (dk_at dksX3_feedings_2 11 rfl rfl)
theorem dX3_feedings_62 : decode cX3_feedings 62 = .ok (.sipush 572, 3) := dk_17 2 60 (dk_at dksX3_feedings_2 14 rfl rfl)
theorem dX3_feedings_65 : decode cX3_feedings 65 = .ok (.iaload, 1) := dk_46 (dk_at dksX3_feedings_2 17 rfl rfl)
theorem dX3_feedings_66 : decode cX3_feedings 66 = .ok (.iconst 1, 1) := dk_4 (dk_at dksX3_feedings_2 18 rfl rfl)
theorem dX3_feedings_67 : decode cX3_feedings 67 = .ok (.isub, 1) := dk_100 (dk_at dksX3_feedings_2 19 rfl rfl)
theorem dX3_feedings_68 : decode cX3_feedings 68 = .ok (.invokestatic 59, 3) := dk_184 0 59 (dk_at dksX3_feedings_2 20 rfl rfl)
theorem dX3_feedings_71 : decode cX3_feedings 71 = .ok (.ifCond .eq 53, 3) := dk_153 0 53 (dk_at dksX3_feedings_3 0 rfl rfl)
theorem dX3_feedings_74 : decode cX3_feedings 74 = .ok (.lload 5, 2) := dk_22 5 (dk_at dksX3_feedings_3 3 rfl rfl)
theorem dX3_feedings_76 : decode cX3_feedings 76 = .ok (.iload_n 3, 1) := dk_29 (dk_at dksX3_feedings_3 5 rfl rfl)
theorem dX3_feedings_77 : decode cX3_feedings 77 = .ok (.iload 7, 2) := dk_21 7 (dk_at dksX3_feedings_3 6 rfl rfl)
theorem dX3_feedings_79 : decode cX3_feedings 79 = .ok (.ishr, 1) := dk_122 (dk_at dksX3_feedings_3 8 rfl rfl)
theorem dX3_feedings_80 : decode cX3_feedings 80 = .ok (.iconst 1, 1) := dk_4 (dk_at dksX3_feedings_3 9 rfl rfl)
theorem dX3_feedings_81 : decode cX3_feedings 81 = .ok (.iand, 1) := dk_126 (dk_at dksX3_feedings_3 10 rfl rfl)
theorem dX3_feedings_82 : decode cX3_feedings 82 = .ok (.iconst 1, 1) := dk_4 (dk_at dksX3_feedings_3 11 rfl rfl)
theorem dX3_feedings_83 : decode cX3_feedings 83 = .ok (.if_icmp .ne 31, 3) := dk_160 0 31 (dk_at dksX3_feedings_3 12 rfl rfl)
theorem dX3_feedings_86 : decode cX3_feedings 86 = .ok (.aload_n 0, 1) := dk_42 (dk_at dksX3_feedings_3 15 rfl rfl)
theorem dX3_feedings_87 : decode cX3_feedings 87 = .ok (.iload 7, 2) := dk_21 7 (dk_at dksX3_feedings_3 16 rfl rfl)
theorem dX3_feedings_89 : decode cX3_feedings 89 = .ok (.iload 4, 2) := dk_21 4 (dk_at dksX3_feedings_3 18 rfl rfl)
theorem dX3_feedings_91 : decode cX3_feedings 91 = .ok (.invokevirtual 451, 3) := dk_182 1 195 (dk_at dksX3_feedings_3 20 rfl rfl)
theorem dX3_feedings_94 : decode cX3_feedings 94 = .ok (.ifCond .eq 20, 3) := dk_153 0 20 (dk_at dksX3_feedings_4 0 rfl rfl)
theorem dX3_feedings_97 : decode cX3_feedings 97 = .ok (.aload_n 0, 1) := dk_42 (dk_at dksX3_feedings_4 3 rfl rfl)
theorem dX3_feedings_98 : decode cX3_feedings 98 = .ok (.getfield 56, 3) := dk_180 0 56 (dk_at dksX3_feedings_4 4 rfl rfl)
theorem dX3_feedings_101 : decode cX3_feedings 101 = .ok (.iload_n 3, 1) := dk_29 (dk_at dksX3_feedings_4 7 rfl rfl)
theorem dX3_feedings_102 : decode cX3_feedings 102 = .ok (.iconst 1, 1) := dk_4 (dk_at dksX3_feedings_4 8 rfl rfl)
theorem dX3_feedings_103 : decode cX3_feedings 103 = .ok (.iload 7, 2) := dk_21 7 (dk_at dksX3_feedings_4 9 rfl rfl)
theorem dX3_feedings_105 : decode cX3_feedings 105 = .ok (.ishl, 1) := dk_120 (dk_at dksX3_feedings_4 11 rfl rfl)
theorem dX3_feedings_106 : decode cX3_feedings 106 = .ok (.iconst (-1), 1) := dk_2 (dk_at dksX3_feedings_4 12 rfl rfl)
theorem dX3_feedings_107 : decode cX3_feedings 107 = .ok (.ixor, 1) := dk_130 (dk_at dksX3_feedings_4 13 rfl rfl)
theorem dX3_feedings_108 : decode cX3_feedings 108 = .ok (.iand, 1) := dk_126 (dk_at dksX3_feedings_4 14 rfl rfl)
theorem dX3_feedings_109 : decode cX3_feedings 109 = .ok (.iaload, 1) := dk_46 (dk_at dksX3_feedings_4 15 rfl rfl)
theorem dX3_feedings_110 : decode cX3_feedings 110 = .ok (.i2l, 1) := dk_133 (dk_at dksX3_feedings_4 16 rfl rfl)
theorem dX3_feedings_111 : decode cX3_feedings 111 = .ok (.goto 4, 3) := dk_167 0 4 (dk_at dksX3_feedings_4 17 rfl rfl)
theorem dX3_feedings_114 : decode cX3_feedings 114 = .ok (.lconst 0, 1) := dk_9 (dk_at dksX3_feedings_4 20 rfl rfl)
theorem dX3_feedings_115 : decode cX3_feedings 115 = .ok (.ladd, 1) := dk_97 (dk_at dksX3_feedings_4 21 rfl rfl)
theorem dX3_feedings_116 : decode cX3_feedings 116 = .ok (.lstore 5, 2) := dk_55 5 (dk_at dksX3_feedings_4 22 rfl rfl)
theorem dX3_feedings_118 : decode cX3_feedings 118 = .ok (.iinc 7 1, 3) := dk_132 7 1 (dk_at dksX3_feedings_5 0 rfl rfl)
theorem dX3_feedings_121 : decode cX3_feedings 121 = .ok (.goto (-79), 3) := dk_167 255 177 (dk_at dksX3_feedings_5 3 rfl rfl)
theorem dX3_feedings_124 : decode cX3_feedings 124 = .ok (.aload_n 0, 1) := dk_42 (dk_at dksX3_feedings_5 6 rfl rfl)
theorem dX3_feedings_125 : decode cX3_feedings 125 = .ok (.getfield 56, 3) := dk_180 0 56 (dk_at dksX3_feedings_5 7 rfl rfl)
theorem dX3_feedings_128 : decode cX3_feedings 128 = .ok (.iload_n 3, 1) := dk_29 (dk_at dksX3_feedings_5 10 rfl rfl)
theorem dX3_feedings_129 : decode cX3_feedings 129 = .ok (.lload 5, 2) := dk_22 5 (dk_at dksX3_feedings_5 11 rfl rfl)
theorem dX3_feedings_131 : decode cX3_feedings 131 = .ok (.ldc2_w 454, 3) := dk_20 1 198 (dk_at dksX3_feedings_5 13 rfl rfl)
theorem dX3_feedings_134 : decode cX3_feedings 134 = .ok (.lrem, 1) := dk_113 (dk_at dksX3_feedings_5 16 rfl rfl)
theorem dX3_feedings_135 : decode cX3_feedings 135 = .ok (.l2i, 1) := dk_136 (dk_at dksX3_feedings_5 17 rfl rfl)
theorem dX3_feedings_136 : decode cX3_feedings 136 = .ok (.iastore, 1) := dk_79 (dk_at dksX3_feedings_5 18 rfl rfl)
theorem dX3_feedings_137 : decode cX3_feedings 137 = .ok (.lload_n 1, 1) := dk_31 (dk_at dksX3_feedings_5 19 rfl rfl)
theorem dX3_feedings_138 : decode cX3_feedings 138 = .ok (.iload_n 3, 1) := dk_29 (dk_at dksX3_feedings_5 20 rfl rfl)
theorem dX3_feedings_139 : decode cX3_feedings 139 = .ok (.invokestatic 394, 3) := dk_184 1 138 (dk_at dksX3_feedings_5 21 rfl rfl)
theorem dX3_feedings_142 : decode cX3_feedings 142 = .ok (.aload_n 0, 1) := dk_42 (dk_at dksX3_feedings_6 0 rfl rfl)
theorem dX3_feedings_143 : decode cX3_feedings 143 = .ok (.getfield 7, 3) := dk_180 0 7 (dk_at dksX3_feedings_6 1 rfl rfl)
theorem dX3_feedings_146 : decode cX3_feedings 146 = .ok (.sipush 572, 3) := dk_17 2 60 (dk_at dksX3_feedings_6 4 rfl rfl)
theorem dX3_feedings_149 : decode cX3_feedings 149 = .ok (.iaload, 1) := dk_46 (dk_at dksX3_feedings_6 7 rfl rfl)
theorem dX3_feedings_150 : decode cX3_feedings 150 = .ok (.if_icmp .ne 13, 3) := dk_160 0 13 (dk_at dksX3_feedings_6 8 rfl rfl)
theorem dX3_feedings_153 : decode cX3_feedings 153 = .ok (.aload_n 0, 1) := dk_42 (dk_at dksX3_feedings_6 11 rfl rfl)
theorem dX3_feedings_154 : decode cX3_feedings 154 = .ok (.getfield 56, 3) := dk_180 0 56 (dk_at dksX3_feedings_6 12 rfl rfl)
theorem dX3_feedings_157 : decode cX3_feedings 157 = .ok (.iload_n 3, 1) := dk_29 (dk_at dksX3_feedings_6 15 rfl rfl)
theorem dX3_feedings_158 : decode cX3_feedings 158 = .ok (.iaload, 1) := dk_46 (dk_at dksX3_feedings_6 16 rfl rfl)
theorem dX3_feedings_159 : decode cX3_feedings 159 = .ok (.i2l, 1) := dk_133 (dk_at dksX3_feedings_6 17 rfl rfl)
theorem dX3_feedings_160 : decode cX3_feedings 160 = .ok (.goto 4, 3) := dk_167 0 4 (dk_at dksX3_feedings_6 18 rfl rfl)
theorem dX3_feedings_163 : decode cX3_feedings 163 = .ok (.lconst 0, 1) := dk_9 (dk_at dksX3_feedings_6 21 rfl rfl)
theorem dX3_feedings_164 : decode cX3_feedings 164 = .ok (.ladd, 1) := dk_97 (dk_at dksX3_feedings_6 22 rfl rfl)
theorem dX3_feedings_165 : decode cX3_feedings 165 = .ok (.lstore_n 1, 1) := dk_64 (dk_at dksX3_feedings_6 23 rfl rfl)
theorem dX3_feedings_166 : decode cX3_feedings 166 = .ok (.iinc 3 1, 3) := dk_132 3 1 (dk_at dksX3_feedings_7 0 rfl rfl)
theorem dX3_feedings_169 : decode cX3_feedings 169 = .ok (.goto (-165), 3) := dk_167 255 91 (dk_at dksX3_feedings_7 3 rfl rfl)
theorem dX3_feedings_172 : decode cX3_feedings 172 = .ok (.lload_n 1, 1) := dk_31 (dk_at dksX3_feedings_7 6 rfl rfl)
theorem dX3_feedings_173 : decode cX3_feedings 173 = .ok (.ldc2_w 454, 3) := dk_20 1 198 (dk_at dksX3_feedings_7 7 rfl rfl)
theorem dX3_feedings_176 : decode cX3_feedings 176 = .ok (.lrem, 1) := dk_113 (dk_at dksX3_feedings_7 10 rfl rfl)
theorem dX3_feedings_177 : decode cX3_feedings 177 = .ok (.l2i, 1) := dk_136 (dk_at dksX3_feedings_7 11 rfl rfl)
theorem dX3_feedings_178 : decode cX3_feedings 178 = .ok (.ireturn, 1) := dk_172 (dk_at dksX3_feedings_7 12 rfl rfl)
abbrev cX3_mayHave : ByteArray := prog_17_method_121_code
def yX3_mayHave : MethodName := ⟨RX3, "mayHave", "(II)Z"⟩
def dkwX3_mayHave_2 : List UInt8 := [3, 172, 132, 3, 1, 167, 255, 205, 4, 172]
abbrev dktX3_mayHave_2 : List UInt8 := dkwX3_mayHave_2 ++ []
def dkwX3_mayHave_1 : List UInt8 := [96, 46, 27, 160, 0, 23, 42, 180, 0, 7, 17, 3, 71, 5, 29, 104, 96, 4, 96, 46, 28, 160, 0, 5]
abbrev dktX3_mayHave_1 : List UInt8 := dkwX3_mayHave_1 ++ dktX3_mayHave_2
def dkwX3_mayHave_0 : List UInt8 := [3, 62, 29, 42, 180, 0, 7, 17, 2, 68, 46, 162, 0, 45, 42, 180, 0, 7, 17, 3, 71, 5, 29, 104]
abbrev dktX3_mayHave_0 : List UInt8 := dkwX3_mayHave_0 ++ dktX3_mayHave_1
theorem dksX3_mayHave_0 : cX3_mayHave.data.toList.drop 0 = dktX3_mayHave_0 := by decide +kernel
theorem dksX3_mayHave_1 : cX3_mayHave.data.toList.drop 24 = dktX3_mayHave_1 := dk_seg dksX3_mayHave_0 24 rfl rfl
theorem dksX3_mayHave_2 : cX3_mayHave.data.toList.drop 48 = dktX3_mayHave_2 := dk_seg dksX3_mayHave_1 24 rfl rfl
theorem dX3_mayHave_0 : decode cX3_mayHave 0 = .ok (.iconst 0, 1) := dk_3 (dk_at dksX3_mayHave_0 0 rfl rfl)
theorem dX3_mayHave_1 : decode cX3_mayHave 1 = .ok (.istore_n 3, 1) := dk_62 (dk_at dksX3_mayHave_0 1 rfl rfl)
theorem dX3_mayHave_2 : decode cX3_mayHave 2 = .ok (.iload_n 3, 1) := dk_29 (dk_at dksX3_mayHave_0 2 rfl rfl)
theorem dX3_mayHave_3 : decode cX3_mayHave 3 = .ok (.aload_n 0, 1) := dk_42 (dk_at dksX3_mayHave_0 3 rfl rfl)
theorem dX3_mayHave_4 : decode cX3_mayHave 4 = .ok (.getfield 7, 3) := dk_180 0 7 (dk_at dksX3_mayHave_0 4 rfl rfl)
theorem dX3_mayHave_7 : decode cX3_mayHave 7 = .ok (.sipush 580, 3) := dk_17 2 68 (dk_at dksX3_mayHave_0 7 rfl rfl)
theorem dX3_mayHave_10 : decode cX3_mayHave 10 = .ok (.iaload, 1) := dk_46 (dk_at dksX3_mayHave_0 10 rfl rfl)
theorem dX3_mayHave_11 : decode cX3_mayHave 11 = .ok (.if_icmp .ge 45, 3) := dk_162 0 45 (dk_at dksX3_mayHave_0 11 rfl rfl)
theorem dX3_mayHave_14 : decode cX3_mayHave 14 = .ok (.aload_n 0, 1) := dk_42 (dk_at dksX3_mayHave_0 14 rfl rfl)
theorem dX3_mayHave_15 : decode cX3_mayHave 15 = .ok (.getfield 7, 3) := dk_180 0 7 (dk_at dksX3_mayHave_0 15 rfl rfl)
theorem dX3_mayHave_18 : decode cX3_mayHave 18 = .ok (.sipush 839, 3) := dk_17 3 71 (dk_at dksX3_mayHave_0 18 rfl rfl)
theorem dX3_mayHave_21 : decode cX3_mayHave 21 = .ok (.iconst 2, 1) := dk_5 (dk_at dksX3_mayHave_0 21 rfl rfl)
theorem dX3_mayHave_22 : decode cX3_mayHave 22 = .ok (.iload_n 3, 1) := dk_29 (dk_at dksX3_mayHave_0 22 rfl rfl)
theorem dX3_mayHave_23 : decode cX3_mayHave 23 = .ok (.imul, 1) := dk_104 (dk_at dksX3_mayHave_0 23 rfl rfl)
theorem dX3_mayHave_24 : decode cX3_mayHave 24 = .ok (.iadd, 1) := dk_96 (dk_at dksX3_mayHave_1 0 rfl rfl)
theorem dX3_mayHave_25 : decode cX3_mayHave 25 = .ok (.iaload, 1) := dk_46 (dk_at dksX3_mayHave_1 1 rfl rfl)
theorem dX3_mayHave_26 : decode cX3_mayHave 26 = .ok (.iload_n 1, 1) := dk_27 (dk_at dksX3_mayHave_1 2 rfl rfl)
theorem dX3_mayHave_27 : decode cX3_mayHave 27 = .ok (.if_icmp .ne 23, 3) := dk_160 0 23 (dk_at dksX3_mayHave_1 3 rfl rfl)
theorem dX3_mayHave_30 : decode cX3_mayHave 30 = .ok (.aload_n 0, 1) := dk_42 (dk_at dksX3_mayHave_1 6 rfl rfl)
theorem dX3_mayHave_31 : decode cX3_mayHave 31 = .ok (.getfield 7, 3) := dk_180 0 7 (dk_at dksX3_mayHave_1 7 rfl rfl)
theorem dX3_mayHave_34 : decode cX3_mayHave 34 = .ok (.sipush 839, 3) := dk_17 3 71 (dk_at dksX3_mayHave_1 10 rfl rfl)
theorem dX3_mayHave_37 : decode cX3_mayHave 37 = .ok (.iconst 2, 1) := dk_5 (dk_at dksX3_mayHave_1 13 rfl rfl)
theorem dX3_mayHave_38 : decode cX3_mayHave 38 = .ok (.iload_n 3, 1) := dk_29 (dk_at dksX3_mayHave_1 14 rfl rfl)
theorem dX3_mayHave_39 : decode cX3_mayHave 39 = .ok (.imul, 1) := dk_104 (dk_at dksX3_mayHave_1 15 rfl rfl)
theorem dX3_mayHave_40 : decode cX3_mayHave 40 = .ok (.iadd, 1) := dk_96 (dk_at dksX3_mayHave_1 16 rfl rfl)
theorem dX3_mayHave_41 : decode cX3_mayHave 41 = .ok (.iconst 1, 1) := dk_4 (dk_at dksX3_mayHave_1 17 rfl rfl)
theorem dX3_mayHave_42 : decode cX3_mayHave 42 = .ok (.iadd, 1) := dk_96 (dk_at dksX3_mayHave_1 18 rfl rfl)
theorem dX3_mayHave_43 : decode cX3_mayHave 43 = .ok (.iaload, 1) := dk_46 (dk_at dksX3_mayHave_1 19 rfl rfl)
theorem dX3_mayHave_44 : decode cX3_mayHave 44 = .ok (.iload_n 2, 1) := dk_28 (dk_at dksX3_mayHave_1 20 rfl rfl)
theorem dX3_mayHave_45 : decode cX3_mayHave 45 = .ok (.if_icmp .ne 5, 3) := dk_160 0 5 (dk_at dksX3_mayHave_1 21 rfl rfl)
theorem dX3_mayHave_48 : decode cX3_mayHave 48 = .ok (.iconst 0, 1) := dk_3 (dk_at dksX3_mayHave_2 0 rfl rfl)
theorem dX3_mayHave_49 : decode cX3_mayHave 49 = .ok (.ireturn, 1) := dk_172 (dk_at dksX3_mayHave_2 1 rfl rfl)
theorem dX3_mayHave_50 : decode cX3_mayHave 50 = .ok (.iinc 3 1, 3) := dk_132 3 1 (dk_at dksX3_mayHave_2 2 rfl rfl)
theorem dX3_mayHave_53 : decode cX3_mayHave 53 = .ok (.goto (-51), 3) := dk_167 255 205 (dk_at dksX3_mayHave_2 5 rfl rfl)
theorem dX3_mayHave_56 : decode cX3_mayHave 56 = .ok (.iconst 1, 1) := dk_4 (dk_at dksX3_mayHave_2 8 rfl rfl)
theorem dX3_mayHave_57 : decode cX3_mayHave 57 = .ok (.ireturn, 1) := dk_172 (dk_at dksX3_mayHave_2 9 rfl rfl)
abbrev cX3_dyes : ByteArray := prog_17_method_125_code
def yX3_dyes : MethodName := ⟨RX3, "dyes", "(I)I"⟩
def dkwX3_dyes_3 : List UInt8 := [132, 4, 1, 167, 255, 221, 132, 3, 1, 167, 255, 198, 28, 172]
abbrev dktX3_dyes_3 : List UInt8 := dkwX3_dyes_3 ++ []
def dkwX3_dyes_2 : List UInt8 := [162, 0, 28, 28, 42, 29, 21, 4, 27, 182, 1, 203, 153, 0, 7, 4, 167, 0, 4, 3, 96, 61]
abbrev dktX3_dyes_2 : List UInt8 := dkwX3_dyes_2 ++ dktX3_dyes_3
def dkwX3_dyes_1 : List UInt8 := [17, 2, 60, 46, 162, 0, 52, 29, 4, 96, 54, 4, 21, 4, 42, 180, 0, 7, 17, 2, 60, 46]
abbrev dktX3_dyes_1 : List UInt8 := dkwX3_dyes_1 ++ dktX3_dyes_2
def dkwX3_dyes_0 : List UInt8 := [27, 3, 17, 0, 255, 184, 0, 59, 154, 0, 5, 2, 172, 3, 61, 3, 62, 29, 42, 180, 0, 7]
abbrev dktX3_dyes_0 : List UInt8 := dkwX3_dyes_0 ++ dktX3_dyes_1
theorem dksX3_dyes_0 : cX3_dyes.data.toList.drop 0 = dktX3_dyes_0 := by decide +kernel
theorem dksX3_dyes_1 : cX3_dyes.data.toList.drop 22 = dktX3_dyes_1 := dk_seg dksX3_dyes_0 22 rfl rfl
theorem dksX3_dyes_2 : cX3_dyes.data.toList.drop 44 = dktX3_dyes_2 := dk_seg dksX3_dyes_1 22 rfl rfl
theorem dksX3_dyes_3 : cX3_dyes.data.toList.drop 66 = dktX3_dyes_3 := dk_seg dksX3_dyes_2 22 rfl rfl
theorem dX3_dyes_0 : decode cX3_dyes 0 = .ok (.iload_n 1, 1) := dk_27 (dk_at dksX3_dyes_0 0 rfl rfl)
theorem dX3_dyes_1 : decode cX3_dyes 1 = .ok (.iconst 0, 1) := dk_3 (dk_at dksX3_dyes_0 1 rfl rfl)
theorem dX3_dyes_2 : decode cX3_dyes 2 = .ok (.sipush 255, 3) := dk_17 0 255 (dk_at dksX3_dyes_0 2 rfl rfl)
theorem dX3_dyes_5 : decode cX3_dyes 5 = .ok (.invokestatic 59, 3) := dk_184 0 59 (dk_at dksX3_dyes_0 5 rfl rfl)
theorem dX3_dyes_8 : decode cX3_dyes 8 = .ok (.ifCond .ne 5, 3) := dk_154 0 5 (dk_at dksX3_dyes_0 8 rfl rfl)
theorem dX3_dyes_11 : decode cX3_dyes 11 = .ok (.iconst (-1), 1) := dk_2 (dk_at dksX3_dyes_0 11 rfl rfl)
theorem dX3_dyes_12 : decode cX3_dyes 12 = .ok (.ireturn, 1) := dk_172 (dk_at dksX3_dyes_0 12 rfl rfl)
theorem dX3_dyes_13 : decode cX3_dyes 13 = .ok (.iconst 0, 1) := dk_3 (dk_at dksX3_dyes_0 13 rfl rfl)
theorem dX3_dyes_14 : decode cX3_dyes 14 = .ok (.istore_n 2, 1) := dk_61 (dk_at dksX3_dyes_0 14 rfl rfl)
theorem dX3_dyes_15 : decode cX3_dyes 15 = .ok (.iconst 0, 1) := dk_3 (dk_at dksX3_dyes_0 15 rfl rfl)
theorem dX3_dyes_16 : decode cX3_dyes 16 = .ok (.istore_n 3, 1) := dk_62 (dk_at dksX3_dyes_0 16 rfl rfl)
theorem dX3_dyes_17 : decode cX3_dyes 17 = .ok (.iload_n 3, 1) := dk_29 (dk_at dksX3_dyes_0 17 rfl rfl)
theorem dX3_dyes_18 : decode cX3_dyes 18 = .ok (.aload_n 0, 1) := dk_42 (dk_at dksX3_dyes_0 18 rfl rfl)
theorem dX3_dyes_19 : decode cX3_dyes 19 = .ok (.getfield 7, 3) := dk_180 0 7 (dk_at dksX3_dyes_0 19 rfl rfl)
theorem dX3_dyes_22 : decode cX3_dyes 22 = .ok (.sipush 572, 3) := dk_17 2 60 (dk_at dksX3_dyes_1 0 rfl rfl)
theorem dX3_dyes_25 : decode cX3_dyes 25 = .ok (.iaload, 1) := dk_46 (dk_at dksX3_dyes_1 3 rfl rfl)
theorem dX3_dyes_26 : decode cX3_dyes 26 = .ok (.if_icmp .ge 52, 3) := dk_162 0 52 (dk_at dksX3_dyes_1 4 rfl rfl)
theorem dX3_dyes_29 : decode cX3_dyes 29 = .ok (.iload_n 3, 1) := dk_29 (dk_at dksX3_dyes_1 7 rfl rfl)
theorem dX3_dyes_30 : decode cX3_dyes 30 = .ok (.iconst 1, 1) := dk_4 (dk_at dksX3_dyes_1 8 rfl rfl)
theorem dX3_dyes_31 : decode cX3_dyes 31 = .ok (.iadd, 1) := dk_96 (dk_at dksX3_dyes_1 9 rfl rfl)
theorem dX3_dyes_32 : decode cX3_dyes 32 = .ok (.istore 4, 2) := dk_54 4 (dk_at dksX3_dyes_1 10 rfl rfl)
theorem dX3_dyes_34 : decode cX3_dyes 34 = .ok (.iload 4, 2) := dk_21 4 (dk_at dksX3_dyes_1 12 rfl rfl)
theorem dX3_dyes_36 : decode cX3_dyes 36 = .ok (.aload_n 0, 1) := dk_42 (dk_at dksX3_dyes_1 14 rfl rfl)
theorem dX3_dyes_37 : decode cX3_dyes 37 = .ok (.getfield 7, 3) := dk_180 0 7 (dk_at dksX3_dyes_1 15 rfl rfl)
theorem dX3_dyes_40 : decode cX3_dyes 40 = .ok (.sipush 572, 3) := dk_17 2 60 (dk_at dksX3_dyes_1 18 rfl rfl)
theorem dX3_dyes_43 : decode cX3_dyes 43 = .ok (.iaload, 1) := dk_46 (dk_at dksX3_dyes_1 21 rfl rfl)
theorem dX3_dyes_44 : decode cX3_dyes 44 = .ok (.if_icmp .ge 28, 3) := dk_162 0 28 (dk_at dksX3_dyes_2 0 rfl rfl)
theorem dX3_dyes_47 : decode cX3_dyes 47 = .ok (.iload_n 2, 1) := dk_28 (dk_at dksX3_dyes_2 3 rfl rfl)
theorem dX3_dyes_48 : decode cX3_dyes 48 = .ok (.aload_n 0, 1) := dk_42 (dk_at dksX3_dyes_2 4 rfl rfl)
theorem dX3_dyes_49 : decode cX3_dyes 49 = .ok (.iload_n 3, 1) := dk_29 (dk_at dksX3_dyes_2 5 rfl rfl)
theorem dX3_dyes_50 : decode cX3_dyes 50 = .ok (.iload 4, 2) := dk_21 4 (dk_at dksX3_dyes_2 6 rfl rfl)
theorem dX3_dyes_52 : decode cX3_dyes 52 = .ok (.iload_n 1, 1) := dk_27 (dk_at dksX3_dyes_2 8 rfl rfl)
theorem dX3_dyes_53 : decode cX3_dyes 53 = .ok (.invokevirtual 459, 3) := dk_182 1 203 (dk_at dksX3_dyes_2 9 rfl rfl)
theorem dX3_dyes_56 : decode cX3_dyes 56 = .ok (.ifCond .eq 7, 3) := dk_153 0 7 (dk_at dksX3_dyes_2 12 rfl rfl)
theorem dX3_dyes_59 : decode cX3_dyes 59 = .ok (.iconst 1, 1) := dk_4 (dk_at dksX3_dyes_2 15 rfl rfl)
theorem dX3_dyes_60 : decode cX3_dyes 60 = .ok (.goto 4, 3) := dk_167 0 4 (dk_at dksX3_dyes_2 16 rfl rfl)
theorem dX3_dyes_63 : decode cX3_dyes 63 = .ok (.iconst 0, 1) := dk_3 (dk_at dksX3_dyes_2 19 rfl rfl)
theorem dX3_dyes_64 : decode cX3_dyes 64 = .ok (.iadd, 1) := dk_96 (dk_at dksX3_dyes_2 20 rfl rfl)
theorem dX3_dyes_65 : decode cX3_dyes 65 = .ok (.istore_n 2, 1) := dk_61 (dk_at dksX3_dyes_2 21 rfl rfl)
theorem dX3_dyes_66 : decode cX3_dyes 66 = .ok (.iinc 4 1, 3) := dk_132 4 1 (dk_at dksX3_dyes_3 0 rfl rfl)
theorem dX3_dyes_69 : decode cX3_dyes 69 = .ok (.goto (-35), 3) := dk_167 255 221 (dk_at dksX3_dyes_3 3 rfl rfl)
theorem dX3_dyes_72 : decode cX3_dyes 72 = .ok (.iinc 3 1, 3) := dk_132 3 1 (dk_at dksX3_dyes_3 6 rfl rfl)
theorem dX3_dyes_75 : decode cX3_dyes 75 = .ok (.goto (-58), 3) := dk_167 255 198 (dk_at dksX3_dyes_3 9 rfl rfl)
theorem dX3_dyes_78 : decode cX3_dyes 78 = .ok (.iload_n 2, 1) := dk_28 (dk_at dksX3_dyes_3 12 rfl rfl)
theorem dX3_dyes_79 : decode cX3_dyes 79 = .ok (.ireturn, 1) := dk_172 (dk_at dksX3_dyes_3 13 rfl rfl)
abbrev cX3_areAlike : ByteArray := prog_17_method_124_code
def yX3_areAlike : MethodName := ⟨RX3, "areAlike", "(III)Z"⟩
def dkwX3_areAlike_2 : List UInt8 := [21, 4, 96, 182, 1, 43, 29, 184, 1, 200, 159, 0, 5, 3, 172, 132, 4, 1, 167, 255, 211, 4, 172]
abbrev dktX3_areAlike_2 : List UInt8 := dkwX3_areAlike_2 ++ []
def dkwX3_areAlike_1 : List UInt8 := [3, 182, 1, 43, 162, 0, 40, 42, 27, 6, 21, 4, 96, 182, 1, 43, 29, 184, 1, 200, 42, 28, 6]
abbrev dktX3_areAlike_1 : List UInt8 := dkwX3_areAlike_1 ++ dktX3_areAlike_2
def dkwX3_areAlike_0 : List UInt8 := [42, 27, 3, 182, 1, 43, 42, 28, 3, 182, 1, 43, 159, 0, 5, 3, 172, 3, 54, 4, 21, 4, 42, 27]
abbrev dktX3_areAlike_0 : List UInt8 := dkwX3_areAlike_0 ++ dktX3_areAlike_1
theorem dksX3_areAlike_0 : cX3_areAlike.data.toList.drop 0 = dktX3_areAlike_0 := by decide +kernel
theorem dksX3_areAlike_1 : cX3_areAlike.data.toList.drop 24 = dktX3_areAlike_1 := dk_seg dksX3_areAlike_0 24 rfl rfl
theorem dksX3_areAlike_2 : cX3_areAlike.data.toList.drop 47 = dktX3_areAlike_2 := dk_seg dksX3_areAlike_1 23 rfl rfl
theorem dX3_areAlike_0 : decode cX3_areAlike 0 = .ok (.aload_n 0, 1) := dk_42 (dk_at dksX3_areAlike_0 0 rfl rfl)
theorem dX3_areAlike_1 : decode cX3_areAlike 1 = .ok (.iload_n 1, 1) := dk_27 (dk_at dksX3_areAlike_0 1 rfl rfl)
theorem dX3_areAlike_2 : decode cX3_areAlike 2 = .ok (.iconst 0, 1) := dk_3 (dk_at dksX3_areAlike_0 2 rfl rfl)
theorem dX3_areAlike_3 : decode cX3_areAlike 3 = .ok (.invokevirtual 299, 3) := dk_182 1 43 (dk_at dksX3_areAlike_0 3 rfl rfl)
theorem dX3_areAlike_6 : decode cX3_areAlike 6 = .ok (.aload_n 0, 1) := dk_42 (dk_at dksX3_areAlike_0 6 rfl rfl)
theorem dX3_areAlike_7 : decode cX3_areAlike 7 = .ok (.iload_n 2, 1) := dk_28 (dk_at dksX3_areAlike_0 7 rfl rfl)
theorem dX3_areAlike_8 : decode cX3_areAlike 8 = .ok (.iconst 0, 1) := dk_3 (dk_at dksX3_areAlike_0 8 rfl rfl)
theorem dX3_areAlike_9 : decode cX3_areAlike 9 = .ok (.invokevirtual 299, 3) := dk_182 1 43 (dk_at dksX3_areAlike_0 9 rfl rfl)
theorem dX3_areAlike_12 : decode cX3_areAlike 12 = .ok (.if_icmp .eq 5, 3) := dk_159 0 5 (dk_at dksX3_areAlike_0 12 rfl rfl)
theorem dX3_areAlike_15 : decode cX3_areAlike 15 = .ok (.iconst 0, 1) := dk_3 (dk_at dksX3_areAlike_0 15 rfl rfl)
theorem dX3_areAlike_16 : decode cX3_areAlike 16 = .ok (.ireturn, 1) := dk_172 (dk_at dksX3_areAlike_0 16 rfl rfl)
theorem dX3_areAlike_17 : decode cX3_areAlike 17 = .ok (.iconst 0, 1) := dk_3 (dk_at dksX3_areAlike_0 17 rfl rfl)
theorem dX3_areAlike_18 : decode cX3_areAlike 18 = .ok (.istore 4, 2) := dk_54 4 (dk_at dksX3_areAlike_0 18 rfl rfl)
theorem dX3_areAlike_20 : decode cX3_areAlike 20 = .ok (.iload 4, 2) := dk_21 4 (dk_at dksX3_areAlike_0 20 rfl rfl)
theorem dX3_areAlike_22 : decode cX3_areAlike 22 = .ok (.aload_n 0, 1) := dk_42 (dk_at dksX3_areAlike_0 22 rfl rfl)
theorem dX3_areAlike_23 : decode cX3_areAlike 23 = .ok (.iload_n 1, 1) := dk_27 (dk_at dksX3_areAlike_0 23 rfl rfl)
theorem dX3_areAlike_24 : decode cX3_areAlike 24 = .ok (.iconst 0, 1) := dk_3 (dk_at dksX3_areAlike_1 0 rfl rfl)
theorem dX3_areAlike_25 : decode cX3_areAlike 25 = .ok (.invokevirtual 299, 3) := dk_182 1 43 (dk_at dksX3_areAlike_1 1 rfl rfl)
theorem dX3_areAlike_28 : decode cX3_areAlike 28 = .ok (.if_icmp .ge 40, 3) := dk_162 0 40 (dk_at dksX3_areAlike_1 4 rfl rfl)
theorem dX3_areAlike_31 : decode cX3_areAlike 31 = .ok (.aload_n 0, 1) := dk_42 (dk_at dksX3_areAlike_1 7 rfl rfl)
theorem dX3_areAlike_32 : decode cX3_areAlike 32 = .ok (.iload_n 1, 1) := dk_27 (dk_at dksX3_areAlike_1 8 rfl rfl)
theorem dX3_areAlike_33 : decode cX3_areAlike 33 = .ok (.iconst 3, 1) := dk_6 (dk_at dksX3_areAlike_1 9 rfl rfl)
theorem dX3_areAlike_34 : decode cX3_areAlike 34 = .ok (.iload 4, 2) := dk_21 4 (dk_at dksX3_areAlike_1 10 rfl rfl)
theorem dX3_areAlike_36 : decode cX3_areAlike 36 = .ok (.iadd, 1) := dk_96 (dk_at dksX3_areAlike_1 12 rfl rfl)
theorem dX3_areAlike_37 : decode cX3_areAlike 37 = .ok (.invokevirtual 299, 3) := dk_182 1 43 (dk_at dksX3_areAlike_1 13 rfl rfl)
theorem dX3_areAlike_40 : decode cX3_areAlike 40 = .ok (.iload_n 3, 1) := dk_29 (dk_at dksX3_areAlike_1 16 rfl rfl)
theorem dX3_areAlike_41 : decode cX3_areAlike 41 = .ok (.invokestatic 456, 3) := dk_184 1 200 (dk_at dksX3_areAlike_1 17 rfl rfl)
theorem dX3_areAlike_44 : decode cX3_areAlike 44 = .ok (.aload_n 0, 1) := dk_42 (dk_at dksX3_areAlike_1 20 rfl rfl)
theorem dX3_areAlike_45 : decode cX3_areAlike 45 = .ok (.iload_n 2, 1) := dk_28 (dk_at dksX3_areAlike_1 21 rfl rfl)
theorem dX3_areAlike_46 : decode cX3_areAlike 46 = .ok (.iconst 3, 1) := dk_6 (dk_at dksX3_areAlike_1 22 rfl rfl)
theorem dX3_areAlike_47 : decode cX3_areAlike 47 = .ok (.iload 4, 2) := dk_21 4 (dk_at dksX3_areAlike_2 0 rfl rfl)
theorem dX3_areAlike_49 : decode cX3_areAlike 49 = .ok (.iadd, 1) := dk_96 (dk_at dksX3_areAlike_2 2 rfl rfl)
theorem dX3_areAlike_50 : decode cX3_areAlike 50 = .ok (.invokevirtual 299, 3) := dk_182 1 43 (dk_at dksX3_areAlike_2 3 rfl rfl)
theorem dX3_areAlike_53 : decode cX3_areAlike 53 = .ok (.iload_n 3, 1) := dk_29 (dk_at dksX3_areAlike_2 6 rfl rfl)
theorem dX3_areAlike_54 : decode cX3_areAlike 54 = .ok (.invokestatic 456, 3) := dk_184 1 200 (dk_at dksX3_areAlike_2 7 rfl rfl)
theorem dX3_areAlike_57 : decode cX3_areAlike 57 = .ok (.if_icmp .eq 5, 3) := dk_159 0 5 (dk_at dksX3_areAlike_2 10 rfl rfl)
theorem dX3_areAlike_60 : decode cX3_areAlike 60 = .ok (.iconst 0, 1) := dk_3 (dk_at dksX3_areAlike_2 13 rfl rfl)
theorem dX3_areAlike_61 : decode cX3_areAlike 61 = .ok (.ireturn, 1) := dk_172 (dk_at dksX3_areAlike_2 14 rfl rfl)
theorem dX3_areAlike_62 : decode cX3_areAlike 62 = .ok (.iinc 4 1, 3) := dk_132 4 1 (dk_at dksX3_areAlike_2 15 rfl rfl)
theorem dX3_areAlike_65 : decode cX3_areAlike 65 = .ok (.goto (-45), 3) := dk_167 255 211 (dk_at dksX3_areAlike_2 18 rfl rfl)
theorem dX3_areAlike_68 : decode cX3_areAlike 68 = .ok (.iconst 1, 1) := dk_4 (dk_at dksX3_areAlike_2 21 rfl rfl)
theorem dX3_areAlike_69 : decode cX3_areAlike 69 = .ok (.ireturn, 1) := dk_172 (dk_at dksX3_areAlike_2 22 rfl rfl)
abbrev cX3_dyed : ByteArray := prog_17_method_123_code
def yX3_dyed : MethodName := ⟨RX3, "dyed", "(II)I"⟩
def dkwX3_dyed_0 : List UInt8 := [27, 26, 122, 4, 126, 4, 160, 0, 8, 16, 8, 167, 0, 4, 26, 172]
abbrev dktX3_dyed_0 : List UInt8 := dkwX3_dyed_0 ++ []
theorem dksX3_dyed_0 : cX3_dyed.data.toList.drop 0 = dktX3_dyed_0 := by decide +kernel
theorem dX3_dyed_0 : decode cX3_dyed 0 = .ok (.iload_n 1, 1) := dk_27 (dk_at dksX3_dyed_0 0 rfl rfl)
theorem dX3_dyed_1 : decode cX3_dyed 1 = .ok (.iload_n 0, 1) := dk_26 (dk_at dksX3_dyed_0 1 rfl rfl)
theorem dX3_dyed_2 : decode cX3_dyed 2 = .ok (.ishr, 1) := dk_122 (dk_at dksX3_dyed_0 2 rfl rfl)
theorem dX3_dyed_3 : decode cX3_dyed 3 = .ok (.iconst 1, 1) := dk_4 (dk_at dksX3_dyed_0 3 rfl rfl)
theorem dX3_dyed_4 : decode cX3_dyed 4 = .ok (.iand, 1) := dk_126 (dk_at dksX3_dyed_0 4 rfl rfl)
theorem dX3_dyed_5 : decode cX3_dyed 5 = .ok (.iconst 1, 1) := dk_4 (dk_at dksX3_dyed_0 5 rfl rfl)
theorem dX3_dyed_6 : decode cX3_dyed 6 = .ok (.if_icmp .ne 8, 3) := dk_160 0 8 (dk_at dksX3_dyed_0 6 rfl rfl)
theorem dX3_dyed_9 : decode cX3_dyed 9 = .ok (.bipush 8, 2) := dk_16 8 (dk_at dksX3_dyed_0 9 rfl rfl)
theorem dX3_dyed_11 : decode cX3_dyed 11 = .ok (.goto 4, 3) := dk_167 0 4 (dk_at dksX3_dyed_0 11 rfl rfl)
theorem dX3_dyed_14 : decode cX3_dyed 14 = .ok (.iload_n 0, 1) := dk_26 (dk_at dksX3_dyed_0 14 rfl rfl)
theorem dX3_dyed_15 : decode cX3_dyed 15 = .ok (.ireturn, 1) := dk_172 (dk_at dksX3_dyed_0 15 rfl rfl)
abbrev cX3_game : ByteArray := prog_17_method_126_code
def yX3_game : MethodName := ⟨RX3, "game", "(I)I"⟩
def dkwX3_game_5 : List UInt8 := [167, 255, 184, 2, 172]
abbrev dktX3_game_5 : List UInt8 := dkwX3_game_5 ++ []
def dkwX3_game_4 : List UInt8 := [160, 0, 14, 27, 154, 0, 7, 29, 167, 0, 5, 21, 5, 172, 132, 5, 1, 167, 255, 213, 132, 3, 1]
abbrev dktX3_game_4 : List UInt8 := dkwX3_game_4 ++ dktX3_game_5
def dkwX3_game_3 : List UInt8 := [8, 21, 4, 184, 0, 235, 163, 0, 38, 28, 21, 4, 16, 6, 112, 130, 21, 4, 21, 5, 100, 16, 6, 112]
abbrev dktX3_game_3 : List UInt8 := dkwX3_game_3 ++ dktX3_game_4
def dkwX3_game_2 : List UInt8 := [42, 180, 0, 7, 17, 2, 60, 46, 162, 0, 66, 42, 29, 4, 182, 1, 43, 54, 4, 4, 54, 5, 21, 5]
abbrev dktX3_game_2 : List UInt8 := dkwX3_game_2 ++ dktX3_game_3
def dkwX3_game_1 : List UInt8 := [162, 0, 21, 28, 42, 29, 4, 182, 1, 43, 16, 6, 112, 130, 61, 132, 3, 1, 167, 255, 229, 3, 62, 29]
abbrev dktX3_game_1 : List UInt8 := dkwX3_game_1 ++ dktX3_game_2
def dkwX3_game_0 : List UInt8 := [27, 3, 4, 184, 0, 59, 154, 0, 5, 2, 172, 3, 61, 3, 62, 29, 42, 180, 0, 7, 17, 2, 60, 46]
abbrev dktX3_game_0 : List UInt8 := dkwX3_game_0 ++ dktX3_game_1
theorem dksX3_game_0 : cX3_game.data.toList.drop 0 = dktX3_game_0 := by decide +kernel
theorem dksX3_game_1 : cX3_game.data.toList.drop 24 = dktX3_game_1 := dk_seg dksX3_game_0 24 rfl rfl
theorem dksX3_game_2 : cX3_game.data.toList.drop 48 = dktX3_game_2 := dk_seg dksX3_game_1 24 rfl rfl
theorem dksX3_game_3 : cX3_game.data.toList.drop 72 = dktX3_game_3 := dk_seg dksX3_game_2 24 rfl rfl
theorem dksX3_game_4 : cX3_game.data.toList.drop 96 = dktX3_game_4 := dk_seg dksX3_game_3 24 rfl rfl
theorem dksX3_game_5 : cX3_game.data.toList.drop 119 = dktX3_game_5 := dk_seg dksX3_game_4 23 rfl rfl
theorem dX3_game_0 : decode cX3_game 0 = .ok (.iload_n 1, 1) := dk_27 (dk_at dksX3_game_0 0 rfl rfl)
theorem dX3_game_1 : decode cX3_game 1 = .ok (.iconst 0, 1) := dk_3 (dk_at dksX3_game_0 1 rfl rfl)
theorem dX3_game_2 : decode cX3_game 2 = .ok (.iconst 1, 1) := dk_4 (dk_at dksX3_game_0 2 rfl rfl)
theorem dX3_game_3 : decode cX3_game 3 = .ok (.invokestatic 59, 3) := dk_184 0 59 (dk_at dksX3_game_0 3 rfl rfl)
theorem dX3_game_6 : decode cX3_game 6 = .ok (.ifCond .ne 5, 3) := dk_154 0 5 (dk_at dksX3_game_0 6 rfl rfl)
theorem dX3_game_9 : decode cX3_game 9 = .ok (.iconst (-1), 1) := dk_2 (dk_at dksX3_game_0 9 rfl rfl)
theorem dX3_game_10 : decode cX3_game 10 = .ok (.ireturn, 1) := dk_172 (dk_at dksX3_game_0 10 rfl rfl)
theorem dX3_game_11 : decode cX3_game 11 = .ok (.iconst 0, 1) := dk_3 (dk_at dksX3_game_0 11 rfl rfl)
theorem dX3_game_12 : decode cX3_game 12 = .ok (.istore_n 2, 1) := dk_61 (dk_at dksX3_game_0 12 rfl rfl)
theorem dX3_game_13 : decode cX3_game 13 = .ok (.iconst 0, 1) := dk_3 (dk_at dksX3_game_0 13 rfl rfl)
theorem dX3_game_14 : decode cX3_game 14 = .ok (.istore_n 3, 1) := dk_62 (dk_at dksX3_game_0 14 rfl rfl)
theorem dX3_game_15 : decode cX3_game 15 = .ok (.iload_n 3, 1) := dk_29 (dk_at dksX3_game_0 15 rfl rfl)
theorem dX3_game_16 : decode cX3_game 16 = .ok (.aload_n 0, 1) := dk_42 (dk_at dksX3_game_0 16 rfl rfl)
theorem dX3_game_17 : decode cX3_game 17 = .ok (.getfield 7, 3) := dk_180 0 7 (dk_at dksX3_game_0 17 rfl rfl)
theorem dX3_game_20 : decode cX3_game 20 = .ok (.sipush 572, 3) := dk_17 2 60 (dk_at dksX3_game_0 20 rfl rfl)
theorem dX3_game_23 : decode cX3_game 23 = .ok (.iaload, 1) := dk_46 (dk_at dksX3_game_0 23 rfl rfl)
theorem dX3_game_24 : decode cX3_game 24 = .ok (.if_icmp .ge 21, 3) := dk_162 0 21 (dk_at dksX3_game_1 0 rfl rfl)
theorem dX3_game_27 : decode cX3_game 27 = .ok (.iload_n 2, 1) := dk_28 (dk_at dksX3_game_1 3 rfl rfl)
theorem dX3_game_28 : decode cX3_game 28 = .ok (.aload_n 0, 1) := dk_42 (dk_at dksX3_game_1 4 rfl rfl)
theorem dX3_game_29 : decode cX3_game 29 = .ok (.iload_n 3, 1) := dk_29 (dk_at dksX3_game_1 5 rfl rfl)
theorem dX3_game_30 : decode cX3_game 30 = .ok (.iconst 1, 1) := dk_4 (dk_at dksX3_game_1 6 rfl rfl)
theorem dX3_game_31 : decode cX3_game 31 = .ok (.invokevirtual 299, 3) := dk_182 1 43 (dk_at dksX3_game_1 7 rfl rfl)
theorem dX3_game_34 : decode cX3_game 34 = .ok (.bipush 6, 2) := dk_16 6 (dk_at dksX3_game_1 10 rfl rfl)
theorem dX3_game_36 : decode cX3_game 36 = .ok (.irem, 1) := dk_112 (dk_at dksX3_game_1 12 rfl rfl)
theorem dX3_game_37 : decode cX3_game 37 = .ok (.ixor, 1) := dk_130 (dk_at dksX3_game_1 13 rfl rfl)
theorem dX3_game_38 : decode cX3_game 38 = .ok (.istore_n 2, 1) := dk_61 (dk_at dksX3_game_1 14 rfl rfl)
theorem dX3_game_39 : decode cX3_game 39 = .ok (.iinc 3 1, 3) := dk_132 3 1 (dk_at dksX3_game_1 15 rfl rfl)
theorem dX3_game_42 : decode cX3_game 42 = .ok (.goto (-27), 3) := dk_167 255 229 (dk_at dksX3_game_1 18 rfl rfl)
theorem dX3_game_45 : decode cX3_game 45 = .ok (.iconst 0, 1) := dk_3 (dk_at dksX3_game_1 21 rfl rfl)
theorem dX3_game_46 : decode cX3_game 46 = .ok (.istore_n 3, 1) := dk_62 (dk_at dksX3_game_1 22 rfl rfl)
theorem dX3_game_47 : decode cX3_game 47 = .ok (.iload_n 3, 1) := dk_29 (dk_at dksX3_game_1 23 rfl rfl)
theorem dX3_game_48 : decode cX3_game 48 = .ok (.aload_n 0, 1) := dk_42 (dk_at dksX3_game_2 0 rfl rfl)
theorem dX3_game_49 : decode cX3_game 49 = .ok (.getfield 7, 3) := dk_180 0 7 (dk_at dksX3_game_2 1 rfl rfl)
theorem dX3_game_52 : decode cX3_game 52 = .ok (.sipush 572, 3) := dk_17 2 60 (dk_at dksX3_game_2 4 rfl rfl)
theorem dX3_game_55 : decode cX3_game 55 = .ok (.iaload, 1) := dk_46 (dk_at dksX3_game_2 7 rfl rfl)
theorem dX3_game_56 : decode cX3_game 56 = .ok (.if_icmp .ge 66, 3) := dk_162 0 66 (dk_at dksX3_game_2 8 rfl rfl)
theorem dX3_game_59 : decode cX3_game 59 = .ok (.aload_n 0, 1) := dk_42 (dk_at dksX3_game_2 11 rfl rfl)
theorem dX3_game_60 : decode cX3_game 60 = .ok (.iload_n 3, 1) := dk_29 (dk_at dksX3_game_2 12 rfl rfl)
theorem dX3_game_61 : decode cX3_game 61 = .ok (.iconst 1, 1) := dk_4 (dk_at dksX3_game_2 13 rfl rfl)
theorem dX3_game_62 : decode cX3_game 62 = .ok (.invokevirtual 299, 3) := dk_182 1 43 (dk_at dksX3_game_2 14 rfl rfl)
theorem dX3_game_65 : decode cX3_game 65 = .ok (.istore 4, 2) := dk_54 4 (dk_at dksX3_game_2 17 rfl rfl)
theorem dX3_game_67 : decode cX3_game 67 = .ok (.iconst 1, 1) := dk_4 (dk_at dksX3_game_2 19 rfl rfl)
theorem dX3_game_68 : decode cX3_game 68 = .ok (.istore 5, 2) := dk_54 5 (dk_at dksX3_game_2 20 rfl rfl)
theorem dX3_game_70 : decode cX3_game 70 = .ok (.iload 5, 2) := dk_21 5 (dk_at dksX3_game_2 22 rfl rfl)
theorem dX3_game_72 : decode cX3_game 72 = .ok (.iconst 5, 1) := dk_8 (dk_at dksX3_game_3 0 rfl rfl)
theorem dX3_game_73 : decode cX3_game 73 = .ok (.iload 4, 2) := dk_21 4 (dk_at dksX3_game_3 1 rfl rfl)
theorem dX3_game_75 : decode cX3_game 75 = .ok (.invokestatic 235, 3) := dk_184 0 235 (dk_at dksX3_game_3 3 rfl rfl)
theorem dX3_game_78 : decode cX3_game 78 = .ok (.if_icmp .gt 38, 3) := dk_163 0 38 (dk_at dksX3_game_3 6 rfl rfl)
theorem dX3_game_81 : decode cX3_game 81 = .ok (.iload_n 2, 1) := dk_28 (dk_at dksX3_game_3 9 rfl rfl)
theorem dX3_game_82 : decode cX3_game 82 = .ok (.iload 4, 2) := dk_21 4 (dk_at dksX3_game_3 10 rfl rfl)
theorem dX3_game_84 : decode cX3_game 84 = .ok (.bipush 6, 2) := dk_16 6 (dk_at dksX3_game_3 12 rfl rfl)
theorem dX3_game_86 : decode cX3_game 86 = .ok (.irem, 1) := dk_112 (dk_at dksX3_game_3 14 rfl rfl)
theorem dX3_game_87 : decode cX3_game 87 = .ok (.ixor, 1) := dk_130 (dk_at dksX3_game_3 15 rfl rfl)
theorem dX3_game_88 : decode cX3_game 88 = .ok (.iload 4, 2) := dk_21 4 (dk_at dksX3_game_3 16 rfl rfl)
theorem dX3_game_90 : decode cX3_game 90 = .ok (.iload 5, 2) := dk_21 5 (dk_at dksX3_game_3 18 rfl rfl)
theorem dX3_game_92 : decode cX3_game 92 = .ok (.isub, 1) := dk_100 (dk_at dksX3_game_3 20 rfl rfl)
theorem dX3_game_93 : decode cX3_game 93 = .ok (.bipush 6, 2) := dk_16 6 (dk_at dksX3_game_3 21 rfl rfl)
theorem dX3_game_95 : decode cX3_game 95 = .ok (.irem, 1) := dk_112 (dk_at dksX3_game_3 23 rfl rfl)
theorem dX3_game_96 : decode cX3_game 96 = .ok (.if_icmp .ne 14, 3) := dk_160 0 14 (dk_at dksX3_game_4 0 rfl rfl)
theorem dX3_game_99 : decode cX3_game 99 = .ok (.iload_n 1, 1) := dk_27 (dk_at dksX3_game_4 3 rfl rfl)
theorem dX3_game_100 : decode cX3_game 100 = .ok (.ifCond .ne 7, 3) := dk_154 0 7 (dk_at dksX3_game_4 4 rfl rfl)
theorem dX3_game_103 : decode cX3_game 103 = .ok (.iload_n 3, 1) := dk_29 (dk_at dksX3_game_4 7 rfl rfl)
theorem dX3_game_104 : decode cX3_game 104 = .ok (.goto 5, 3) := dk_167 0 5 (dk_at dksX3_game_4 8 rfl rfl)
theorem dX3_game_107 : decode cX3_game 107 = .ok (.iload 5, 2) := dk_21 5 (dk_at dksX3_game_4 11 rfl rfl)
theorem dX3_game_109 : decode cX3_game 109 = .ok (.ireturn, 1) := dk_172 (dk_at dksX3_game_4 13 rfl rfl)
theorem dX3_game_110 : decode cX3_game 110 = .ok (.iinc 5 1, 3) := dk_132 5 1 (dk_at dksX3_game_4 14 rfl rfl)
theorem dX3_game_113 : decode cX3_game 113 = .ok (.goto (-43), 3) := dk_167 255 213 (dk_at dksX3_game_4 17 rfl rfl)
theorem dX3_game_116 : decode cX3_game 116 = .ok (.iinc 3 1, 3) := dk_132 3 1 (dk_at dksX3_game_4 20 rfl rfl)
theorem dX3_game_119 : decode cX3_game 119 = .ok (.goto (-72), 3) := dk_167 255 184 (dk_at dksX3_game_5 0 rfl rfl)
theorem dX3_game_122 : decode cX3_game 122 = .ok (.iconst (-1), 1) := dk_2 (dk_at dksX3_game_5 3 rfl rfl)
theorem dX3_game_123 : decode cX3_game 123 = .ok (.ireturn, 1) := dk_172 (dk_at dksX3_game_5 4 rfl rfl)
abbrev cX3_image : ByteArray := prog_17_method_127_code
def yX3_image : MethodName := ⟨RX3, "image", "(Z)Z"⟩
def dkwX3_image_3 : List UInt8 := [181, 1, 206, 4, 172]
abbrev dktX3_image_3 : List UInt8 := dkwX3_image_3 ++ []
def dkwX3_image_2 : List UInt8 := [180, 0, 13, 28, 46, 79, 132, 2, 1, 167, 255, 215, 27, 154, 0, 7, 42, 182, 0, 66, 42, 4]
abbrev dktX3_image_2 : List UInt8 := dkwX3_image_2 ++ dktX3_image_3
def dkwX3_image_1 : List UInt8 := [153, 0, 18, 42, 180, 0, 13, 28, 42, 180, 0, 7, 28, 46, 79, 167, 0, 15, 42, 180, 0, 7, 28, 42]
abbrev dktX3_image_1 : List UInt8 := dkwX3_image_1 ++ dktX3_image_2
def dkwX3_image_0 : List UInt8 := [27, 154, 0, 12, 42, 180, 1, 206, 154, 0, 5, 3, 172, 3, 61, 28, 17, 9, 51, 162, 0, 40, 27]
abbrev dktX3_image_0 : List UInt8 := dkwX3_image_0 ++ dktX3_image_1
theorem dksX3_image_0 : cX3_image.data.toList.drop 0 = dktX3_image_0 := by decide +kernel
theorem dksX3_image_1 : cX3_image.data.toList.drop 23 = dktX3_image_1 := dk_seg dksX3_image_0 23 rfl rfl
theorem dksX3_image_2 : cX3_image.data.toList.drop 47 = dktX3_image_2 := dk_seg dksX3_image_1 24 rfl rfl
theorem dksX3_image_3 : cX3_image.data.toList.drop 69 = dktX3_image_3 := dk_seg dksX3_image_2 22 rfl rfl
theorem dX3_image_0 : decode cX3_image 0 = .ok (.iload_n 1, 1) := dk_27 (dk_at dksX3_image_0 0 rfl rfl)
theorem dX3_image_1 : decode cX3_image 1 = .ok (.ifCond .ne 12, 3) := dk_154 0 12 (dk_at dksX3_image_0 1 rfl rfl)
theorem dX3_image_4 : decode cX3_image 4 = .ok (.aload_n 0, 1) := dk_42 (dk_at dksX3_image_0 4 rfl rfl)
theorem dX3_image_5 : decode cX3_image 5 = .ok (.getfield 462, 3) := dk_180 1 206 (dk_at dksX3_image_0 5 rfl rfl)
theorem dX3_image_8 : decode cX3_image 8 = .ok (.ifCond .ne 5, 3) := dk_154 0 5 (dk_at dksX3_image_0 8 rfl rfl)
theorem dX3_image_11 : decode cX3_image 11 = .ok (.iconst 0, 1) := dk_3 (dk_at dksX3_image_0 11 rfl rfl)
theorem dX3_image_12 : decode cX3_image 12 = .ok (.ireturn, 1) := dk_172 (dk_at dksX3_image_0 12 rfl rfl)
theorem dX3_image_13 : decode cX3_image 13 = .ok (.iconst 0, 1) := dk_3 (dk_at dksX3_image_0 13 rfl rfl)
theorem dX3_image_14 : decode cX3_image 14 = .ok (.istore_n 2, 1) := dk_61 (dk_at dksX3_image_0 14 rfl rfl)
theorem dX3_image_15 : decode cX3_image 15 = .ok (.iload_n 2, 1) := dk_28 (dk_at dksX3_image_0 15 rfl rfl)
theorem dX3_image_16 : decode cX3_image 16 = .ok (.sipush 2355, 3) := dk_17 9 51 (dk_at dksX3_image_0 16 rfl rfl)
theorem dX3_image_19 : decode cX3_image 19 = .ok (.if_icmp .ge 40, 3) := dk_162 0 40 (dk_at dksX3_image_0 19 rfl rfl)
theorem dX3_image_22 : decode cX3_image 22 = .ok (.iload_n 1, 1) := dk_27 (dk_at dksX3_image_0 22 rfl rfl)
theorem dX3_image_23 : decode cX3_image 23 = .ok (.ifCond .eq 18, 3) := dk_153 0 18 (dk_at dksX3_image_1 0 rfl rfl)
theorem dX3_image_26 : decode cX3_image 26 = .ok (.aload_n 0, 1) := dk_42 (dk_at dksX3_image_1 3 rfl rfl)
theorem dX3_image_27 : decode cX3_image 27 = .ok (.getfield 13, 3) := dk_180 0 13 (dk_at dksX3_image_1 4 rfl rfl)
theorem dX3_image_30 : decode cX3_image 30 = .ok (.iload_n 2, 1) := dk_28 (dk_at dksX3_image_1 7 rfl rfl)
theorem dX3_image_31 : decode cX3_image 31 = .ok (.aload_n 0, 1) := dk_42 (dk_at dksX3_image_1 8 rfl rfl)
theorem dX3_image_32 : decode cX3_image 32 = .ok (.getfield 7, 3) := dk_180 0 7 (dk_at dksX3_image_1 9 rfl rfl)
theorem dX3_image_35 : decode cX3_image 35 = .ok (.iload_n 2, 1) := dk_28 (dk_at dksX3_image_1 12 rfl rfl)
theorem dX3_image_36 : decode cX3_image 36 = .ok (.iaload, 1) := dk_46 (dk_at dksX3_image_1 13 rfl rfl)
theorem dX3_image_37 : decode cX3_image 37 = .ok (.iastore, 1) := dk_79 (dk_at dksX3_image_1 14 rfl rfl)
theorem dX3_image_38 : decode cX3_image 38 = .ok (.goto 15, 3) := dk_167 0 15 (dk_at dksX3_image_1 15 rfl rfl)
theorem dX3_image_41 : decode cX3_image 41 = .ok (.aload_n 0, 1) := dk_42 (dk_at dksX3_image_1 18 rfl rfl)
theorem dX3_image_42 : decode cX3_image 42 = .ok (.getfield 7, 3) := dk_180 0 7 (dk_at dksX3_image_1 19 rfl rfl)
theorem dX3_image_45 : decode cX3_image 45 = .ok (.iload_n 2, 1) := dk_28 (dk_at dksX3_image_1 22 rfl rfl)
theorem dX3_image_46 : decode cX3_image 46 = .ok (.aload_n 0, 1) := dk_42 (dk_at dksX3_image_1 23 rfl rfl)
theorem dX3_image_47 : decode cX3_image 47 = .ok (.getfield 13, 3) := dk_180 0 13 (dk_at dksX3_image_2 0 rfl rfl)
theorem dX3_image_50 : decode cX3_image 50 = .ok (.iload_n 2, 1) := dk_28 (dk_at dksX3_image_2 3 rfl rfl)
theorem dX3_image_51 : decode cX3_image 51 = .ok (.iaload, 1) := dk_46 (dk_at dksX3_image_2 4 rfl rfl)
theorem dX3_image_52 : decode cX3_image 52 = .ok (.iastore, 1) := dk_79 (dk_at dksX3_image_2 5 rfl rfl)
theorem dX3_image_53 : decode cX3_image 53 = .ok (.iinc 2 1, 3) := dk_132 2 1 (dk_at dksX3_image_2 6 rfl rfl)
theorem dX3_image_56 : decode cX3_image 56 = .ok (.goto (-41), 3) := dk_167 255 215 (dk_at dksX3_image_2 9 rfl rfl)
theorem dX3_image_59 : decode cX3_image 59 = .ok (.iload_n 1, 1) := dk_27 (dk_at dksX3_image_2 12 rfl rfl)
theorem dX3_image_60 : decode cX3_image 60 = .ok (.ifCond .ne 7, 3) := dk_154 0 7 (dk_at dksX3_image_2 13 rfl rfl)
theorem dX3_image_63 : decode cX3_image 63 = .ok (.aload_n 0, 1) := dk_42 (dk_at dksX3_image_2 16 rfl rfl)
theorem dX3_image_64 : decode cX3_image 64 = .ok (.invokevirtual 66, 3) := dk_182 0 66 (dk_at dksX3_image_2 17 rfl rfl)
theorem dX3_image_67 : decode cX3_image 67 = .ok (.aload_n 0, 1) := dk_42 (dk_at dksX3_image_2 20 rfl rfl)
theorem dX3_image_68 : decode cX3_image 68 = .ok (.iconst 1, 1) := dk_4 (dk_at dksX3_image_2 21 rfl rfl)
theorem dX3_image_69 : decode cX3_image 69 = .ok (.putfield 462, 3) := dk_181 1 206 (dk_at dksX3_image_3 0 rfl rfl)
theorem dX3_image_72 : decode cX3_image 72 = .ok (.iconst 1, 1) := dk_4 (dk_at dksX3_image_3 3 rfl rfl)
theorem dX3_image_73 : decode cX3_image 73 = .ok (.ireturn, 1) := dk_172 (dk_at dksX3_image_3 4 rfl rfl)
abbrev cX3_look : ByteArray := prog_17_method_128_code
def yX3_look : MethodName := ⟨RX3, "look", "(I)I"⟩
def dkwX3_look_8 : List UInt8 := [180, 0, 63, 172, 16, 254, 172]
abbrev dktX3_look_8 : List UInt8 := dkwX3_look_8 ++ []
def dkwX3_look_7 : List UInt8 := [17, 2, 66, 46, 172, 42, 180, 0, 7, 17, 2, 67, 46, 172, 42, 180, 0, 7, 17, 2, 68, 46, 172, 42]
abbrev dktX3_look_7 : List UInt8 := dkwX3_look_7 ++ dktX3_look_8
def dkwX3_look_6 : List UInt8 := [42, 180, 0, 7, 17, 2, 64, 46, 172, 42, 180, 0, 7, 17, 2, 65, 46, 172, 42, 180, 0, 7]
abbrev dktX3_look_6 : List UInt8 := dkwX3_look_6 ++ dktX3_look_7
def dkwX3_look_5 : List UInt8 := [180, 0, 7, 8, 46, 172, 42, 180, 0, 7, 17, 2, 62, 46, 172, 42, 180, 0, 7, 17, 2, 63, 46, 172]
abbrev dktX3_look_5 : List UInt8 := dkwX3_look_5 ++ dktX3_look_6
def dkwX3_look_4 : List UInt8 := [42, 180, 0, 7, 6, 46, 172, 42, 180, 0, 7, 7, 46, 172, 42, 180, 0, 7, 16, 6, 46, 172, 42]
abbrev dktX3_look_4 : List UInt8 := dkwX3_look_4 ++ dktX3_look_5
def dkwX3_look_3 : List UInt8 := [172, 42, 180, 0, 7, 4, 46, 172, 42, 180, 0, 7, 17, 2, 61, 46, 172, 42, 180, 0, 7, 5, 46, 172]
abbrev dktX3_look_3 : List UInt8 := dkwX3_look_3 ++ dktX3_look_4
def dkwX3_look_2 : List UInt8 := [42, 180, 0, 7, 17, 2, 59, 46, 172, 42, 180, 0, 7, 17, 2, 60, 46, 172, 42, 180, 0, 7, 3, 46]
abbrev dktX3_look_2 : List UInt8 := dkwX3_look_2 ++ dktX3_look_3
def dkwX3_look_1 : List UInt8 := [170, 0, 0, 0, 0, 0, 232, 0, 0, 0, 0, 0, 0, 0, 17, 0, 0, 0, 87, 0, 0, 0, 96, 0, 0, 0, 105, 0, 0, 0, 112, 0, 0, 0, 119, 0, 0, 0, 128, 0, 0, 0, 135, 0, 0, 0, 142, 0, 0, 0, 149, 0, 0, 0, 157, 0, 0, 0, 164, 0, 0, 0, 173, 0, 0, 0, 182, 0, 0, 0, 191, 0, 0, 0, 200, 0, 0, 0, 209, 0, 0, 0, 218, 0, 0, 0, 227]
abbrev dktX3_look_1 : List UInt8 := dkwX3_look_1 ++ dktX3_look_2
def dkwX3_look_0 : List UInt8 := [27]
abbrev dktX3_look_0 : List UInt8 := dkwX3_look_0 ++ dktX3_look_1
theorem dksX3_look_0 : cX3_look.data.toList.drop 0 = dktX3_look_0 := by decide +kernel
theorem dksX3_look_1 : cX3_look.data.toList.drop 1 = dktX3_look_1 := dk_seg dksX3_look_0 1 rfl rfl
theorem dksX3_look_2 : cX3_look.data.toList.drop 88 = dktX3_look_2 := dk_seg dksX3_look_1 87 rfl rfl
theorem dksX3_look_3 : cX3_look.data.toList.drop 112 = dktX3_look_3 := dk_seg dksX3_look_2 24 rfl rfl
theorem dksX3_look_4 : cX3_look.data.toList.drop 136 = dktX3_look_4 := dk_seg dksX3_look_3 24 rfl rfl
theorem dksX3_look_5 : cX3_look.data.toList.drop 159 = dktX3_look_5 := dk_seg dksX3_look_4 23 rfl rfl
theorem dksX3_look_6 : cX3_look.data.toList.drop 183 = dktX3_look_6 := dk_seg dksX3_look_5 24 rfl rfl
theorem dksX3_look_7 : cX3_look.data.toList.drop 205 = dktX3_look_7 := dk_seg dksX3_look_6 22 rfl rfl
theorem dksX3_look_8 : cX3_look.data.toList.drop 229 = dktX3_look_8 := dk_seg dksX3_look_7 24 rfl rfl
theorem dX3_look_0 : decode cX3_look 0 = .ok (.iload_n 1, 1) := dk_27 (dk_at dksX3_look_0 0 rfl rfl)
theorem dX3_look_1 : decode cX3_look 1 = .ok (.tableswitch 232 0 17 #[87, 96, 105, 112, 119, 128, 135, 142, 149, 157, 164, 173, 182, 191, 200, 209, 218, 227], 87) := by decide +kernel
theorem dX3_look_88 : decode cX3_look 88 = .ok (.aload_n 0, 1) := dk_42 (dk_at dksX3_look_2 0 rfl rfl)
theorem dX3_look_89 : decode cX3_look 89 = .ok (.getfield 7, 3) := dk_180 0 7 (dk_at dksX3_look_2 1 rfl rfl)
theorem dX3_look_92 : decode cX3_look 92 = .ok (.sipush 571, 3) := dk_17 2 59 (dk_at dksX3_look_2 4 rfl rfl)
theorem dX3_look_95 : decode cX3_look 95 = .ok (.iaload, 1) := dk_46 (dk_at dksX3_look_2 7 rfl rfl)
theorem dX3_look_96 : decode cX3_look 96 = .ok (.ireturn, 1) := dk_172 (dk_at dksX3_look_2 8 rfl rfl)
theorem dX3_look_97 : decode cX3_look 97 = .ok (.aload_n 0, 1) := dk_42 (dk_at dksX3_look_2 9 rfl rfl)
theorem dX3_look_98 : decode cX3_look 98 = .ok (.getfield 7, 3) := dk_180 0 7 (dk_at dksX3_look_2 10 rfl rfl)
theorem dX3_look_101 : decode cX3_look 101 = .ok (.sipush 572, 3) := dk_17 2 60 (dk_at dksX3_look_2 13 rfl rfl)
theorem dX3_look_104 : decode cX3_look 104 = .ok (.iaload, 1) := dk_46 (dk_at dksX3_look_2 16 rfl rfl)
theorem dX3_look_105 : decode cX3_look 105 = .ok (.ireturn, 1) := dk_172 (dk_at dksX3_look_2 17 rfl rfl)
theorem dX3_look_106 : decode cX3_look 106 = .ok (.aload_n 0, 1) := dk_42 (dk_at dksX3_look_2 18 rfl rfl)
theorem dX3_look_107 : decode cX3_look 107 = .ok (.getfield 7, 3) := dk_180 0 7 (dk_at dksX3_look_2 19 rfl rfl)
theorem dX3_look_110 : decode cX3_look 110 = .ok (.iconst 0, 1) := dk_3 (dk_at dksX3_look_2 22 rfl rfl)
theorem dX3_look_111 : decode cX3_look 111 = .ok (.iaload, 1) := dk_46 (dk_at dksX3_look_2 23 rfl rfl)
theorem dX3_look_112 : decode cX3_look 112 = .ok (.ireturn, 1) := dk_172 (dk_at dksX3_look_3 0 rfl rfl)
theorem dX3_look_113 : decode cX3_look 113 = .ok (.aload_n 0, 1) := dk_42 (dk_at dksX3_look_3 1 rfl rfl)
theorem dX3_look_114 : decode cX3_look 114 = .ok (.getfield 7, 3) := dk_180 0 7 (dk_at dksX3_look_3 2 rfl rfl)
theorem dX3_look_117 : decode cX3_look 117 = .ok (.iconst 1, 1) := dk_4 (dk_at dksX3_look_3 5 rfl rfl)
theorem dX3_look_118 : decode cX3_look 118 = .ok (.iaload, 1) := dk_46 (dk_at dksX3_look_3 6 rfl rfl)
theorem dX3_look_119 : decode cX3_look 119 = .ok (.ireturn, 1) := dk_172 (dk_at dksX3_look_3 7 rfl rfl)
theorem dX3_look_120 : decode cX3_look 120 = .ok (.aload_n 0, 1) := dk_42 (dk_at dksX3_look_3 8 rfl rfl)
theorem dX3_look_121 : decode cX3_look 121 = .ok (.getfield 7, 3) := dk_180 0 7 (dk_at dksX3_look_3 9 rfl rfl)
theorem dX3_look_124 : decode cX3_look 124 = .ok (.sipush 573, 3) := dk_17 2 61 (dk_at dksX3_look_3 12 rfl rfl)
theorem dX3_look_127 : decode cX3_look 127 = .ok (.iaload, 1) := dk_46 (dk_at dksX3_look_3 15 rfl rfl)
theorem dX3_look_128 : decode cX3_look 128 = .ok (.ireturn, 1) := dk_172 (dk_at dksX3_look_3 16 rfl rfl)
theorem dX3_look_129 : decode cX3_look 129 = .ok (.aload_n 0, 1) := dk_42 (dk_at dksX3_look_3 17 rfl rfl)
theorem dX3_look_130 : decode cX3_look 130 = .ok (.getfield 7, 3) := dk_180 0 7 (dk_at dksX3_look_3 18 rfl rfl)
theorem dX3_look_133 : decode cX3_look 133 = .ok (.iconst 2, 1) := dk_5 (dk_at dksX3_look_3 21 rfl rfl)
theorem dX3_look_134 : decode cX3_look 134 = .ok (.iaload, 1) := dk_46 (dk_at dksX3_look_3 22 rfl rfl)
theorem dX3_look_135 : decode cX3_look 135 = .ok (.ireturn, 1) := dk_172 (dk_at dksX3_look_3 23 rfl rfl)
theorem dX3_look_136 : decode cX3_look 136 = .ok (.aload_n 0, 1) := dk_42 (dk_at dksX3_look_4 0 rfl rfl)
theorem dX3_look_137 : decode cX3_look 137 = .ok (.getfield 7, 3) := dk_180 0 7 (dk_at dksX3_look_4 1 rfl rfl)
theorem dX3_look_140 : decode cX3_look 140 = .ok (.iconst 3, 1) := dk_6 (dk_at dksX3_look_4 4 rfl rfl)
theorem dX3_look_141 : decode cX3_look 141 = .ok (.iaload, 1) := dk_46 (dk_at dksX3_look_4 5 rfl rfl)
theorem dX3_look_142 : decode cX3_look 142 = .ok (.ireturn, 1) := dk_172 (dk_at dksX3_look_4 6 rfl rfl)
theorem dX3_look_143 : decode cX3_look 143 = .ok (.aload_n 0, 1) := dk_42 (dk_at dksX3_look_4 7 rfl rfl)
theorem dX3_look_144 : decode cX3_look 144 = .ok (.getfield 7, 3) := dk_180 0 7 (dk_at dksX3_look_4 8 rfl rfl)
theorem dX3_look_147 : decode cX3_look 147 = .ok (.iconst 4, 1) := dk_7 (dk_at dksX3_look_4 11 rfl rfl)
theorem dX3_look_148 : decode cX3_look 148 = .ok (.iaload, 1) := dk_46 (dk_at dksX3_look_4 12 rfl rfl)
theorem dX3_look_149 : decode cX3_look 149 = .ok (.ireturn, 1) := dk_172 (dk_at dksX3_look_4 13 rfl rfl)
theorem dX3_look_150 : decode cX3_look 150 = .ok (.aload_n 0, 1) := dk_42 (dk_at dksX3_look_4 14 rfl rfl)
theorem dX3_look_151 : decode cX3_look 151 = .ok (.getfield 7, 3) := dk_180 0 7 (dk_at dksX3_look_4 15 rfl rfl)
theorem dX3_look_154 : decode cX3_look 154 = .ok (.bipush 6, 2) := dk_16 6 (dk_at dksX3_look_4 18 rfl rfl)
theorem dX3_look_156 : decode cX3_look 156 = .ok (.iaload, 1) := dk_46 (dk_at dksX3_look_4 20 rfl rfl)
theorem dX3_look_157 : decode cX3_look 157 = .ok (.ireturn, 1) := dk_172 (dk_at dksX3_look_4 21 rfl rfl)
theorem dX3_look_158 : decode cX3_look 158 = .ok (.aload_n 0, 1) := dk_42 (dk_at dksX3_look_4 22 rfl rfl)
theorem dX3_look_159 : decode cX3_look 159 = .ok (.getfield 7, 3) := dk_180 0 7 (dk_at dksX3_look_5 0 rfl rfl)
theorem dX3_look_162 : decode cX3_look 162 = .ok (.iconst 5, 1) := dk_8 (dk_at dksX3_look_5 3 rfl rfl)
theorem dX3_look_163 : decode cX3_look 163 = .ok (.iaload, 1) := dk_46 (dk_at dksX3_look_5 4 rfl rfl)
theorem dX3_look_164 : decode cX3_look 164 = .ok (.ireturn, 1) := dk_172 (dk_at dksX3_look_5 5 rfl rfl)
theorem dX3_look_165 : decode cX3_look 165 = .ok (.aload_n 0, 1) := dk_42 (dk_at dksX3_look_5 6 rfl rfl)
theorem dX3_look_166 : decode cX3_look 166 = .ok (.getfield 7, 3) := dk_180 0 7 (dk_at dksX3_look_5 7 rfl rfl)
theorem dX3_look_169 : decode cX3_look 169 = .ok (.sipush 574, 3) := dk_17 2 62 (dk_at dksX3_look_5 10 rfl rfl)
theorem dX3_look_172 : decode cX3_look 172 = .ok (.iaload, 1) := dk_46 (dk_at dksX3_look_5 13 rfl rfl)
theorem dX3_look_173 : decode cX3_look 173 = .ok (.ireturn, 1) := dk_172 (dk_at dksX3_look_5 14 rfl rfl)
theorem dX3_look_174 : decode cX3_look 174 = .ok (.aload_n 0, 1) := dk_42 (dk_at dksX3_look_5 15 rfl rfl)
theorem dX3_look_175 : decode cX3_look 175 = .ok (.getfield 7, 3) := dk_180 0 7 (dk_at dksX3_look_5 16 rfl rfl)
theorem dX3_look_178 : decode cX3_look 178 = .ok (.sipush 575, 3) := dk_17 2 63 (dk_at dksX3_look_5 19 rfl rfl)
theorem dX3_look_181 : decode cX3_look 181 = .ok (.iaload, 1) := dk_46 (dk_at dksX3_look_5 22 rfl rfl)
theorem dX3_look_182 : decode cX3_look 182 = .ok (.ireturn, 1) := dk_172 (dk_at dksX3_look_5 23 rfl rfl)
theorem dX3_look_183 : decode cX3_look 183 = .ok (.aload_n 0, 1) := dk_42 (dk_at dksX3_look_6 0 rfl rfl)
theorem dX3_look_184 : decode cX3_look 184 = .ok (.getfield 7, 3) := dk_180 0 7 (dk_at dksX3_look_6 1 rfl rfl)
theorem dX3_look_187 : decode cX3_look 187 = .ok (.sipush 576, 3) := dk_17 2 64 (dk_at dksX3_look_6 4 rfl rfl)
theorem dX3_look_190 : decode cX3_look 190 = .ok (.iaload, 1) := dk_46 (dk_at dksX3_look_6 7 rfl rfl)
theorem dX3_look_191 : decode cX3_look 191 = .ok (.ireturn, 1) := dk_172 (dk_at dksX3_look_6 8 rfl rfl)
theorem dX3_look_192 : decode cX3_look 192 = .ok (.aload_n 0, 1) := dk_42 (dk_at dksX3_look_6 9 rfl rfl)
theorem dX3_look_193 : decode cX3_look 193 = .ok (.getfield 7, 3) := dk_180 0 7 (dk_at dksX3_look_6 10 rfl rfl)
theorem dX3_look_196 : decode cX3_look 196 = .ok (.sipush 577, 3) := dk_17 2 65 (dk_at dksX3_look_6 13 rfl rfl)
theorem dX3_look_199 : decode cX3_look 199 = .ok (.iaload, 1) := dk_46 (dk_at dksX3_look_6 16 rfl rfl)
theorem dX3_look_200 : decode cX3_look 200 = .ok (.ireturn, 1) := dk_172 (dk_at dksX3_look_6 17 rfl rfl)
theorem dX3_look_201 : decode cX3_look 201 = .ok (.aload_n 0, 1) := dk_42 (dk_at dksX3_look_6 18 rfl rfl)
theorem dX3_look_202 : decode cX3_look 202 = .ok (.getfield 7, 3) := dk_180 0 7 (dk_at dksX3_look_6 19 rfl rfl)
theorem dX3_look_205 : decode cX3_look 205 = .ok (.sipush 578, 3) := dk_17 2 66 (dk_at dksX3_look_7 0 rfl rfl)
theorem dX3_look_208 : decode cX3_look 208 = .ok (.iaload, 1) := dk_46 (dk_at dksX3_look_7 3 rfl rfl)
theorem dX3_look_209 : decode cX3_look 209 = .ok (.ireturn, 1) := dk_172 (dk_at dksX3_look_7 4 rfl rfl)
theorem dX3_look_210 : decode cX3_look 210 = .ok (.aload_n 0, 1) := dk_42 (dk_at dksX3_look_7 5 rfl rfl)
theorem dX3_look_211 : decode cX3_look 211 = .ok (.getfield 7, 3) := dk_180 0 7 (dk_at dksX3_look_7 6 rfl rfl)
theorem dX3_look_214 : decode cX3_look 214 = .ok (.sipush 579, 3) := dk_17 2 67 (dk_at dksX3_look_7 9 rfl rfl)
theorem dX3_look_217 : decode cX3_look 217 = .ok (.iaload, 1) := dk_46 (dk_at dksX3_look_7 12 rfl rfl)
theorem dX3_look_218 : decode cX3_look 218 = .ok (.ireturn, 1) := dk_172 (dk_at dksX3_look_7 13 rfl rfl)
theorem dX3_look_219 : decode cX3_look 219 = .ok (.aload_n 0, 1) := dk_42 (dk_at dksX3_look_7 14 rfl rfl)
theorem dX3_look_220 : decode cX3_look 220 = .ok (.getfield 7, 3) := dk_180 0 7 (dk_at dksX3_look_7 15 rfl rfl)
theorem dX3_look_223 : decode cX3_look 223 = .ok (.sipush 580, 3) := dk_17 2 68 (dk_at dksX3_look_7 18 rfl rfl)
theorem dX3_look_226 : decode cX3_look 226 = .ok (.iaload, 1) := dk_46 (dk_at dksX3_look_7 21 rfl rfl)
theorem dX3_look_227 : decode cX3_look 227 = .ok (.ireturn, 1) := dk_172 (dk_at dksX3_look_7 22 rfl rfl)
theorem dX3_look_228 : decode cX3_look 228 = .ok (.aload_n 0, 1) := dk_42 (dk_at dksX3_look_7 23 rfl rfl)
theorem dX3_look_229 : decode cX3_look 229 = .ok (.getfield 63, 3) := dk_180 0 63 (dk_at dksX3_look_8 0 rfl rfl)
theorem dX3_look_232 : decode cX3_look 232 = .ok (.ireturn, 1) := dk_172 (dk_at dksX3_look_8 3 rfl rfl)
theorem dX3_look_233 : decode cX3_look 233 = .ok (.bipush (-2), 2) := dk_16 254 (dk_at dksX3_look_8 4 rfl rfl)
theorem dX3_look_235 : decode cX3_look 235 = .ok (.ireturn, 1) := dk_172 (dk_at dksX3_look_8 6 rfl rfl)
theorem q158 : (Jvm.Cond.initialized "SilkClerksModel") ∈ lw_all := lw_g (lw_at lw_m1 4 rfl) rfl
theorem q1399 : (Jvm.Cond.instantiable "SilkClerksModel" (33 : Nat)) ∈ lw_all := lw_g (lw_at lw_m6 45 rfl) rfl
theorem q1401 : (Jvm.Cond.instanceMethod ({ cls := "SilkClerksModel", name := "<init>", desc := "()V" } : Jvm.MethodName)) ∈ lw_all := lw_g (lw_at lw_m6 47 rfl) rfl
theorem q1402 : (Jvm.Cond.code ({ cls := "SilkClerksModel", name := "<init>", desc := "()V" } : Jvm.MethodName) prog_17_method_1_code (1 : Nat) (Option.none : Option Jvm.ClassFile.FieldType)) ∈ lw_all := lw_g (lw_at lw_m6 48 rfl) rfl
theorem q1403 : (Jvm.Cond.methodLink "SilkClerksModel" (1 : Nat) ({ cls := "java/lang/Object", name := "<init>", desc := "()V" } : Jvm.MethodName)) ∈ lw_all := lw_g (lw_at lw_m6 49 rfl) rfl
theorem q1404 : (Jvm.Cond.fieldLink "SilkClerksModel" (7 : Nat) "SilkClerksModel" "w" "[I") ∈ lw_all := lw_g (lw_at lw_m6 50 rfl) rfl
theorem q1405 : (Jvm.Cond.fieldLink "SilkClerksModel" (13 : Nat) "SilkClerksModel" "kept" "[I") ∈ lw_all := lw_g (lw_at lw_m6 51 rfl) rfl
theorem q1406 : (Jvm.Cond.fieldLink "SilkClerksModel" (16 : Nat) "SilkClerksModel" "back" "[I") ∈ lw_all := lw_g (lw_at lw_m6 52 rfl) rfl
theorem q1407 : (Jvm.Cond.fieldLink "SilkClerksModel" (19 : Nat) "SilkClerksModel" "lying" "[I") ∈ lw_all := lw_g (lw_at lw_m6 53 rfl) rfl
theorem q1408 : (Jvm.Cond.fieldLink "SilkClerksModel" (63 : Nat) "SilkClerksModel" "backMany" "I") ∈ lw_all := lw_g (lw_at lw_m6 54 rfl) rfl
theorem q1409 : (Jvm.Cond.fieldLink "SilkClerksModel" (462 : Nat) "SilkClerksModel" "hasImage" "Z") ∈ lw_all := lw_g (lw_at lw_m6 55 rfl) rfl
theorem q1410 : (Jvm.Cond.fieldLink "SilkClerksModel" (22 : Nat) "SilkClerksModel" "freshLine" "[I") ∈ lw_all := lw_g (lw_at lw_m6 56 rfl) rfl
theorem q1411 : (Jvm.Cond.fieldLink "SilkClerksModel" (25 : Nat) "SilkClerksModel" "freshStep" "[I") ∈ lw_all := lw_g (lw_at lw_m6 57 rfl) rfl
theorem q1412 : (Jvm.Cond.fieldLink "SilkClerksModel" (28 : Nat) "SilkClerksModel" "freshRow" "[I") ∈ lw_all := lw_g (lw_at lw_m6 58 rfl) rfl
theorem q1413 : (Jvm.Cond.fieldLink "SilkClerksModel" (31 : Nat) "SilkClerksModel" "tape" "[I") ∈ lw_all := lw_g (lw_at lw_m6 59 rfl) rfl
theorem q1414 : (Jvm.Cond.fieldLink "SilkClerksModel" (34 : Nat) "SilkClerksModel" "pile" "[I") ∈ lw_all := lw_g (lw_at lw_m6 60 rfl) rfl
theorem q1415 : (Jvm.Cond.fieldLink "SilkClerksModel" (37 : Nat) "SilkClerksModel" "facts" "[I") ∈ lw_all := lw_g (lw_at lw_m6 61 rfl) rfl
theorem q1416 : (Jvm.Cond.fieldLink "SilkClerksModel" (135 : Nat) "SilkClerksModel" "reading" "I") ∈ lw_all := lw_g (lw_at lw_m6 62 rfl) rfl
theorem q1417 : (Jvm.Cond.fieldLink "SilkClerksModel" (223 : Nat) "SilkClerksModel" "lines" "I") ∈ lw_all := lw_g (lw_at lw_m6 63 rfl) rfl
theorem q1418 : (Jvm.Cond.fieldLink "SilkClerksModel" (188 : Nat) "SilkClerksModel" "steps" "I") ∈ lw_all := lw_g (lw_at lw_m6 64 rfl) rfl
theorem q1419 : (Jvm.Cond.fieldLink "SilkClerksModel" (232 : Nat) "SilkClerksModel" "rows" "I") ∈ lw_all := lw_g (lw_at lw_m6 65 rfl) rfl
theorem q1420 : (Jvm.Cond.fieldLink "SilkClerksModel" (75 : Nat) "SilkClerksModel" "taped" "I") ∈ lw_all := lw_g (lw_at lw_m6 66 rfl) rfl
theorem q1421 : (Jvm.Cond.fieldLink "SilkClerksModel" (78 : Nat) "SilkClerksModel" "at" "I") ∈ lw_all := lw_g (lw_at lw_m6 67 rfl) rfl
theorem q1422 : (Jvm.Cond.fieldLink "SilkClerksModel" (161 : Nat) "SilkClerksModel" "token" "I") ∈ lw_all := lw_g (lw_at lw_m6 68 rfl) rfl
theorem q1423 : (Jvm.Cond.fieldLink "SilkClerksModel" (81 : Nat) "SilkClerksModel" "tokenAt" "I") ∈ lw_all := lw_g (lw_at lw_m6 69 rfl) rfl
theorem q1424 : (Jvm.Cond.fieldLink "SilkClerksModel" (173 : Nat) "SilkClerksModel" "value" "I") ∈ lw_all := lw_g (lw_at lw_m6 70 rfl) rfl
theorem q1425 : (Jvm.Cond.fieldLink "SilkClerksModel" (176 : Nat) "SilkClerksModel" "wrong" "I") ∈ lw_all := lw_g (lw_at lw_m6 71 rfl) rfl
theorem q1426 : (Jvm.Cond.fieldLink "SilkClerksModel" (179 : Nat) "SilkClerksModel" "wrongAt" "I") ∈ lw_all := lw_g (lw_at lw_m6 72 rfl) rfl
theorem q1427 : (Jvm.Cond.fieldLink "SilkClerksModel" (271 : Nat) "SilkClerksModel" "faultKind" "I") ∈ lw_all := lw_g (lw_at lw_m6 73 rfl) rfl
theorem q1428 : (Jvm.Cond.fieldLink "SilkClerksModel" (191 : Nat) "SilkClerksModel" "depth" "I") ∈ lw_all := lw_g (lw_at lw_m6 74 rfl) rfl
theorem q1429 : (Jvm.Cond.fieldLink "SilkClerksModel" (40 : Nat) "SilkClerksModel" "faultPlace" "I") ∈ lw_all := lw_g (lw_at lw_m6 75 rfl) rfl
theorem q1430 : (Jvm.Cond.fieldLink "SilkClerksModel" (246 : Nat) "SilkClerksModel" "numbered" "I") ∈ lw_all := lw_g (lw_at lw_m6 76 rfl) rfl
theorem q1431 : (Jvm.Cond.fieldLink "SilkClerksModel" (305 : Nat) "SilkClerksModel" "isTrue" "Z") ∈ lw_all := lw_g (lw_at lw_m6 77 rfl) rfl
theorem q1432 : (Jvm.Cond.fieldLink "SilkClerksModel" (44 : Nat) "SilkClerksModel" "alike" "[I") ∈ lw_all := lw_g (lw_at lw_m6 78 rfl) rfl
theorem q1433 : (Jvm.Cond.fieldLink "SilkClerksModel" (47 : Nat) "SilkClerksModel" "lasts" "[I") ∈ lw_all := lw_g (lw_at lw_m6 79 rfl) rfl
theorem q1434 : (Jvm.Cond.fieldLink "SilkClerksModel" (50 : Nat) "SilkClerksModel" "turned" "[I") ∈ lw_all := lw_g (lw_at lw_m6 80 rfl) rfl
theorem q1435 : (Jvm.Cond.fieldLink "SilkClerksModel" (53 : Nat) "SilkClerksModel" "traysFor" "[I") ∈ lw_all := lw_g (lw_at lw_m6 81 rfl) rfl
theorem q1436 : (Jvm.Cond.fieldLink "SilkClerksModel" (56 : Nat) "SilkClerksModel" "waysBy" "[I") ∈ lw_all := lw_g (lw_at lw_m6 82 rfl) rfl
theorem q1437 : (Jvm.Cond.laysFinal "SilkClerksModel" "SilkClerksModel" "w" "[I") ∈ lw_all := lw_g (lw_at lw_m6 83 rfl) rfl
theorem q1438 : (Jvm.Cond.soleField "SilkClerksModel" "w") ∈ lw_all := lw_g (lw_at lw_m6 84 rfl) rfl
theorem q1439 : (Jvm.Cond.laysFinal "SilkClerksModel" "SilkClerksModel" "kept" "[I") ∈ lw_all := lw_g (lw_at lw_m6 85 rfl) rfl
theorem q1440 : (Jvm.Cond.soleField "SilkClerksModel" "kept") ∈ lw_all := lw_g (lw_at lw_m6 86 rfl) rfl
theorem q1441 : (Jvm.Cond.laysFinal "SilkClerksModel" "SilkClerksModel" "back" "[I") ∈ lw_all := lw_g (lw_at lw_m6 87 rfl) rfl
theorem q1442 : (Jvm.Cond.soleField "SilkClerksModel" "back") ∈ lw_all := lw_g (lw_at lw_m6 88 rfl) rfl
theorem q1443 : (Jvm.Cond.laysFinal "SilkClerksModel" "SilkClerksModel" "lying" "[I") ∈ lw_all := lw_g (lw_at lw_m6 89 rfl) rfl
theorem q1444 : (Jvm.Cond.soleField "SilkClerksModel" "lying") ∈ lw_all := lw_g (lw_at lw_m6 90 rfl) rfl
theorem q1445 : (Jvm.Cond.lays "SilkClerksModel" "SilkClerksModel" "backMany" "I") ∈ lw_all := lw_g (lw_at lw_m6 91 rfl) rfl
theorem q1446 : (Jvm.Cond.soleField "SilkClerksModel" "backMany") ∈ lw_all := lw_g (lw_at lw_m6 92 rfl) rfl
theorem q1447 : (Jvm.Cond.lays "SilkClerksModel" "SilkClerksModel" "hasImage" "Z") ∈ lw_all := lw_g (lw_at lw_m6 93 rfl) rfl
theorem q1448 : (Jvm.Cond.soleField "SilkClerksModel" "hasImage") ∈ lw_all := lw_g (lw_at lw_m6 94 rfl) rfl
theorem q1449 : (Jvm.Cond.laysFinal "SilkClerksModel" "SilkClerksModel" "freshLine" "[I") ∈ lw_all := lw_g (lw_at lw_m6 95 rfl) rfl
theorem q1450 : (Jvm.Cond.soleField "SilkClerksModel" "freshLine") ∈ lw_all := lw_g (lw_at lw_m6 96 rfl) rfl
theorem q1451 : (Jvm.Cond.laysFinal "SilkClerksModel" "SilkClerksModel" "freshStep" "[I") ∈ lw_all := lw_g (lw_at lw_m6 97 rfl) rfl
theorem q1452 : (Jvm.Cond.soleField "SilkClerksModel" "freshStep") ∈ lw_all := lw_g (lw_at lw_m6 98 rfl) rfl
theorem q1453 : (Jvm.Cond.laysFinal "SilkClerksModel" "SilkClerksModel" "freshRow" "[I") ∈ lw_all := lw_g (lw_at lw_m6 99 rfl) rfl
theorem q1454 : (Jvm.Cond.soleField "SilkClerksModel" "freshRow") ∈ lw_all := lw_g (lw_at lw_m6 100 rfl) rfl
theorem q1455 : (Jvm.Cond.laysFinal "SilkClerksModel" "SilkClerksModel" "tape" "[I") ∈ lw_all := lw_g (lw_at lw_m6 101 rfl) rfl
theorem q1456 : (Jvm.Cond.soleField "SilkClerksModel" "tape") ∈ lw_all := lw_g (lw_at lw_m6 102 rfl) rfl
theorem q1457 : (Jvm.Cond.laysFinal "SilkClerksModel" "SilkClerksModel" "pile" "[I") ∈ lw_all := lw_g (lw_at lw_m6 103 rfl) rfl
theorem q1458 : (Jvm.Cond.soleField "SilkClerksModel" "pile") ∈ lw_all := lw_g (lw_at lw_m6 104 rfl) rfl
theorem q1459 : (Jvm.Cond.laysFinal "SilkClerksModel" "SilkClerksModel" "facts" "[I") ∈ lw_all := lw_g (lw_at lw_m6 105 rfl) rfl
theorem q1460 : (Jvm.Cond.soleField "SilkClerksModel" "facts") ∈ lw_all := lw_g (lw_at lw_m6 106 rfl) rfl
theorem q1461 : (Jvm.Cond.lays "SilkClerksModel" "SilkClerksModel" "reading" "I") ∈ lw_all := lw_g (lw_at lw_m6 107 rfl) rfl
theorem q1462 : (Jvm.Cond.soleField "SilkClerksModel" "reading") ∈ lw_all := lw_g (lw_at lw_m6 108 rfl) rfl
theorem q1463 : (Jvm.Cond.lays "SilkClerksModel" "SilkClerksModel" "lines" "I") ∈ lw_all := lw_g (lw_at lw_m6 109 rfl) rfl
theorem q1464 : (Jvm.Cond.soleField "SilkClerksModel" "lines") ∈ lw_all := lw_g (lw_at lw_m6 110 rfl) rfl
theorem q1465 : (Jvm.Cond.lays "SilkClerksModel" "SilkClerksModel" "steps" "I") ∈ lw_all := lw_g (lw_at lw_m6 111 rfl) rfl
theorem q1466 : (Jvm.Cond.soleField "SilkClerksModel" "steps") ∈ lw_all := lw_g (lw_at lw_m6 112 rfl) rfl
theorem q1467 : (Jvm.Cond.lays "SilkClerksModel" "SilkClerksModel" "rows" "I") ∈ lw_all := lw_g (lw_at lw_m6 113 rfl) rfl
theorem q1468 : (Jvm.Cond.soleField "SilkClerksModel" "rows") ∈ lw_all := lw_g (lw_at lw_m6 114 rfl) rfl
theorem q1469 : (Jvm.Cond.lays "SilkClerksModel" "SilkClerksModel" "taped" "I") ∈ lw_all := lw_g (lw_at lw_m6 115 rfl) rfl
theorem q1470 : (Jvm.Cond.soleField "SilkClerksModel" "taped") ∈ lw_all := lw_g (lw_at lw_m6 116 rfl) rfl
theorem q1471 : (Jvm.Cond.lays "SilkClerksModel" "SilkClerksModel" "at" "I") ∈ lw_all := lw_g (lw_at lw_m6 117 rfl) rfl
theorem q1472 : (Jvm.Cond.soleField "SilkClerksModel" "at") ∈ lw_all := lw_g (lw_at lw_m6 118 rfl) rfl
theorem q1473 : (Jvm.Cond.lays "SilkClerksModel" "SilkClerksModel" "token" "I") ∈ lw_all := lw_g (lw_at lw_m6 119 rfl) rfl
theorem q1474 : (Jvm.Cond.soleField "SilkClerksModel" "token") ∈ lw_all := lw_g (lw_at lw_m6 120 rfl) rfl
theorem q1475 : (Jvm.Cond.lays "SilkClerksModel" "SilkClerksModel" "tokenAt" "I") ∈ lw_all := lw_g (lw_at lw_m6 121 rfl) rfl
theorem q1476 : (Jvm.Cond.soleField "SilkClerksModel" "tokenAt") ∈ lw_all := lw_g (lw_at lw_m6 122 rfl) rfl
theorem q1477 : (Jvm.Cond.lays "SilkClerksModel" "SilkClerksModel" "value" "I") ∈ lw_all := lw_g (lw_at lw_m6 123 rfl) rfl
theorem q1478 : (Jvm.Cond.soleField "SilkClerksModel" "value") ∈ lw_all := lw_g (lw_at lw_m6 124 rfl) rfl
theorem q1479 : (Jvm.Cond.lays "SilkClerksModel" "SilkClerksModel" "wrong" "I") ∈ lw_all := lw_g (lw_at lw_m6 125 rfl) rfl
theorem q1480 : (Jvm.Cond.soleField "SilkClerksModel" "wrong") ∈ lw_all := lw_g (lw_at lw_m6 126 rfl) rfl
theorem q1481 : (Jvm.Cond.lays "SilkClerksModel" "SilkClerksModel" "wrongAt" "I") ∈ lw_all := lw_g (lw_at lw_m6 127 rfl) rfl
theorem q1482 : (Jvm.Cond.soleField "SilkClerksModel" "wrongAt") ∈ lw_all := lw_g (lw_at lw_m6 128 rfl) rfl
theorem q1483 : (Jvm.Cond.lays "SilkClerksModel" "SilkClerksModel" "faultKind" "I") ∈ lw_all := lw_g (lw_at lw_m6 129 rfl) rfl
theorem q1484 : (Jvm.Cond.soleField "SilkClerksModel" "faultKind") ∈ lw_all := lw_g (lw_at lw_m6 130 rfl) rfl
theorem q1485 : (Jvm.Cond.lays "SilkClerksModel" "SilkClerksModel" "depth" "I") ∈ lw_all := lw_g (lw_at lw_m6 131 rfl) rfl
theorem q1486 : (Jvm.Cond.soleField "SilkClerksModel" "depth") ∈ lw_all := lw_g (lw_at lw_m6 132 rfl) rfl
theorem q1487 : (Jvm.Cond.lays "SilkClerksModel" "SilkClerksModel" "faultPlace" "I") ∈ lw_all := lw_g (lw_at lw_m6 133 rfl) rfl
theorem q1488 : (Jvm.Cond.soleField "SilkClerksModel" "faultPlace") ∈ lw_all := lw_g (lw_at lw_m6 134 rfl) rfl
theorem q1489 : (Jvm.Cond.lays "SilkClerksModel" "SilkClerksModel" "numbered" "I") ∈ lw_all := lw_g (lw_at lw_m6 135 rfl) rfl
theorem q1490 : (Jvm.Cond.soleField "SilkClerksModel" "numbered") ∈ lw_all := lw_g (lw_at lw_m6 136 rfl) rfl
theorem q1491 : (Jvm.Cond.lays "SilkClerksModel" "SilkClerksModel" "isTrue" "Z") ∈ lw_all := lw_g (lw_at lw_m6 137 rfl) rfl
theorem q1492 : (Jvm.Cond.soleField "SilkClerksModel" "isTrue") ∈ lw_all := lw_g (lw_at lw_m6 138 rfl) rfl
theorem q1493 : (Jvm.Cond.laysFinal "SilkClerksModel" "SilkClerksModel" "alike" "[I") ∈ lw_all := lw_g (lw_at lw_m6 139 rfl) rfl
theorem q1494 : (Jvm.Cond.soleField "SilkClerksModel" "alike") ∈ lw_all := lw_g (lw_at lw_m6 140 rfl) rfl
theorem q1495 : (Jvm.Cond.laysFinal "SilkClerksModel" "SilkClerksModel" "lasts" "[I") ∈ lw_all := lw_g (lw_at lw_m6 141 rfl) rfl
theorem q1496 : (Jvm.Cond.soleField "SilkClerksModel" "lasts") ∈ lw_all := lw_g (lw_at lw_m6 142 rfl) rfl
theorem q1497 : (Jvm.Cond.laysFinal "SilkClerksModel" "SilkClerksModel" "turned" "[I") ∈ lw_all := lw_g (lw_at lw_m6 143 rfl) rfl
theorem q1498 : (Jvm.Cond.soleField "SilkClerksModel" "turned") ∈ lw_all := lw_g (lw_at lw_m6 144 rfl) rfl
theorem q1499 : (Jvm.Cond.laysFinal "SilkClerksModel" "SilkClerksModel" "traysFor" "[I") ∈ lw_all := lw_g (lw_at lw_m6 145 rfl) rfl
theorem q1500 : (Jvm.Cond.soleField "SilkClerksModel" "traysFor") ∈ lw_all := lw_g (lw_at lw_m6 146 rfl) rfl
theorem q1501 : (Jvm.Cond.laysFinal "SilkClerksModel" "SilkClerksModel" "waysBy" "[I") ∈ lw_all := lw_g (lw_at lw_m6 147 rfl) rfl
theorem q1502 : (Jvm.Cond.soleField "SilkClerksModel" "waysBy") ∈ lw_all := lw_g (lw_at lw_m6 148 rfl) rfl
theorem q1503 : (Jvm.Cond.superclass "SilkClerksModel" "java/lang/Object") ∈ lw_all := lw_g (lw_at lw_m6 149 rfl) rfl
theorem q1505 : (Jvm.Cond.instanceMethod ({ cls := "SilkClerksModel", name := "state", desc := "(I)I" } : Jvm.MethodName)) ∈ lw_all := lw_g (lw_at lw_m6 151 rfl) rfl
theorem q1506 : (Jvm.Cond.selects "SilkClerksModel" ({ cls := "SilkClerksModel", name := "state", desc := "(I)I" } : Jvm.MethodName) ({ cls := "SilkClerksModel", name := "state", desc := "(I)I" } : Jvm.MethodName)) ∈ lw_all := lw_g (lw_at lw_m6 152 rfl) rfl
theorem q1507 : (Jvm.Cond.code ({ cls := "SilkClerksModel", name := "state", desc := "(I)I" } : Jvm.MethodName) prog_17_method_13_code (3 : Nat) (Option.some Jvm.ClassFile.FieldType.int)) ∈ lw_all := lw_g (lw_at lw_m6 153 rfl) rfl
theorem q1508 : (Jvm.Cond.methodLink "SilkClerksModel" (66 : Nat) ({ cls := "SilkClerksModel", name := "forgets", desc := "()V" } : Jvm.MethodName)) ∈ lw_all := lw_g (lw_at lw_m6 154 rfl) rfl
theorem q1509 : (Jvm.Cond.privateMethod ({ cls := "SilkClerksModel", name := "forgets", desc := "()V" } : Jvm.MethodName)) ∈ lw_tbl := lw_at lw_m6 155 rfl
theorem q1510 : (Jvm.Cond.instanceMethod ({ cls := "SilkClerksModel", name := "forgets", desc := "()V" } : Jvm.MethodName)) ∈ lw_all := lw_g (lw_at lw_m6 156 rfl) rfl
theorem q1511 : (Jvm.Cond.code ({ cls := "SilkClerksModel", name := "forgets", desc := "()V" } : Jvm.MethodName) prog_17_method_12_code (1 : Nat) (Option.none : Option Jvm.ClassFile.FieldType)) ∈ lw_all := lw_g (lw_at lw_m6 157 rfl) rfl
theorem q1513 : (Jvm.Cond.instanceMethod ({ cls := "SilkClerksModel", name := "worm", desc := "(II)I" } : Jvm.MethodName)) ∈ lw_all := lw_g (lw_at lw_m6 159 rfl) rfl
theorem q1514 : (Jvm.Cond.selects "SilkClerksModel" ({ cls := "SilkClerksModel", name := "worm", desc := "(II)I" } : Jvm.MethodName) ({ cls := "SilkClerksModel", name := "worm", desc := "(II)I" } : Jvm.MethodName)) ∈ lw_all := lw_g (lw_at lw_m6 160 rfl) rfl
theorem q1515 : (Jvm.Cond.code ({ cls := "SilkClerksModel", name := "worm", desc := "(II)I" } : Jvm.MethodName) prog_17_method_15_code (4 : Nat) (Option.some Jvm.ClassFile.FieldType.int)) ∈ lw_all := lw_g (lw_at lw_m6 161 rfl) rfl
theorem q1516 : (Jvm.Cond.methodLink "SilkClerksModel" (59 : Nat) ({ cls := "SilkClerksModel", name := "isIn", desc := "(III)Z" } : Jvm.MethodName)) ∈ lw_all := lw_g (lw_at lw_m6 162 rfl) rfl
theorem q1517 : (Jvm.Cond.static ({ cls := "SilkClerksModel", name := "isIn", desc := "(III)Z" } : Jvm.MethodName)) ∈ lw_all := lw_g (lw_at lw_m6 163 rfl) rfl
theorem q1518 : (Jvm.Cond.code ({ cls := "SilkClerksModel", name := "isIn", desc := "(III)Z" } : Jvm.MethodName) prog_17_method_2_code (3 : Nat) (Option.some Jvm.ClassFile.FieldType.boolean)) ∈ lw_all := lw_g (lw_at lw_m6 164 rfl) rfl
theorem q1520 : (Jvm.Cond.instanceMethod ({ cls := "SilkClerksModel", name := "set", desc := "(III)Z" } : Jvm.MethodName)) ∈ lw_all := lw_g (lw_at lw_m6 166 rfl) rfl
theorem q1521 : (Jvm.Cond.selects "SilkClerksModel" ({ cls := "SilkClerksModel", name := "set", desc := "(III)Z" } : Jvm.MethodName) ({ cls := "SilkClerksModel", name := "set", desc := "(III)Z" } : Jvm.MethodName)) ∈ lw_all := lw_g (lw_at lw_m6 167 rfl) rfl
theorem q1522 : (Jvm.Cond.code ({ cls := "SilkClerksModel", name := "set", desc := "(III)Z" } : Jvm.MethodName) prog_17_method_16_code (5 : Nat) (Option.some Jvm.ClassFile.FieldType.boolean)) ∈ lw_all := lw_g (lw_at lw_m6 168 rfl) rfl
theorem q1523 : (Jvm.Cond.methodLink "SilkClerksModel" (71 : Nat) ({ cls := "SilkClerksModel", name := "isWorm", desc := "(I)Z" } : Jvm.MethodName)) ∈ lw_all := lw_g (lw_at lw_m6 169 rfl) rfl
theorem q1524 : (Jvm.Cond.privateMethod ({ cls := "SilkClerksModel", name := "isWorm", desc := "(I)Z" } : Jvm.MethodName)) ∈ lw_tbl := lw_at lw_m6 170 rfl
theorem q1525 : (Jvm.Cond.instanceMethod ({ cls := "SilkClerksModel", name := "isWorm", desc := "(I)Z" } : Jvm.MethodName)) ∈ lw_all := lw_g (lw_at lw_m6 171 rfl) rfl
theorem q1526 : (Jvm.Cond.code ({ cls := "SilkClerksModel", name := "isWorm", desc := "(I)Z" } : Jvm.MethodName) prog_17_method_5_code (2 : Nat) (Option.some Jvm.ClassFile.FieldType.boolean)) ∈ lw_all := lw_g (lw_at lw_m6 172 rfl) rfl
theorem q1528 : (Jvm.Cond.instanceMethod ({ cls := "SilkClerksModel", name := "feed", desc := "(IIIII)I" } : Jvm.MethodName)) ∈ lw_all := lw_g (lw_at lw_m6 174 rfl) rfl
theorem q1529 : (Jvm.Cond.selects "SilkClerksModel" ({ cls := "SilkClerksModel", name := "feed", desc := "(IIIII)I" } : Jvm.MethodName) ({ cls := "SilkClerksModel", name := "feed", desc := "(IIIII)I" } : Jvm.MethodName)) ∈ lw_all := lw_g (lw_at lw_m6 175 rfl) rfl
theorem q1530 : (Jvm.Cond.code ({ cls := "SilkClerksModel", name := "feed", desc := "(IIIII)I" } : Jvm.MethodName) prog_17_method_17_code (8 : Nat) (Option.some Jvm.ClassFile.FieldType.int)) ∈ lw_all := lw_g (lw_at lw_m6 176 rfl) rfl
theorem q1532 : (Jvm.Cond.instanceMethod ({ cls := "SilkClerksModel", name := "end", desc := "(I)Z" } : Jvm.MethodName)) ∈ lw_all := lw_g (lw_at lw_m6 178 rfl) rfl
theorem q1533 : (Jvm.Cond.selects "SilkClerksModel" ({ cls := "SilkClerksModel", name := "end", desc := "(I)Z" } : Jvm.MethodName) ({ cls := "SilkClerksModel", name := "end", desc := "(I)Z" } : Jvm.MethodName)) ∈ lw_all := lw_g (lw_at lw_m6 179 rfl) rfl
theorem q1534 : (Jvm.Cond.code ({ cls := "SilkClerksModel", name := "end", desc := "(I)Z" } : Jvm.MethodName) prog_17_method_18_code (2 : Nat) (Option.some Jvm.ClassFile.FieldType.boolean)) ∈ lw_all := lw_g (lw_at lw_m6 180 rfl) rfl
theorem q1536 : (Jvm.Cond.instanceMethod ({ cls := "SilkClerksModel", name := "text", desc := "(I)I" } : Jvm.MethodName)) ∈ lw_all := lw_g (lw_at lw_m6 182 rfl) rfl
theorem q1537 : (Jvm.Cond.selects "SilkClerksModel" ({ cls := "SilkClerksModel", name := "text", desc := "(I)I" } : Jvm.MethodName) ({ cls := "SilkClerksModel", name := "text", desc := "(I)I" } : Jvm.MethodName)) ∈ lw_all := lw_g (lw_at lw_m6 183 rfl) rfl
theorem q1538 : (Jvm.Cond.code ({ cls := "SilkClerksModel", name := "text", desc := "(I)I" } : Jvm.MethodName) prog_17_method_50_code (3 : Nat) (Option.some Jvm.ClassFile.FieldType.int)) ∈ lw_all := lw_g (lw_at lw_m6 184 rfl) rfl
theorem q1539 : (Jvm.Cond.methodLink "SilkClerksModel" (185 : Nat) ({ cls := "SilkClerksModel", name := "next0", desc := "()V" } : Jvm.MethodName)) ∈ lw_all := lw_g (lw_at lw_m6 185 rfl) rfl
theorem q1540 : (Jvm.Cond.privateMethod ({ cls := "SilkClerksModel", name := "next0", desc := "()V" } : Jvm.MethodName)) ∈ lw_tbl := lw_at lw_m6 186 rfl
theorem q1541 : (Jvm.Cond.instanceMethod ({ cls := "SilkClerksModel", name := "next0", desc := "()V" } : Jvm.MethodName)) ∈ lw_all := lw_g (lw_at lw_m6 187 rfl) rfl
theorem q1542 : (Jvm.Cond.code ({ cls := "SilkClerksModel", name := "next0", desc := "()V" } : Jvm.MethodName) prog_17_method_26_code (3 : Nat) (Option.none : Option Jvm.ClassFile.FieldType)) ∈ lw_all := lw_g (lw_at lw_m6 188 rfl) rfl
theorem q1543 : (Jvm.Cond.methodLink "SilkClerksModel" (157 : Nat) ({ cls := "SilkClerksModel", name := "see", desc := "(I)I" } : Jvm.MethodName)) ∈ lw_all := lw_g (lw_at lw_m6 189 rfl) rfl
theorem q1544 : (Jvm.Cond.privateMethod ({ cls := "SilkClerksModel", name := "see", desc := "(I)I" } : Jvm.MethodName)) ∈ lw_tbl := lw_at lw_m6 190 rfl
theorem q1545 : (Jvm.Cond.instanceMethod ({ cls := "SilkClerksModel", name := "see", desc := "(I)I" } : Jvm.MethodName)) ∈ lw_all := lw_g (lw_at lw_m6 191 rfl) rfl
theorem q1546 : (Jvm.Cond.code ({ cls := "SilkClerksModel", name := "see", desc := "(I)I" } : Jvm.MethodName) prog_17_method_19_code (2 : Nat) (Option.some Jvm.ClassFile.FieldType.int)) ∈ lw_all := lw_g (lw_at lw_m6 192 rfl) rfl
theorem q1547 : (Jvm.Cond.methodLink "SilkClerksModel" (164 : Nat) ({ cls := "SilkClerksModel", name := "isLetter", desc := "(I)Z" } : Jvm.MethodName)) ∈ lw_all := lw_g (lw_at lw_m6 193 rfl) rfl
theorem q1548 : (Jvm.Cond.static ({ cls := "SilkClerksModel", name := "isLetter", desc := "(I)Z" } : Jvm.MethodName)) ∈ lw_all := lw_g (lw_at lw_m6 194 rfl) rfl
theorem q1549 : (Jvm.Cond.code ({ cls := "SilkClerksModel", name := "isLetter", desc := "(I)Z" } : Jvm.MethodName) prog_17_method_20_code (1 : Nat) (Option.some Jvm.ClassFile.FieldType.boolean)) ∈ lw_all := lw_g (lw_at lw_m6 195 rfl) rfl
theorem q1550 : (Jvm.Cond.methodLink "SilkClerksModel" (167 : Nat) ({ cls := "SilkClerksModel", name := "word", desc := "()I" } : Jvm.MethodName)) ∈ lw_all := lw_g (lw_at lw_m6 196 rfl) rfl
theorem q1551 : (Jvm.Cond.privateMethod ({ cls := "SilkClerksModel", name := "word", desc := "()I" } : Jvm.MethodName)) ∈ lw_tbl := lw_at lw_m6 197 rfl
theorem q1552 : (Jvm.Cond.instanceMethod ({ cls := "SilkClerksModel", name := "word", desc := "()I" } : Jvm.MethodName)) ∈ lw_all := lw_g (lw_at lw_m6 198 rfl) rfl
theorem q1553 : (Jvm.Cond.code ({ cls := "SilkClerksModel", name := "word", desc := "()I" } : Jvm.MethodName) prog_17_method_25_code (1 : Nat) (Option.some Jvm.ClassFile.FieldType.int)) ∈ lw_all := lw_g (lw_at lw_m6 199 rfl) rfl
theorem q1554 : (Jvm.Cond.stringRef "SilkClerksModel" (138 : Nat) "fact") ∈ lw_tbl := lw_at lw_m6 200 rfl
theorem q1555 : (Jvm.Cond.methodLink "SilkClerksModel" (96 : Nat) ({ cls := "SilkClerksModel", name := "is", desc := "(Ljava/lang/String;)Z" } : Jvm.MethodName)) ∈ lw_all := lw_g (lw_at lw_m6 201 rfl) rfl
theorem q1556 : (Jvm.Cond.privateMethod ({ cls := "SilkClerksModel", name := "is", desc := "(Ljava/lang/String;)Z" } : Jvm.MethodName)) ∈ lw_tbl := lw_at lw_m6 202 rfl
theorem q1557 : (Jvm.Cond.instanceMethod ({ cls := "SilkClerksModel", name := "is", desc := "(Ljava/lang/String;)Z" } : Jvm.MethodName)) ∈ lw_all := lw_g (lw_at lw_m6 203 rfl) rfl
theorem q1558 : (Jvm.Cond.code ({ cls := "SilkClerksModel", name := "is", desc := "(Ljava/lang/String;)Z" } : Jvm.MethodName) prog_17_method_22_code (4 : Nat) (Option.some Jvm.ClassFile.FieldType.boolean)) ∈ lw_all := lw_g (lw_at lw_m6 204 rfl) rfl
theorem q1559 : (Jvm.Cond.methodLink "SilkClerksModel" (84 : Nat) ({ cls := "java/lang/String", name := "length", desc := "()I" } : Jvm.MethodName)) ∈ lw_all := lw_g (lw_at lw_m6 205 rfl) rfl
theorem q1560 : (Jvm.Cond.methodLink "SilkClerksModel" (90 : Nat) ({ cls := "java/lang/String", name := "charAt", desc := "(I)C" } : Jvm.MethodName)) ∈ lw_all := lw_g (lw_at lw_m6 206 rfl) rfl
theorem q1561 : (Jvm.Cond.stringRef "SilkClerksModel" (140 : Nat) "leaf") ∈ lw_tbl := lw_at lw_m6 207 rfl
theorem q1562 : (Jvm.Cond.stringRef "SilkClerksModel" (142 : Nat) "worth") ∈ lw_tbl := lw_at lw_m6 208 rfl
theorem q1563 : (Jvm.Cond.methodLink "SilkClerksModel" (144 : Nat) ({ cls := "SilkClerksModel", name := "lawWord", desc := "()I" } : Jvm.MethodName)) ∈ lw_all := lw_g (lw_at lw_m6 209 rfl) rfl
theorem q1564 : (Jvm.Cond.privateMethod ({ cls := "SilkClerksModel", name := "lawWord", desc := "()I" } : Jvm.MethodName)) ∈ lw_tbl := lw_at lw_m6 210 rfl
theorem q1565 : (Jvm.Cond.instanceMethod ({ cls := "SilkClerksModel", name := "lawWord", desc := "()I" } : Jvm.MethodName)) ∈ lw_all := lw_g (lw_at lw_m6 211 rfl) rfl
theorem q1566 : (Jvm.Cond.code ({ cls := "SilkClerksModel", name := "lawWord", desc := "()I" } : Jvm.MethodName) prog_17_method_24_code (1 : Nat) (Option.some Jvm.ClassFile.FieldType.int)) ∈ lw_all := lw_g (lw_at lw_m6 212 rfl) rfl
theorem q1567 : (Jvm.Cond.stringRef "SilkClerksModel" (118 : Nat) "when") ∈ lw_tbl := lw_at lw_m6 213 rfl
theorem q1568 : (Jvm.Cond.stringRef "SilkClerksModel" (120 : Nat) "or") ∈ lw_tbl := lw_at lw_m6 214 rfl
theorem q1569 : (Jvm.Cond.stringRef "SilkClerksModel" (122 : Nat) "and") ∈ lw_tbl := lw_at lw_m6 215 rfl
theorem q1570 : (Jvm.Cond.stringRef "SilkClerksModel" (124 : Nat) "not") ∈ lw_tbl := lw_at lw_m6 216 rfl
theorem q1571 : (Jvm.Cond.stringRef "SilkClerksModel" (126 : Nat) "eats") ∈ lw_tbl := lw_at lw_m6 217 rfl
theorem q1572 : (Jvm.Cond.stringRef "SilkClerksModel" (128 : Nat) "slips") ∈ lw_tbl := lw_at lw_m6 218 rfl
theorem q1573 : (Jvm.Cond.stringRef "SilkClerksModel" (130 : Nat) "strong") ∈ lw_tbl := lw_at lw_m6 219 rfl
theorem q1574 : (Jvm.Cond.methodLink "SilkClerksModel" (132 : Nat) ({ cls := "SilkClerksModel", name := "asked", desc := "()I" } : Jvm.MethodName)) ∈ lw_all := lw_g (lw_at lw_m6 220 rfl) rfl
theorem q1575 : (Jvm.Cond.privateMethod ({ cls := "SilkClerksModel", name := "asked", desc := "()I" } : Jvm.MethodName)) ∈ lw_tbl := lw_at lw_m6 221 rfl
theorem q1576 : (Jvm.Cond.instanceMethod ({ cls := "SilkClerksModel", name := "asked", desc := "()I" } : Jvm.MethodName)) ∈ lw_all := lw_g (lw_at lw_m6 222 rfl) rfl
theorem q1577 : (Jvm.Cond.code ({ cls := "SilkClerksModel", name := "asked", desc := "()I" } : Jvm.MethodName) prog_17_method_23_code (1 : Nat) (Option.some Jvm.ClassFile.FieldType.int)) ∈ lw_all := lw_g (lw_at lw_m6 223 rfl) rfl
theorem q1578 : (Jvm.Cond.stringRef "SilkClerksModel" (94 : Nat) "worm") ∈ lw_tbl := lw_at lw_m6 224 rfl
theorem q1579 : (Jvm.Cond.stringRef "SilkClerksModel" (100 : Nat) "tray") ∈ lw_tbl := lw_at lw_m6 225 rfl
theorem q1580 : (Jvm.Cond.stringRef "SilkClerksModel" (102 : Nat) "lazy") ∈ lw_tbl := lw_at lw_m6 226 rfl
theorem q1581 : (Jvm.Cond.stringRef "SilkClerksModel" (104 : Nat) "eaten") ∈ lw_tbl := lw_at lw_m6 227 rfl
theorem q1582 : (Jvm.Cond.stringRef "SilkClerksModel" (106 : Nat) "long") ∈ lw_tbl := lw_at lw_m6 228 rfl
theorem q1583 : (Jvm.Cond.stringRef "SilkClerksModel" (108 : Nat) "noise") ∈ lw_tbl := lw_at lw_m6 229 rfl
theorem q1584 : (Jvm.Cond.stringRef "SilkClerksModel" (110 : Nat) "leaves") ∈ lw_tbl := lw_at lw_m6 230 rfl
theorem q1585 : (Jvm.Cond.stringRef "SilkClerksModel" (112 : Nat) "mark") ∈ lw_tbl := lw_at lw_m6 231 rfl
theorem q1586 : (Jvm.Cond.stringRef "SilkClerksModel" (114 : Nat) "place") ∈ lw_tbl := lw_at lw_m6 232 rfl
theorem q1587 : (Jvm.Cond.stringRef "SilkClerksModel" (116 : Nat) "day") ∈ lw_tbl := lw_at lw_m6 233 rfl
theorem q1588 : (Jvm.Cond.stringRef "SilkClerksModel" (147 : Nat) "on") ∈ lw_tbl := lw_at lw_m6 234 rfl
theorem q1589 : (Jvm.Cond.stringRef "SilkClerksModel" (149 : Nat) "feed") ∈ lw_tbl := lw_at lw_m6 235 rfl
theorem q1590 : (Jvm.Cond.stringRef "SilkClerksModel" (151 : Nat) "with") ∈ lw_tbl := lw_at lw_m6 236 rfl
theorem q1591 : (Jvm.Cond.stringRef "SilkClerksModel" (153 : Nat) "query") ∈ lw_tbl := lw_at lw_m6 237 rfl
theorem q1592 : (Jvm.Cond.stringRef "SilkClerksModel" (155 : Nat) "by") ∈ lw_tbl := lw_at lw_m6 238 rfl
theorem q1593 : (Jvm.Cond.methodLink "SilkClerksModel" (170 : Nat) ({ cls := "SilkClerksModel", name := "isDigit", desc := "(I)Z" } : Jvm.MethodName)) ∈ lw_all := lw_g (lw_at lw_m6 239 rfl) rfl
theorem q1594 : (Jvm.Cond.static ({ cls := "SilkClerksModel", name := "isDigit", desc := "(I)Z" } : Jvm.MethodName)) ∈ lw_all := lw_g (lw_at lw_m7 0 rfl) rfl
theorem q1595 : (Jvm.Cond.code ({ cls := "SilkClerksModel", name := "isDigit", desc := "(I)Z" } : Jvm.MethodName) prog_17_method_21_code (1 : Nat) (Option.some Jvm.ClassFile.FieldType.boolean)) ∈ lw_all := lw_g (lw_at lw_m7 1 rfl) rfl
theorem q1596 : (Jvm.Cond.methodLink "SilkClerksModel" (274 : Nat) ({ cls := "SilkClerksModel", name := "readsLaw", desc := "()Z" } : Jvm.MethodName)) ∈ lw_all := lw_g (lw_at lw_m7 2 rfl) rfl
theorem q1597 : (Jvm.Cond.privateMethod ({ cls := "SilkClerksModel", name := "readsLaw", desc := "()Z" } : Jvm.MethodName)) ∈ lw_tbl := lw_at lw_m7 3 rfl
theorem q1598 : (Jvm.Cond.instanceMethod ({ cls := "SilkClerksModel", name := "readsLaw", desc := "()Z" } : Jvm.MethodName)) ∈ lw_all := lw_g (lw_at lw_m7 4 rfl) rfl
theorem q1599 : (Jvm.Cond.code ({ cls := "SilkClerksModel", name := "readsLaw", desc := "()Z" } : Jvm.MethodName) prog_17_method_38_code (2 : Nat) (Option.some Jvm.ClassFile.FieldType.boolean)) ∈ lw_all := lw_g (lw_at lw_m7 5 rfl) rfl
theorem q1600 : (Jvm.Cond.methodLink "SilkClerksModel" (226 : Nat) ({ cls := "SilkClerksModel", name := "aLine", desc := "()Z" } : Jvm.MethodName)) ∈ lw_all := lw_g (lw_at lw_m7 6 rfl) rfl
theorem q1601 : (Jvm.Cond.privateMethod ({ cls := "SilkClerksModel", name := "aLine", desc := "()Z" } : Jvm.MethodName)) ∈ lw_tbl := lw_at lw_m7 7 rfl
theorem q1602 : (Jvm.Cond.instanceMethod ({ cls := "SilkClerksModel", name := "aLine", desc := "()Z" } : Jvm.MethodName)) ∈ lw_all := lw_g (lw_at lw_m7 8 rfl) rfl
theorem q1603 : (Jvm.Cond.code ({ cls := "SilkClerksModel", name := "aLine", desc := "()Z" } : Jvm.MethodName) prog_17_method_37_code (1 : Nat) (Option.some Jvm.ClassFile.FieldType.boolean)) ∈ lw_all := lw_g (lw_at lw_m7 9 rfl) rfl
theorem q1604 : (Jvm.Cond.methodLink "SilkClerksModel" (182 : Nat) ({ cls := "SilkClerksModel", name := "bad", desc := "(I)Z" } : Jvm.MethodName)) ∈ lw_all := lw_g (lw_at lw_m7 10 rfl) rfl
theorem q1605 : (Jvm.Cond.privateMethod ({ cls := "SilkClerksModel", name := "bad", desc := "(I)Z" } : Jvm.MethodName)) ∈ lw_tbl := lw_at lw_m7 11 rfl
theorem q1606 : (Jvm.Cond.instanceMethod ({ cls := "SilkClerksModel", name := "bad", desc := "(I)Z" } : Jvm.MethodName)) ∈ lw_all := lw_g (lw_at lw_m7 12 rfl) rfl
theorem q1607 : (Jvm.Cond.code ({ cls := "SilkClerksModel", name := "bad", desc := "(I)Z" } : Jvm.MethodName) prog_17_method_27_code (2 : Nat) (Option.some Jvm.ClassFile.FieldType.boolean)) ∈ lw_all := lw_g (lw_at lw_m7 13 rfl) rfl
theorem q1608 : (Jvm.Cond.methodLink "SilkClerksModel" (220 : Nat) ({ cls := "SilkClerksModel", name := "sumUp", desc := "()Z" } : Jvm.MethodName)) ∈ lw_all := lw_g (lw_at lw_m7 14 rfl) rfl
theorem q1609 : (Jvm.Cond.privateMethod ({ cls := "SilkClerksModel", name := "sumUp", desc := "()Z" } : Jvm.MethodName)) ∈ lw_tbl := lw_at lw_m7 15 rfl
theorem q1610 : (Jvm.Cond.instanceMethod ({ cls := "SilkClerksModel", name := "sumUp", desc := "()Z" } : Jvm.MethodName)) ∈ lw_all := lw_g (lw_at lw_m7 16 rfl) rfl
theorem q1611 : (Jvm.Cond.code ({ cls := "SilkClerksModel", name := "sumUp", desc := "()Z" } : Jvm.MethodName) prog_17_method_31_code (2 : Nat) (Option.some Jvm.ClassFile.FieldType.boolean)) ∈ lw_all := lw_g (lw_at lw_m7 17 rfl) rfl
theorem q1612 : (Jvm.Cond.methodLink "SilkClerksModel" (194 : Nat) ({ cls := "SilkClerksModel", name := "product", desc := "()Z" } : Jvm.MethodName)) ∈ lw_all := lw_g (lw_at lw_m7 18 rfl) rfl
theorem q1613 : (Jvm.Cond.privateMethod ({ cls := "SilkClerksModel", name := "product", desc := "()Z" } : Jvm.MethodName)) ∈ lw_tbl := lw_at lw_m7 19 rfl
theorem q1614 : (Jvm.Cond.instanceMethod ({ cls := "SilkClerksModel", name := "product", desc := "()Z" } : Jvm.MethodName)) ∈ lw_all := lw_g (lw_at lw_m7 20 rfl) rfl
theorem q1615 : (Jvm.Cond.code ({ cls := "SilkClerksModel", name := "product", desc := "()Z" } : Jvm.MethodName) prog_17_method_32_code (3 : Nat) (Option.some Jvm.ClassFile.FieldType.boolean)) ∈ lw_all := lw_g (lw_at lw_m7 21 rfl) rfl
theorem q1616 : (Jvm.Cond.methodLink "SilkClerksModel" (202 : Nat) ({ cls := "SilkClerksModel", name := "unit", desc := "()Z" } : Jvm.MethodName)) ∈ lw_all := lw_g (lw_at lw_m7 22 rfl) rfl
theorem q1617 : (Jvm.Cond.privateMethod ({ cls := "SilkClerksModel", name := "unit", desc := "()Z" } : Jvm.MethodName)) ∈ lw_tbl := lw_at lw_m7 23 rfl
theorem q1618 : (Jvm.Cond.instanceMethod ({ cls := "SilkClerksModel", name := "unit", desc := "()Z" } : Jvm.MethodName)) ∈ lw_all := lw_g (lw_at lw_m7 24 rfl) rfl
theorem q1619 : (Jvm.Cond.code ({ cls := "SilkClerksModel", name := "unit", desc := "()Z" } : Jvm.MethodName) prog_17_method_33_code (2 : Nat) (Option.some Jvm.ClassFile.FieldType.boolean)) ∈ lw_all := lw_g (lw_at lw_m7 25 rfl) rfl
theorem q1620 : (Jvm.Cond.methodLink "SilkClerksModel" (198 : Nat) ({ cls := "SilkClerksModel", name := "lay", desc := "(II)V" } : Jvm.MethodName)) ∈ lw_all := lw_g (lw_at lw_m7 26 rfl) rfl
theorem q1621 : (Jvm.Cond.privateMethod ({ cls := "SilkClerksModel", name := "lay", desc := "(II)V" } : Jvm.MethodName)) ∈ lw_tbl := lw_at lw_m7 27 rfl
theorem q1622 : (Jvm.Cond.instanceMethod ({ cls := "SilkClerksModel", name := "lay", desc := "(II)V" } : Jvm.MethodName)) ∈ lw_all := lw_g (lw_at lw_m7 28 rfl) rfl
theorem q1623 : (Jvm.Cond.code ({ cls := "SilkClerksModel", name := "lay", desc := "(II)V" } : Jvm.MethodName) prog_17_method_29_code (3 : Nat) (Option.none : Option Jvm.ClassFile.FieldType)) ∈ lw_all := lw_g (lw_at lw_m7 29 rfl) rfl
theorem q1624 : (Jvm.Cond.methodLink "SilkClerksModel" (214 : Nat) ({ cls := "SilkClerksModel", name := "any", desc := "()Z" } : Jvm.MethodName)) ∈ lw_all := lw_g (lw_at lw_m7 30 rfl) rfl
theorem q1625 : (Jvm.Cond.privateMethod ({ cls := "SilkClerksModel", name := "any", desc := "()Z" } : Jvm.MethodName)) ∈ lw_tbl := lw_at lw_m7 31 rfl
theorem q1626 : (Jvm.Cond.instanceMethod ({ cls := "SilkClerksModel", name := "any", desc := "()Z" } : Jvm.MethodName)) ∈ lw_all := lw_g (lw_at lw_m7 32 rfl) rfl
theorem q1627 : (Jvm.Cond.code ({ cls := "SilkClerksModel", name := "any", desc := "()Z" } : Jvm.MethodName) prog_17_method_34_code (1 : Nat) (Option.some Jvm.ClassFile.FieldType.boolean)) ∈ lw_all := lw_g (lw_at lw_m7 33 rfl) rfl
theorem q1628 : (Jvm.Cond.methodLink "SilkClerksModel" (205 : Nat) ({ cls := "SilkClerksModel", name := "every", desc := "()Z" } : Jvm.MethodName)) ∈ lw_all := lw_g (lw_at lw_m7 34 rfl) rfl
theorem q1629 : (Jvm.Cond.privateMethod ({ cls := "SilkClerksModel", name := "every", desc := "()Z" } : Jvm.MethodName)) ∈ lw_tbl := lw_at lw_m7 35 rfl
theorem q1630 : (Jvm.Cond.instanceMethod ({ cls := "SilkClerksModel", name := "every", desc := "()Z" } : Jvm.MethodName)) ∈ lw_all := lw_g (lw_at lw_m7 36 rfl) rfl
theorem q1631 : (Jvm.Cond.code ({ cls := "SilkClerksModel", name := "every", desc := "()Z" } : Jvm.MethodName) prog_17_method_35_code (1 : Nat) (Option.some Jvm.ClassFile.FieldType.boolean)) ∈ lw_all := lw_g (lw_at lw_m7 37 rfl) rfl
theorem q1632 : (Jvm.Cond.methodLink "SilkClerksModel" (208 : Nat) ({ cls := "SilkClerksModel", name := "oneTest", desc := "()Z" } : Jvm.MethodName)) ∈ lw_all := lw_g (lw_at lw_m7 38 rfl) rfl
theorem q1633 : (Jvm.Cond.privateMethod ({ cls := "SilkClerksModel", name := "oneTest", desc := "()Z" } : Jvm.MethodName)) ∈ lw_tbl := lw_at lw_m7 39 rfl
theorem q1634 : (Jvm.Cond.instanceMethod ({ cls := "SilkClerksModel", name := "oneTest", desc := "()Z" } : Jvm.MethodName)) ∈ lw_all := lw_g (lw_at lw_m7 40 rfl) rfl
theorem q1635 : (Jvm.Cond.code ({ cls := "SilkClerksModel", name := "oneTest", desc := "()Z" } : Jvm.MethodName) prog_17_method_36_code (2 : Nat) (Option.some Jvm.ClassFile.FieldType.boolean)) ∈ lw_all := lw_g (lw_at lw_m7 41 rfl) rfl
theorem q1636 : (Jvm.Cond.methodLink "SilkClerksModel" (211 : Nat) ({ cls := "SilkClerksModel", name := "opens", desc := "()Z" } : Jvm.MethodName)) ∈ lw_all := lw_g (lw_at lw_m7 42 rfl) rfl
theorem q1637 : (Jvm.Cond.privateMethod ({ cls := "SilkClerksModel", name := "opens", desc := "()Z" } : Jvm.MethodName)) ∈ lw_tbl := lw_at lw_m7 43 rfl
theorem q1638 : (Jvm.Cond.instanceMethod ({ cls := "SilkClerksModel", name := "opens", desc := "()Z" } : Jvm.MethodName)) ∈ lw_all := lw_g (lw_at lw_m7 44 rfl) rfl
theorem q1639 : (Jvm.Cond.code ({ cls := "SilkClerksModel", name := "opens", desc := "()Z" } : Jvm.MethodName) prog_17_method_30_code (1 : Nat) (Option.some Jvm.ClassFile.FieldType.boolean)) ∈ lw_all := lw_g (lw_at lw_m7 45 rfl) rfl
theorem q1640 : (Jvm.Cond.methodLink "SilkClerksModel" (217 : Nat) ({ cls := "SilkClerksModel", name := "need", desc := "(I)Z" } : Jvm.MethodName)) ∈ lw_all := lw_g (lw_at lw_m7 46 rfl) rfl
theorem q1641 : (Jvm.Cond.privateMethod ({ cls := "SilkClerksModel", name := "need", desc := "(I)Z" } : Jvm.MethodName)) ∈ lw_tbl := lw_at lw_m7 47 rfl
theorem q1642 : (Jvm.Cond.instanceMethod ({ cls := "SilkClerksModel", name := "need", desc := "(I)Z" } : Jvm.MethodName)) ∈ lw_all := lw_g (lw_at lw_m7 48 rfl) rfl
theorem q1643 : (Jvm.Cond.code ({ cls := "SilkClerksModel", name := "need", desc := "(I)Z" } : Jvm.MethodName) prog_17_method_28_code (2 : Nat) (Option.some Jvm.ClassFile.FieldType.boolean)) ∈ lw_all := lw_g (lw_at lw_m7 49 rfl) rfl
theorem q1644 : (Jvm.Cond.methodLink "SilkClerksModel" (277 : Nat) ({ cls := "SilkClerksModel", name := "readsRows", desc := "()Z" } : Jvm.MethodName)) ∈ lw_all := lw_g (lw_at lw_m7 50 rfl) rfl
theorem q1645 : (Jvm.Cond.privateMethod ({ cls := "SilkClerksModel", name := "readsRows", desc := "()Z" } : Jvm.MethodName)) ∈ lw_tbl := lw_at lw_m7 51 rfl
theorem q1646 : (Jvm.Cond.instanceMethod ({ cls := "SilkClerksModel", name := "readsRows", desc := "()Z" } : Jvm.MethodName)) ∈ lw_all := lw_g (lw_at lw_m7 52 rfl) rfl
theorem q1647 : (Jvm.Cond.code ({ cls := "SilkClerksModel", name := "readsRows", desc := "()Z" } : Jvm.MethodName) prog_17_method_46_code (3 : Nat) (Option.some Jvm.ClassFile.FieldType.boolean)) ∈ lw_all := lw_g (lw_at lw_m7 53 rfl) rfl
theorem q1648 : (Jvm.Cond.methodLink "SilkClerksModel" (261 : Nat) ({ cls := "SilkClerksModel", name := "aRow", desc := "()Z" } : Jvm.MethodName)) ∈ lw_all := lw_g (lw_at lw_m7 54 rfl) rfl
theorem q1649 : (Jvm.Cond.privateMethod ({ cls := "SilkClerksModel", name := "aRow", desc := "()Z" } : Jvm.MethodName)) ∈ lw_tbl := lw_at lw_m7 55 rfl
theorem q1650 : (Jvm.Cond.instanceMethod ({ cls := "SilkClerksModel", name := "aRow", desc := "()Z" } : Jvm.MethodName)) ∈ lw_all := lw_g (lw_at lw_m7 56 rfl) rfl
theorem q1651 : (Jvm.Cond.code ({ cls := "SilkClerksModel", name := "aRow", desc := "()Z" } : Jvm.MethodName) prog_17_method_45_code (1 : Nat) (Option.some Jvm.ClassFile.FieldType.boolean)) ∈ lw_all := lw_g (lw_at lw_m7 57 rfl) rfl
theorem q1652 : (Jvm.Cond.methodLink "SilkClerksModel" (252 : Nat) ({ cls := "SilkClerksModel", name := "aFact", desc := "()Z" } : Jvm.MethodName)) ∈ lw_all := lw_g (lw_at lw_m7 58 rfl) rfl
theorem q1653 : (Jvm.Cond.privateMethod ({ cls := "SilkClerksModel", name := "aFact", desc := "()Z" } : Jvm.MethodName)) ∈ lw_tbl := lw_at lw_m7 59 rfl
theorem q1654 : (Jvm.Cond.instanceMethod ({ cls := "SilkClerksModel", name := "aFact", desc := "()Z" } : Jvm.MethodName)) ∈ lw_all := lw_g (lw_at lw_m7 60 rfl) rfl
theorem q1655 : (Jvm.Cond.code ({ cls := "SilkClerksModel", name := "aFact", desc := "()Z" } : Jvm.MethodName) prog_17_method_41_code (4 : Nat) (Option.some Jvm.ClassFile.FieldType.boolean)) ∈ lw_all := lw_g (lw_at lw_m7 61 rfl) rfl
theorem q1656 : (Jvm.Cond.methodLink "SilkClerksModel" (235 : Nat) ({ cls := "SilkClerksModel", name := "lesser", desc := "(II)I" } : Jvm.MethodName)) ∈ lw_all := lw_g (lw_at lw_m7 62 rfl) rfl
theorem q1657 : (Jvm.Cond.static ({ cls := "SilkClerksModel", name := "lesser", desc := "(II)I" } : Jvm.MethodName)) ∈ lw_all := lw_g (lw_at lw_m7 63 rfl) rfl
theorem q1658 : (Jvm.Cond.code ({ cls := "SilkClerksModel", name := "lesser", desc := "(II)I" } : Jvm.MethodName) prog_17_method_3_code (2 : Nat) (Option.some Jvm.ClassFile.FieldType.int)) ∈ lw_all := lw_g (lw_at lw_m7 64 rfl) rfl
theorem q1659 : (Jvm.Cond.methodLink "SilkClerksModel" (229 : Nat) ({ cls := "SilkClerksModel", name := "number", desc := "(III)Z" } : Jvm.MethodName)) ∈ lw_all := lw_g (lw_at lw_m7 65 rfl) rfl
theorem q1660 : (Jvm.Cond.privateMethod ({ cls := "SilkClerksModel", name := "number", desc := "(III)Z" } : Jvm.MethodName)) ∈ lw_tbl := lw_at lw_m7 66 rfl
theorem q1661 : (Jvm.Cond.instanceMethod ({ cls := "SilkClerksModel", name := "number", desc := "(III)Z" } : Jvm.MethodName)) ∈ lw_all := lw_g (lw_at lw_m7 67 rfl) rfl
theorem q1662 : (Jvm.Cond.code ({ cls := "SilkClerksModel", name := "number", desc := "(III)Z" } : Jvm.MethodName) prog_17_method_39_code (4 : Nat) (Option.some Jvm.ClassFile.FieldType.boolean)) ∈ lw_all := lw_g (lw_at lw_m7 68 rfl) rfl
theorem q1663 : (Jvm.Cond.methodLink "SilkClerksModel" (239 : Nat) ({ cls := "SilkClerksModel", name := "told", desc := "(IIII)Z" } : Jvm.MethodName)) ∈ lw_all := lw_g (lw_at lw_m7 69 rfl) rfl
theorem q1664 : (Jvm.Cond.privateMethod ({ cls := "SilkClerksModel", name := "told", desc := "(IIII)Z" } : Jvm.MethodName)) ∈ lw_tbl := lw_at lw_m7 70 rfl
theorem q1665 : (Jvm.Cond.instanceMethod ({ cls := "SilkClerksModel", name := "told", desc := "(IIII)Z" } : Jvm.MethodName)) ∈ lw_all := lw_g (lw_at lw_m7 71 rfl) rfl
theorem q1666 : (Jvm.Cond.code ({ cls := "SilkClerksModel", name := "told", desc := "(IIII)Z" } : Jvm.MethodName) prog_17_method_40_code (5 : Nat) (Option.some Jvm.ClassFile.FieldType.boolean)) ∈ lw_all := lw_g (lw_at lw_m7 72 rfl) rfl
theorem q1667 : (Jvm.Cond.methodLink "SilkClerksModel" (255 : Nat) ({ cls := "SilkClerksModel", name := "aFeeding", desc := "()Z" } : Jvm.MethodName)) ∈ lw_all := lw_g (lw_at lw_m7 73 rfl) rfl
theorem q1668 : (Jvm.Cond.privateMethod ({ cls := "SilkClerksModel", name := "aFeeding", desc := "()Z" } : Jvm.MethodName)) ∈ lw_tbl := lw_at lw_m7 74 rfl
theorem q1669 : (Jvm.Cond.instanceMethod ({ cls := "SilkClerksModel", name := "aFeeding", desc := "()Z" } : Jvm.MethodName)) ∈ lw_all := lw_g (lw_at lw_m7 75 rfl) rfl
theorem q1670 : (Jvm.Cond.code ({ cls := "SilkClerksModel", name := "aFeeding", desc := "()Z" } : Jvm.MethodName) prog_17_method_42_code (2 : Nat) (Option.some Jvm.ClassFile.FieldType.boolean)) ∈ lw_all := lw_g (lw_at lw_m7 76 rfl) rfl
theorem q1671 : (Jvm.Cond.methodLink "SilkClerksModel" (258 : Nat) ({ cls := "SilkClerksModel", name := "aQuery", desc := "()Z" } : Jvm.MethodName)) ∈ lw_all := lw_g (lw_at lw_m7 77 rfl) rfl
theorem q1672 : (Jvm.Cond.privateMethod ({ cls := "SilkClerksModel", name := "aQuery", desc := "()Z" } : Jvm.MethodName)) ∈ lw_tbl := lw_at lw_m7 78 rfl
theorem q1673 : (Jvm.Cond.instanceMethod ({ cls := "SilkClerksModel", name := "aQuery", desc := "()Z" } : Jvm.MethodName)) ∈ lw_all := lw_g (lw_at lw_m7 79 rfl) rfl
theorem q1674 : (Jvm.Cond.code ({ cls := "SilkClerksModel", name := "aQuery", desc := "()Z" } : Jvm.MethodName) prog_17_method_44_code (1 : Nat) (Option.some Jvm.ClassFile.FieldType.boolean)) ∈ lw_all := lw_g (lw_at lw_m7 80 rfl) rfl
theorem q1675 : (Jvm.Cond.methodLink "SilkClerksModel" (249 : Nat) ({ cls := "SilkClerksModel", name := "oneMore", desc := "()Z" } : Jvm.MethodName)) ∈ lw_all := lw_g (lw_at lw_m7 81 rfl) rfl
theorem q1676 : (Jvm.Cond.privateMethod ({ cls := "SilkClerksModel", name := "oneMore", desc := "()Z" } : Jvm.MethodName)) ∈ lw_tbl := lw_at lw_m7 82 rfl
theorem q1677 : (Jvm.Cond.instanceMethod ({ cls := "SilkClerksModel", name := "oneMore", desc := "()Z" } : Jvm.MethodName)) ∈ lw_all := lw_g (lw_at lw_m7 83 rfl) rfl
theorem q1678 : (Jvm.Cond.code ({ cls := "SilkClerksModel", name := "oneMore", desc := "()Z" } : Jvm.MethodName) prog_17_method_43_code (1 : Nat) (Option.some Jvm.ClassFile.FieldType.boolean)) ∈ lw_all := lw_g (lw_at lw_m7 84 rfl) rfl
theorem q1679 : (Jvm.Cond.methodLink "SilkClerksModel" (243 : Nat) ({ cls := "SilkClerksModel", name := "isFact", desc := "(I)Z" } : Jvm.MethodName)) ∈ lw_all := lw_g (lw_at lw_m7 85 rfl) rfl
theorem q1680 : (Jvm.Cond.privateMethod ({ cls := "SilkClerksModel", name := "isFact", desc := "(I)Z" } : Jvm.MethodName)) ∈ lw_tbl := lw_at lw_m7 86 rfl
theorem q1681 : (Jvm.Cond.instanceMethod ({ cls := "SilkClerksModel", name := "isFact", desc := "(I)Z" } : Jvm.MethodName)) ∈ lw_all := lw_g (lw_at lw_m7 87 rfl) rfl
theorem q1682 : (Jvm.Cond.code ({ cls := "SilkClerksModel", name := "isFact", desc := "(I)Z" } : Jvm.MethodName) prog_17_method_6_code (2 : Nat) (Option.some Jvm.ClassFile.FieldType.boolean)) ∈ lw_all := lw_g (lw_at lw_m7 88 rfl) rfl
theorem q1683 : (Jvm.Cond.methodLink "SilkClerksModel" (280 : Nat) ({ cls := "SilkClerksModel", name := "putsText", desc := "(I)I" } : Jvm.MethodName)) ∈ lw_all := lw_g (lw_at lw_m7 89 rfl) rfl
theorem q1684 : (Jvm.Cond.privateMethod ({ cls := "SilkClerksModel", name := "putsText", desc := "(I)I" } : Jvm.MethodName)) ∈ lw_tbl := lw_at lw_m7 90 rfl
theorem q1685 : (Jvm.Cond.instanceMethod ({ cls := "SilkClerksModel", name := "putsText", desc := "(I)I" } : Jvm.MethodName)) ∈ lw_all := lw_g (lw_at lw_m7 91 rfl) rfl
theorem q1686 : (Jvm.Cond.code ({ cls := "SilkClerksModel", name := "putsText", desc := "(I)I" } : Jvm.MethodName) prog_17_method_49_code (2 : Nat) (Option.some Jvm.ClassFile.FieldType.int)) ∈ lw_all := lw_g (lw_at lw_m7 92 rfl) rfl
theorem q1687 : (Jvm.Cond.methodLink "SilkClerksModel" (264 : Nat) ({ cls := "SilkClerksModel", name := "putsLaw", desc := "()I" } : Jvm.MethodName)) ∈ lw_all := lw_g (lw_at lw_m7 93 rfl) rfl
theorem q1688 : (Jvm.Cond.privateMethod ({ cls := "SilkClerksModel", name := "putsLaw", desc := "()I" } : Jvm.MethodName)) ∈ lw_tbl := lw_at lw_m7 94 rfl
theorem q1689 : (Jvm.Cond.instanceMethod ({ cls := "SilkClerksModel", name := "putsLaw", desc := "()I" } : Jvm.MethodName)) ∈ lw_all := lw_g (lw_at lw_m7 95 rfl) rfl
theorem q1690 : (Jvm.Cond.code ({ cls := "SilkClerksModel", name := "putsLaw", desc := "()I" } : Jvm.MethodName) prog_17_method_47_code (2 : Nat) (Option.some Jvm.ClassFile.FieldType.int)) ∈ lw_all := lw_g (lw_at lw_m7 96 rfl) rfl
theorem q1691 : (Jvm.Cond.methodLink "SilkClerksModel" (267 : Nat) ({ cls := "SilkClerksModel", name := "puts", desc := "(III)I" } : Jvm.MethodName)) ∈ lw_all := lw_g (lw_at lw_m7 97 rfl) rfl
theorem q1692 : (Jvm.Cond.privateMethod ({ cls := "SilkClerksModel", name := "puts", desc := "(III)I" } : Jvm.MethodName)) ∈ lw_tbl := lw_at lw_m7 98 rfl
theorem q1693 : (Jvm.Cond.instanceMethod ({ cls := "SilkClerksModel", name := "puts", desc := "(III)I" } : Jvm.MethodName)) ∈ lw_all := lw_g (lw_at lw_m7 99 rfl) rfl
theorem q1694 : (Jvm.Cond.code ({ cls := "SilkClerksModel", name := "puts", desc := "(III)I" } : Jvm.MethodName) prog_17_method_48_code (5 : Nat) (Option.some Jvm.ClassFile.FieldType.int)) ∈ lw_all := lw_g (lw_at lw_m7 100 rfl) rfl
theorem q1696 : (Jvm.Cond.instanceMethod ({ cls := "SilkClerksModel", name := "fault", desc := "(I)I" } : Jvm.MethodName)) ∈ lw_all := lw_g (lw_at lw_m7 102 rfl) rfl
theorem q1697 : (Jvm.Cond.selects "SilkClerksModel" ({ cls := "SilkClerksModel", name := "fault", desc := "(I)I" } : Jvm.MethodName) ({ cls := "SilkClerksModel", name := "fault", desc := "(I)I" } : Jvm.MethodName)) ∈ lw_all := lw_g (lw_at lw_m7 103 rfl) rfl
theorem q1698 : (Jvm.Cond.code ({ cls := "SilkClerksModel", name := "fault", desc := "(I)I" } : Jvm.MethodName) prog_17_method_51_code (2 : Nat) (Option.some Jvm.ClassFile.FieldType.int)) ∈ lw_all := lw_g (lw_at lw_m7 104 rfl) rfl
theorem q1700 : (Jvm.Cond.instanceMethod ({ cls := "SilkClerksModel", name := "undo", desc := "()Z" } : Jvm.MethodName)) ∈ lw_all := lw_g (lw_at lw_m7 106 rfl) rfl
theorem q1701 : (Jvm.Cond.selects "SilkClerksModel" ({ cls := "SilkClerksModel", name := "undo", desc := "()Z" } : Jvm.MethodName) ({ cls := "SilkClerksModel", name := "undo", desc := "()Z" } : Jvm.MethodName)) ∈ lw_all := lw_g (lw_at lw_m7 107 rfl) rfl
theorem q1702 : (Jvm.Cond.code ({ cls := "SilkClerksModel", name := "undo", desc := "()Z" } : Jvm.MethodName) prog_17_method_62_code (2 : Nat) (Option.some Jvm.ClassFile.FieldType.boolean)) ∈ lw_all := lw_g (lw_at lw_m7 108 rfl) rfl
theorem q1704 : (Jvm.Cond.instanceMethod ({ cls := "SilkClerksModel", name := "feedOne", desc := "(III)I" } : Jvm.MethodName)) ∈ lw_all := lw_g (lw_at lw_m7 110 rfl) rfl
theorem q1705 : (Jvm.Cond.selects "SilkClerksModel" ({ cls := "SilkClerksModel", name := "feedOne", desc := "(III)I" } : Jvm.MethodName) ({ cls := "SilkClerksModel", name := "feedOne", desc := "(III)I" } : Jvm.MethodName)) ∈ lw_all := lw_g (lw_at lw_m7 111 rfl) rfl
theorem q1706 : (Jvm.Cond.code ({ cls := "SilkClerksModel", name := "feedOne", desc := "(III)I" } : Jvm.MethodName) prog_17_method_69_code (4 : Nat) (Option.some Jvm.ClassFile.FieldType.int)) ∈ lw_all := lw_g (lw_at lw_m7 112 rfl) rfl
theorem q1707 : (Jvm.Cond.methodLink "SilkClerksModel" (344 : Nat) ({ cls := "SilkClerksModel", name := "canFeed", desc := "(III)Z" } : Jvm.MethodName)) ∈ lw_all := lw_g (lw_at lw_m7 113 rfl) rfl
theorem q1708 : (Jvm.Cond.privateMethod ({ cls := "SilkClerksModel", name := "canFeed", desc := "(III)Z" } : Jvm.MethodName)) ∈ lw_tbl := lw_at lw_m7 114 rfl
theorem q1709 : (Jvm.Cond.instanceMethod ({ cls := "SilkClerksModel", name := "canFeed", desc := "(III)Z" } : Jvm.MethodName)) ∈ lw_all := lw_g (lw_at lw_m7 115 rfl) rfl
theorem q1710 : (Jvm.Cond.code ({ cls := "SilkClerksModel", name := "canFeed", desc := "(III)Z" } : Jvm.MethodName) prog_17_method_65_code (4 : Nat) (Option.some Jvm.ClassFile.FieldType.boolean)) ∈ lw_all := lw_g (lw_at lw_m7 116 rfl) rfl
theorem q1711 : (Jvm.Cond.methodLink "SilkClerksModel" (309 : Nat) ({ cls := "SilkClerksModel", name := "isSpun", desc := "(I)Z" } : Jvm.MethodName)) ∈ lw_all := lw_g (lw_at lw_m7 117 rfl) rfl
theorem q1712 : (Jvm.Cond.privateMethod ({ cls := "SilkClerksModel", name := "isSpun", desc := "(I)Z" } : Jvm.MethodName)) ∈ lw_tbl := lw_at lw_m7 118 rfl
theorem q1713 : (Jvm.Cond.instanceMethod ({ cls := "SilkClerksModel", name := "isSpun", desc := "(I)Z" } : Jvm.MethodName)) ∈ lw_all := lw_g (lw_at lw_m7 119 rfl) rfl
theorem q1714 : (Jvm.Cond.code ({ cls := "SilkClerksModel", name := "isSpun", desc := "(I)Z" } : Jvm.MethodName) prog_17_method_10_code (2 : Nat) (Option.some Jvm.ClassFile.FieldType.boolean)) ∈ lw_all := lw_g (lw_at lw_m7 120 rfl) rfl
theorem q1715 : (Jvm.Cond.methodLink "SilkClerksModel" (312 : Nat) ({ cls := "SilkClerksModel", name := "isFlown", desc := "(I)Z" } : Jvm.MethodName)) ∈ lw_all := lw_g (lw_at lw_m7 121 rfl) rfl
theorem q1716 : (Jvm.Cond.privateMethod ({ cls := "SilkClerksModel", name := "isFlown", desc := "(I)Z" } : Jvm.MethodName)) ∈ lw_tbl := lw_at lw_m7 122 rfl
theorem q1717 : (Jvm.Cond.instanceMethod ({ cls := "SilkClerksModel", name := "isFlown", desc := "(I)Z" } : Jvm.MethodName)) ∈ lw_all := lw_g (lw_at lw_m7 123 rfl) rfl
theorem q1718 : (Jvm.Cond.code ({ cls := "SilkClerksModel", name := "isFlown", desc := "(I)Z" } : Jvm.MethodName) prog_17_method_9_code (2 : Nat) (Option.some Jvm.ClassFile.FieldType.boolean)) ∈ lw_all := lw_g (lw_at lw_m7 124 rfl) rfl
theorem q1719 : (Jvm.Cond.methodLink "SilkClerksModel" (315 : Nat) ({ cls := "SilkClerksModel", name := "eatsOf", desc := "(I)I" } : Jvm.MethodName)) ∈ lw_all := lw_g (lw_at lw_m7 125 rfl) rfl
theorem q1720 : (Jvm.Cond.privateMethod ({ cls := "SilkClerksModel", name := "eatsOf", desc := "(I)I" } : Jvm.MethodName)) ∈ lw_tbl := lw_at lw_m7 126 rfl
theorem q1721 : (Jvm.Cond.instanceMethod ({ cls := "SilkClerksModel", name := "eatsOf", desc := "(I)I" } : Jvm.MethodName)) ∈ lw_all := lw_g (lw_at lw_m7 127 rfl) rfl
theorem q1722 : (Jvm.Cond.code ({ cls := "SilkClerksModel", name := "eatsOf", desc := "(I)I" } : Jvm.MethodName) prog_17_method_56_code (2 : Nat) (Option.some Jvm.ClassFile.FieldType.int)) ∈ lw_all := lw_g (lw_at lw_m7 128 rfl) rfl
theorem q1723 : (Jvm.Cond.methodLink "SilkClerksModel" (295 : Nat) ({ cls := "SilkClerksModel", name := "says", desc := "(IIIIII)I" } : Jvm.MethodName)) ∈ lw_all := lw_g (lw_at lw_m7 129 rfl) rfl
theorem q1724 : (Jvm.Cond.privateMethod ({ cls := "SilkClerksModel", name := "says", desc := "(IIIIII)I" } : Jvm.MethodName)) ∈ lw_tbl := lw_at lw_m7 130 rfl
theorem q1725 : (Jvm.Cond.instanceMethod ({ cls := "SilkClerksModel", name := "says", desc := "(IIIIII)I" } : Jvm.MethodName)) ∈ lw_all := lw_g (lw_at lw_m7 131 rfl) rfl
theorem q1726 : (Jvm.Cond.code ({ cls := "SilkClerksModel", name := "says", desc := "(IIIIII)I" } : Jvm.MethodName) prog_17_method_55_code (8 : Nat) (Option.some Jvm.ClassFile.FieldType.int)) ∈ lw_all := lw_g (lw_at lw_m7 132 rfl) rfl
theorem q1727 : (Jvm.Cond.methodLink "SilkClerksModel" (289 : Nat) ({ cls := "SilkClerksModel", name := "isSo", desc := "(I)Z" } : Jvm.MethodName)) ∈ lw_all := lw_g (lw_at lw_m7 133 rfl) rfl
theorem q1728 : (Jvm.Cond.privateMethod ({ cls := "SilkClerksModel", name := "isSo", desc := "(I)Z" } : Jvm.MethodName)) ∈ lw_tbl := lw_at lw_m7 134 rfl
theorem q1729 : (Jvm.Cond.instanceMethod ({ cls := "SilkClerksModel", name := "isSo", desc := "(I)Z" } : Jvm.MethodName)) ∈ lw_all := lw_g (lw_at lw_m7 135 rfl) rfl
theorem q1730 : (Jvm.Cond.code ({ cls := "SilkClerksModel", name := "isSo", desc := "(I)Z" } : Jvm.MethodName) prog_17_method_54_code (2 : Nat) (Option.some Jvm.ClassFile.FieldType.boolean)) ∈ lw_all := lw_g (lw_at lw_m7 136 rfl) rfl
theorem q1731 : (Jvm.Cond.methodLink "SilkClerksModel" (286 : Nat) ({ cls := "SilkClerksModel", name := "comesTo", desc := "(III)I" } : Jvm.MethodName)) ∈ lw_all := lw_g (lw_at lw_m7 137 rfl) rfl
theorem q1732 : (Jvm.Cond.privateMethod ({ cls := "SilkClerksModel", name := "comesTo", desc := "(III)I" } : Jvm.MethodName)) ∈ lw_tbl := lw_at lw_m7 138 rfl
theorem q1733 : (Jvm.Cond.instanceMethod ({ cls := "SilkClerksModel", name := "comesTo", desc := "(III)I" } : Jvm.MethodName)) ∈ lw_all := lw_g (lw_at lw_m7 139 rfl) rfl
theorem q1734 : (Jvm.Cond.code ({ cls := "SilkClerksModel", name := "comesTo", desc := "(III)I" } : Jvm.MethodName) prog_17_method_53_code (8 : Nat) (Option.some Jvm.ClassFile.FieldType.int)) ∈ lw_all := lw_g (lw_at lw_m7 140 rfl) rfl
theorem q1735 : (Jvm.Cond.methodLink "SilkClerksModel" (283 : Nat) ({ cls := "SilkClerksModel", name := "joined", desc := "(III)I" } : Jvm.MethodName)) ∈ lw_all := lw_g (lw_at lw_m7 141 rfl) rfl
theorem q1736 : (Jvm.Cond.static ({ cls := "SilkClerksModel", name := "joined", desc := "(III)I" } : Jvm.MethodName)) ∈ lw_all := lw_g (lw_at lw_m7 142 rfl) rfl
theorem q1737 : (Jvm.Cond.code ({ cls := "SilkClerksModel", name := "joined", desc := "(III)I" } : Jvm.MethodName) prog_17_method_52_code (3 : Nat) (Option.some Jvm.ClassFile.FieldType.int)) ∈ lw_all := lw_g (lw_at lw_m7 143 rfl) rfl
theorem q1738 : (Jvm.Cond.methodLink "SilkClerksModel" (292 : Nat) ({ cls := "SilkClerksModel", name := "greater", desc := "(II)I" } : Jvm.MethodName)) ∈ lw_all := lw_g (lw_at lw_m7 144 rfl) rfl
theorem q1739 : (Jvm.Cond.static ({ cls := "SilkClerksModel", name := "greater", desc := "(II)I" } : Jvm.MethodName)) ∈ lw_all := lw_g (lw_at lw_m7 145 rfl) rfl
theorem q1740 : (Jvm.Cond.code ({ cls := "SilkClerksModel", name := "greater", desc := "(II)I" } : Jvm.MethodName) prog_17_method_4_code (2 : Nat) (Option.some Jvm.ClassFile.FieldType.int)) ∈ lw_all := lw_g (lw_at lw_m7 146 rfl) rfl
theorem q1741 : (Jvm.Cond.methodLink "SilkClerksModel" (318 : Nat) ({ cls := "SilkClerksModel", name := "leafOf", desc := "(II)I" } : Jvm.MethodName)) ∈ lw_all := lw_g (lw_at lw_m7 147 rfl) rfl
theorem q1742 : (Jvm.Cond.privateMethod ({ cls := "SilkClerksModel", name := "leafOf", desc := "(II)I" } : Jvm.MethodName)) ∈ lw_tbl := lw_at lw_m7 148 rfl
theorem q1743 : (Jvm.Cond.instanceMethod ({ cls := "SilkClerksModel", name := "leafOf", desc := "(II)I" } : Jvm.MethodName)) ∈ lw_all := lw_g (lw_at lw_m7 149 rfl) rfl
theorem q1744 : (Jvm.Cond.code ({ cls := "SilkClerksModel", name := "leafOf", desc := "(II)I" } : Jvm.MethodName) prog_17_method_64_code (3 : Nat) (Option.some Jvm.ClassFile.FieldType.int)) ∈ lw_all := lw_g (lw_at lw_m7 150 rfl) rfl
theorem q1745 : (Jvm.Cond.methodLink "SilkClerksModel" (299 : Nat) ({ cls := "SilkClerksModel", name := "factOf", desc := "(II)I" } : Jvm.MethodName)) ∈ lw_all := lw_g (lw_at lw_m7 151 rfl) rfl
theorem q1746 : (Jvm.Cond.privateMethod ({ cls := "SilkClerksModel", name := "factOf", desc := "(II)I" } : Jvm.MethodName)) ∈ lw_tbl := lw_at lw_m7 152 rfl
theorem q1747 : (Jvm.Cond.instanceMethod ({ cls := "SilkClerksModel", name := "factOf", desc := "(II)I" } : Jvm.MethodName)) ∈ lw_all := lw_g (lw_at lw_m7 153 rfl) rfl
theorem q1748 : (Jvm.Cond.code ({ cls := "SilkClerksModel", name := "factOf", desc := "(II)I" } : Jvm.MethodName) prog_17_method_7_code (3 : Nat) (Option.some Jvm.ClassFile.FieldType.int)) ∈ lw_all := lw_g (lw_at lw_m7 154 rfl) rfl
theorem q1749 : (Jvm.Cond.methodLink "SilkClerksModel" (347 : Nat) ({ cls := "SilkClerksModel", name := "remembers", desc := "()V" } : Jvm.MethodName)) ∈ lw_all := lw_g (lw_at lw_m7 155 rfl) rfl
theorem q1750 : (Jvm.Cond.privateMethod ({ cls := "SilkClerksModel", name := "remembers", desc := "()V" } : Jvm.MethodName)) ∈ lw_tbl := lw_at lw_m7 156 rfl
theorem q1751 : (Jvm.Cond.instanceMethod ({ cls := "SilkClerksModel", name := "remembers", desc := "()V" } : Jvm.MethodName)) ∈ lw_all := lw_g (lw_at lw_m7 157 rfl) rfl
theorem q1752 : (Jvm.Cond.code ({ cls := "SilkClerksModel", name := "remembers", desc := "()V" } : Jvm.MethodName) prog_17_method_61_code (2 : Nat) (Option.none : Option Jvm.ClassFile.FieldType)) ∈ lw_all := lw_g (lw_at lw_m7 158 rfl) rfl
theorem q1753 : (Jvm.Cond.methodLink "SilkClerksModel" (350 : Nat) ({ cls := "SilkClerksModel", name := "feeds", desc := "(III)I" } : Jvm.MethodName)) ∈ lw_all := lw_g (lw_at lw_m7 159 rfl) rfl
theorem q1754 : (Jvm.Cond.privateMethod ({ cls := "SilkClerksModel", name := "feeds", desc := "(III)I" } : Jvm.MethodName)) ∈ lw_tbl := lw_at lw_m7 160 rfl
theorem q1755 : (Jvm.Cond.instanceMethod ({ cls := "SilkClerksModel", name := "feeds", desc := "(III)I" } : Jvm.MethodName)) ∈ lw_all := lw_g (lw_at lw_m7 161 rfl) rfl
theorem q1756 : (Jvm.Cond.code ({ cls := "SilkClerksModel", name := "feeds", desc := "(III)I" } : Jvm.MethodName) prog_17_method_68_code (5 : Nat) (Option.some Jvm.ClassFile.FieldType.int)) ∈ lw_all := lw_g (lw_at lw_m7 162 rfl) rfl
theorem q1757 : (Jvm.Cond.methodLink "SilkClerksModel" (321 : Nat) ({ cls := "SilkClerksModel", name := "notes", desc := "(III)V" } : Jvm.MethodName)) ∈ lw_all := lw_g (lw_at lw_m7 163 rfl) rfl
theorem q1758 : (Jvm.Cond.privateMethod ({ cls := "SilkClerksModel", name := "notes", desc := "(III)V" } : Jvm.MethodName)) ∈ lw_tbl := lw_at lw_m7 164 rfl
theorem q1759 : (Jvm.Cond.instanceMethod ({ cls := "SilkClerksModel", name := "notes", desc := "(III)V" } : Jvm.MethodName)) ∈ lw_all := lw_g (lw_at lw_m7 165 rfl) rfl
theorem q1760 : (Jvm.Cond.code ({ cls := "SilkClerksModel", name := "notes", desc := "(III)V" } : Jvm.MethodName) prog_17_method_63_code (5 : Nat) (Option.none : Option Jvm.ClassFile.FieldType)) ∈ lw_all := lw_g (lw_at lw_m7 166 rfl) rfl
theorem q1761 : (Jvm.Cond.methodLink "SilkClerksModel" (334 : Nat) ({ cls := "SilkClerksModel", name := "spins", desc := "(III)I" } : Jvm.MethodName)) ∈ lw_all := lw_g (lw_at lw_m7 167 rfl) rfl
theorem q1762 : (Jvm.Cond.privateMethod ({ cls := "SilkClerksModel", name := "spins", desc := "(III)I" } : Jvm.MethodName)) ∈ lw_tbl := lw_at lw_m7 168 rfl
theorem q1763 : (Jvm.Cond.instanceMethod ({ cls := "SilkClerksModel", name := "spins", desc := "(III)I" } : Jvm.MethodName)) ∈ lw_all := lw_g (lw_at lw_m7 169 rfl) rfl
theorem q1764 : (Jvm.Cond.code ({ cls := "SilkClerksModel", name := "spins", desc := "(III)I" } : Jvm.MethodName) prog_17_method_67_code (8 : Nat) (Option.some Jvm.ClassFile.FieldType.int)) ∈ lw_all := lw_g (lw_at lw_m7 170 rfl) rfl
theorem q1765 : (Jvm.Cond.methodLink "SilkClerksModel" (302 : Nat) ({ cls := "SilkClerksModel", name := "spunMany", desc := "(II)I" } : Jvm.MethodName)) ∈ lw_all := lw_g (lw_at lw_m7 171 rfl) rfl
theorem q1766 : (Jvm.Cond.privateMethod ({ cls := "SilkClerksModel", name := "spunMany", desc := "(II)I" } : Jvm.MethodName)) ∈ lw_tbl := lw_at lw_m7 172 rfl
theorem q1767 : (Jvm.Cond.instanceMethod ({ cls := "SilkClerksModel", name := "spunMany", desc := "(II)I" } : Jvm.MethodName)) ∈ lw_all := lw_g (lw_at lw_m7 173 rfl) rfl
theorem q1768 : (Jvm.Cond.code ({ cls := "SilkClerksModel", name := "spunMany", desc := "(II)I" } : Jvm.MethodName) prog_17_method_59_code (3 : Nat) (Option.some Jvm.ClassFile.FieldType.int)) ∈ lw_all := lw_g (lw_at lw_m7 174 rfl) rfl
theorem q1769 : (Jvm.Cond.methodLink "SilkClerksModel" (325 : Nat) ({ cls := "SilkClerksModel", name := "spunMark", desc := "(III)I" } : Jvm.MethodName)) ∈ lw_all := lw_g (lw_at lw_m7 175 rfl) rfl
theorem q1770 : (Jvm.Cond.privateMethod ({ cls := "SilkClerksModel", name := "spunMark", desc := "(III)I" } : Jvm.MethodName)) ∈ lw_tbl := lw_at lw_m7 176 rfl
theorem q1771 : (Jvm.Cond.instanceMethod ({ cls := "SilkClerksModel", name := "spunMark", desc := "(III)I" } : Jvm.MethodName)) ∈ lw_all := lw_g (lw_at lw_m7 177 rfl) rfl
theorem q1772 : (Jvm.Cond.code ({ cls := "SilkClerksModel", name := "spunMark", desc := "(III)I" } : Jvm.MethodName) prog_17_method_60_code (5 : Nat) (Option.some Jvm.ClassFile.FieldType.int)) ∈ lw_all := lw_g (lw_at lw_m7 178 rfl) rfl
theorem q1773 : (Jvm.Cond.methodLink "SilkClerksModel" (328 : Nat) ({ cls := "SilkClerksModel", name := "slipsOf", desc := "(III)I" } : Jvm.MethodName)) ∈ lw_all := lw_g (lw_at lw_m7 179 rfl) rfl
theorem q1774 : (Jvm.Cond.privateMethod ({ cls := "SilkClerksModel", name := "slipsOf", desc := "(III)I" } : Jvm.MethodName)) ∈ lw_tbl := lw_at lw_m7 180 rfl
theorem q1775 : (Jvm.Cond.instanceMethod ({ cls := "SilkClerksModel", name := "slipsOf", desc := "(III)I" } : Jvm.MethodName)) ∈ lw_all := lw_g (lw_at lw_m7 181 rfl) rfl
theorem q1776 : (Jvm.Cond.code ({ cls := "SilkClerksModel", name := "slipsOf", desc := "(III)I" } : Jvm.MethodName) prog_17_method_57_code (4 : Nat) (Option.some Jvm.ClassFile.FieldType.int)) ∈ lw_all := lw_g (lw_at lw_m7 182 rfl) rfl
theorem q1777 : (Jvm.Cond.methodLink "SilkClerksModel" (331 : Nat) ({ cls := "SilkClerksModel", name := "draw", desc := "(I)I" } : Jvm.MethodName)) ∈ lw_all := lw_g (lw_at lw_m7 183 rfl) rfl
theorem q1778 : (Jvm.Cond.privateMethod ({ cls := "SilkClerksModel", name := "draw", desc := "(I)I" } : Jvm.MethodName)) ∈ lw_tbl := lw_at lw_m7 184 rfl
theorem q1779 : (Jvm.Cond.instanceMethod ({ cls := "SilkClerksModel", name := "draw", desc := "(I)I" } : Jvm.MethodName)) ∈ lw_all := lw_g (lw_at lw_m7 185 rfl) rfl
theorem q1780 : (Jvm.Cond.code ({ cls := "SilkClerksModel", name := "draw", desc := "(I)I" } : Jvm.MethodName) prog_17_method_14_code (2 : Nat) (Option.some Jvm.ClassFile.FieldType.int)) ∈ lw_all := lw_g (lw_at lw_m7 186 rfl) rfl
theorem q1781 : (Jvm.Cond.constant "SilkClerksModel" (69 : Nat) (1664525 : Int32)) ∈ lw_all := lw_g (lw_at lw_m7 187 rfl) rfl
theorem q1782 : (Jvm.Cond.constant "SilkClerksModel" (70 : Nat) (1013904223 : Int32)) ∈ lw_all := lw_g (lw_at lw_m7 188 rfl) rfl
theorem q1783 : (Jvm.Cond.methodLink "SilkClerksModel" (337 : Nat) ({ cls := "SilkClerksModel", name := "strongOf", desc := "(I)I" } : Jvm.MethodName)) ∈ lw_all := lw_g (lw_at lw_m7 189 rfl) rfl
theorem q1784 : (Jvm.Cond.privateMethod ({ cls := "SilkClerksModel", name := "strongOf", desc := "(I)I" } : Jvm.MethodName)) ∈ lw_tbl := lw_at lw_m7 190 rfl
theorem q1785 : (Jvm.Cond.instanceMethod ({ cls := "SilkClerksModel", name := "strongOf", desc := "(I)I" } : Jvm.MethodName)) ∈ lw_all := lw_g (lw_at lw_m7 191 rfl) rfl
theorem q1786 : (Jvm.Cond.code ({ cls := "SilkClerksModel", name := "strongOf", desc := "(I)I" } : Jvm.MethodName) prog_17_method_58_code (2 : Nat) (Option.some Jvm.ClassFile.FieldType.int)) ∈ lw_all := lw_g (lw_at lw_m7 192 rfl) rfl
theorem q1787 : (Jvm.Cond.methodLink "SilkClerksModel" (340 : Nat) ({ cls := "SilkClerksModel", name := "cocoons", desc := "(I)V" } : Jvm.MethodName)) ∈ lw_all := lw_g (lw_at lw_m7 193 rfl) rfl
theorem q1788 : (Jvm.Cond.privateMethod ({ cls := "SilkClerksModel", name := "cocoons", desc := "(I)V" } : Jvm.MethodName)) ∈ lw_tbl := lw_at lw_m7 194 rfl
theorem q1789 : (Jvm.Cond.instanceMethod ({ cls := "SilkClerksModel", name := "cocoons", desc := "(I)V" } : Jvm.MethodName)) ∈ lw_all := lw_g (lw_at lw_m7 195 rfl) rfl
theorem q1790 : (Jvm.Cond.code ({ cls := "SilkClerksModel", name := "cocoons", desc := "(I)V" } : Jvm.MethodName) prog_17_method_66_code (2 : Nat) (Option.none : Option Jvm.ClassFile.FieldType)) ∈ lw_all := lw_g (lw_at lw_m7 196 rfl) rfl
theorem q1792 : (Jvm.Cond.instanceMethod ({ cls := "SilkClerksModel", name := "cocoon", desc := "(IZ)Z" } : Jvm.MethodName)) ∈ lw_all := lw_g (lw_at lw_m7 198 rfl) rfl
theorem q1793 : (Jvm.Cond.selects "SilkClerksModel" ({ cls := "SilkClerksModel", name := "cocoon", desc := "(IZ)Z" } : Jvm.MethodName) ({ cls := "SilkClerksModel", name := "cocoon", desc := "(IZ)Z" } : Jvm.MethodName)) ∈ lw_all := lw_g (lw_at lw_m7 199 rfl) rfl
theorem q1794 : (Jvm.Cond.code ({ cls := "SilkClerksModel", name := "cocoon", desc := "(IZ)Z" } : Jvm.MethodName) prog_17_method_71_code (3 : Nat) (Option.some Jvm.ClassFile.FieldType.boolean)) ∈ lw_all := lw_g (lw_at lw_m7 200 rfl) rfl
theorem q1795 : (Jvm.Cond.methodLink "SilkClerksModel" (353 : Nat) ({ cls := "SilkClerksModel", name := "canCocoon", desc := "(IZ)Z" } : Jvm.MethodName)) ∈ lw_all := lw_g (lw_at lw_m7 201 rfl) rfl
theorem q1796 : (Jvm.Cond.privateMethod ({ cls := "SilkClerksModel", name := "canCocoon", desc := "(IZ)Z" } : Jvm.MethodName)) ∈ lw_tbl := lw_at lw_m7 202 rfl
theorem q1797 : (Jvm.Cond.instanceMethod ({ cls := "SilkClerksModel", name := "canCocoon", desc := "(IZ)Z" } : Jvm.MethodName)) ∈ lw_all := lw_g (lw_at lw_m7 203 rfl) rfl
theorem q1798 : (Jvm.Cond.code ({ cls := "SilkClerksModel", name := "canCocoon", desc := "(IZ)Z" } : Jvm.MethodName) prog_17_method_70_code (3 : Nat) (Option.some Jvm.ClassFile.FieldType.boolean)) ∈ lw_all := lw_g (lw_at lw_m7 204 rfl) rfl
theorem q1800 : (Jvm.Cond.instanceMethod ({ cls := "SilkClerksModel", name := "days", desc := "(I)I" } : Jvm.MethodName)) ∈ lw_all := lw_g (lw_at lw_m7 206 rfl) rfl
theorem q1801 : (Jvm.Cond.selects "SilkClerksModel" ({ cls := "SilkClerksModel", name := "days", desc := "(I)I" } : Jvm.MethodName) ({ cls := "SilkClerksModel", name := "days", desc := "(I)I" } : Jvm.MethodName)) ∈ lw_all := lw_g (lw_at lw_m7 207 rfl) rfl
theorem q1802 : (Jvm.Cond.code ({ cls := "SilkClerksModel", name := "days", desc := "(I)I" } : Jvm.MethodName) prog_17_method_75_code (4 : Nat) (Option.some Jvm.ClassFile.FieldType.int)) ∈ lw_all := lw_g (lw_at lw_m7 208 rfl) rfl
theorem q1803 : (Jvm.Cond.methodLink "SilkClerksModel" (363 : Nat) ({ cls := "SilkClerksModel", name := "aDay", desc := "()V" } : Jvm.MethodName)) ∈ lw_all := lw_g (lw_at lw_m7 209 rfl) rfl
theorem q1804 : (Jvm.Cond.privateMethod ({ cls := "SilkClerksModel", name := "aDay", desc := "()V" } : Jvm.MethodName)) ∈ lw_tbl := lw_at lw_m7 210 rfl
theorem q1805 : (Jvm.Cond.instanceMethod ({ cls := "SilkClerksModel", name := "aDay", desc := "()V" } : Jvm.MethodName)) ∈ lw_all := lw_g (lw_at lw_m7 211 rfl) rfl
theorem q1806 : (Jvm.Cond.code ({ cls := "SilkClerksModel", name := "aDay", desc := "()V" } : Jvm.MethodName) prog_17_method_74_code (2 : Nat) (Option.none : Option Jvm.ClassFile.FieldType)) ∈ lw_all := lw_g (lw_at lw_m7 212 rfl) rfl
theorem q1807 : (Jvm.Cond.methodLink "SilkClerksModel" (357 : Nat) ({ cls := "SilkClerksModel", name := "plans", desc := "()V" } : Jvm.MethodName)) ∈ lw_all := lw_g (lw_at lw_m7 213 rfl) rfl
theorem q1808 : (Jvm.Cond.privateMethod ({ cls := "SilkClerksModel", name := "plans", desc := "()V" } : Jvm.MethodName)) ∈ lw_tbl := lw_at lw_m7 214 rfl
theorem q1809 : (Jvm.Cond.instanceMethod ({ cls := "SilkClerksModel", name := "plans", desc := "()V" } : Jvm.MethodName)) ∈ lw_all := lw_g (lw_at lw_m7 215 rfl) rfl
theorem q1810 : (Jvm.Cond.code ({ cls := "SilkClerksModel", name := "plans", desc := "()V" } : Jvm.MethodName) prog_17_method_72_code (3 : Nat) (Option.none : Option Jvm.ClassFile.FieldType)) ∈ lw_all := lw_g (lw_at lw_m7 216 rfl) rfl
theorem q1811 : (Jvm.Cond.methodLink "SilkClerksModel" (360 : Nat) ({ cls := "SilkClerksModel", name := "flies", desc := "(I)V" } : Jvm.MethodName)) ∈ lw_all := lw_g (lw_at lw_m7 217 rfl) rfl
theorem q1812 : (Jvm.Cond.privateMethod ({ cls := "SilkClerksModel", name := "flies", desc := "(I)V" } : Jvm.MethodName)) ∈ lw_tbl := lw_at lw_m7 218 rfl
theorem q1813 : (Jvm.Cond.instanceMethod ({ cls := "SilkClerksModel", name := "flies", desc := "(I)V" } : Jvm.MethodName)) ∈ lw_all := lw_g (lw_at lw_m7 219 rfl) rfl
theorem q1814 : (Jvm.Cond.code ({ cls := "SilkClerksModel", name := "flies", desc := "(I)V" } : Jvm.MethodName) prog_17_method_73_code (2 : Nat) (Option.none : Option Jvm.ClassFile.FieldType)) ∈ lw_all := lw_g (lw_at lw_m7 220 rfl) rfl
theorem q1816 : (Jvm.Cond.instanceMethod ({ cls := "SilkClerksModel", name := "of", desc := "(II)I" } : Jvm.MethodName)) ∈ lw_all := lw_g (lw_at lw_m7 222 rfl) rfl
theorem q1817 : (Jvm.Cond.selects "SilkClerksModel" ({ cls := "SilkClerksModel", name := "of", desc := "(II)I" } : Jvm.MethodName) ({ cls := "SilkClerksModel", name := "of", desc := "(II)I" } : Jvm.MethodName)) ∈ lw_all := lw_g (lw_at lw_m7 223 rfl) rfl
theorem q1818 : (Jvm.Cond.code ({ cls := "SilkClerksModel", name := "of", desc := "(II)I" } : Jvm.MethodName) prog_17_method_76_code (3 : Nat) (Option.some Jvm.ClassFile.FieldType.int)) ∈ lw_all := lw_g (lw_at lw_m7 224 rfl) rfl
theorem q1819 : (Jvm.Cond.methodLink "SilkClerksModel" (366 : Nat) ({ cls := "SilkClerksModel", name := "markOf", desc := "(II)I" } : Jvm.MethodName)) ∈ lw_all := lw_g (lw_at lw_m7 225 rfl) rfl
theorem q1820 : (Jvm.Cond.privateMethod ({ cls := "SilkClerksModel", name := "markOf", desc := "(II)I" } : Jvm.MethodName)) ∈ lw_tbl := lw_at lw_m7 226 rfl
theorem q1821 : (Jvm.Cond.instanceMethod ({ cls := "SilkClerksModel", name := "markOf", desc := "(II)I" } : Jvm.MethodName)) ∈ lw_all := lw_g (lw_at lw_m7 227 rfl) rfl
theorem q1822 : (Jvm.Cond.code ({ cls := "SilkClerksModel", name := "markOf", desc := "(II)I" } : Jvm.MethodName) prog_17_method_8_code (3 : Nat) (Option.some Jvm.ClassFile.FieldType.int)) ∈ lw_all := lw_g (lw_at lw_m7 228 rfl) rfl
theorem q1824 : (Jvm.Cond.instanceMethod ({ cls := "SilkClerksModel", name := "fact", desc := "(II)I" } : Jvm.MethodName)) ∈ lw_all := lw_g (lw_at lw_m7 230 rfl) rfl
theorem q1825 : (Jvm.Cond.selects "SilkClerksModel" ({ cls := "SilkClerksModel", name := "fact", desc := "(II)I" } : Jvm.MethodName) ({ cls := "SilkClerksModel", name := "fact", desc := "(II)I" } : Jvm.MethodName)) ∈ lw_all := lw_g (lw_at lw_m7 231 rfl) rfl
theorem q1826 : (Jvm.Cond.code ({ cls := "SilkClerksModel", name := "fact", desc := "(II)I" } : Jvm.MethodName) prog_17_method_77_code (3 : Nat) (Option.some Jvm.ClassFile.FieldType.int)) ∈ lw_all := lw_g (lw_at lw_m7 232 rfl) rfl
theorem q1828 : (Jvm.Cond.instanceMethod ({ cls := "SilkClerksModel", name := "book", desc := "(II)I" } : Jvm.MethodName)) ∈ lw_all := lw_g (lw_at lw_m7 234 rfl) rfl
theorem q1829 : (Jvm.Cond.selects "SilkClerksModel" ({ cls := "SilkClerksModel", name := "book", desc := "(II)I" } : Jvm.MethodName) ({ cls := "SilkClerksModel", name := "book", desc := "(II)I" } : Jvm.MethodName)) ∈ lw_all := lw_g (lw_at lw_m7 235 rfl) rfl
theorem q1830 : (Jvm.Cond.code ({ cls := "SilkClerksModel", name := "book", desc := "(II)I" } : Jvm.MethodName) prog_17_method_78_code (3 : Nat) (Option.some Jvm.ClassFile.FieldType.int)) ∈ lw_all := lw_g (lw_at lw_m7 236 rfl) rfl
theorem q1832 : (Jvm.Cond.instanceMethod ({ cls := "SilkClerksModel", name := "goes", desc := "(II)I" } : Jvm.MethodName)) ∈ lw_all := lw_g (lw_at lw_m7 238 rfl) rfl
theorem q1833 : (Jvm.Cond.selects "SilkClerksModel" ({ cls := "SilkClerksModel", name := "goes", desc := "(II)I" } : Jvm.MethodName) ({ cls := "SilkClerksModel", name := "goes", desc := "(II)I" } : Jvm.MethodName)) ∈ lw_all := lw_g (lw_at lw_m7 239 rfl) rfl
theorem q1834 : (Jvm.Cond.code ({ cls := "SilkClerksModel", name := "goes", desc := "(II)I" } : Jvm.MethodName) prog_17_method_80_code (5 : Nat) (Option.some Jvm.ClassFile.FieldType.int)) ∈ lw_all := lw_g (lw_at lw_m8 0 rfl) rfl
theorem q1835 : (Jvm.Cond.methodLink "SilkClerksModel" (369 : Nat) ({ cls := "SilkClerksModel", name := "spunOnes", desc := "()I" } : Jvm.MethodName)) ∈ lw_all := lw_g (lw_at lw_m8 1 rfl) rfl
theorem q1836 : (Jvm.Cond.privateMethod ({ cls := "SilkClerksModel", name := "spunOnes", desc := "()I" } : Jvm.MethodName)) ∈ lw_tbl := lw_at lw_m8 2 rfl
theorem q1837 : (Jvm.Cond.instanceMethod ({ cls := "SilkClerksModel", name := "spunOnes", desc := "()I" } : Jvm.MethodName)) ∈ lw_all := lw_g (lw_at lw_m8 3 rfl) rfl
theorem q1838 : (Jvm.Cond.code ({ cls := "SilkClerksModel", name := "spunOnes", desc := "()I" } : Jvm.MethodName) prog_17_method_79_code (3 : Nat) (Option.some Jvm.ClassFile.FieldType.int)) ∈ lw_all := lw_g (lw_at lw_m8 4 rfl) rfl
theorem q1840 : (Jvm.Cond.instanceMethod ({ cls := "SilkClerksModel", name := "would", desc := "(III)I" } : Jvm.MethodName)) ∈ lw_all := lw_g (lw_at lw_m8 6 rfl) rfl
theorem q1841 : (Jvm.Cond.selects "SilkClerksModel" ({ cls := "SilkClerksModel", name := "would", desc := "(III)I" } : Jvm.MethodName) ({ cls := "SilkClerksModel", name := "would", desc := "(III)I" } : Jvm.MethodName)) ∈ lw_all := lw_g (lw_at lw_m8 7 rfl) rfl
theorem q1842 : (Jvm.Cond.code ({ cls := "SilkClerksModel", name := "would", desc := "(III)I" } : Jvm.MethodName) prog_17_method_82_code (4 : Nat) (Option.some Jvm.ClassFile.FieldType.int)) ∈ lw_all := lw_g (lw_at lw_m8 8 rfl) rfl
theorem q1843 : (Jvm.Cond.methodLink "SilkClerksModel" (372 : Nat) ({ cls := "SilkClerksModel", name := "areFacts", desc := "(II)Z" } : Jvm.MethodName)) ∈ lw_all := lw_g (lw_at lw_m8 9 rfl) rfl
theorem q1844 : (Jvm.Cond.privateMethod ({ cls := "SilkClerksModel", name := "areFacts", desc := "(II)Z" } : Jvm.MethodName)) ∈ lw_tbl := lw_at lw_m8 10 rfl
theorem q1845 : (Jvm.Cond.instanceMethod ({ cls := "SilkClerksModel", name := "areFacts", desc := "(II)Z" } : Jvm.MethodName)) ∈ lw_all := lw_g (lw_at lw_m8 11 rfl) rfl
theorem q1846 : (Jvm.Cond.code ({ cls := "SilkClerksModel", name := "areFacts", desc := "(II)Z" } : Jvm.MethodName) prog_17_method_81_code (3 : Nat) (Option.some Jvm.ClassFile.FieldType.boolean)) ∈ lw_all := lw_g (lw_at lw_m8 12 rfl) rfl
theorem q1848 : (Jvm.Cond.instanceMethod ({ cls := "SilkClerksModel", name := "reads", desc := "(II)I" } : Jvm.MethodName)) ∈ lw_all := lw_g (lw_at lw_m8 14 rfl) rfl
theorem q1849 : (Jvm.Cond.selects "SilkClerksModel" ({ cls := "SilkClerksModel", name := "reads", desc := "(II)I" } : Jvm.MethodName) ({ cls := "SilkClerksModel", name := "reads", desc := "(II)I" } : Jvm.MethodName)) ∈ lw_all := lw_g (lw_at lw_m8 15 rfl) rfl
theorem q1850 : (Jvm.Cond.code ({ cls := "SilkClerksModel", name := "reads", desc := "(II)I" } : Jvm.MethodName) prog_17_method_83_code (3 : Nat) (Option.some Jvm.ClassFile.FieldType.int)) ∈ lw_all := lw_g (lw_at lw_m8 16 rfl) rfl
theorem q1852 : (Jvm.Cond.instanceMethod ({ cls := "SilkClerksModel", name := "fits", desc := "(I)I" } : Jvm.MethodName)) ∈ lw_all := lw_g (lw_at lw_m8 18 rfl) rfl
theorem q1853 : (Jvm.Cond.selects "SilkClerksModel" ({ cls := "SilkClerksModel", name := "fits", desc := "(I)I" } : Jvm.MethodName) ({ cls := "SilkClerksModel", name := "fits", desc := "(I)I" } : Jvm.MethodName)) ∈ lw_all := lw_g (lw_at lw_m8 19 rfl) rfl
theorem q1854 : (Jvm.Cond.code ({ cls := "SilkClerksModel", name := "fits", desc := "(I)I" } : Jvm.MethodName) prog_17_method_87_code (6 : Nat) (Option.some Jvm.ClassFile.FieldType.int)) ∈ lw_all := lw_g (lw_at lw_m8 20 rfl) rfl
theorem q1855 : (Jvm.Cond.methodLink "SilkClerksModel" (376 : Nat) ({ cls := "SilkClerksModel", name := "couldBe", desc := "(II)Z" } : Jvm.MethodName)) ∈ lw_all := lw_g (lw_at lw_m8 21 rfl) rfl
theorem q1856 : (Jvm.Cond.privateMethod ({ cls := "SilkClerksModel", name := "couldBe", desc := "(II)Z" } : Jvm.MethodName)) ∈ lw_tbl := lw_at lw_m8 22 rfl
theorem q1857 : (Jvm.Cond.instanceMethod ({ cls := "SilkClerksModel", name := "couldBe", desc := "(II)Z" } : Jvm.MethodName)) ∈ lw_all := lw_g (lw_at lw_m8 23 rfl) rfl
theorem q1858 : (Jvm.Cond.code ({ cls := "SilkClerksModel", name := "couldBe", desc := "(II)Z" } : Jvm.MethodName) prog_17_method_84_code (4 : Nat) (Option.some Jvm.ClassFile.FieldType.boolean)) ∈ lw_all := lw_g (lw_at lw_m8 24 rfl) rfl
theorem q1859 : (Jvm.Cond.methodLink "SilkClerksModel" (382 : Nat) ({ cls := "SilkClerksModel", name := "yard", desc := "()I" } : Jvm.MethodName)) ∈ lw_all := lw_g (lw_at lw_m8 25 rfl) rfl
theorem q1860 : (Jvm.Cond.privateMethod ({ cls := "SilkClerksModel", name := "yard", desc := "()I" } : Jvm.MethodName)) ∈ lw_tbl := lw_at lw_m8 26 rfl
theorem q1861 : (Jvm.Cond.instanceMethod ({ cls := "SilkClerksModel", name := "yard", desc := "()I" } : Jvm.MethodName)) ∈ lw_all := lw_g (lw_at lw_m8 27 rfl) rfl
theorem q1862 : (Jvm.Cond.code ({ cls := "SilkClerksModel", name := "yard", desc := "()I" } : Jvm.MethodName) prog_17_method_86_code (3 : Nat) (Option.some Jvm.ClassFile.FieldType.int)) ∈ lw_all := lw_g (lw_at lw_m8 28 rfl) rfl
theorem q1863 : (Jvm.Cond.methodLink "SilkClerksModel" (379 : Nat) ({ cls := "SilkClerksModel", name := "mostAlike", desc := "(I)I" } : Jvm.MethodName)) ∈ lw_all := lw_g (lw_at lw_m8 29 rfl) rfl
theorem q1864 : (Jvm.Cond.privateMethod ({ cls := "SilkClerksModel", name := "mostAlike", desc := "(I)I" } : Jvm.MethodName)) ∈ lw_tbl := lw_at lw_m8 30 rfl
theorem q1865 : (Jvm.Cond.instanceMethod ({ cls := "SilkClerksModel", name := "mostAlike", desc := "(I)I" } : Jvm.MethodName)) ∈ lw_all := lw_g (lw_at lw_m8 31 rfl) rfl
theorem q1866 : (Jvm.Cond.code ({ cls := "SilkClerksModel", name := "mostAlike", desc := "(I)I" } : Jvm.MethodName) prog_17_method_85_code (4 : Nat) (Option.some Jvm.ClassFile.FieldType.int)) ∈ lw_all := lw_g (lw_at lw_m8 32 rfl) rfl
theorem q1868 : (Jvm.Cond.instanceMethod ({ cls := "SilkClerksModel", name := "reel", desc := "(I)I" } : Jvm.MethodName)) ∈ lw_all := lw_g (lw_at lw_m8 34 rfl) rfl
theorem q1869 : (Jvm.Cond.selects "SilkClerksModel" ({ cls := "SilkClerksModel", name := "reel", desc := "(I)I" } : Jvm.MethodName) ({ cls := "SilkClerksModel", name := "reel", desc := "(I)I" } : Jvm.MethodName)) ∈ lw_all := lw_g (lw_at lw_m8 35 rfl) rfl
theorem q1870 : (Jvm.Cond.code ({ cls := "SilkClerksModel", name := "reel", desc := "(I)I" } : Jvm.MethodName) prog_17_method_92_code (5 : Nat) (Option.some Jvm.ClassFile.FieldType.int)) ∈ lw_all := lw_g (lw_at lw_m8 36 rfl) rfl
theorem q1871 : (Jvm.Cond.methodLink "SilkClerksModel" (391 : Nat) ({ cls := "SilkClerksModel", name := "laysReel", desc := "(I)V" } : Jvm.MethodName)) ∈ lw_all := lw_g (lw_at lw_m8 37 rfl) rfl
theorem q1872 : (Jvm.Cond.privateMethod ({ cls := "SilkClerksModel", name := "laysReel", desc := "(I)V" } : Jvm.MethodName)) ∈ lw_tbl := lw_at lw_m8 38 rfl
theorem q1873 : (Jvm.Cond.instanceMethod ({ cls := "SilkClerksModel", name := "laysReel", desc := "(I)V" } : Jvm.MethodName)) ∈ lw_all := lw_g (lw_at lw_m8 39 rfl) rfl
theorem q1874 : (Jvm.Cond.code ({ cls := "SilkClerksModel", name := "laysReel", desc := "(I)V" } : Jvm.MethodName) prog_17_method_90_code (6 : Nat) (Option.none : Option Jvm.ClassFile.FieldType)) ∈ lw_all := lw_g (lw_at lw_m8 40 rfl) rfl
theorem q1875 : (Jvm.Cond.methodLink "SilkClerksModel" (388 : Nat) ({ cls := "SilkClerksModel", name := "follows", desc := "(II)Z" } : Jvm.MethodName)) ∈ lw_all := lw_g (lw_at lw_m8 41 rfl) rfl
theorem q1876 : (Jvm.Cond.privateMethod ({ cls := "SilkClerksModel", name := "follows", desc := "(II)Z" } : Jvm.MethodName)) ∈ lw_tbl := lw_at lw_m8 42 rfl
theorem q1877 : (Jvm.Cond.instanceMethod ({ cls := "SilkClerksModel", name := "follows", desc := "(II)Z" } : Jvm.MethodName)) ∈ lw_all := lw_g (lw_at lw_m8 43 rfl) rfl
theorem q1878 : (Jvm.Cond.code ({ cls := "SilkClerksModel", name := "follows", desc := "(II)Z" } : Jvm.MethodName) prog_17_method_89_code (3 : Nat) (Option.some Jvm.ClassFile.FieldType.boolean)) ∈ lw_all := lw_g (lw_at lw_m8 44 rfl) rfl
theorem q1879 : (Jvm.Cond.methodLink "SilkClerksModel" (385 : Nat) ({ cls := "SilkClerksModel", name := "lastMark", desc := "(I)I" } : Jvm.MethodName)) ∈ lw_all := lw_g (lw_at lw_m8 45 rfl) rfl
theorem q1880 : (Jvm.Cond.privateMethod ({ cls := "SilkClerksModel", name := "lastMark", desc := "(I)I" } : Jvm.MethodName)) ∈ lw_tbl := lw_at lw_m8 46 rfl
theorem q1881 : (Jvm.Cond.instanceMethod ({ cls := "SilkClerksModel", name := "lastMark", desc := "(I)I" } : Jvm.MethodName)) ∈ lw_all := lw_g (lw_at lw_m8 47 rfl) rfl
theorem q1882 : (Jvm.Cond.code ({ cls := "SilkClerksModel", name := "lastMark", desc := "(I)I" } : Jvm.MethodName) prog_17_method_88_code (2 : Nat) (Option.some Jvm.ClassFile.FieldType.int)) ∈ lw_all := lw_g (lw_at lw_m8 48 rfl) rfl
theorem q1883 : (Jvm.Cond.methodLink "SilkClerksModel" (394 : Nat) ({ cls := "SilkClerksModel", name := "count", desc := "(I)I" } : Jvm.MethodName)) ∈ lw_all := lw_g (lw_at lw_m8 49 rfl) rfl
theorem q1884 : (Jvm.Cond.static ({ cls := "SilkClerksModel", name := "count", desc := "(I)I" } : Jvm.MethodName)) ∈ lw_all := lw_g (lw_at lw_m8 50 rfl) rfl
theorem q1885 : (Jvm.Cond.code ({ cls := "SilkClerksModel", name := "count", desc := "(I)I" } : Jvm.MethodName) prog_17_method_11_code (3 : Nat) (Option.some Jvm.ClassFile.FieldType.int)) ∈ lw_all := lw_g (lw_at lw_m8 51 rfl) rfl
theorem q1886 : (Jvm.Cond.methodLink "SilkClerksModel" (397 : Nat) ({ cls := "SilkClerksModel", name := "strengthOf", desc := "(I)I" } : Jvm.MethodName)) ∈ lw_all := lw_g (lw_at lw_m8 52 rfl) rfl
theorem q1887 : (Jvm.Cond.privateMethod ({ cls := "SilkClerksModel", name := "strengthOf", desc := "(I)I" } : Jvm.MethodName)) ∈ lw_tbl := lw_at lw_m8 53 rfl
theorem q1888 : (Jvm.Cond.instanceMethod ({ cls := "SilkClerksModel", name := "strengthOf", desc := "(I)I" } : Jvm.MethodName)) ∈ lw_all := lw_g (lw_at lw_m8 54 rfl) rfl
theorem q1889 : (Jvm.Cond.code ({ cls := "SilkClerksModel", name := "strengthOf", desc := "(I)I" } : Jvm.MethodName) prog_17_method_91_code (4 : Nat) (Option.some Jvm.ClassFile.FieldType.int)) ∈ lw_all := lw_g (lw_at lw_m8 55 rfl) rfl
theorem q1891 : (Jvm.Cond.instanceMethod ({ cls := "SilkClerksModel", name := "unlike", desc := "(II)I" } : Jvm.MethodName)) ∈ lw_all := lw_g (lw_at lw_m8 57 rfl) rfl
theorem q1892 : (Jvm.Cond.selects "SilkClerksModel" ({ cls := "SilkClerksModel", name := "unlike", desc := "(II)I" } : Jvm.MethodName) ({ cls := "SilkClerksModel", name := "unlike", desc := "(II)I" } : Jvm.MethodName)) ∈ lw_all := lw_g (lw_at lw_m8 58 rfl) rfl
theorem q1893 : (Jvm.Cond.code ({ cls := "SilkClerksModel", name := "unlike", desc := "(II)I" } : Jvm.MethodName) prog_17_method_93_code (9 : Nat) (Option.some Jvm.ClassFile.FieldType.int)) ∈ lw_all := lw_g (lw_at lw_m8 59 rfl) rfl
theorem q1895 : (Jvm.Cond.instanceMethod ({ cls := "SilkClerksModel", name := "tally", desc := "(I)I" } : Jvm.MethodName)) ∈ lw_all := lw_g (lw_at lw_m8 61 rfl) rfl
theorem q1896 : (Jvm.Cond.selects "SilkClerksModel" ({ cls := "SilkClerksModel", name := "tally", desc := "(I)I" } : Jvm.MethodName) ({ cls := "SilkClerksModel", name := "tally", desc := "(I)I" } : Jvm.MethodName)) ∈ lw_all := lw_g (lw_at lw_m8 62 rfl) rfl
theorem q1897 : (Jvm.Cond.code ({ cls := "SilkClerksModel", name := "tally", desc := "(I)I" } : Jvm.MethodName) prog_17_method_95_code (4 : Nat) (Option.some Jvm.ClassFile.FieldType.int)) ∈ lw_all := lw_g (lw_at lw_m8 63 rfl) rfl
theorem q1898 : (Jvm.Cond.methodLink "SilkClerksModel" (400 : Nat) ({ cls := "SilkClerksModel", name := "tallyOf", desc := "(I)I" } : Jvm.MethodName)) ∈ lw_all := lw_g (lw_at lw_m8 64 rfl) rfl
theorem q1899 : (Jvm.Cond.privateMethod ({ cls := "SilkClerksModel", name := "tallyOf", desc := "(I)I" } : Jvm.MethodName)) ∈ lw_tbl := lw_at lw_m8 65 rfl
theorem q1900 : (Jvm.Cond.instanceMethod ({ cls := "SilkClerksModel", name := "tallyOf", desc := "(I)I" } : Jvm.MethodName)) ∈ lw_all := lw_g (lw_at lw_m8 66 rfl) rfl
theorem q1901 : (Jvm.Cond.code ({ cls := "SilkClerksModel", name := "tallyOf", desc := "(I)I" } : Jvm.MethodName) prog_17_method_94_code (5 : Nat) (Option.some Jvm.ClassFile.FieldType.int)) ∈ lw_all := lw_g (lw_at lw_m8 67 rfl) rfl
theorem q1903 : (Jvm.Cond.instanceMethod ({ cls := "SilkClerksModel", name := "splice", desc := "(II)I" } : Jvm.MethodName)) ∈ lw_all := lw_g (lw_at lw_m8 69 rfl) rfl
theorem q1904 : (Jvm.Cond.selects "SilkClerksModel" ({ cls := "SilkClerksModel", name := "splice", desc := "(II)I" } : Jvm.MethodName) ({ cls := "SilkClerksModel", name := "splice", desc := "(II)I" } : Jvm.MethodName)) ∈ lw_all := lw_g (lw_at lw_m8 70 rfl) rfl
theorem q1905 : (Jvm.Cond.code ({ cls := "SilkClerksModel", name := "splice", desc := "(II)I" } : Jvm.MethodName) prog_17_method_97_code (4 : Nat) (Option.some Jvm.ClassFile.FieldType.int)) ∈ lw_all := lw_g (lw_at lw_m8 71 rfl) rfl
theorem q1906 : (Jvm.Cond.methodLink "SilkClerksModel" (403 : Nat) ({ cls := "SilkClerksModel", name := "splices", desc := "(III)Z" } : Jvm.MethodName)) ∈ lw_all := lw_g (lw_at lw_m8 72 rfl) rfl
theorem q1907 : (Jvm.Cond.privateMethod ({ cls := "SilkClerksModel", name := "splices", desc := "(III)Z" } : Jvm.MethodName)) ∈ lw_tbl := lw_at lw_m8 73 rfl
theorem q1908 : (Jvm.Cond.instanceMethod ({ cls := "SilkClerksModel", name := "splices", desc := "(III)Z" } : Jvm.MethodName)) ∈ lw_all := lw_g (lw_at lw_m8 74 rfl) rfl
theorem q1909 : (Jvm.Cond.code ({ cls := "SilkClerksModel", name := "splices", desc := "(III)Z" } : Jvm.MethodName) prog_17_method_96_code (5 : Nat) (Option.some Jvm.ClassFile.FieldType.boolean)) ∈ lw_all := lw_g (lw_at lw_m8 75 rfl) rfl
theorem q1911 : (Jvm.Cond.instanceMethod ({ cls := "SilkClerksModel", name := "both", desc := "(II)I" } : Jvm.MethodName)) ∈ lw_all := lw_g (lw_at lw_m8 77 rfl) rfl
theorem q1912 : (Jvm.Cond.selects "SilkClerksModel" ({ cls := "SilkClerksModel", name := "both", desc := "(II)I" } : Jvm.MethodName) ({ cls := "SilkClerksModel", name := "both", desc := "(II)I" } : Jvm.MethodName)) ∈ lw_all := lw_g (lw_at lw_m8 78 rfl) rfl
theorem q1913 : (Jvm.Cond.code ({ cls := "SilkClerksModel", name := "both", desc := "(II)I" } : Jvm.MethodName) prog_17_method_99_code (5 : Nat) (Option.some Jvm.ClassFile.FieldType.int)) ∈ lw_all := lw_g (lw_at lw_m8 79 rfl) rfl
theorem q1914 : (Jvm.Cond.methodLink "SilkClerksModel" (406 : Nat) ({ cls := "SilkClerksModel", name := "readsBoth", desc := "(III)Z" } : Jvm.MethodName)) ∈ lw_all := lw_g (lw_at lw_m8 80 rfl) rfl
theorem q1915 : (Jvm.Cond.privateMethod ({ cls := "SilkClerksModel", name := "readsBoth", desc := "(III)Z" } : Jvm.MethodName)) ∈ lw_tbl := lw_at lw_m8 81 rfl
theorem q1916 : (Jvm.Cond.instanceMethod ({ cls := "SilkClerksModel", name := "readsBoth", desc := "(III)Z" } : Jvm.MethodName)) ∈ lw_all := lw_g (lw_at lw_m8 82 rfl) rfl
theorem q1917 : (Jvm.Cond.code ({ cls := "SilkClerksModel", name := "readsBoth", desc := "(III)Z" } : Jvm.MethodName) prog_17_method_98_code (5 : Nat) (Option.some Jvm.ClassFile.FieldType.boolean)) ∈ lw_all := lw_g (lw_at lw_m8 83 rfl) rfl
theorem q1919 : (Jvm.Cond.instanceMethod ({ cls := "SilkClerksModel", name := "pull", desc := "(I)I" } : Jvm.MethodName)) ∈ lw_all := lw_g (lw_at lw_m8 85 rfl) rfl
theorem q1920 : (Jvm.Cond.selects "SilkClerksModel" ({ cls := "SilkClerksModel", name := "pull", desc := "(I)I" } : Jvm.MethodName) ({ cls := "SilkClerksModel", name := "pull", desc := "(I)I" } : Jvm.MethodName)) ∈ lw_all := lw_g (lw_at lw_m8 86 rfl) rfl
theorem q1921 : (Jvm.Cond.code ({ cls := "SilkClerksModel", name := "pull", desc := "(I)I" } : Jvm.MethodName) prog_17_method_100_code (5 : Nat) (Option.some Jvm.ClassFile.FieldType.int)) ∈ lw_all := lw_g (lw_at lw_m8 87 rfl) rfl
theorem q1923 : (Jvm.Cond.instanceMethod ({ cls := "SilkClerksModel", name := "knot", desc := "(II)I" } : Jvm.MethodName)) ∈ lw_all := lw_g (lw_at lw_m8 89 rfl) rfl
theorem q1924 : (Jvm.Cond.selects "SilkClerksModel" ({ cls := "SilkClerksModel", name := "knot", desc := "(II)I" } : Jvm.MethodName) ({ cls := "SilkClerksModel", name := "knot", desc := "(II)I" } : Jvm.MethodName)) ∈ lw_all := lw_g (lw_at lw_m8 90 rfl) rfl
theorem q1925 : (Jvm.Cond.code ({ cls := "SilkClerksModel", name := "knot", desc := "(II)I" } : Jvm.MethodName) prog_17_method_101_code (3 : Nat) (Option.some Jvm.ClassFile.FieldType.int)) ∈ lw_all := lw_g (lw_at lw_m8 91 rfl) rfl
theorem q1927 : (Jvm.Cond.instanceMethod ({ cls := "SilkClerksModel", name := "cuts", desc := "(I)I" } : Jvm.MethodName)) ∈ lw_all := lw_g (lw_at lw_m8 93 rfl) rfl
theorem q1928 : (Jvm.Cond.selects "SilkClerksModel" ({ cls := "SilkClerksModel", name := "cuts", desc := "(I)I" } : Jvm.MethodName) ({ cls := "SilkClerksModel", name := "cuts", desc := "(I)I" } : Jvm.MethodName)) ∈ lw_all := lw_g (lw_at lw_m8 94 rfl) rfl
theorem q1929 : (Jvm.Cond.code ({ cls := "SilkClerksModel", name := "cuts", desc := "(I)I" } : Jvm.MethodName) prog_17_method_103_code (4 : Nat) (Option.some Jvm.ClassFile.FieldType.int)) ∈ lw_all := lw_g (lw_at lw_m8 95 rfl) rfl
theorem q1930 : (Jvm.Cond.methodLink "SilkClerksModel" (409 : Nat) ({ cls := "SilkClerksModel", name := "isCut", desc := "(I)Z" } : Jvm.MethodName)) ∈ lw_all := lw_g (lw_at lw_m8 96 rfl) rfl
theorem q1931 : (Jvm.Cond.privateMethod ({ cls := "SilkClerksModel", name := "isCut", desc := "(I)Z" } : Jvm.MethodName)) ∈ lw_tbl := lw_at lw_m8 97 rfl
theorem q1932 : (Jvm.Cond.instanceMethod ({ cls := "SilkClerksModel", name := "isCut", desc := "(I)Z" } : Jvm.MethodName)) ∈ lw_all := lw_g (lw_at lw_m8 98 rfl) rfl
theorem q1933 : (Jvm.Cond.code ({ cls := "SilkClerksModel", name := "isCut", desc := "(I)Z" } : Jvm.MethodName) prog_17_method_102_code (3 : Nat) (Option.some Jvm.ClassFile.FieldType.boolean)) ∈ lw_all := lw_g (lw_at lw_m8 99 rfl) rfl
theorem q1935 : (Jvm.Cond.instanceMethod ({ cls := "SilkClerksModel", name := "keeps", desc := "(II)I" } : Jvm.MethodName)) ∈ lw_all := lw_g (lw_at lw_m8 101 rfl) rfl
theorem q1936 : (Jvm.Cond.selects "SilkClerksModel" ({ cls := "SilkClerksModel", name := "keeps", desc := "(II)I" } : Jvm.MethodName) ({ cls := "SilkClerksModel", name := "keeps", desc := "(II)I" } : Jvm.MethodName)) ∈ lw_all := lw_g (lw_at lw_m8 102 rfl) rfl
theorem q1937 : (Jvm.Cond.code ({ cls := "SilkClerksModel", name := "keeps", desc := "(II)I" } : Jvm.MethodName) prog_17_method_105_code (5 : Nat) (Option.some Jvm.ClassFile.FieldType.int)) ∈ lw_all := lw_g (lw_at lw_m8 103 rfl) rfl
theorem q1938 : (Jvm.Cond.methodLink "SilkClerksModel" (412 : Nat) ({ cls := "SilkClerksModel", name := "sumOf", desc := "(II)I" } : Jvm.MethodName)) ∈ lw_all := lw_g (lw_at lw_m8 104 rfl) rfl
theorem q1939 : (Jvm.Cond.privateMethod ({ cls := "SilkClerksModel", name := "sumOf", desc := "(II)I" } : Jvm.MethodName)) ∈ lw_tbl := lw_at lw_m8 105 rfl
theorem q1940 : (Jvm.Cond.instanceMethod ({ cls := "SilkClerksModel", name := "sumOf", desc := "(II)I" } : Jvm.MethodName)) ∈ lw_all := lw_g (lw_at lw_m8 106 rfl) rfl
theorem q1941 : (Jvm.Cond.code ({ cls := "SilkClerksModel", name := "sumOf", desc := "(II)I" } : Jvm.MethodName) prog_17_method_104_code (5 : Nat) (Option.some Jvm.ClassFile.FieldType.int)) ∈ lw_all := lw_g (lw_at lw_m8 107 rfl) rfl
theorem q1943 : (Jvm.Cond.instanceMethod ({ cls := "SilkClerksModel", name := "trays", desc := "(I)I" } : Jvm.MethodName)) ∈ lw_all := lw_g (lw_at lw_m8 109 rfl) rfl
theorem q1944 : (Jvm.Cond.selects "SilkClerksModel" ({ cls := "SilkClerksModel", name := "trays", desc := "(I)I" } : Jvm.MethodName) ({ cls := "SilkClerksModel", name := "trays", desc := "(I)I" } : Jvm.MethodName)) ∈ lw_all := lw_g (lw_at lw_m8 110 rfl) rfl
theorem q1945 : (Jvm.Cond.code ({ cls := "SilkClerksModel", name := "trays", desc := "(I)I" } : Jvm.MethodName) prog_17_method_109_code (2 : Nat) (Option.some Jvm.ClassFile.FieldType.int)) ∈ lw_all := lw_g (lw_at lw_m8 111 rfl) rfl
theorem q1946 : (Jvm.Cond.methodLink "SilkClerksModel" (421 : Nat) ({ cls := "SilkClerksModel", name := "traysOf", desc := "(I)I" } : Jvm.MethodName)) ∈ lw_all := lw_g (lw_at lw_m8 112 rfl) rfl
theorem q1947 : (Jvm.Cond.privateMethod ({ cls := "SilkClerksModel", name := "traysOf", desc := "(I)I" } : Jvm.MethodName)) ∈ lw_tbl := lw_at lw_m8 113 rfl
theorem q1948 : (Jvm.Cond.instanceMethod ({ cls := "SilkClerksModel", name := "traysOf", desc := "(I)I" } : Jvm.MethodName)) ∈ lw_all := lw_g (lw_at lw_m8 114 rfl) rfl
theorem q1949 : (Jvm.Cond.code ({ cls := "SilkClerksModel", name := "traysOf", desc := "(I)I" } : Jvm.MethodName) prog_17_method_108_code (4 : Nat) (Option.some Jvm.ClassFile.FieldType.int)) ∈ lw_all := lw_g (lw_at lw_m8 115 rfl) rfl
theorem q1950 : (Jvm.Cond.methodLink "SilkClerksModel" (418 : Nat) ({ cls := "SilkClerksModel", name := "stands", desc := "(II)Z" } : Jvm.MethodName)) ∈ lw_all := lw_g (lw_at lw_m8 116 rfl) rfl
theorem q1951 : (Jvm.Cond.privateMethod ({ cls := "SilkClerksModel", name := "stands", desc := "(II)Z" } : Jvm.MethodName)) ∈ lw_tbl := lw_at lw_m8 117 rfl
theorem q1952 : (Jvm.Cond.instanceMethod ({ cls := "SilkClerksModel", name := "stands", desc := "(II)Z" } : Jvm.MethodName)) ∈ lw_all := lw_g (lw_at lw_m8 118 rfl) rfl
theorem q1953 : (Jvm.Cond.code ({ cls := "SilkClerksModel", name := "stands", desc := "(II)Z" } : Jvm.MethodName) prog_17_method_107_code (4 : Nat) (Option.some Jvm.ClassFile.FieldType.boolean)) ∈ lw_all := lw_g (lw_at lw_m8 119 rfl) rfl
theorem q1954 : (Jvm.Cond.methodLink "SilkClerksModel" (415 : Nat) ({ cls := "SilkClerksModel", name := "standsAt", desc := "(III)Z" } : Jvm.MethodName)) ∈ lw_all := lw_g (lw_at lw_m8 120 rfl) rfl
theorem q1955 : (Jvm.Cond.privateMethod ({ cls := "SilkClerksModel", name := "standsAt", desc := "(III)Z" } : Jvm.MethodName)) ∈ lw_tbl := lw_at lw_m8 121 rfl
theorem q1956 : (Jvm.Cond.instanceMethod ({ cls := "SilkClerksModel", name := "standsAt", desc := "(III)Z" } : Jvm.MethodName)) ∈ lw_all := lw_g (lw_at lw_m8 122 rfl) rfl
theorem q1957 : (Jvm.Cond.code ({ cls := "SilkClerksModel", name := "standsAt", desc := "(III)Z" } : Jvm.MethodName) prog_17_method_106_code (5 : Nat) (Option.some Jvm.ClassFile.FieldType.boolean)) ∈ lw_all := lw_g (lw_at lw_m8 123 rfl) rfl
theorem q1959 : (Jvm.Cond.instanceMethod ({ cls := "SilkClerksModel", name := "gaps", desc := "(I)I" } : Jvm.MethodName)) ∈ lw_all := lw_g (lw_at lw_m8 125 rfl) rfl
theorem q1960 : (Jvm.Cond.selects "SilkClerksModel" ({ cls := "SilkClerksModel", name := "gaps", desc := "(I)I" } : Jvm.MethodName) ({ cls := "SilkClerksModel", name := "gaps", desc := "(I)I" } : Jvm.MethodName)) ∈ lw_all := lw_g (lw_at lw_m8 126 rfl) rfl
theorem q1961 : (Jvm.Cond.code ({ cls := "SilkClerksModel", name := "gaps", desc := "(I)I" } : Jvm.MethodName) prog_17_method_110_code (4 : Nat) (Option.some Jvm.ClassFile.FieldType.int)) ∈ lw_all := lw_g (lw_at lw_m8 127 rfl) rfl
theorem q1963 : (Jvm.Cond.instanceMethod ({ cls := "SilkClerksModel", name := "answered", desc := "(I)I" } : Jvm.MethodName)) ∈ lw_all := lw_g (lw_at lw_m8 129 rfl) rfl
theorem q1964 : (Jvm.Cond.selects "SilkClerksModel" ({ cls := "SilkClerksModel", name := "answered", desc := "(I)I" } : Jvm.MethodName) ({ cls := "SilkClerksModel", name := "answered", desc := "(I)I" } : Jvm.MethodName)) ∈ lw_all := lw_g (lw_at lw_m8 130 rfl) rfl
theorem q1965 : (Jvm.Cond.code ({ cls := "SilkClerksModel", name := "answered", desc := "(I)I" } : Jvm.MethodName) prog_17_method_113_code (5 : Nat) (Option.some Jvm.ClassFile.FieldType.int)) ∈ lw_all := lw_g (lw_at lw_m8 131 rfl) rfl
theorem q1966 : (Jvm.Cond.methodLink "SilkClerksModel" (424 : Nat) ({ cls := "SilkClerksModel", name := "laysQueries", desc := "()V" } : Jvm.MethodName)) ∈ lw_all := lw_g (lw_at lw_m8 132 rfl) rfl
theorem q1967 : (Jvm.Cond.privateMethod ({ cls := "SilkClerksModel", name := "laysQueries", desc := "()V" } : Jvm.MethodName)) ∈ lw_tbl := lw_at lw_m8 133 rfl
theorem q1968 : (Jvm.Cond.instanceMethod ({ cls := "SilkClerksModel", name := "laysQueries", desc := "()V" } : Jvm.MethodName)) ∈ lw_all := lw_g (lw_at lw_m8 134 rfl) rfl
theorem q1969 : (Jvm.Cond.code ({ cls := "SilkClerksModel", name := "laysQueries", desc := "()V" } : Jvm.MethodName) prog_17_method_111_code (3 : Nat) (Option.none : Option Jvm.ClassFile.FieldType)) ∈ lw_all := lw_g (lw_at lw_m8 135 rfl) rfl
theorem q1970 : (Jvm.Cond.methodLink "SilkClerksModel" (427 : Nat) ({ cls := "SilkClerksModel", name := "answeredBy", desc := "(I)I" } : Jvm.MethodName)) ∈ lw_all := lw_g (lw_at lw_m8 136 rfl) rfl
theorem q1971 : (Jvm.Cond.privateMethod ({ cls := "SilkClerksModel", name := "answeredBy", desc := "(I)I" } : Jvm.MethodName)) ∈ lw_tbl := lw_at lw_m8 137 rfl
theorem q1972 : (Jvm.Cond.instanceMethod ({ cls := "SilkClerksModel", name := "answeredBy", desc := "(I)I" } : Jvm.MethodName)) ∈ lw_all := lw_g (lw_at lw_m8 138 rfl) rfl
theorem q1973 : (Jvm.Cond.code ({ cls := "SilkClerksModel", name := "answeredBy", desc := "(I)I" } : Jvm.MethodName) prog_17_method_112_code (4 : Nat) (Option.some Jvm.ClassFile.FieldType.int)) ∈ lw_all := lw_g (lw_at lw_m8 139 rfl) rfl
theorem q1975 : (Jvm.Cond.instanceMethod ({ cls := "SilkClerksModel", name := "scarf", desc := "(I)I" } : Jvm.MethodName)) ∈ lw_all := lw_g (lw_at lw_m8 141 rfl) rfl
theorem q1976 : (Jvm.Cond.selects "SilkClerksModel" ({ cls := "SilkClerksModel", name := "scarf", desc := "(I)I" } : Jvm.MethodName) ({ cls := "SilkClerksModel", name := "scarf", desc := "(I)I" } : Jvm.MethodName)) ∈ lw_all := lw_g (lw_at lw_m8 142 rfl) rfl
theorem q1977 : (Jvm.Cond.code ({ cls := "SilkClerksModel", name := "scarf", desc := "(I)I" } : Jvm.MethodName) prog_17_method_114_code (2 : Nat) (Option.some Jvm.ClassFile.FieldType.int)) ∈ lw_all := lw_g (lw_at lw_m8 143 rfl) rfl
theorem q1979 : (Jvm.Cond.instanceMethod ({ cls := "SilkClerksModel", name := "whose", desc := "(I)I" } : Jvm.MethodName)) ∈ lw_all := lw_g (lw_at lw_m8 145 rfl) rfl
theorem q1980 : (Jvm.Cond.selects "SilkClerksModel" ({ cls := "SilkClerksModel", name := "whose", desc := "(I)I" } : Jvm.MethodName) ({ cls := "SilkClerksModel", name := "whose", desc := "(I)I" } : Jvm.MethodName)) ∈ lw_all := lw_g (lw_at lw_m8 146 rfl) rfl
theorem q1981 : (Jvm.Cond.code ({ cls := "SilkClerksModel", name := "whose", desc := "(I)I" } : Jvm.MethodName) prog_17_method_118_code (4 : Nat) (Option.some Jvm.ClassFile.FieldType.int)) ∈ lw_all := lw_g (lw_at lw_m8 147 rfl) rfl
theorem q1982 : (Jvm.Cond.methodLink "SilkClerksModel" (433 : Nat) ({ cls := "SilkClerksModel", name := "longestOf", desc := "(I)I" } : Jvm.MethodName)) ∈ lw_all := lw_g (lw_at lw_m8 148 rfl) rfl
theorem q1983 : (Jvm.Cond.privateMethod ({ cls := "SilkClerksModel", name := "longestOf", desc := "(I)I" } : Jvm.MethodName)) ∈ lw_tbl := lw_at lw_m8 149 rfl
theorem q1984 : (Jvm.Cond.instanceMethod ({ cls := "SilkClerksModel", name := "longestOf", desc := "(I)I" } : Jvm.MethodName)) ∈ lw_all := lw_g (lw_at lw_m8 150 rfl) rfl
theorem q1985 : (Jvm.Cond.code ({ cls := "SilkClerksModel", name := "longestOf", desc := "(I)I" } : Jvm.MethodName) prog_17_method_116_code (5 : Nat) (Option.some Jvm.ClassFile.FieldType.int)) ∈ lw_all := lw_g (lw_at lw_m8 151 rfl) rfl
theorem q1986 : (Jvm.Cond.methodLink "SilkClerksModel" (430 : Nat) ({ cls := "SilkClerksModel", name := "longAt", desc := "(III)I" } : Jvm.MethodName)) ∈ lw_all := lw_g (lw_at lw_m8 152 rfl) rfl
theorem q1987 : (Jvm.Cond.privateMethod ({ cls := "SilkClerksModel", name := "longAt", desc := "(III)I" } : Jvm.MethodName)) ∈ lw_tbl := lw_at lw_m8 153 rfl
theorem q1988 : (Jvm.Cond.instanceMethod ({ cls := "SilkClerksModel", name := "longAt", desc := "(III)I" } : Jvm.MethodName)) ∈ lw_all := lw_g (lw_at lw_m8 154 rfl) rfl
theorem q1989 : (Jvm.Cond.code ({ cls := "SilkClerksModel", name := "longAt", desc := "(III)I" } : Jvm.MethodName) prog_17_method_115_code (5 : Nat) (Option.some Jvm.ClassFile.FieldType.int)) ∈ lw_all := lw_g (lw_at lw_m8 155 rfl) rfl
theorem q1990 : (Jvm.Cond.methodLink "SilkClerksModel" (436 : Nat) ({ cls := "SilkClerksModel", name := "inOrder", desc := "(I)I" } : Jvm.MethodName)) ∈ lw_all := lw_g (lw_at lw_m8 156 rfl) rfl
theorem q1991 : (Jvm.Cond.privateMethod ({ cls := "SilkClerksModel", name := "inOrder", desc := "(I)I" } : Jvm.MethodName)) ∈ lw_tbl := lw_at lw_m8 157 rfl
theorem q1992 : (Jvm.Cond.instanceMethod ({ cls := "SilkClerksModel", name := "inOrder", desc := "(I)I" } : Jvm.MethodName)) ∈ lw_all := lw_g (lw_at lw_m8 158 rfl) rfl
theorem q1993 : (Jvm.Cond.code ({ cls := "SilkClerksModel", name := "inOrder", desc := "(I)I" } : Jvm.MethodName) prog_17_method_117_code (6 : Nat) (Option.some Jvm.ClassFile.FieldType.int)) ∈ lw_all := lw_g (lw_at lw_m8 159 rfl) rfl
theorem q1995 : (Jvm.Cond.instanceMethod ({ cls := "SilkClerksModel", name := "forged", desc := "(III)I" } : Jvm.MethodName)) ∈ lw_all := lw_g (lw_at lw_m8 161 rfl) rfl
theorem q1996 : (Jvm.Cond.selects "SilkClerksModel" ({ cls := "SilkClerksModel", name := "forged", desc := "(III)I" } : Jvm.MethodName) ({ cls := "SilkClerksModel", name := "forged", desc := "(III)I" } : Jvm.MethodName)) ∈ lw_all := lw_g (lw_at lw_m8 162 rfl) rfl
theorem q1997 : (Jvm.Cond.code ({ cls := "SilkClerksModel", name := "forged", desc := "(III)I" } : Jvm.MethodName) prog_17_method_119_code (11 : Nat) (Option.some Jvm.ClassFile.FieldType.int)) ∈ lw_all := lw_g (lw_at lw_m8 163 rfl) rfl
theorem q1998 : (Jvm.Cond.constantLong "SilkClerksModel" (439 : Nat) (1000 : Int64)) ∈ lw_all := lw_g (lw_at lw_m8 164 rfl) rfl
theorem q1999 : (Jvm.Cond.constantLong "SilkClerksModel" (441 : Nat) (300 : Int64)) ∈ lw_all := lw_g (lw_at lw_m8 165 rfl) rfl
theorem q2000 : (Jvm.Cond.constantLong "SilkClerksModel" (443 : Nat) (700 : Int64)) ∈ lw_all := lw_g (lw_at lw_m8 166 rfl) rfl
theorem q2001 : (Jvm.Cond.constantLong "SilkClerksModel" (445 : Nat) (25 : Int64)) ∈ lw_all := lw_g (lw_at lw_m8 167 rfl) rfl
theorem q2002 : (Jvm.Cond.constantLong "SilkClerksModel" (447 : Nat) (975 : Int64)) ∈ lw_all := lw_g (lw_at lw_m8 168 rfl) rfl
theorem q2003 : (Jvm.Cond.constantLong "SilkClerksModel" (449 : Nat) (1000000 : Int64)) ∈ lw_all := lw_g (lw_at lw_m8 169 rfl) rfl
theorem q2005 : (Jvm.Cond.instanceMethod ({ cls := "SilkClerksModel", name := "own", desc := "(II)I" } : Jvm.MethodName)) ∈ lw_all := lw_g (lw_at lw_m8 171 rfl) rfl
theorem q2006 : (Jvm.Cond.selects "SilkClerksModel" ({ cls := "SilkClerksModel", name := "own", desc := "(II)I" } : Jvm.MethodName) ({ cls := "SilkClerksModel", name := "own", desc := "(II)I" } : Jvm.MethodName)) ∈ lw_all := lw_g (lw_at lw_m8 172 rfl) rfl
theorem q2007 : (Jvm.Cond.code ({ cls := "SilkClerksModel", name := "own", desc := "(II)I" } : Jvm.MethodName) prog_17_method_120_code (3 : Nat) (Option.some Jvm.ClassFile.FieldType.int)) ∈ lw_all := lw_g (lw_at lw_m8 173 rfl) rfl
theorem q2009 : (Jvm.Cond.instanceMethod ({ cls := "SilkClerksModel", name := "feedings", desc := "()I" } : Jvm.MethodName)) ∈ lw_all := lw_g (lw_at lw_m8 175 rfl) rfl
theorem q2010 : (Jvm.Cond.selects "SilkClerksModel" ({ cls := "SilkClerksModel", name := "feedings", desc := "()I" } : Jvm.MethodName) ({ cls := "SilkClerksModel", name := "feedings", desc := "()I" } : Jvm.MethodName)) ∈ lw_all := lw_g (lw_at lw_m8 176 rfl) rfl
theorem q2011 : (Jvm.Cond.code ({ cls := "SilkClerksModel", name := "feedings", desc := "()I" } : Jvm.MethodName) prog_17_method_122_code (8 : Nat) (Option.some Jvm.ClassFile.FieldType.int)) ∈ lw_all := lw_g (lw_at lw_m8 177 rfl) rfl
theorem q2012 : (Jvm.Cond.methodLink "SilkClerksModel" (451 : Nat) ({ cls := "SilkClerksModel", name := "mayHave", desc := "(II)Z" } : Jvm.MethodName)) ∈ lw_all := lw_g (lw_at lw_m8 178 rfl) rfl
theorem q2013 : (Jvm.Cond.privateMethod ({ cls := "SilkClerksModel", name := "mayHave", desc := "(II)Z" } : Jvm.MethodName)) ∈ lw_tbl := lw_at lw_m8 179 rfl
theorem q2014 : (Jvm.Cond.instanceMethod ({ cls := "SilkClerksModel", name := "mayHave", desc := "(II)Z" } : Jvm.MethodName)) ∈ lw_all := lw_g (lw_at lw_m8 180 rfl) rfl
theorem q2015 : (Jvm.Cond.code ({ cls := "SilkClerksModel", name := "mayHave", desc := "(II)Z" } : Jvm.MethodName) prog_17_method_121_code (4 : Nat) (Option.some Jvm.ClassFile.FieldType.boolean)) ∈ lw_all := lw_g (lw_at lw_m8 181 rfl) rfl
theorem q2016 : (Jvm.Cond.constantLong "SilkClerksModel" (454 : Nat) (1000000007 : Int64)) ∈ lw_all := lw_g (lw_at lw_m8 182 rfl) rfl
theorem q2018 : (Jvm.Cond.instanceMethod ({ cls := "SilkClerksModel", name := "dyes", desc := "(I)I" } : Jvm.MethodName)) ∈ lw_all := lw_g (lw_at lw_m8 184 rfl) rfl
theorem q2019 : (Jvm.Cond.selects "SilkClerksModel" ({ cls := "SilkClerksModel", name := "dyes", desc := "(I)I" } : Jvm.MethodName) ({ cls := "SilkClerksModel", name := "dyes", desc := "(I)I" } : Jvm.MethodName)) ∈ lw_all := lw_g (lw_at lw_m8 185 rfl) rfl
theorem q2020 : (Jvm.Cond.code ({ cls := "SilkClerksModel", name := "dyes", desc := "(I)I" } : Jvm.MethodName) prog_17_method_125_code (5 : Nat) (Option.some Jvm.ClassFile.FieldType.int)) ∈ lw_all := lw_g (lw_at lw_m8 186 rfl) rfl
theorem q2021 : (Jvm.Cond.methodLink "SilkClerksModel" (459 : Nat) ({ cls := "SilkClerksModel", name := "areAlike", desc := "(III)Z" } : Jvm.MethodName)) ∈ lw_all := lw_g (lw_at lw_m8 187 rfl) rfl
theorem q2022 : (Jvm.Cond.privateMethod ({ cls := "SilkClerksModel", name := "areAlike", desc := "(III)Z" } : Jvm.MethodName)) ∈ lw_tbl := lw_at lw_m8 188 rfl
theorem q2023 : (Jvm.Cond.instanceMethod ({ cls := "SilkClerksModel", name := "areAlike", desc := "(III)Z" } : Jvm.MethodName)) ∈ lw_all := lw_g (lw_at lw_m8 189 rfl) rfl
theorem q2024 : (Jvm.Cond.code ({ cls := "SilkClerksModel", name := "areAlike", desc := "(III)Z" } : Jvm.MethodName) prog_17_method_124_code (5 : Nat) (Option.some Jvm.ClassFile.FieldType.boolean)) ∈ lw_all := lw_g (lw_at lw_m8 190 rfl) rfl
theorem q2025 : (Jvm.Cond.methodLink "SilkClerksModel" (456 : Nat) ({ cls := "SilkClerksModel", name := "dyed", desc := "(II)I" } : Jvm.MethodName)) ∈ lw_all := lw_g (lw_at lw_m8 191 rfl) rfl
theorem q2026 : (Jvm.Cond.static ({ cls := "SilkClerksModel", name := "dyed", desc := "(II)I" } : Jvm.MethodName)) ∈ lw_all := lw_g (lw_at lw_m8 192 rfl) rfl
theorem q2027 : (Jvm.Cond.code ({ cls := "SilkClerksModel", name := "dyed", desc := "(II)I" } : Jvm.MethodName) prog_17_method_123_code (2 : Nat) (Option.some Jvm.ClassFile.FieldType.int)) ∈ lw_all := lw_g (lw_at lw_m8 193 rfl) rfl
theorem q2029 : (Jvm.Cond.instanceMethod ({ cls := "SilkClerksModel", name := "game", desc := "(I)I" } : Jvm.MethodName)) ∈ lw_all := lw_g (lw_at lw_m8 195 rfl) rfl
theorem q2030 : (Jvm.Cond.selects "SilkClerksModel" ({ cls := "SilkClerksModel", name := "game", desc := "(I)I" } : Jvm.MethodName) ({ cls := "SilkClerksModel", name := "game", desc := "(I)I" } : Jvm.MethodName)) ∈ lw_all := lw_g (lw_at lw_m8 196 rfl) rfl
theorem q2031 : (Jvm.Cond.code ({ cls := "SilkClerksModel", name := "game", desc := "(I)I" } : Jvm.MethodName) prog_17_method_126_code (6 : Nat) (Option.some Jvm.ClassFile.FieldType.int)) ∈ lw_all := lw_g (lw_at lw_m8 197 rfl) rfl
theorem q2033 : (Jvm.Cond.instanceMethod ({ cls := "SilkClerksModel", name := "image", desc := "(Z)Z" } : Jvm.MethodName)) ∈ lw_all := lw_g (lw_at lw_m8 199 rfl) rfl
theorem q2034 : (Jvm.Cond.selects "SilkClerksModel" ({ cls := "SilkClerksModel", name := "image", desc := "(Z)Z" } : Jvm.MethodName) ({ cls := "SilkClerksModel", name := "image", desc := "(Z)Z" } : Jvm.MethodName)) ∈ lw_all := lw_g (lw_at lw_m8 200 rfl) rfl
theorem q2035 : (Jvm.Cond.code ({ cls := "SilkClerksModel", name := "image", desc := "(Z)Z" } : Jvm.MethodName) prog_17_method_127_code (3 : Nat) (Option.some Jvm.ClassFile.FieldType.boolean)) ∈ lw_all := lw_g (lw_at lw_m8 201 rfl) rfl
theorem q2037 : (Jvm.Cond.instanceMethod ({ cls := "SilkClerksModel", name := "look", desc := "(I)I" } : Jvm.MethodName)) ∈ lw_all := lw_g (lw_at lw_m8 203 rfl) rfl
theorem q2038 : (Jvm.Cond.selects "SilkClerksModel" ({ cls := "SilkClerksModel", name := "look", desc := "(I)I" } : Jvm.MethodName) ({ cls := "SilkClerksModel", name := "look", desc := "(I)I" } : Jvm.MethodName)) ∈ lw_all := lw_g (lw_at lw_m8 204 rfl) rfl
theorem q2039 : (Jvm.Cond.code ({ cls := "SilkClerksModel", name := "look", desc := "(I)I" } : Jvm.MethodName) prog_17_method_128_code (2 : Nat) (Option.some Jvm.ClassFile.FieldType.int)) ∈ lw_all := lw_g (lw_at lw_m8 205 rfl) rfl
theorem in_X3 : ∀ w ∈ wsX30, w ∈ lw_all := lw_in wsX30 [1437, 1439, 1441, 1443, 1445, 1447, 1449, 1451, 1453, 1455, 1457, 1459, 1461, 1463, 1465, 1467, 1469, 1471, 1473, 1475, 1477, 1479, 1481, 1483, 1485, 1487, 1489, 1491, 1493, 1495, 1497, 1499, 1501] (by decide +kernel) (by decide +kernel)
