/-! SilkClerks -/
set_option maxRecDepth 100000
def RX0 : String := "SilkClerks"
def TX0 : u_T := fun k => match k with
  | 0 => ("SilkClerks", "tape", "[B", true)
  | 1 => ("SilkClerks", "taped", "I", false)
  | 2 => ("SilkClerks", "firstWords", "[[Ljava/lang/String;", true)
  | 3 => ("SilkClerks", "lawAsked", "[Ljava/lang/String;", true)
  | 4 => ("SilkClerks", "others", "[Ljava/lang/String;", true)
  | 5 => ("SilkClerks", "nothing", "[Ljava/lang/String;", true)
  | 6 => ("SilkClerks", "words", "[Ljava/lang/String;", false)
  | 7 => ("SilkClerks", "asked", "[Ljava/lang/String;", false)
  | 8 => ("SilkClerks", "joins", "[Ljava/lang/String;", false)
  | 9 => ("SilkClerks", "token", "LSilkClerks$Token;", false)
  | 10 => ("SilkClerks", "spot", "I", false)
  | 11 => ("SilkClerks", "from", "I", false)
  | 12 => ("SilkClerks", "value", "I", false)
  | 13 => ("SilkClerks", "open", "I", false)
  | 14 => ("SilkClerks", "faultKind", "I", false)
  | 15 => ("SilkClerks", "faultPlace", "I", false)
  | 16 => ("SilkClerks", "law", "LSilkClerks$Text;", false)
  | 17 => ("SilkClerks", "lawHas", "[I", true)
  | 18 => ("SilkClerks", "facts", "[LSilkClerks$Fact;", false)
  | 19 => ("SilkClerks", "meals", "[LSilkClerks$Meal;", false)
  | 20 => ("SilkClerks", "queries", "[I", false)
  | 21 => ("SilkClerks", "worms", "I", false)
  | 22 => ("SilkClerks", "tray", "[I", true)
  | 23 => ("SilkClerks", "trays", "LSilkClerks$Trays;", true)
  | 24 => ("SilkClerks", "thought", "LSilkClerks$Trays;", true)
  | 25 => ("SilkClerks", "kept", "LSilkClerks$Trays;", true)
  | 26 => ("SilkClerks", "book", "[I", true)
  | 27 => ("SilkClerks", "ahead", "[LSilkClerks$Trays;", true)
  | 28 => ("SilkClerks", "undoable", "I", false)
  | 29 => ("SilkClerks", "reads", "[LSilkClerks$Read;", false)
  | 30 => ("SilkClerks", "reeled", "[I", true)
  | 31 => ("SilkClerks", "knots", "[I", false)
  | 32 => ("SilkClerks", "worthBy", "LSilkClerks$Measure;", true)
  | 33 => ("SilkClerks", "leafBy", "LSilkClerks$Measure;", true)
  | 34 => ("SilkClerks", "scarf", "[I", false)
  | 35 => ("SilkClerks", "owns", "[I", false)
  | 36 => ("SilkClerks", "keptTray", "[I", true)
  | 37 => ("SilkClerks", "keptBook", "[I", true)
  | 38 => ("SilkClerks", "keptWorms", "I", false)
  | 39 => ("SilkClerks", "keptFacts", "[LSilkClerks$Fact;", false)
  | 40 => ("SilkClerks", "keptMeals", "[LSilkClerks$Meal;", false)
  | 41 => ("SilkClerks", "keptReads", "[LSilkClerks$Read;", false)
  | 42 => ("SilkClerks", "keptQueries", "[I", false)
  | 43 => ("SilkClerks", "keptKnots", "[I", false)
  | 44 => ("SilkClerks", "keptScarf", "[I", false)
  | 45 => ("SilkClerks", "keptOwns", "[I", false)
  | _ => ("SilkClerks", "keptLaw", "LSilkClerks$Text;", false)
def tyX0 : Nat → FieldType := fun k => match k with
  | 0 => .array .byte
  | 1 => .int
  | 2 => .array (.array (.object "java/lang/String"))
  | 3 => .array (.object "java/lang/String")
  | 4 => .array (.object "java/lang/String")
  | 5 => .array (.object "java/lang/String")
  | 6 => .array (.object "java/lang/String")
  | 7 => .array (.object "java/lang/String")
  | 8 => .array (.object "java/lang/String")
  | 9 => .object "SilkClerks$Token"
  | 10 => .int
  | 11 => .int
  | 12 => .int
  | 13 => .int
  | 14 => .int
  | 15 => .int
  | 16 => .object "SilkClerks$Text"
  | 17 => .array .int
  | 18 => .array (.object "SilkClerks$Fact")
  | 19 => .array (.object "SilkClerks$Meal")
  | 20 => .array .int
  | 21 => .int
  | 22 => .array .int
  | 23 => .object "SilkClerks$Trays"
  | 24 => .object "SilkClerks$Trays"
  | 25 => .object "SilkClerks$Trays"
  | 26 => .array .int
  | 27 => .array (.object "SilkClerks$Trays")
  | 28 => .int
  | 29 => .array (.object "SilkClerks$Read")
  | 30 => .array .int
  | 31 => .array .int
  | 32 => .object "SilkClerks$Measure"
  | 33 => .object "SilkClerks$Measure"
  | 34 => .array .int
  | 35 => .array .int
  | 36 => .array .int
  | 37 => .array .int
  | 38 => .int
  | 39 => .array (.object "SilkClerks$Fact")
  | 40 => .array (.object "SilkClerks$Meal")
  | 41 => .array (.object "SilkClerks$Read")
  | 42 => .array .int
  | 43 => .array .int
  | 44 => .array .int
  | 45 => .array .int
  | _ => .object "SilkClerks$Text"
abbrev wsX00 : List Cond := u_ws RX0 TX0 47
set_option maxRecDepth 100000 in
theorem nmX0 : ∀ a, a < 47 → ∀ b, b < 47 → a ≠ b → (TX0 a).2.1 ≠ (TX0 b).2.1 := by decide +kernel
set_option maxRecDepth 100000 in
theorem tyX0_ok : ∀ k, k < 47 → parseFieldDescriptor (TX0 k).2.2.1 = some (tyX0 k) := by decide +kernel
abbrev cX0_init : ByteArray := prog_1_method_9_code
def yX0_init : MethodName := ⟨RX0, "<init>", "()V"⟩
def dkwX0_init_17 : List UInt8 := [16, 12, 188, 10, 181, 0, 211, 42, 17, 2, 88, 188, 10, 181, 0, 214, 177]
abbrev dktX0_init_17 : List UInt8 := dkwX0_init_17 ++ []
def dkwX0_init_16 : List UInt8 := [186, 0, 201, 0, 0, 181, 0, 202, 42, 3, 188, 10, 181, 0, 205, 42, 3, 188, 10, 181, 0, 208, 42]
abbrev dktX0_init_16 : List UInt8 := dkwX0_init_16 ++ dktX0_init_17
def dkwX0_init_15 : List UInt8 := [181, 0, 188, 42, 3, 188, 10, 181, 0, 191, 42, 42, 186, 0, 194, 0, 0, 181, 0, 197, 42, 42]
abbrev dktX0_init_15 : List UInt8 := dkwX0_init_15 ++ dktX0_init_16
def dkwX0_init_14 : List UInt8 := [42, 16, 6, 189, 0, 159, 181, 0, 177, 42, 3, 189, 0, 181, 181, 0, 183, 42, 18, 187, 188, 10]
abbrev dktX0_init_14 : List UInt8 := dkwX0_init_14 ++ dktX0_init_15
def dkwX0_init_13 : List UInt8 := [181, 0, 168, 42, 187, 0, 159, 89, 42, 183, 0, 161, 181, 0, 171, 42, 17, 2, 88, 188, 10, 181, 0, 174]
abbrev dktX0_init_13 : List UInt8 := dkwX0_init_13 ++ dktX0_init_14
def dkwX0_init_12 : List UInt8 := [181, 0, 157, 42, 187, 0, 159, 89, 42, 183, 0, 161, 181, 0, 164, 42, 187, 0, 159, 89, 42, 183, 0, 161]
abbrev dktX0_init_12 : List UInt8 := dkwX0_init_12 ++ dktX0_init_13
def dkwX0_init_11 : List UInt8 := [181, 0, 144, 42, 3, 189, 0, 148, 181, 0, 150, 42, 3, 188, 10, 181, 0, 154, 42, 16, 12, 188, 10]
abbrev dktX0_init_11 : List UInt8 := dkwX0_init_11 ++ dktX0_init_12
def dkwX0_init_10 : List UInt8 := [187, 0, 131, 89, 183, 0, 133, 181, 0, 134, 42, 16, 10, 188, 10, 181, 0, 138, 42, 3, 189, 0, 142]
abbrev dktX0_init_10 : List UInt8 := dkwX0_init_10 ++ dktX0_init_11
def dkwX0_init_9 : List UInt8 := [42, 42, 180, 0, 115, 181, 0, 121, 42, 42, 180, 0, 115, 181, 0, 124, 42, 2, 181, 0, 127, 42]
abbrev dktX0_init_9 : List UInt8 := dkwX0_init_9 ++ dktX0_init_10
def dkwX0_init_8 : List UInt8 := [89, 6, 18, 110, 83, 181, 0, 112, 42, 3, 189, 0, 53, 181, 0, 115, 42, 42, 180, 0, 115, 181, 0, 118]
abbrev dktX0_init_8 : List UInt8 := dkwX0_init_8 ++ dktX0_init_9
def dkwX0_init_7 : List UInt8 := [83, 181, 0, 103, 42, 7, 189, 0, 53, 89, 3, 18, 106, 83, 89, 4, 18, 108, 83, 89, 5, 18, 77, 83]
abbrev dktX0_init_7 : List UInt8 := dkwX0_init_7 ++ dktX0_init_8
def dkwX0_init_6 : List UInt8 := [83, 89, 16, 6, 18, 95, 83, 89, 16, 7, 18, 97, 83, 89, 16, 8, 18, 99, 83, 89, 16, 9, 18, 101]
abbrev dktX0_init_6 : List UInt8 := dkwX0_init_6 ++ dktX0_init_7
def dkwX0_init_5 : List UInt8 := [89, 4, 18, 85, 83, 89, 5, 18, 87, 83, 89, 6, 18, 89, 83, 89, 7, 18, 91, 83, 89, 8, 18, 93]
abbrev dktX0_init_5 : List UInt8 := dkwX0_init_5 ++ dktX0_init_6
def dkwX0_init_4 : List UInt8 := [4, 18, 75, 83, 89, 5, 18, 77, 83, 83, 181, 0, 79, 42, 16, 10, 189, 0, 53, 89, 3, 18, 83, 83]
abbrev dktX0_init_4 : List UInt8 := dkwX0_init_4 ++ dktX0_init_5
def dkwX0_init_3 : List UInt8 := [83, 89, 4, 18, 69, 83, 89, 5, 18, 71, 83, 83, 89, 6, 6, 189, 0, 53, 89, 3, 18, 73, 83, 89]
abbrev dktX0_init_3 : List UInt8 := dkwX0_init_3 ++ dktX0_init_4
def dkwX0_init_2 : List UInt8 := [18, 61, 83, 89, 4, 18, 63, 83, 89, 5, 18, 65, 83, 83, 89, 5, 6, 189, 0, 53, 89, 3, 18, 67]
abbrev dktX0_init_2 : List UInt8 := dkwX0_init_2 ++ dktX0_init_3
def dkwX0_init_1 : List UInt8 := [89, 3, 18, 55, 83, 89, 4, 18, 57, 83, 89, 5, 18, 59, 83, 83, 89, 4, 6, 189, 0, 53, 89, 3]
abbrev dktX0_init_1 : List UInt8 := dkwX0_init_1 ++ dktX0_init_2
def dkwX0_init_0 : List UInt8 := [42, 183, 0, 41, 42, 17, 1, 144, 188, 8, 181, 0, 47, 42, 7, 189, 0, 51, 89, 3, 6, 189, 0, 53]
abbrev dktX0_init_0 : List UInt8 := dkwX0_init_0 ++ dktX0_init_1
theorem dksX0_init_0 : cX0_init.data.toList.drop 0 = dktX0_init_0 := by decide +kernel
theorem dksX0_init_1 : cX0_init.data.toList.drop 24 = dktX0_init_1 := dk_seg dksX0_init_0 24 rfl rfl
theorem dksX0_init_2 : cX0_init.data.toList.drop 48 = dktX0_init_2 := dk_seg dksX0_init_1 24 rfl rfl
theorem dksX0_init_3 : cX0_init.data.toList.drop 72 = dktX0_init_3 := dk_seg dksX0_init_2 24 rfl rfl
theorem dksX0_init_4 : cX0_init.data.toList.drop 96 = dktX0_init_4 := dk_seg dksX0_init_3 24 rfl rfl
theorem dksX0_init_5 : cX0_init.data.toList.drop 120 = dktX0_init_5 := dk_seg dksX0_init_4 24 rfl rfl
theorem dksX0_init_6 : cX0_init.data.toList.drop 144 = dktX0_init_6 := dk_seg dksX0_init_5 24 rfl rfl
theorem dksX0_init_7 : cX0_init.data.toList.drop 168 = dktX0_init_7 := dk_seg dksX0_init_6 24 rfl rfl
theorem dksX0_init_8 : cX0_init.data.toList.drop 192 = dktX0_init_8 := dk_seg dksX0_init_7 24 rfl rfl
theorem dksX0_init_9 : cX0_init.data.toList.drop 216 = dktX0_init_9 := dk_seg dksX0_init_8 24 rfl rfl
theorem dksX0_init_10 : cX0_init.data.toList.drop 238 = dktX0_init_10 := dk_seg dksX0_init_9 22 rfl rfl
theorem dksX0_init_11 : cX0_init.data.toList.drop 261 = dktX0_init_11 := dk_seg dksX0_init_10 23 rfl rfl
theorem dksX0_init_12 : cX0_init.data.toList.drop 284 = dktX0_init_12 := dk_seg dksX0_init_11 23 rfl rfl
theorem dksX0_init_13 : cX0_init.data.toList.drop 308 = dktX0_init_13 := dk_seg dksX0_init_12 24 rfl rfl
theorem dksX0_init_14 : cX0_init.data.toList.drop 332 = dktX0_init_14 := dk_seg dksX0_init_13 24 rfl rfl
theorem dksX0_init_15 : cX0_init.data.toList.drop 354 = dktX0_init_15 := dk_seg dksX0_init_14 22 rfl rfl
theorem dksX0_init_16 : cX0_init.data.toList.drop 376 = dktX0_init_16 := dk_seg dksX0_init_15 22 rfl rfl
theorem dksX0_init_17 : cX0_init.data.toList.drop 399 = dktX0_init_17 := dk_seg dksX0_init_16 23 rfl rfl
theorem dX0_init_0 : decode cX0_init 0 = .ok (.aload_n 0, 1) := dk_42 (dk_at dksX0_init_0 0 rfl rfl)
theorem dX0_init_1 : decode cX0_init 1 = .ok (.invokespecial 41, 3) := dk_183 0 41 (dk_at dksX0_init_0 1 rfl rfl)
theorem dX0_init_4 : decode cX0_init 4 = .ok (.aload_n 0, 1) := dk_42 (dk_at dksX0_init_0 4 rfl rfl)
theorem dX0_init_5 : decode cX0_init 5 = .ok (.sipush 400, 3) := dk_17 1 144 (dk_at dksX0_init_0 5 rfl rfl)
theorem dX0_init_8 : decode cX0_init 8 = .ok (.newarray .byte, 2) := dk_188_8 (dk_at dksX0_init_0 8 rfl rfl)
theorem dX0_init_10 : decode cX0_init 10 = .ok (.putfield 47, 3) := dk_181 0 47 (dk_at dksX0_init_0 10 rfl rfl)
theorem dX0_init_13 : decode cX0_init 13 = .ok (.aload_n 0, 1) := dk_42 (dk_at dksX0_init_0 13 rfl rfl)
theorem dX0_init_14 : decode cX0_init 14 = .ok (.iconst 4, 1) := dk_7 (dk_at dksX0_init_0 14 rfl rfl)
theorem dX0_init_15 : decode cX0_init 15 = .ok (.anewarray 51, 3) := dk_189 0 51 (dk_at dksX0_init_0 15 rfl rfl)
theorem dX0_init_18 : decode cX0_init 18 = .ok (.dup, 1) := dk_89 (dk_at dksX0_init_0 18 rfl rfl)
theorem dX0_init_19 : decode cX0_init 19 = .ok (.iconst 0, 1) := dk_3 (dk_at dksX0_init_0 19 rfl rfl)
theorem dX0_init_20 : decode cX0_init 20 = .ok (.iconst 3, 1) := dk_6 (dk_at dksX0_init_0 20 rfl rfl)
theorem dX0_init_21 : decode cX0_init 21 = .ok (.anewarray 53, 3) := dk_189 0 53 (dk_at dksX0_init_0 21 rfl rfl)
theorem dX0_init_24 : decode cX0_init 24 = .ok (.dup, 1) := dk_89 (dk_at dksX0_init_1 0 rfl rfl)
theorem dX0_init_25 : decode cX0_init 25 = .ok (.iconst 0, 1) := dk_3 (dk_at dksX0_init_1 1 rfl rfl)
theorem dX0_init_26 : decode cX0_init 26 = .ok (.ldc 55, 2) := dk_18 55 (dk_at dksX0_init_1 2 rfl rfl)
theorem dX0_init_28 : decode cX0_init 28 = .ok (.aastore, 1) := dk_83 (dk_at dksX0_init_1 4 rfl rfl)
theorem dX0_init_29 : decode cX0_init 29 = .ok (.dup, 1) := dk_89 (dk_at dksX0_init_1 5 rfl rfl)
theorem dX0_init_30 : decode cX0_init 30 = .ok (.iconst 1, 1) := dk_4 (dk_at dksX0_init_1 6 rfl rfl)
theorem dX0_init_31 : decode cX0_init 31 = .ok (.ldc 57, 2) := dk_18 57 (dk_at dksX0_init_1 7 rfl rfl)
theorem dX0_init_33 : decode cX0_init 33 = .ok (.aastore, 1) := dk_83 (dk_at dksX0_init_1 9 rfl rfl)
theorem dX0_init_34 : decode cX0_init 34 = .ok (.dup, 1) := dk_89 (dk_at dksX0_init_1 10 rfl rfl)
theorem dX0_init_35 : decode cX0_init 35 = .ok (.iconst 2, 1) := dk_5 (dk_at dksX0_init_1 11 rfl rfl)
theorem dX0_init_36 : decode cX0_init 36 = .ok (.ldc 59, 2) := dk_18 59 (dk_at dksX0_init_1 12 rfl rfl)
theorem dX0_init_38 : decode cX0_init 38 = .ok (.aastore, 1) := dk_83 (dk_at dksX0_init_1 14 rfl rfl)
theorem dX0_init_39 : decode cX0_init 39 = .ok (.aastore, 1) := dk_83 (dk_at dksX0_init_1 15 rfl rfl)
theorem dX0_init_40 : decode cX0_init 40 = .ok (.dup, 1) := dk_89 (dk_at dksX0_init_1 16 rfl rfl)
theorem dX0_init_41 : decode cX0_init 41 = .ok (.iconst 1, 1) := dk_4 (dk_at dksX0_init_1 17 rfl rfl)
theorem dX0_init_42 : decode cX0_init 42 = .ok (.iconst 3, 1) := dk_6 (dk_at dksX0_init_1 18 rfl rfl)
theorem dX0_init_43 : decode cX0_init 43 = .ok (.anewarray 53, 3) := dk_189 0 53 (dk_at dksX0_init_1 19 rfl rfl)
theorem dX0_init_46 : decode cX0_init 46 = .ok (.dup, 1) := dk_89 (dk_at dksX0_init_1 22 rfl rfl)
theorem dX0_init_47 : decode cX0_init 47 = .ok (.iconst 0, 1) := dk_3 (dk_at dksX0_init_1 23 rfl rfl)
theorem dX0_init_48 : decode cX0_init 48 = .ok (.ldc 61, 2) := dk_18 61 (dk_at dksX0_init_2 0 rfl rfl)
theorem dX0_init_50 : decode cX0_init 50 = .ok (.aastore, 1) := dk_83 (dk_at dksX0_init_2 2 rfl rfl)
theorem dX0_init_51 : decode cX0_init 51 = .ok (.dup, 1) := dk_89 (dk_at dksX0_init_2 3 rfl rfl)
theorem dX0_init_52 : decode cX0_init 52 = .ok (.iconst 1, 1) := dk_4 (dk_at dksX0_init_2 4 rfl rfl)
theorem dX0_init_53 : decode cX0_init 53 = .ok (.ldc 63, 2) := dk_18 63 (dk_at dksX0_init_2 5 rfl rfl)
theorem dX0_init_55 : decode cX0_init 55 = .ok (.aastore, 1) := dk_83 (dk_at dksX0_init_2 7 rfl rfl)
theorem dX0_init_56 : decode cX0_init 56 = .ok (.dup, 1) := dk_89 (dk_at dksX0_init_2 8 rfl rfl)
theorem dX0_init_57 : decode cX0_init 57 = .ok (.iconst 2, 1) := dk_5 (dk_at dksX0_init_2 9 rfl rfl)
theorem dX0_init_58 : decode cX0_init 58 = .ok (.ldc 65, 2) := dk_18 65 (dk_at dksX0_init_2 10 rfl rfl)
theorem dX0_init_60 : decode cX0_init 60 = .ok (.aastore, 1) := dk_83 (dk_at dksX0_init_2 12 rfl rfl)
theorem dX0_init_61 : decode cX0_init 61 = .ok (.aastore, 1) := dk_83 (dk_at dksX0_init_2 13 rfl rfl)
theorem dX0_init_62 : decode cX0_init 62 = .ok (.dup, 1) := dk_89 (dk_at dksX0_init_2 14 rfl rfl)
theorem dX0_init_63 : decode cX0_init 63 = .ok (.iconst 2, 1) := dk_5 (dk_at dksX0_init_2 15 rfl rfl)
theorem dX0_init_64 : decode cX0_init 64 = .ok (.iconst 3, 1) := dk_6 (dk_at dksX0_init_2 16 rfl rfl)
theorem dX0_init_65 : decode cX0_init 65 = .ok (.anewarray 53, 3) := dk_189 0 53 (dk_at dksX0_init_2 17 rfl rfl)
theorem dX0_init_68 : decode cX0_init 68 = .ok (.dup, 1) := dk_89 (dk_at dksX0_init_2 20 rfl rfl)
theorem dX0_init_69 : decode cX0_init 69 = .ok (.iconst 0, 1) := dk_3 (dk_at dksX0_init_2 21 rfl rfl)
theorem dX0_init_70 : decode cX0_init 70 = .ok (.ldc 67, 2) := dk_18 67 (dk_at dksX0_init_2 22 rfl rfl)
theorem dX0_init_72 : decode cX0_init 72 = .ok (.aastore, 1) := dk_83 (dk_at dksX0_init_3 0 rfl rfl)
theorem dX0_init_73 : decode cX0_init 73 = .ok (.dup, 1) := dk_89 (dk_at dksX0_init_3 1 rfl rfl)
theorem dX0_init_74 : decode cX0_init 74 = .ok (.iconst 1, 1) := dk_4 (dk_at dksX0_init_3 2 rfl rfl)
theorem dX0_init_75 : decode cX0_init 75 = .ok (.ldc 69, 2) := dk_18 69 (dk_at dksX0_init_3 3 rfl rfl)
theorem dX0_init_77 : decode cX0_init 77 = .ok (.aastore, 1) := dk_83 (dk_at dksX0_init_3 5 rfl rfl)
theorem dX0_init_78 : decode cX0_init 78 = .ok (.dup, 1) := dk_89 (dk_at dksX0_init_3 6 rfl rfl)
theorem dX0_init_79 : decode cX0_init 79 = .ok (.iconst 2, 1) := dk_5 (dk_at dksX0_init_3 7 rfl rfl)
theorem dX0_init_80 : decode cX0_init 80 = .ok (.ldc 71, 2) := dk_18 71 (dk_at dksX0_init_3 8 rfl rfl)
theorem dX0_init_82 : decode cX0_init 82 = .ok (.aastore, 1) := dk_83 (dk_at dksX0_init_3 10 rfl rfl)
theorem dX0_init_83 : decode cX0_init 83 = .ok (.aastore, 1) := dk_83 (dk_at dksX0_init_3 11 rfl rfl)
theorem dX0_init_84 : decode cX0_init 84 = .ok (.dup, 1) := dk_89 (dk_at dksX0_init_3 12 rfl rfl)
theorem dX0_init_85 : decode cX0_init 85 = .ok (.iconst 3, 1) := dk_6 (dk_at dksX0_init_3 13 rfl rfl)
theorem dX0_init_86 : decode cX0_init 86 = .ok (.iconst 3, 1) := dk_6 (dk_at dksX0_init_3 14 rfl rfl)
theorem dX0_init_87 : decode cX0_init 87 = .ok (.anewarray 53, 3) := dk_189 0 53 (dk_at dksX0_init_3 15 rfl rfl)
theorem dX0_init_90 : decode cX0_init 90 = .ok (.dup, 1) := dk_89 (dk_at dksX0_init_3 18 rfl rfl)
theorem dX0_init_91 : decode cX0_init 91 = .ok (.iconst 0, 1) := dk_3 (dk_at dksX0_init_3 19 rfl rfl)
theorem dX0_init_92 : decode cX0_init 92 = .ok (.ldc 73, 2) := dk_18 73 (dk_at dksX0_init_3 20 rfl rfl)
theorem dX0_init_94 : decode cX0_init 94 = .ok (.aastore, 1) := dk_83 (dk_at dksX0_init_3 22 rfl rfl)
theorem dX0_init_95 : decode cX0_init 95 = .ok (.dup, 1) := dk_89 (dk_at dksX0_init_3 23 rfl rfl)
theorem dX0_init_96 : decode cX0_init 96 = .ok (.iconst 1, 1) := dk_4 (dk_at dksX0_init_4 0 rfl rfl)
theorem dX0_init_97 : decode cX0_init 97 = .ok (.ldc 75, 2) := dk_18 75 (dk_at dksX0_init_4 1 rfl rfl)
theorem dX0_init_99 : decode cX0_init 99 = .ok (.aastore, 1) := dk_83 (dk_at dksX0_init_4 3 rfl rfl)
theorem dX0_init_100 : decode cX0_init 100 = .ok (.dup, 1) := dk_89 (dk_at dksX0_init_4 4 rfl rfl)
theorem dX0_init_101 : decode cX0_init 101 = .ok (.iconst 2, 1) := dk_5 (dk_at dksX0_init_4 5 rfl rfl)
theorem dX0_init_102 : decode cX0_init 102 = .ok (.ldc 77, 2) := dk_18 77 (dk_at dksX0_init_4 6 rfl rfl)
theorem dX0_init_104 : decode cX0_init 104 = .ok (.aastore, 1) := dk_83 (dk_at dksX0_init_4 8 rfl rfl)
theorem dX0_init_105 : decode cX0_init 105 = .ok (.aastore, 1) := dk_83 (dk_at dksX0_init_4 9 rfl rfl)
theorem dX0_init_106 : decode cX0_init 106 = .ok (.putfield 79, 3) := dk_181 0 79 (dk_at dksX0_init_4 10 rfl rfl)
theorem dX0_init_109 : decode cX0_init 109 = .ok (.aload_n 0, 1) := dk_42 (dk_at dksX0_init_4 13 rfl rfl)
theorem dX0_init_110 : decode cX0_init 110 = .ok (.bipush 10, 2) := dk_16 10 (dk_at dksX0_init_4 14 rfl rfl)
theorem dX0_init_112 : decode cX0_init 112 = .ok (.anewarray 53, 3) := dk_189 0 53 (dk_at dksX0_init_4 16 rfl rfl)
theorem dX0_init_115 : decode cX0_init 115 = .ok (.dup, 1) := dk_89 (dk_at dksX0_init_4 19 rfl rfl)
theorem dX0_init_116 : decode cX0_init 116 = .ok (.iconst 0, 1) := dk_3 (dk_at dksX0_init_4 20 rfl rfl)
theorem dX0_init_117 : decode cX0_init 117 = .ok (.ldc 83, 2) := dk_18 83 (dk_at dksX0_init_4 21 rfl rfl)
theorem dX0_init_119 : decode cX0_init 119 = .ok (.aastore, 1) := dk_83 (dk_at dksX0_init_4 23 rfl rfl)
theorem dX0_init_120 : decode cX0_init 120 = .ok (.dup, 1) := dk_89 (dk_at dksX0_init_5 0 rfl rfl)
theorem dX0_init_121 : decode cX0_init 121 = .ok (.iconst 1, 1) := dk_4 (dk_at dksX0_init_5 1 rfl rfl)
theorem dX0_init_122 : decode cX0_init 122 = .ok (.ldc 85, 2) := dk_18 85 (dk_at dksX0_init_5 2 rfl rfl)
theorem dX0_init_124 : decode cX0_init 124 = .ok (.aastore, 1) := dk_83 (dk_at dksX0_init_5 4 rfl rfl)
theorem dX0_init_125 : decode cX0_init 125 = .ok (.dup, 1) := dk_89 (dk_at dksX0_init_5 5 rfl rfl)
theorem dX0_init_126 : decode cX0_init 126 = .ok (.iconst 2, 1) := dk_5 (dk_at dksX0_init_5 6 rfl rfl)
theorem dX0_init_127 : decode cX0_init 127 = .ok (.ldc 87, 2) := dk_18 87 (dk_at dksX0_init_5 7 rfl rfl)
theorem dX0_init_129 : decode cX0_init 129 = .ok (.aastore, 1) := dk_83 (dk_at dksX0_init_5 9 rfl rfl)
theorem dX0_init_130 : decode cX0_init 130 = .ok (.dup, 1) := dk_89 (dk_at dksX0_init_5 10 rfl rfl)
theorem dX0_init_131 : decode cX0_init 131 = .ok (.iconst 3, 1) := dk_6 (dk_at dksX0_init_5 11 rfl rfl)
theorem dX0_init_132 : decode cX0_init 132 = .ok (.ldc 89, 2) := dk_18 89 (dk_at dksX0_init_5 12 rfl rfl)
theorem dX0_init_134 : decode cX0_init 134 = .ok (.aastore, 1) := dk_83 (dk_at dksX0_init_5 14 rfl rfl)
theorem dX0_init_135 : decode cX0_init 135 = .ok (.dup, 1) := dk_89 (dk_at dksX0_init_5 15 rfl rfl)
theorem dX0_init_136 : decode cX0_init 136 = .ok (.iconst 4, 1) := dk_7 (dk_at dksX0_init_5 16 rfl rfl)
theorem dX0_init_137 : decode cX0_init 137 = .ok (.ldc 91, 2) := dk_18 91 (dk_at dksX0_init_5 17 rfl rfl)
theorem dX0_init_139 : decode cX0_init 139 = .ok (.aastore, 1) := dk_83 (dk_at dksX0_init_5 19 rfl rfl)
theorem dX0_init_140 : decode cX0_init 140 = .ok (.dup, 1) := dk_89 (dk_at dksX0_init_5 20 rfl rfl)
theorem dX0_init_141 : decode cX0_init 141 = .ok (.iconst 5, 1) := dk_8 (dk_at dksX0_init_5 21 rfl rfl)
theorem dX0_init_142 : decode cX0_init 142 = .ok (.ldc 93, 2) := dk_18 93 (dk_at dksX0_init_5 22 rfl rfl)
theorem dX0_init_144 : decode cX0_init 144 = .ok (.aastore, 1) := dk_83 (dk_at dksX0_init_6 0 rfl rfl)
theorem dX0_init_145 : decode cX0_init 145 = .ok (.dup, 1) := dk_89 (dk_at dksX0_init_6 1 rfl rfl)
theorem dX0_init_146 : decode cX0_init 146 = .ok (.bipush 6, 2) := dk_16 6 (dk_at dksX0_init_6 2 rfl rfl)
theorem dX0_init_148 : decode cX0_init 148 = .ok (.ldc 95, 2) := dk_18 95 (dk_at dksX0_init_6 4 rfl rfl)
theorem dX0_init_150 : decode cX0_init 150 = .ok (.aastore, 1) := dk_83 (dk_at dksX0_init_6 6 rfl rfl)
theorem dX0_init_151 : decode cX0_init 151 = .ok (.dup, 1) := dk_89 (dk_at dksX0_init_6 7 rfl rfl)
theorem dX0_init_152 : decode cX0_init 152 = .ok (.bipush 7, 2) := dk_16 7 (dk_at dksX0_init_6 8 rfl rfl)
theorem dX0_init_154 : decode cX0_init 154 = .ok (.ldc 97, 2) := dk_18 97 (dk_at dksX0_init_6 10 rfl rfl)
theorem dX0_init_156 : decode cX0_init 156 = .ok (.aastore, 1) := dk_83 (dk_at dksX0_init_6 12 rfl rfl)
theorem dX0_init_157 : decode cX0_init 157 = .ok (.dup, 1) := dk_89 (dk_at dksX0_init_6 13 rfl rfl)
theorem dX0_init_158 : decode cX0_init 158 = .ok (.bipush 8, 2) := dk_16 8 (dk_at dksX0_init_6 14 rfl rfl)
theorem dX0_init_160 : decode cX0_init 160 = .ok (.ldc 99, 2) := dk_18 99 (dk_at dksX0_init_6 16 rfl rfl)
theorem dX0_init_162 : decode cX0_init 162 = .ok (.aastore, 1) := dk_83 (dk_at dksX0_init_6 18 rfl rfl)
theorem dX0_init_163 : decode cX0_init 163 = .ok (.dup, 1) := dk_89 (dk_at dksX0_init_6 19 rfl rfl)
theorem dX0_init_164 : decode cX0_init 164 = .ok (.bipush 9, 2) := dk_16 9 (dk_at dksX0_init_6 20 rfl rfl)
theorem dX0_init_166 : decode cX0_init 166 = .ok (.ldc 101, 2) := dk_18 101 (dk_at dksX0_init_6 22 rfl rfl)
theorem dX0_init_168 : decode cX0_init 168 = .ok (.aastore, 1) := dk_83 (dk_at dksX0_init_7 0 rfl rfl)
theorem dX0_init_169 : decode cX0_init 169 = .ok (.putfield 103, 3) := dk_181 0 103 (dk_at dksX0_init_7 1 rfl rfl)
theorem dX0_init_172 : decode cX0_init 172 = .ok (.aload_n 0, 1) := dk_42 (dk_at dksX0_init_7 4 rfl rfl)
theorem dX0_init_173 : decode cX0_init 173 = .ok (.iconst 4, 1) := dk_7 (dk_at dksX0_init_7 5 rfl rfl)
theorem dX0_init_174 : decode cX0_init 174 = .ok (.anewarray 53, 3) := dk_189 0 53 (dk_at dksX0_init_7 6 rfl rfl)
theorem dX0_init_177 : decode cX0_init 177 = .ok (.dup, 1) := dk_89 (dk_at dksX0_init_7 9 rfl rfl)
theorem dX0_init_178 : decode cX0_init 178 = .ok (.iconst 0, 1) := dk_3 (dk_at dksX0_init_7 10 rfl rfl)
theorem dX0_init_179 : decode cX0_init 179 = .ok (.ldc 106, 2) := dk_18 106 (dk_at dksX0_init_7 11 rfl rfl)
theorem dX0_init_181 : decode cX0_init 181 = .ok (.aastore, 1) := dk_83 (dk_at dksX0_init_7 13 rfl rfl)
theorem dX0_init_182 : decode cX0_init 182 = .ok (.dup, 1) := dk_89 (dk_at dksX0_init_7 14 rfl rfl)
theorem dX0_init_183 : decode cX0_init 183 = .ok (.iconst 1, 1) := dk_4 (dk_at dksX0_init_7 15 rfl rfl)
theorem dX0_init_184 : decode cX0_init 184 = .ok (.ldc 108, 2) := dk_18 108 (dk_at dksX0_init_7 16 rfl rfl)
theorem dX0_init_186 : decode cX0_init 186 = .ok (.aastore, 1) := dk_83 (dk_at dksX0_init_7 18 rfl rfl)
theorem dX0_init_187 : decode cX0_init 187 = .ok (.dup, 1) := dk_89 (dk_at dksX0_init_7 19 rfl rfl)
theorem dX0_init_188 : decode cX0_init 188 = .ok (.iconst 2, 1) := dk_5 (dk_at dksX0_init_7 20 rfl rfl)
theorem dX0_init_189 : decode cX0_init 189 = .ok (.ldc 77, 2) := dk_18 77 (dk_at dksX0_init_7 21 rfl rfl)
theorem dX0_init_191 : decode cX0_init 191 = .ok (.aastore, 1) := dk_83 (dk_at dksX0_init_7 23 rfl rfl)
theorem dX0_init_192 : decode cX0_init 192 = .ok (.dup, 1) := dk_89 (dk_at dksX0_init_8 0 rfl rfl)
theorem dX0_init_193 : decode cX0_init 193 = .ok (.iconst 3, 1) := dk_6 (dk_at dksX0_init_8 1 rfl rfl)
theorem dX0_init_194 : decode cX0_init 194 = .ok (.ldc 110, 2) := dk_18 110 (dk_at dksX0_init_8 2 rfl rfl)
theorem dX0_init_196 : decode cX0_init 196 = .ok (.aastore, 1) := dk_83 (dk_at dksX0_init_8 4 rfl rfl)
theorem dX0_init_197 : decode cX0_init 197 = .ok (.putfield 112, 3) := dk_181 0 112 (dk_at dksX0_init_8 5 rfl rfl)
theorem dX0_init_200 : decode cX0_init 200 = .ok (.aload_n 0, 1) := dk_42 (dk_at dksX0_init_8 8 rfl rfl)
theorem dX0_init_201 : decode cX0_init 201 = .ok (.iconst 0, 1) := dk_3 (dk_at dksX0_init_8 9 rfl rfl)
theorem dX0_init_202 : decode cX0_init 202 = .ok (.anewarray 53, 3) := dk_189 0 53 (dk_at dksX0_init_8 10 rfl rfl)
theorem dX0_init_205 : decode cX0_init 205 = .ok (.putfield 115, 3) := dk_181 0 115 (dk_at dksX0_init_8 13 rfl rfl)
theorem dX0_init_208 : decode cX0_init 208 = .ok (.aload_n 0, 1) := dk_42 (dk_at dksX0_init_8 16 rfl rfl)
theorem dX0_init_209 : decode cX0_init 209 = .ok (.aload_n 0, 1) := dk_42 (dk_at dksX0_init_8 17 rfl rfl)
theorem dX0_init_210 : decode cX0_init 210 = .ok (.getfield 115, 3) := dk_180 0 115 (dk_at dksX0_init_8 18 rfl rfl)
theorem dX0_init_213 : decode cX0_init 213 = .ok (.putfield 118, 3) := dk_181 0 118 (dk_at dksX0_init_8 21 rfl rfl)
theorem dX0_init_216 : decode cX0_init 216 = .ok (.aload_n 0, 1) := dk_42 (dk_at dksX0_init_9 0 rfl rfl)
theorem dX0_init_217 : decode cX0_init 217 = .ok (.aload_n 0, 1) := dk_42 (dk_at dksX0_init_9 1 rfl rfl)
theorem dX0_init_218 : decode cX0_init 218 = .ok (.getfield 115, 3) := dk_180 0 115 (dk_at dksX0_init_9 2 rfl rfl)
theorem dX0_init_221 : decode cX0_init 221 = .ok (.putfield 121, 3) := dk_181 0 121 (dk_at dksX0_init_9 5 rfl rfl)
theorem dX0_init_224 : decode cX0_init 224 = .ok (.aload_n 0, 1) := dk_42 (dk_at dksX0_init_9 8 rfl rfl)
theorem dX0_init_225 : decode cX0_init 225 = .ok (.aload_n 0, 1) := dk_42 (dk_at dksX0_init_9 9 rfl rfl)
theorem dX0_init_226 : decode cX0_init 226 = .ok (.getfield 115, 3) := dk_180 0 115 (dk_at dksX0_init_9 10 rfl rfl)
theorem dX0_init_229 : decode cX0_init 229 = .ok (.putfield 124, 3) := dk_181 0 124 (dk_at dksX0_init_9 13 rfl rfl)
theorem dX0_init_232 : decode cX0_init 232 = .ok (.aload_n 0, 1) := dk_42 (dk_at dksX0_init_9 16 rfl rfl)
theorem dX0_init_233 : decode cX0_init 233 = .ok (.iconst (-1), 1) := dk_2 (dk_at dksX0_init_9 17 rfl rfl)
theorem dX0_init_234 : decode cX0_init 234 = .ok (.putfield 127, 3) := dk_181 0 127 (dk_at dksX0_init_9 18 rfl rfl)
theorem dX0_init_237 : decode cX0_init 237 = .ok (.aload_n 0, 1) := dk_42 (dk_at dksX0_init_9 21 rfl rfl)
theorem dX0_init_238 : decode cX0_init 238 = .ok (.new 131, 3) := dk_187 0 131 (dk_at dksX0_init_10 0 rfl rfl)
theorem dX0_init_241 : decode cX0_init 241 = .ok (.dup, 1) := dk_89 (dk_at dksX0_init_10 3 rfl rfl)
theorem dX0_init_242 : decode cX0_init 242 = .ok (.invokespecial 133, 3) := dk_183 0 133 (dk_at dksX0_init_10 4 rfl rfl)
theorem dX0_init_245 : decode cX0_init 245 = .ok (.putfield 134, 3) := dk_181 0 134 (dk_at dksX0_init_10 7 rfl rfl)
theorem dX0_init_248 : decode cX0_init 248 = .ok (.aload_n 0, 1) := dk_42 (dk_at dksX0_init_10 10 rfl rfl)
theorem dX0_init_249 : decode cX0_init 249 = .ok (.bipush 10, 2) := dk_16 10 (dk_at dksX0_init_10 11 rfl rfl)
theorem dX0_init_251 : decode cX0_init 251 = .ok (.newarray .int, 2) := dk_188_10 (dk_at dksX0_init_10 13 rfl rfl)
theorem dX0_init_253 : decode cX0_init 253 = .ok (.putfield 138, 3) := dk_181 0 138 (dk_at dksX0_init_10 15 rfl rfl)
theorem dX0_init_256 : decode cX0_init 256 = .ok (.aload_n 0, 1) := dk_42 (dk_at dksX0_init_10 18 rfl rfl)
theorem dX0_init_257 : decode cX0_init 257 = .ok (.iconst 0, 1) := dk_3 (dk_at dksX0_init_10 19 rfl rfl)
theorem dX0_init_258 : decode cX0_init 258 = .ok (.anewarray 142, 3) := dk_189 0 142 (dk_at dksX0_init_10 20 rfl rfl)
theorem dX0_init_261 : decode cX0_init 261 = .ok (.putfield 144, 3) := dk_181 0 144 (dk_at dksX0_init_11 0 rfl rfl)
theorem dX0_init_264 : decode cX0_init 264 = .ok (.aload_n 0, 1) := dk_42 (dk_at dksX0_init_11 3 rfl rfl)
theorem dX0_init_265 : decode cX0_init 265 = .ok (.iconst 0, 1) := dk_3 (dk_at dksX0_init_11 4 rfl rfl)
theorem dX0_init_266 : decode cX0_init 266 = .ok (.anewarray 148, 3) := dk_189 0 148 (dk_at dksX0_init_11 5 rfl rfl)
theorem dX0_init_269 : decode cX0_init 269 = .ok (.putfield 150, 3) := dk_181 0 150 (dk_at dksX0_init_11 8 rfl rfl)
theorem dX0_init_272 : decode cX0_init 272 = .ok (.aload_n 0, 1) := dk_42 (dk_at dksX0_init_11 11 rfl rfl)
theorem dX0_init_273 : decode cX0_init 273 = .ok (.iconst 0, 1) := dk_3 (dk_at dksX0_init_11 12 rfl rfl)
theorem dX0_init_274 : decode cX0_init 274 = .ok (.newarray .int, 2) := dk_188_10 (dk_at dksX0_init_11 13 rfl rfl)
theorem dX0_init_276 : decode cX0_init 276 = .ok (.putfield 154, 3) := dk_181 0 154 (dk_at dksX0_init_11 15 rfl rfl)
theorem dX0_init_279 : decode cX0_init 279 = .ok (.aload_n 0, 1) := dk_42 (dk_at dksX0_init_11 18 rfl rfl)
theorem dX0_init_280 : decode cX0_init 280 = .ok (.bipush 12, 2) := dk_16 12 (dk_at dksX0_init_11 19 rfl rfl)
theorem dX0_init_282 : decode cX0_init 282 = .ok (.newarray .int, 2) := dk_188_10 (dk_at dksX0_init_11 21 rfl rfl)
theorem dX0_init_284 : decode cX0_init 284 = .ok (.putfield 157, 3) := dk_181 0 157 (dk_at dksX0_init_12 0 rfl rfl)
theorem dX0_init_287 : decode cX0_init 287 = .ok (.aload_n 0, 1) := dk_42 (dk_at dksX0_init_12 3 rfl rfl)
theorem dX0_init_288 : decode cX0_init 288 = .ok (.new 159, 3) := dk_187 0 159 (dk_at dksX0_init_12 4 rfl rfl)
theorem dX0_init_291 : decode cX0_init 291 = .ok (.dup, 1) := dk_89 (dk_at dksX0_init_12 7 rfl rfl)
theorem dX0_init_292 : decode cX0_init 292 = .ok (.aload_n 0, 1) := dk_42 (dk_at dksX0_init_12 8 rfl rfl)
theorem dX0_init_293 : decode cX0_init 293 = .ok (.invokespecial 161, 3) := dk_183 0 161 (dk_at dksX0_init_12 9 rfl rfl)
theorem dX0_init_296 : decode cX0_init 296 = .ok (.putfield 164, 3) := dk_181 0 164 (dk_at dksX0_init_12 12 rfl rfl)
theorem dX0_init_299 : decode cX0_init 299 = .ok (.aload_n 0, 1) := dk_42 (dk_at dksX0_init_12 15 rfl rfl)
theorem dX0_init_300 : decode cX0_init 300 = .ok (.new 159, 3) := dk_187 0 159 (dk_at dksX0_init_12 16 rfl rfl)
theorem dX0_init_303 : decode cX0_init 303 = .ok (.dup, 1) := dk_89 (dk_at dksX0_init_12 19 rfl rfl)
theorem dX0_init_304 : decode cX0_init 304 = .ok (.aload_n 0, 1) := dk_42 (dk_at dksX0_init_12 20 rfl rfl)
theorem dX0_init_305 : decode cX0_init 305 = .ok (.invokespecial 161, 3) := dk_183 0 161 (dk_at dksX0_init_12 21 rfl rfl)
theorem dX0_init_308 : decode cX0_init 308 = .ok (.putfield 168, 3) := dk_181 0 168 (dk_at dksX0_init_13 0 rfl rfl)
theorem dX0_init_311 : decode cX0_init 311 = .ok (.aload_n 0, 1) := dk_42 (dk_at dksX0_init_13 3 rfl rfl)
theorem dX0_init_312 : decode cX0_init 312 = .ok (.new 159, 3) := dk_187 0 159 (dk_at dksX0_init_13 4 rfl rfl)
theorem dX0_init_315 : decode cX0_init 315 = .ok (.dup, 1) := dk_89 (dk_at dksX0_init_13 7 rfl rfl)
theorem dX0_init_316 : decode cX0_init 316 = .ok (.aload_n 0, 1) := dk_42 (dk_at dksX0_init_13 8 rfl rfl)
theorem dX0_init_317 : decode cX0_init 317 = .ok (.invokespecial 161, 3) := dk_183 0 161 (dk_at dksX0_init_13 9 rfl rfl)
theorem dX0_init_320 : decode cX0_init 320 = .ok (.putfield 171, 3) := dk_181 0 171 (dk_at dksX0_init_13 12 rfl rfl)
theorem dX0_init_323 : decode cX0_init 323 = .ok (.aload_n 0, 1) := dk_42 (dk_at dksX0_init_13 15 rfl rfl)
theorem dX0_init_324 : decode cX0_init 324 = .ok (.sipush 600, 3) := dk_17 2 88 (dk_at dksX0_init_13 16 rfl rfl)
theorem dX0_init_327 : decode cX0_init 327 = .ok (.newarray .int, 2) := dk_188_10 (dk_at dksX0_init_13 19 rfl rfl)
theorem dX0_init_329 : decode cX0_init 329 = .ok (.putfield 174, 3) := dk_181 0 174 (dk_at dksX0_init_13 21 rfl rfl)
theorem dX0_init_332 : decode cX0_init 332 = .ok (.aload_n 0, 1) := dk_42 (dk_at dksX0_init_14 0 rfl rfl)
theorem dX0_init_333 : decode cX0_init 333 = .ok (.bipush 6, 2) := dk_16 6 (dk_at dksX0_init_14 1 rfl rfl)
theorem dX0_init_335 : decode cX0_init 335 = .ok (.anewarray 159, 3) := dk_189 0 159 (dk_at dksX0_init_14 3 rfl rfl)
theorem dX0_init_338 : decode cX0_init 338 = .ok (.putfield 177, 3) := dk_181 0 177 (dk_at dksX0_init_14 6 rfl rfl)
theorem dX0_init_341 : decode cX0_init 341 = .ok (.aload_n 0, 1) := dk_42 (dk_at dksX0_init_14 9 rfl rfl)
theorem dX0_init_342 : decode cX0_init 342 = .ok (.iconst 0, 1) := dk_3 (dk_at dksX0_init_14 10 rfl rfl)
theorem dX0_init_343 : decode cX0_init 343 = .ok (.anewarray 181, 3) := dk_189 0 181 (dk_at dksX0_init_14 11 rfl rfl)
theorem dX0_init_346 : decode cX0_init 346 = .ok (.putfield 183, 3) := dk_181 0 183 (dk_at dksX0_init_14 14 rfl rfl)
theorem dX0_init_349 : decode cX0_init 349 = .ok (.aload_n 0, 1) := dk_42 (dk_at dksX0_init_14 17 rfl rfl)
theorem dX0_init_350 : decode cX0_init 350 = .ok (.ldc 187, 2) := dk_18 187 (dk_at dksX0_init_14 18 rfl rfl)
theorem dX0_init_352 : decode cX0_init 352 = .ok (.newarray .int, 2) := dk_188_10 (dk_at dksX0_init_14 20 rfl rfl)
theorem dX0_init_354 : decode cX0_init 354 = .ok (.putfield 188, 3) := dk_181 0 188 (dk_at dksX0_init_15 0 rfl rfl)
theorem dX0_init_357 : decode cX0_init 357 = .ok (.aload_n 0, 1) := dk_42 (dk_at dksX0_init_15 3 rfl rfl)
theorem dX0_init_358 : decode cX0_init 358 = .ok (.iconst 0, 1) := dk_3 (dk_at dksX0_init_15 4 rfl rfl)
theorem dX0_init_359 : decode cX0_init 359 = .ok (.newarray .int, 2) := dk_188_10 (dk_at dksX0_init_15 5 rfl rfl)
theorem dX0_init_361 : decode cX0_init 361 = .ok (.putfield 191, 3) := dk_181 0 191 (dk_at dksX0_init_15 7 rfl rfl)
theorem dX0_init_364 : decode cX0_init 364 = .ok (.aload_n 0, 1) := dk_42 (dk_at dksX0_init_15 10 rfl rfl)
theorem dX0_init_365 : decode cX0_init 365 = .ok (.aload_n 0, 1) := dk_42 (dk_at dksX0_init_15 11 rfl rfl)
theorem dX0_init_366 : decode cX0_init 366 = .ok (.invokedynamic 194, 5) := by decide +kernel
theorem dX0_init_371 : decode cX0_init 371 = .ok (.putfield 197, 3) := dk_181 0 197 (dk_at dksX0_init_15 17 rfl rfl)
theorem dX0_init_374 : decode cX0_init 374 = .ok (.aload_n 0, 1) := dk_42 (dk_at dksX0_init_15 20 rfl rfl)
theorem dX0_init_375 : decode cX0_init 375 = .ok (.aload_n 0, 1) := dk_42 (dk_at dksX0_init_15 21 rfl rfl)
theorem dX0_init_376 : decode cX0_init 376 = .ok (.invokedynamic 201, 5) := by decide +kernel
theorem dX0_init_381 : decode cX0_init 381 = .ok (.putfield 202, 3) := dk_181 0 202 (dk_at dksX0_init_16 5 rfl rfl)
theorem dX0_init_384 : decode cX0_init 384 = .ok (.aload_n 0, 1) := dk_42 (dk_at dksX0_init_16 8 rfl rfl)
theorem dX0_init_385 : decode cX0_init 385 = .ok (.iconst 0, 1) := dk_3 (dk_at dksX0_init_16 9 rfl rfl)
theorem dX0_init_386 : decode cX0_init 386 = .ok (.newarray .int, 2) := dk_188_10 (dk_at dksX0_init_16 10 rfl rfl)
theorem dX0_init_388 : decode cX0_init 388 = .ok (.putfield 205, 3) := dk_181 0 205 (dk_at dksX0_init_16 12 rfl rfl)
theorem dX0_init_391 : decode cX0_init 391 = .ok (.aload_n 0, 1) := dk_42 (dk_at dksX0_init_16 15 rfl rfl)
theorem dX0_init_392 : decode cX0_init 392 = .ok (.iconst 0, 1) := dk_3 (dk_at dksX0_init_16 16 rfl rfl)
theorem dX0_init_393 : decode cX0_init 393 = .ok (.newarray .int, 2) := dk_188_10 (dk_at dksX0_init_16 17 rfl rfl)
theorem dX0_init_395 : decode cX0_init 395 = .ok (.putfield 208, 3) := dk_181 0 208 (dk_at dksX0_init_16 19 rfl rfl)
theorem dX0_init_398 : decode cX0_init 398 = .ok (.aload_n 0, 1) := dk_42 (dk_at dksX0_init_16 22 rfl rfl)
theorem dX0_init_399 : decode cX0_init 399 = .ok (.bipush 12, 2) := dk_16 12 (dk_at dksX0_init_17 0 rfl rfl)
theorem dX0_init_401 : decode cX0_init 401 = .ok (.newarray .int, 2) := dk_188_10 (dk_at dksX0_init_17 2 rfl rfl)
theorem dX0_init_403 : decode cX0_init 403 = .ok (.putfield 211, 3) := dk_181 0 211 (dk_at dksX0_init_17 4 rfl rfl)
theorem dX0_init_406 : decode cX0_init 406 = .ok (.aload_n 0, 1) := dk_42 (dk_at dksX0_init_17 7 rfl rfl)
theorem dX0_init_407 : decode cX0_init 407 = .ok (.sipush 600, 3) := dk_17 2 88 (dk_at dksX0_init_17 8 rfl rfl)
theorem dX0_init_410 : decode cX0_init 410 = .ok (.newarray .int, 2) := dk_188_10 (dk_at dksX0_init_17 11 rfl rfl)
theorem dX0_init_412 : decode cX0_init 412 = .ok (.putfield 214, 3) := dk_181 0 214 (dk_at dksX0_init_17 13 rfl rfl)
theorem dX0_init_415 : decode cX0_init 415 = .ok (.return_, 1) := dk_177 (dk_at dksX0_init_17 16 rfl rfl)
abbrev cX0_lambda_new_4 : ByteArray := prog_1_method_117_code
def yX0_lambda_new_4 : MethodName := ⟨RX0, "lambda$new$4", "(I)I"⟩
def dkwX0_lambda_new_4_0 : List UInt8 := [42, 180, 0, 144, 27, 50, 182, 2, 17, 172]
abbrev dktX0_lambda_new_4_0 : List UInt8 := dkwX0_lambda_new_4_0 ++ []
theorem dksX0_lambda_new_4_0 : cX0_lambda_new_4.data.toList.drop 0 = dktX0_lambda_new_4_0 := by decide +kernel
theorem dX0_lambda_new_4_0 : decode cX0_lambda_new_4 0 = .ok (.aload_n 0, 1) := dk_42 (dk_at dksX0_lambda_new_4_0 0 rfl rfl)
theorem dX0_lambda_new_4_1 : decode cX0_lambda_new_4 1 = .ok (.getfield 144, 3) := dk_180 0 144 (dk_at dksX0_lambda_new_4_0 1 rfl rfl)
theorem dX0_lambda_new_4_4 : decode cX0_lambda_new_4 4 = .ok (.iload_n 1, 1) := dk_27 (dk_at dksX0_lambda_new_4_0 4 rfl rfl)
theorem dX0_lambda_new_4_5 : decode cX0_lambda_new_4 5 = .ok (.aaload, 1) := dk_50 (dk_at dksX0_lambda_new_4_0 5 rfl rfl)
theorem dX0_lambda_new_4_6 : decode cX0_lambda_new_4 6 = .ok (.invokevirtual 529, 3) := dk_182 2 17 (dk_at dksX0_lambda_new_4_0 6 rfl rfl)
theorem dX0_lambda_new_4_9 : decode cX0_lambda_new_4 9 = .ok (.ireturn, 1) := dk_172 (dk_at dksX0_lambda_new_4_0 9 rfl rfl)
abbrev cX0_lambda_new_5 : ByteArray := prog_1_method_116_code
def yX0_lambda_new_5 : MethodName := ⟨RX0, "lambda$new$5", "(I)I"⟩
def dkwX0_lambda_new_5_0 : List UInt8 := [42, 180, 0, 144, 27, 50, 182, 2, 15, 172]
abbrev dktX0_lambda_new_5_0 : List UInt8 := dkwX0_lambda_new_5_0 ++ []
theorem dksX0_lambda_new_5_0 : cX0_lambda_new_5.data.toList.drop 0 = dktX0_lambda_new_5_0 := by decide +kernel
theorem dX0_lambda_new_5_0 : decode cX0_lambda_new_5 0 = .ok (.aload_n 0, 1) := dk_42 (dk_at dksX0_lambda_new_5_0 0 rfl rfl)
theorem dX0_lambda_new_5_1 : decode cX0_lambda_new_5 1 = .ok (.getfield 144, 3) := dk_180 0 144 (dk_at dksX0_lambda_new_5_0 1 rfl rfl)
theorem dX0_lambda_new_5_4 : decode cX0_lambda_new_5 4 = .ok (.iload_n 1, 1) := dk_27 (dk_at dksX0_lambda_new_5_0 4 rfl rfl)
theorem dX0_lambda_new_5_5 : decode cX0_lambda_new_5 5 = .ok (.aaload, 1) := dk_50 (dk_at dksX0_lambda_new_5_0 5 rfl rfl)
theorem dX0_lambda_new_5_6 : decode cX0_lambda_new_5 6 = .ok (.invokevirtual 527, 3) := dk_182 2 15 (dk_at dksX0_lambda_new_5_0 6 rfl rfl)
theorem dX0_lambda_new_5_9 : decode cX0_lambda_new_5 9 = .ok (.ireturn, 1) := dk_172 (dk_at dksX0_lambda_new_5_0 9 rfl rfl)
abbrev cX0_feed : ByteArray := prog_1_method_11_code
def yX0_feed : MethodName := ⟨RX0, "feed", "(IIIII)I"⟩
def dkwX0_feed_2 : List UInt8 := [172]
abbrev dktX0_feed_2 : List UInt8 := dkwX0_feed_2 ++ []
def dkwX0_feed_1 : List UInt8 := [182, 0, 220, 42, 29, 182, 0, 220, 42, 21, 4, 182, 0, 220, 42, 21, 5, 182, 0, 220, 42, 180, 0, 217]
abbrev dktX0_feed_1 : List UInt8 := dkwX0_feed_1 ++ dktX0_feed_2
def dkwX0_feed_0 : List UInt8 := [42, 180, 0, 217, 16, 20, 96, 17, 1, 144, 164, 0, 5, 2, 172, 42, 27, 182, 0, 220, 42, 28]
abbrev dktX0_feed_0 : List UInt8 := dkwX0_feed_0 ++ dktX0_feed_1
theorem dksX0_feed_0 : cX0_feed.data.toList.drop 0 = dktX0_feed_0 := by decide +kernel
theorem dksX0_feed_1 : cX0_feed.data.toList.drop 22 = dktX0_feed_1 := dk_seg dksX0_feed_0 22 rfl rfl
theorem dksX0_feed_2 : cX0_feed.data.toList.drop 46 = dktX0_feed_2 := dk_seg dksX0_feed_1 24 rfl rfl
theorem dX0_feed_0 : decode cX0_feed 0 = .ok (.aload_n 0, 1) := dk_42 (dk_at dksX0_feed_0 0 rfl rfl)
theorem dX0_feed_1 : decode cX0_feed 1 = .ok (.getfield 217, 3) := dk_180 0 217 (dk_at dksX0_feed_0 1 rfl rfl)
theorem dX0_feed_4 : decode cX0_feed 4 = .ok (.bipush 20, 2) := dk_16 20 (dk_at dksX0_feed_0 4 rfl rfl)
theorem dX0_feed_6 : decode cX0_feed 6 = .ok (.iadd, 1) := dk_96 (dk_at dksX0_feed_0 6 rfl rfl)
theorem dX0_feed_7 : decode cX0_feed 7 = .ok (.sipush 400, 3) := dk_17 1 144 (dk_at dksX0_feed_0 7 rfl rfl)
theorem dX0_feed_10 : decode cX0_feed 10 = .ok (.if_icmp .le 5, 3) := dk_164 0 5 (dk_at dksX0_feed_0 10 rfl rfl)
theorem dX0_feed_13 : decode cX0_feed 13 = .ok (.iconst (-1), 1) := dk_2 (dk_at dksX0_feed_0 13 rfl rfl)
theorem dX0_feed_14 : decode cX0_feed 14 = .ok (.ireturn, 1) := dk_172 (dk_at dksX0_feed_0 14 rfl rfl)
theorem dX0_feed_15 : decode cX0_feed 15 = .ok (.aload_n 0, 1) := dk_42 (dk_at dksX0_feed_0 15 rfl rfl)
theorem dX0_feed_16 : decode cX0_feed 16 = .ok (.iload_n 1, 1) := dk_27 (dk_at dksX0_feed_0 16 rfl rfl)
theorem dX0_feed_17 : decode cX0_feed 17 = .ok (.invokevirtual 220, 3) := dk_182 0 220 (dk_at dksX0_feed_0 17 rfl rfl)
theorem dX0_feed_20 : decode cX0_feed 20 = .ok (.aload_n 0, 1) := dk_42 (dk_at dksX0_feed_0 20 rfl rfl)
theorem dX0_feed_21 : decode cX0_feed 21 = .ok (.iload_n 2, 1) := dk_28 (dk_at dksX0_feed_0 21 rfl rfl)
theorem dX0_feed_22 : decode cX0_feed 22 = .ok (.invokevirtual 220, 3) := dk_182 0 220 (dk_at dksX0_feed_1 0 rfl rfl)
theorem dX0_feed_25 : decode cX0_feed 25 = .ok (.aload_n 0, 1) := dk_42 (dk_at dksX0_feed_1 3 rfl rfl)
theorem dX0_feed_26 : decode cX0_feed 26 = .ok (.iload_n 3, 1) := dk_29 (dk_at dksX0_feed_1 4 rfl rfl)
theorem dX0_feed_27 : decode cX0_feed 27 = .ok (.invokevirtual 220, 3) := dk_182 0 220 (dk_at dksX0_feed_1 5 rfl rfl)
theorem dX0_feed_30 : decode cX0_feed 30 = .ok (.aload_n 0, 1) := dk_42 (dk_at dksX0_feed_1 8 rfl rfl)
theorem dX0_feed_31 : decode cX0_feed 31 = .ok (.iload 4, 2) := dk_21 4 (dk_at dksX0_feed_1 9 rfl rfl)
theorem dX0_feed_33 : decode cX0_feed 33 = .ok (.invokevirtual 220, 3) := dk_182 0 220 (dk_at dksX0_feed_1 11 rfl rfl)
theorem dX0_feed_36 : decode cX0_feed 36 = .ok (.aload_n 0, 1) := dk_42 (dk_at dksX0_feed_1 14 rfl rfl)
theorem dX0_feed_37 : decode cX0_feed 37 = .ok (.iload 5, 2) := dk_21 5 (dk_at dksX0_feed_1 15 rfl rfl)
theorem dX0_feed_39 : decode cX0_feed 39 = .ok (.invokevirtual 220, 3) := dk_182 0 220 (dk_at dksX0_feed_1 17 rfl rfl)
theorem dX0_feed_42 : decode cX0_feed 42 = .ok (.aload_n 0, 1) := dk_42 (dk_at dksX0_feed_1 20 rfl rfl)
theorem dX0_feed_43 : decode cX0_feed 43 = .ok (.getfield 217, 3) := dk_180 0 217 (dk_at dksX0_feed_1 21 rfl rfl)
theorem dX0_feed_46 : decode cX0_feed 46 = .ok (.ireturn, 1) := dk_172 (dk_at dksX0_feed_2 0 rfl rfl)
abbrev cX0_puts : ByteArray := prog_1_method_10_code
def yX0_puts : MethodName := ⟨RX0, "puts", "(I)V"⟩
def dkwX0_puts_1 : List UInt8 := [180, 0, 217, 4, 96, 181, 0, 217, 132, 2, 248, 167, 255, 226, 177]
abbrev dktX0_puts_1 : List UInt8 := dkwX0_puts_1 ++ []
def dkwX0_puts_0 : List UInt8 := [16, 24, 61, 28, 155, 0, 32, 42, 180, 0, 47, 42, 180, 0, 217, 27, 28, 122, 145, 84, 42, 89]
abbrev dktX0_puts_0 : List UInt8 := dkwX0_puts_0 ++ dktX0_puts_1
theorem dksX0_puts_0 : cX0_puts.data.toList.drop 0 = dktX0_puts_0 := by decide +kernel
theorem dksX0_puts_1 : cX0_puts.data.toList.drop 22 = dktX0_puts_1 := dk_seg dksX0_puts_0 22 rfl rfl
theorem dX0_puts_0 : decode cX0_puts 0 = .ok (.bipush 24, 2) := dk_16 24 (dk_at dksX0_puts_0 0 rfl rfl)
theorem dX0_puts_2 : decode cX0_puts 2 = .ok (.istore_n 2, 1) := dk_61 (dk_at dksX0_puts_0 2 rfl rfl)
theorem dX0_puts_3 : decode cX0_puts 3 = .ok (.iload_n 2, 1) := dk_28 (dk_at dksX0_puts_0 3 rfl rfl)
theorem dX0_puts_4 : decode cX0_puts 4 = .ok (.ifCond .lt 32, 3) := dk_155 0 32 (dk_at dksX0_puts_0 4 rfl rfl)
theorem dX0_puts_7 : decode cX0_puts 7 = .ok (.aload_n 0, 1) := dk_42 (dk_at dksX0_puts_0 7 rfl rfl)
theorem dX0_puts_8 : decode cX0_puts 8 = .ok (.getfield 47, 3) := dk_180 0 47 (dk_at dksX0_puts_0 8 rfl rfl)
theorem dX0_puts_11 : decode cX0_puts 11 = .ok (.aload_n 0, 1) := dk_42 (dk_at dksX0_puts_0 11 rfl rfl)
theorem dX0_puts_12 : decode cX0_puts 12 = .ok (.getfield 217, 3) := dk_180 0 217 (dk_at dksX0_puts_0 12 rfl rfl)
theorem dX0_puts_15 : decode cX0_puts 15 = .ok (.iload_n 1, 1) := dk_27 (dk_at dksX0_puts_0 15 rfl rfl)
theorem dX0_puts_16 : decode cX0_puts 16 = .ok (.iload_n 2, 1) := dk_28 (dk_at dksX0_puts_0 16 rfl rfl)
theorem dX0_puts_17 : decode cX0_puts 17 = .ok (.ishr, 1) := dk_122 (dk_at dksX0_puts_0 17 rfl rfl)
theorem dX0_puts_18 : decode cX0_puts 18 = .ok (.i2b, 1) := dk_145 (dk_at dksX0_puts_0 18 rfl rfl)
theorem dX0_puts_19 : decode cX0_puts 19 = .ok (.bastore, 1) := dk_84 (dk_at dksX0_puts_0 19 rfl rfl)
theorem dX0_puts_20 : decode cX0_puts 20 = .ok (.aload_n 0, 1) := dk_42 (dk_at dksX0_puts_0 20 rfl rfl)
theorem dX0_puts_21 : decode cX0_puts 21 = .ok (.dup, 1) := dk_89 (dk_at dksX0_puts_0 21 rfl rfl)
theorem dX0_puts_22 : decode cX0_puts 22 = .ok (.getfield 217, 3) := dk_180 0 217 (dk_at dksX0_puts_1 0 rfl rfl)
theorem dX0_puts_25 : decode cX0_puts 25 = .ok (.iconst 1, 1) := dk_4 (dk_at dksX0_puts_1 3 rfl rfl)
theorem dX0_puts_26 : decode cX0_puts 26 = .ok (.iadd, 1) := dk_96 (dk_at dksX0_puts_1 4 rfl rfl)
theorem dX0_puts_27 : decode cX0_puts 27 = .ok (.putfield 217, 3) := dk_181 0 217 (dk_at dksX0_puts_1 5 rfl rfl)
theorem dX0_puts_30 : decode cX0_puts 30 = .ok (.iinc 2 (-8), 3) := dk_132 2 248 (dk_at dksX0_puts_1 8 rfl rfl)
theorem dX0_puts_33 : decode cX0_puts 33 = .ok (.goto (-30), 3) := dk_167 255 226 (dk_at dksX0_puts_1 11 rfl rfl)
theorem dX0_puts_36 : decode cX0_puts 36 = .ok (.return_, 1) := dk_177 (dk_at dksX0_puts_1 14 rfl rfl)
abbrev cX0_end : ByteArray := prog_1_method_12_code
def yX0_end : MethodName := ⟨RX0, "end", "(I)Z"⟩
def dkwX0_end_0 : List UInt8 := [27, 3, 42, 180, 0, 217, 184, 0, 224, 154, 0, 5, 3, 172, 42, 27, 181, 0, 217, 4, 172]
abbrev dktX0_end_0 : List UInt8 := dkwX0_end_0 ++ []
theorem dksX0_end_0 : cX0_end.data.toList.drop 0 = dktX0_end_0 := by decide +kernel
theorem dX0_end_0 : decode cX0_end 0 = .ok (.iload_n 1, 1) := dk_27 (dk_at dksX0_end_0 0 rfl rfl)
theorem dX0_end_1 : decode cX0_end 1 = .ok (.iconst 0, 1) := dk_3 (dk_at dksX0_end_0 1 rfl rfl)
theorem dX0_end_2 : decode cX0_end 2 = .ok (.aload_n 0, 1) := dk_42 (dk_at dksX0_end_0 2 rfl rfl)
theorem dX0_end_3 : decode cX0_end 3 = .ok (.getfield 217, 3) := dk_180 0 217 (dk_at dksX0_end_0 3 rfl rfl)
theorem dX0_end_6 : decode cX0_end 6 = .ok (.invokestatic 224, 3) := dk_184 0 224 (dk_at dksX0_end_0 6 rfl rfl)
theorem dX0_end_9 : decode cX0_end 9 = .ok (.ifCond .ne 5, 3) := dk_154 0 5 (dk_at dksX0_end_0 9 rfl rfl)
theorem dX0_end_12 : decode cX0_end 12 = .ok (.iconst 0, 1) := dk_3 (dk_at dksX0_end_0 12 rfl rfl)
theorem dX0_end_13 : decode cX0_end 13 = .ok (.ireturn, 1) := dk_172 (dk_at dksX0_end_0 13 rfl rfl)
theorem dX0_end_14 : decode cX0_end 14 = .ok (.aload_n 0, 1) := dk_42 (dk_at dksX0_end_0 14 rfl rfl)
theorem dX0_end_15 : decode cX0_end 15 = .ok (.iload_n 1, 1) := dk_27 (dk_at dksX0_end_0 15 rfl rfl)
theorem dX0_end_16 : decode cX0_end 16 = .ok (.putfield 217, 3) := dk_181 0 217 (dk_at dksX0_end_0 16 rfl rfl)
theorem dX0_end_19 : decode cX0_end 19 = .ok (.iconst 1, 1) := dk_4 (dk_at dksX0_end_0 19 rfl rfl)
theorem dX0_end_20 : decode cX0_end 20 = .ok (.ireturn, 1) := dk_172 (dk_at dksX0_end_0 20 rfl rfl)
abbrev cX0_isIn : ByteArray := prog_1_method_1_code
def yX0_isIn : MethodName := ⟨RX0, "isIn", "(III)Z"⟩
def dkwX0_isIn_0 : List UInt8 := [26, 27, 161, 0, 12, 26, 28, 163, 0, 7, 4, 167, 0, 4, 3, 172]
abbrev dktX0_isIn_0 : List UInt8 := dkwX0_isIn_0 ++ []
theorem dksX0_isIn_0 : cX0_isIn.data.toList.drop 0 = dktX0_isIn_0 := by decide +kernel
theorem dX0_isIn_0 : decode cX0_isIn 0 = .ok (.iload_n 0, 1) := dk_26 (dk_at dksX0_isIn_0 0 rfl rfl)
theorem dX0_isIn_1 : decode cX0_isIn 1 = .ok (.iload_n 1, 1) := dk_27 (dk_at dksX0_isIn_0 1 rfl rfl)
theorem dX0_isIn_2 : decode cX0_isIn 2 = .ok (.if_icmp .lt 12, 3) := dk_161 0 12 (dk_at dksX0_isIn_0 2 rfl rfl)
theorem dX0_isIn_5 : decode cX0_isIn 5 = .ok (.iload_n 0, 1) := dk_26 (dk_at dksX0_isIn_0 5 rfl rfl)
theorem dX0_isIn_6 : decode cX0_isIn 6 = .ok (.iload_n 2, 1) := dk_28 (dk_at dksX0_isIn_0 6 rfl rfl)
theorem dX0_isIn_7 : decode cX0_isIn 7 = .ok (.if_icmp .gt 7, 3) := dk_163 0 7 (dk_at dksX0_isIn_0 7 rfl rfl)
theorem dX0_isIn_10 : decode cX0_isIn 10 = .ok (.iconst 1, 1) := dk_4 (dk_at dksX0_isIn_0 10 rfl rfl)
theorem dX0_isIn_11 : decode cX0_isIn 11 = .ok (.goto 4, 3) := dk_167 0 4 (dk_at dksX0_isIn_0 11 rfl rfl)
theorem dX0_isIn_14 : decode cX0_isIn 14 = .ok (.iconst 0, 1) := dk_3 (dk_at dksX0_isIn_0 14 rfl rfl)
theorem dX0_isIn_15 : decode cX0_isIn 15 = .ok (.ireturn, 1) := dk_172 (dk_at dksX0_isIn_0 15 rfl rfl)
abbrev cX0_text : ByteArray := prog_1_method_44_code
def yX0_text : MethodName := ⟨RX0, "text", "(I)I"⟩
def dkwX0_text_3 : List UInt8 := [191]
abbrev dktX0_text_3 : List UInt8 := dkwX0_text_3 ++ []
def dkwX0_text_2 : List UInt8 := [180, 1, 182, 181, 0, 127, 2, 62, 42, 3, 181, 0, 217, 29, 172, 58, 4, 42, 3, 181, 0, 217, 25, 4]
abbrev dktX0_text_2 : List UInt8 := dkwX0_text_2 ++ dktX0_text_3
def dkwX0_text_1 : List UInt8 := [167, 0, 4, 2, 61, 42, 3, 181, 0, 217, 28, 172, 77, 42, 44, 180, 1, 179, 181, 1, 173, 42, 44]
abbrev dktX0_text_1 : List UInt8 := dkwX0_text_1 ++ dktX0_text_2
def dkwX0_text_0 : List UInt8 := [42, 3, 181, 1, 173, 42, 2, 181, 0, 127, 27, 3, 6, 184, 0, 224, 153, 0, 11, 42, 27, 182, 1, 176]
abbrev dktX0_text_0 : List UInt8 := dkwX0_text_0 ++ dktX0_text_1
theorem dksX0_text_0 : cX0_text.data.toList.drop 0 = dktX0_text_0 := by decide +kernel
theorem dksX0_text_1 : cX0_text.data.toList.drop 24 = dktX0_text_1 := dk_seg dksX0_text_0 24 rfl rfl
theorem dksX0_text_2 : cX0_text.data.toList.drop 47 = dktX0_text_2 := dk_seg dksX0_text_1 23 rfl rfl
theorem dksX0_text_3 : cX0_text.data.toList.drop 71 = dktX0_text_3 := dk_seg dksX0_text_2 24 rfl rfl
theorem dX0_text_0 : decode cX0_text 0 = .ok (.aload_n 0, 1) := dk_42 (dk_at dksX0_text_0 0 rfl rfl)
theorem dX0_text_1 : decode cX0_text 1 = .ok (.iconst 0, 1) := dk_3 (dk_at dksX0_text_0 1 rfl rfl)
theorem dX0_text_2 : decode cX0_text 2 = .ok (.putfield 429, 3) := dk_181 1 173 (dk_at dksX0_text_0 2 rfl rfl)
theorem dX0_text_5 : decode cX0_text 5 = .ok (.aload_n 0, 1) := dk_42 (dk_at dksX0_text_0 5 rfl rfl)
theorem dX0_text_6 : decode cX0_text 6 = .ok (.iconst (-1), 1) := dk_2 (dk_at dksX0_text_0 6 rfl rfl)
theorem dX0_text_7 : decode cX0_text 7 = .ok (.putfield 127, 3) := dk_181 0 127 (dk_at dksX0_text_0 7 rfl rfl)
theorem dX0_text_10 : decode cX0_text 10 = .ok (.iload_n 1, 1) := dk_27 (dk_at dksX0_text_0 10 rfl rfl)
theorem dX0_text_11 : decode cX0_text 11 = .ok (.iconst 0, 1) := dk_3 (dk_at dksX0_text_0 11 rfl rfl)
theorem dX0_text_12 : decode cX0_text 12 = .ok (.iconst 3, 1) := dk_6 (dk_at dksX0_text_0 12 rfl rfl)
theorem dX0_text_13 : decode cX0_text 13 = .ok (.invokestatic 224, 3) := dk_184 0 224 (dk_at dksX0_text_0 13 rfl rfl)
theorem dX0_text_16 : decode cX0_text 16 = .ok (.ifCond .eq 11, 3) := dk_153 0 11 (dk_at dksX0_text_0 16 rfl rfl)
theorem dX0_text_19 : decode cX0_text 19 = .ok (.aload_n 0, 1) := dk_42 (dk_at dksX0_text_0 19 rfl rfl)
theorem dX0_text_20 : decode cX0_text 20 = .ok (.iload_n 1, 1) := dk_27 (dk_at dksX0_text_0 20 rfl rfl)
theorem dX0_text_21 : decode cX0_text 21 = .ok (.invokevirtual 432, 3) := dk_182 1 176 (dk_at dksX0_text_0 21 rfl rfl)
theorem dX0_text_24 : decode cX0_text 24 = .ok (.goto 4, 3) := dk_167 0 4 (dk_at dksX0_text_1 0 rfl rfl)
theorem dX0_text_27 : decode cX0_text 27 = .ok (.iconst (-1), 1) := dk_2 (dk_at dksX0_text_1 3 rfl rfl)
theorem dX0_text_28 : decode cX0_text 28 = .ok (.istore_n 2, 1) := dk_61 (dk_at dksX0_text_1 4 rfl rfl)
theorem dX0_text_29 : decode cX0_text 29 = .ok (.aload_n 0, 1) := dk_42 (dk_at dksX0_text_1 5 rfl rfl)
theorem dX0_text_30 : decode cX0_text 30 = .ok (.iconst 0, 1) := dk_3 (dk_at dksX0_text_1 6 rfl rfl)
theorem dX0_text_31 : decode cX0_text 31 = .ok (.putfield 217, 3) := dk_181 0 217 (dk_at dksX0_text_1 7 rfl rfl)
theorem dX0_text_34 : decode cX0_text 34 = .ok (.iload_n 2, 1) := dk_28 (dk_at dksX0_text_1 10 rfl rfl)
theorem dX0_text_35 : decode cX0_text 35 = .ok (.ireturn, 1) := dk_172 (dk_at dksX0_text_1 11 rfl rfl)
theorem dX0_text_36 : decode cX0_text 36 = .ok (.astore_n 2, 1) := dk_77 (dk_at dksX0_text_1 12 rfl rfl)
theorem dX0_text_37 : decode cX0_text 37 = .ok (.aload_n 0, 1) := dk_42 (dk_at dksX0_text_1 13 rfl rfl)
theorem dX0_text_38 : decode cX0_text 38 = .ok (.aload_n 2, 1) := dk_44 (dk_at dksX0_text_1 14 rfl rfl)
theorem dX0_text_39 : decode cX0_text 39 = .ok (.getfield 435, 3) := dk_180 1 179 (dk_at dksX0_text_1 15 rfl rfl)
theorem dX0_text_42 : decode cX0_text 42 = .ok (.putfield 429, 3) := dk_181 1 173 (dk_at dksX0_text_1 18 rfl rfl)
theorem dX0_text_45 : decode cX0_text 45 = .ok (.aload_n 0, 1) := dk_42 (dk_at dksX0_text_1 21 rfl rfl)
theorem dX0_text_46 : decode cX0_text 46 = .ok (.aload_n 2, 1) := dk_44 (dk_at dksX0_text_1 22 rfl rfl)
theorem dX0_text_47 : decode cX0_text 47 = .ok (.getfield 438, 3) := dk_180 1 182 (dk_at dksX0_text_2 0 rfl rfl)
theorem dX0_text_50 : decode cX0_text 50 = .ok (.putfield 127, 3) := dk_181 0 127 (dk_at dksX0_text_2 3 rfl rfl)
theorem dX0_text_53 : decode cX0_text 53 = .ok (.iconst (-1), 1) := dk_2 (dk_at dksX0_text_2 6 rfl rfl)
theorem dX0_text_54 : decode cX0_text 54 = .ok (.istore_n 3, 1) := dk_62 (dk_at dksX0_text_2 7 rfl rfl)
theorem dX0_text_55 : decode cX0_text 55 = .ok (.aload_n 0, 1) := dk_42 (dk_at dksX0_text_2 8 rfl rfl)
theorem dX0_text_56 : decode cX0_text 56 = .ok (.iconst 0, 1) := dk_3 (dk_at dksX0_text_2 9 rfl rfl)
theorem dX0_text_57 : decode cX0_text 57 = .ok (.putfield 217, 3) := dk_181 0 217 (dk_at dksX0_text_2 10 rfl rfl)
theorem dX0_text_60 : decode cX0_text 60 = .ok (.iload_n 3, 1) := dk_29 (dk_at dksX0_text_2 13 rfl rfl)
theorem dX0_text_61 : decode cX0_text 61 = .ok (.ireturn, 1) := dk_172 (dk_at dksX0_text_2 14 rfl rfl)
theorem dX0_text_62 : decode cX0_text 62 = .ok (.astore 4, 2) := dk_58 4 (dk_at dksX0_text_2 15 rfl rfl)
theorem dX0_text_64 : decode cX0_text 64 = .ok (.aload_n 0, 1) := dk_42 (dk_at dksX0_text_2 17 rfl rfl)
theorem dX0_text_65 : decode cX0_text 65 = .ok (.iconst 0, 1) := dk_3 (dk_at dksX0_text_2 18 rfl rfl)
theorem dX0_text_66 : decode cX0_text 66 = .ok (.putfield 217, 3) := dk_181 0 217 (dk_at dksX0_text_2 19 rfl rfl)
theorem dX0_text_69 : decode cX0_text 69 = .ok (.aload 4, 2) := dk_25 4 (dk_at dksX0_text_2 22 rfl rfl)
theorem dX0_text_71 : decode cX0_text 71 = .ok (.athrow, 1) := dk_191 (dk_at dksX0_text_3 0 rfl rfl)
abbrev cX0_readsText : ByteArray := prog_1_method_43_code
def yX0_readsText : MethodName := ⟨RX0, "readsText", "(I)I"⟩
def dkwX0_readsText_4 : List UInt8 := [181, 1, 152, 42, 180, 0, 150, 190, 172]
abbrev dktX0_readsText_4 : List UInt8 := dkwX0_readsText_4 ++ []
def dkwX0_readsText_3 : List UInt8 := [182, 1, 165, 181, 0, 154, 42, 180, 0, 154, 190, 172, 42, 42, 182, 1, 169, 181, 0, 150, 42, 3]
abbrev dktX0_readsText_3 : List UInt8 := dkwX0_readsText_3 ++ dktX0_readsText_4
def dkwX0_readsText_2 : List UInt8 := [42, 182, 1, 158, 172, 42, 42, 182, 1, 161, 181, 0, 134, 42, 180, 0, 134, 180, 1, 98, 172, 42, 42]
abbrev dktX0_readsText_2 : List UInt8 := dkwX0_readsText_2 ++ dktX0_readsText_3
def dkwX0_readsText_1 : List UInt8 := [170, 0, 0, 0, 0, 65, 0, 0, 0, 0, 0, 0, 0, 3, 0, 0, 0, 30, 0, 0, 0, 35, 0, 0, 0, 65, 0, 0, 0, 51]
abbrev dktX0_readsText_1 : List UInt8 := dkwX0_readsText_1 ++ dktX0_readsText_2
def dkwX0_readsText_0 : List UInt8 := [42, 27, 182, 1, 155, 27]
abbrev dktX0_readsText_0 : List UInt8 := dkwX0_readsText_0 ++ dktX0_readsText_1
theorem dksX0_readsText_0 : cX0_readsText.data.toList.drop 0 = dktX0_readsText_0 := by decide +kernel
theorem dksX0_readsText_1 : cX0_readsText.data.toList.drop 6 = dktX0_readsText_1 := dk_seg dksX0_readsText_0 6 rfl rfl
theorem dksX0_readsText_2 : cX0_readsText.data.toList.drop 36 = dktX0_readsText_2 := dk_seg dksX0_readsText_1 30 rfl rfl
theorem dksX0_readsText_3 : cX0_readsText.data.toList.drop 59 = dktX0_readsText_3 := dk_seg dksX0_readsText_2 23 rfl rfl
theorem dksX0_readsText_4 : cX0_readsText.data.toList.drop 81 = dktX0_readsText_4 := dk_seg dksX0_readsText_3 22 rfl rfl
theorem dX0_readsText_0 : decode cX0_readsText 0 = .ok (.aload_n 0, 1) := dk_42 (dk_at dksX0_readsText_0 0 rfl rfl)
theorem dX0_readsText_1 : decode cX0_readsText 1 = .ok (.iload_n 1, 1) := dk_27 (dk_at dksX0_readsText_0 1 rfl rfl)
theorem dX0_readsText_2 : decode cX0_readsText 2 = .ok (.invokevirtual 411, 3) := dk_182 1 155 (dk_at dksX0_readsText_0 2 rfl rfl)
theorem dX0_readsText_5 : decode cX0_readsText 5 = .ok (.iload_n 1, 1) := dk_27 (dk_at dksX0_readsText_0 5 rfl rfl)
theorem dX0_readsText_6 : decode cX0_readsText 6 = .ok (.tableswitch 65 0 3 #[30, 35, 65, 51], 30) := by decide +kernel
theorem dX0_readsText_36 : decode cX0_readsText 36 = .ok (.aload_n 0, 1) := dk_42 (dk_at dksX0_readsText_2 0 rfl rfl)
theorem dX0_readsText_37 : decode cX0_readsText 37 = .ok (.invokevirtual 414, 3) := dk_182 1 158 (dk_at dksX0_readsText_2 1 rfl rfl)
theorem dX0_readsText_40 : decode cX0_readsText 40 = .ok (.ireturn, 1) := dk_172 (dk_at dksX0_readsText_2 4 rfl rfl)
theorem dX0_readsText_41 : decode cX0_readsText 41 = .ok (.aload_n 0, 1) := dk_42 (dk_at dksX0_readsText_2 5 rfl rfl)
theorem dX0_readsText_42 : decode cX0_readsText 42 = .ok (.aload_n 0, 1) := dk_42 (dk_at dksX0_readsText_2 6 rfl rfl)
theorem dX0_readsText_43 : decode cX0_readsText 43 = .ok (.invokevirtual 417, 3) := dk_182 1 161 (dk_at dksX0_readsText_2 7 rfl rfl)
theorem dX0_readsText_46 : decode cX0_readsText 46 = .ok (.putfield 134, 3) := dk_181 0 134 (dk_at dksX0_readsText_2 10 rfl rfl)
theorem dX0_readsText_49 : decode cX0_readsText 49 = .ok (.aload_n 0, 1) := dk_42 (dk_at dksX0_readsText_2 13 rfl rfl)
theorem dX0_readsText_50 : decode cX0_readsText 50 = .ok (.getfield 134, 3) := dk_180 0 134 (dk_at dksX0_readsText_2 14 rfl rfl)
theorem dX0_readsText_53 : decode cX0_readsText 53 = .ok (.getfield 354, 3) := dk_180 1 98 (dk_at dksX0_readsText_2 17 rfl rfl)
theorem dX0_readsText_56 : decode cX0_readsText 56 = .ok (.ireturn, 1) := dk_172 (dk_at dksX0_readsText_2 20 rfl rfl)
theorem dX0_readsText_57 : decode cX0_readsText 57 = .ok (.aload_n 0, 1) := dk_42 (dk_at dksX0_readsText_2 21 rfl rfl)
theorem dX0_readsText_58 : decode cX0_readsText 58 = .ok (.aload_n 0, 1) := dk_42 (dk_at dksX0_readsText_2 22 rfl rfl)
theorem dX0_readsText_59 : decode cX0_readsText 59 = .ok (.invokevirtual 421, 3) := dk_182 1 165 (dk_at dksX0_readsText_3 0 rfl rfl)
theorem dX0_readsText_62 : decode cX0_readsText 62 = .ok (.putfield 154, 3) := dk_181 0 154 (dk_at dksX0_readsText_3 3 rfl rfl)
theorem dX0_readsText_65 : decode cX0_readsText 65 = .ok (.aload_n 0, 1) := dk_42 (dk_at dksX0_readsText_3 6 rfl rfl)
theorem dX0_readsText_66 : decode cX0_readsText 66 = .ok (.getfield 154, 3) := dk_180 0 154 (dk_at dksX0_readsText_3 7 rfl rfl)
theorem dX0_readsText_69 : decode cX0_readsText 69 = .ok (.arraylength, 1) := dk_190 (dk_at dksX0_readsText_3 10 rfl rfl)
theorem dX0_readsText_70 : decode cX0_readsText 70 = .ok (.ireturn, 1) := dk_172 (dk_at dksX0_readsText_3 11 rfl rfl)
theorem dX0_readsText_71 : decode cX0_readsText 71 = .ok (.aload_n 0, 1) := dk_42 (dk_at dksX0_readsText_3 12 rfl rfl)
theorem dX0_readsText_72 : decode cX0_readsText 72 = .ok (.aload_n 0, 1) := dk_42 (dk_at dksX0_readsText_3 13 rfl rfl)
theorem dX0_readsText_73 : decode cX0_readsText 73 = .ok (.invokevirtual 425, 3) := dk_182 1 169 (dk_at dksX0_readsText_3 14 rfl rfl)
theorem dX0_readsText_76 : decode cX0_readsText 76 = .ok (.putfield 150, 3) := dk_181 0 150 (dk_at dksX0_readsText_3 17 rfl rfl)
theorem dX0_readsText_79 : decode cX0_readsText 79 = .ok (.aload_n 0, 1) := dk_42 (dk_at dksX0_readsText_3 20 rfl rfl)
theorem dX0_readsText_80 : decode cX0_readsText 80 = .ok (.iconst 0, 1) := dk_3 (dk_at dksX0_readsText_3 21 rfl rfl)
theorem dX0_readsText_81 : decode cX0_readsText 81 = .ok (.putfield 408, 3) := dk_181 1 152 (dk_at dksX0_readsText_4 0 rfl rfl)
theorem dX0_readsText_84 : decode cX0_readsText 84 = .ok (.aload_n 0, 1) := dk_42 (dk_at dksX0_readsText_4 3 rfl rfl)
theorem dX0_readsText_85 : decode cX0_readsText 85 = .ok (.getfield 150, 3) := dk_180 0 150 (dk_at dksX0_readsText_4 4 rfl rfl)
theorem dX0_readsText_88 : decode cX0_readsText 88 = .ok (.arraylength, 1) := dk_190 (dk_at dksX0_readsText_4 7 rfl rfl)
theorem dX0_readsText_89 : decode cX0_readsText 89 = .ok (.ireturn, 1) := dk_172 (dk_at dksX0_readsText_4 8 rfl rfl)
abbrev cX0_openText : ByteArray := prog_1_method_41_code
def yX0_openText : MethodName := ⟨RX0, "openText", "(I)V"⟩
def dkwX0_openText_2 : List UInt8 := [181, 0, 124, 42, 3, 181, 0, 232, 42, 3, 181, 1, 68, 42, 182, 1, 46, 177]
abbrev dktX0_openText_2 : List UInt8 := dkwX0_openText_2 ++ []
def dkwX0_openText_1 : List UInt8 := [180, 0, 115, 181, 0, 121, 42, 27, 4, 160, 0, 10, 42, 180, 0, 112, 167, 0, 7, 42, 180, 0, 115]
abbrev dktX0_openText_1 : List UInt8 := dkwX0_openText_1 ++ dktX0_openText_2
def dkwX0_openText_0 : List UInt8 := [42, 42, 180, 0, 79, 27, 50, 181, 0, 118, 42, 27, 4, 160, 0, 10, 42, 180, 0, 103, 167, 0, 7, 42]
abbrev dktX0_openText_0 : List UInt8 := dkwX0_openText_0 ++ dktX0_openText_1
theorem dksX0_openText_0 : cX0_openText.data.toList.drop 0 = dktX0_openText_0 := by decide +kernel
theorem dksX0_openText_1 : cX0_openText.data.toList.drop 24 = dktX0_openText_1 := dk_seg dksX0_openText_0 24 rfl rfl
theorem dksX0_openText_2 : cX0_openText.data.toList.drop 47 = dktX0_openText_2 := dk_seg dksX0_openText_1 23 rfl rfl
theorem dX0_openText_0 : decode cX0_openText 0 = .ok (.aload_n 0, 1) := dk_42 (dk_at dksX0_openText_0 0 rfl rfl)
theorem dX0_openText_1 : decode cX0_openText 1 = .ok (.aload_n 0, 1) := dk_42 (dk_at dksX0_openText_0 1 rfl rfl)
theorem dX0_openText_2 : decode cX0_openText 2 = .ok (.getfield 79, 3) := dk_180 0 79 (dk_at dksX0_openText_0 2 rfl rfl)
theorem dX0_openText_5 : decode cX0_openText 5 = .ok (.iload_n 1, 1) := dk_27 (dk_at dksX0_openText_0 5 rfl rfl)
theorem dX0_openText_6 : decode cX0_openText 6 = .ok (.aaload, 1) := dk_50 (dk_at dksX0_openText_0 6 rfl rfl)
theorem dX0_openText_7 : decode cX0_openText 7 = .ok (.putfield 118, 3) := dk_181 0 118 (dk_at dksX0_openText_0 7 rfl rfl)
theorem dX0_openText_10 : decode cX0_openText 10 = .ok (.aload_n 0, 1) := dk_42 (dk_at dksX0_openText_0 10 rfl rfl)
theorem dX0_openText_11 : decode cX0_openText 11 = .ok (.iload_n 1, 1) := dk_27 (dk_at dksX0_openText_0 11 rfl rfl)
theorem dX0_openText_12 : decode cX0_openText 12 = .ok (.iconst 1, 1) := dk_4 (dk_at dksX0_openText_0 12 rfl rfl)
theorem dX0_openText_13 : decode cX0_openText 13 = .ok (.if_icmp .ne 10, 3) := dk_160 0 10 (dk_at dksX0_openText_0 13 rfl rfl)
theorem dX0_openText_16 : decode cX0_openText 16 = .ok (.aload_n 0, 1) := dk_42 (dk_at dksX0_openText_0 16 rfl rfl)
theorem dX0_openText_17 : decode cX0_openText 17 = .ok (.getfield 103, 3) := dk_180 0 103 (dk_at dksX0_openText_0 17 rfl rfl)
theorem dX0_openText_20 : decode cX0_openText 20 = .ok (.goto 7, 3) := dk_167 0 7 (dk_at dksX0_openText_0 20 rfl rfl)
theorem dX0_openText_23 : decode cX0_openText 23 = .ok (.aload_n 0, 1) := dk_42 (dk_at dksX0_openText_0 23 rfl rfl)
theorem dX0_openText_24 : decode cX0_openText 24 = .ok (.getfield 115, 3) := dk_180 0 115 (dk_at dksX0_openText_1 0 rfl rfl)
theorem dX0_openText_27 : decode cX0_openText 27 = .ok (.putfield 121, 3) := dk_181 0 121 (dk_at dksX0_openText_1 3 rfl rfl)
theorem dX0_openText_30 : decode cX0_openText 30 = .ok (.aload_n 0, 1) := dk_42 (dk_at dksX0_openText_1 6 rfl rfl)
theorem dX0_openText_31 : decode cX0_openText 31 = .ok (.iload_n 1, 1) := dk_27 (dk_at dksX0_openText_1 7 rfl rfl)
theorem dX0_openText_32 : decode cX0_openText 32 = .ok (.iconst 1, 1) := dk_4 (dk_at dksX0_openText_1 8 rfl rfl)
theorem dX0_openText_33 : decode cX0_openText 33 = .ok (.if_icmp .ne 10, 3) := dk_160 0 10 (dk_at dksX0_openText_1 9 rfl rfl)
theorem dX0_openText_36 : decode cX0_openText 36 = .ok (.aload_n 0, 1) := dk_42 (dk_at dksX0_openText_1 12 rfl rfl)
theorem dX0_openText_37 : decode cX0_openText 37 = .ok (.getfield 112, 3) := dk_180 0 112 (dk_at dksX0_openText_1 13 rfl rfl)
theorem dX0_openText_40 : decode cX0_openText 40 = .ok (.goto 7, 3) := dk_167 0 7 (dk_at dksX0_openText_1 16 rfl rfl)
theorem dX0_openText_43 : decode cX0_openText 43 = .ok (.aload_n 0, 1) := dk_42 (dk_at dksX0_openText_1 19 rfl rfl)
theorem dX0_openText_44 : decode cX0_openText 44 = .ok (.getfield 115, 3) := dk_180 0 115 (dk_at dksX0_openText_1 20 rfl rfl)
theorem dX0_openText_47 : decode cX0_openText 47 = .ok (.putfield 124, 3) := dk_181 0 124 (dk_at dksX0_openText_2 0 rfl rfl)
theorem dX0_openText_50 : decode cX0_openText 50 = .ok (.aload_n 0, 1) := dk_42 (dk_at dksX0_openText_2 3 rfl rfl)
theorem dX0_openText_51 : decode cX0_openText 51 = .ok (.iconst 0, 1) := dk_3 (dk_at dksX0_openText_2 4 rfl rfl)
theorem dX0_openText_52 : decode cX0_openText 52 = .ok (.putfield 232, 3) := dk_181 0 232 (dk_at dksX0_openText_2 5 rfl rfl)
theorem dX0_openText_55 : decode cX0_openText 55 = .ok (.aload_n 0, 1) := dk_42 (dk_at dksX0_openText_2 8 rfl rfl)
theorem dX0_openText_56 : decode cX0_openText 56 = .ok (.iconst 0, 1) := dk_3 (dk_at dksX0_openText_2 9 rfl rfl)
theorem dX0_openText_57 : decode cX0_openText 57 = .ok (.putfield 324, 3) := dk_181 1 68 (dk_at dksX0_openText_2 10 rfl rfl)
theorem dX0_openText_60 : decode cX0_openText 60 = .ok (.aload_n 0, 1) := dk_42 (dk_at dksX0_openText_2 13 rfl rfl)
theorem dX0_openText_61 : decode cX0_openText 61 = .ok (.invokevirtual 302, 3) := dk_182 1 46 (dk_at dksX0_openText_2 14 rfl rfl)
theorem dX0_openText_64 : decode cX0_openText 64 = .ok (.return_, 1) := dk_177 (dk_at dksX0_openText_2 17 rfl rfl)
abbrev cX0_readNext : ByteArray := prog_1_method_20_code
def yX0_readNext : MethodName := ⟨RX0, "readNext", "()V"⟩
def dkwX0_readNext_12 : List UInt8 := [178, 1, 2, 181, 0, 245, 42, 27, 181, 1, 5, 177]
abbrev dktX0_readNext_12 : List UInt8 := dkwX0_readNext_12 ++ []
def dkwX0_readNext_11 : List UInt8 := [163, 0, 35, 42, 178, 1, 25, 181, 0, 245, 167, 0, 25, 19, 1, 28, 27, 182, 1, 30, 155, 0, 15, 42]
abbrev dktX0_readNext_11 : List UInt8 := dkwX0_readNext_11 ++ dktX0_readNext_12
def dkwX0_readNext_10 : List UInt8 := [89, 180, 0, 232, 4, 96, 181, 0, 232, 167, 255, 203, 42, 180, 0, 232, 42, 180, 0, 235, 100, 7]
abbrev dktX0_readNext_10 : List UInt8 := dkwX0_readNext_10 ++ dktX0_readNext_11
def dkwX0_readNext_9 : List UInt8 := [42, 180, 1, 5, 104, 42, 42, 180, 0, 232, 182, 0, 238, 96, 16, 48, 100, 184, 0, 1, 181, 1, 5, 42]
abbrev dktX0_readNext_9 : List UInt8 := dkwX0_readNext_9 ++ dktX0_readNext_10
def dkwX0_readNext_8 : List UInt8 := [100, 181, 1, 5, 42, 42, 180, 0, 232, 182, 0, 238, 184, 1, 21, 153, 0, 45, 42, 19, 1, 24, 16, 10]
abbrev dktX0_readNext_8 : List UInt8 := dkwX0_readNext_8 ++ dktX0_readNext_9
def dkwX0_readNext_7 : List UInt8 := [160, 0, 129, 42, 178, 1, 11, 181, 0, 245, 167, 0, 119, 27, 184, 1, 21, 153, 0, 90, 42, 27, 16, 48]
abbrev dktX0_readNext_7 : List UInt8 := dkwX0_readNext_7 ++ dktX0_readNext_8
def dkwX0_readNext_6 : List UInt8 := [160, 0, 153, 42, 42, 180, 0, 121, 182, 1, 17, 2, 160, 0, 141, 42, 42, 180, 0, 124, 182, 1, 17, 2]
abbrev dktX0_readNext_6 : List UInt8 := dkwX0_readNext_6 ++ dktX0_readNext_7
def dkwX0_readNext_5 : List UInt8 := [181, 0, 232, 167, 255, 232, 42, 178, 0, 249, 181, 0, 245, 42, 42, 180, 0, 118, 182, 1, 17, 2]
abbrev dktX0_readNext_5 : List UInt8 := dkwX0_readNext_5 ++ dktX0_readNext_6
def dkwX0_readNext_4 : List UInt8 := [153, 0, 83, 42, 42, 180, 0, 232, 182, 0, 238, 184, 1, 14, 153, 0, 16, 42, 89, 180, 0, 232, 4, 96]
abbrev dktX0_readNext_4 : List UInt8 := dkwX0_readNext_4 ++ dktX0_readNext_5
def dkwX0_readNext_3 : List UInt8 := [181, 0, 245, 27, 2, 160, 0, 4, 177, 42, 89, 180, 0, 232, 4, 96, 181, 0, 232, 27, 184, 1, 14]
abbrev dktX0_readNext_3 : List UInt8 := dkwX0_readNext_3 ++ dktX0_readNext_4
def dkwX0_readNext_2 : List UInt8 := [42, 42, 180, 0, 232, 182, 0, 238, 60, 42, 27, 2, 160, 0, 9, 178, 1, 8, 167, 0, 6, 178, 1, 11]
abbrev dktX0_readNext_2 : List UInt8 := dkwX0_readNext_2 ++ dktX0_readNext_3
def dkwX0_readNext_1 : List UInt8 := [160, 0, 16, 42, 89, 180, 0, 232, 4, 96, 181, 0, 232, 167, 255, 220, 42, 42, 180, 0, 232, 181, 0, 235]
abbrev dktX0_readNext_1 : List UInt8 := dkwX0_readNext_1 ++ dktX0_readNext_2
def dkwX0_readNext_0 : List UInt8 := [42, 42, 180, 0, 232, 182, 0, 238, 16, 32, 159, 0, 16, 42, 42, 180, 0, 232, 182, 0, 238, 16, 10]
abbrev dktX0_readNext_0 : List UInt8 := dkwX0_readNext_0 ++ dktX0_readNext_1
theorem dksX0_readNext_0 : cX0_readNext.data.toList.drop 0 = dktX0_readNext_0 := by decide +kernel
theorem dksX0_readNext_1 : cX0_readNext.data.toList.drop 23 = dktX0_readNext_1 := dk_seg dksX0_readNext_0 23 rfl rfl
theorem dksX0_readNext_2 : cX0_readNext.data.toList.drop 47 = dktX0_readNext_2 := dk_seg dksX0_readNext_1 24 rfl rfl
theorem dksX0_readNext_3 : cX0_readNext.data.toList.drop 71 = dktX0_readNext_3 := dk_seg dksX0_readNext_2 24 rfl rfl
theorem dksX0_readNext_4 : cX0_readNext.data.toList.drop 94 = dktX0_readNext_4 := dk_seg dksX0_readNext_3 23 rfl rfl
theorem dksX0_readNext_5 : cX0_readNext.data.toList.drop 118 = dktX0_readNext_5 := dk_seg dksX0_readNext_4 24 rfl rfl
theorem dksX0_readNext_6 : cX0_readNext.data.toList.drop 140 = dktX0_readNext_6 := dk_seg dksX0_readNext_5 22 rfl rfl
theorem dksX0_readNext_7 : cX0_readNext.data.toList.drop 164 = dktX0_readNext_7 := dk_seg dksX0_readNext_6 24 rfl rfl
theorem dksX0_readNext_8 : cX0_readNext.data.toList.drop 188 = dktX0_readNext_8 := dk_seg dksX0_readNext_7 24 rfl rfl
theorem dksX0_readNext_9 : cX0_readNext.data.toList.drop 212 = dktX0_readNext_9 := dk_seg dksX0_readNext_8 24 rfl rfl
theorem dksX0_readNext_10 : cX0_readNext.data.toList.drop 236 = dktX0_readNext_10 := dk_seg dksX0_readNext_9 24 rfl rfl
theorem dksX0_readNext_11 : cX0_readNext.data.toList.drop 258 = dktX0_readNext_11 := dk_seg dksX0_readNext_10 22 rfl rfl
theorem dksX0_readNext_12 : cX0_readNext.data.toList.drop 282 = dktX0_readNext_12 := dk_seg dksX0_readNext_11 24 rfl rfl
theorem dX0_readNext_0 : decode cX0_readNext 0 = .ok (.aload_n 0, 1) := dk_42 (dk_at dksX0_readNext_0 0 rfl rfl)
theorem dX0_readNext_1 : decode cX0_readNext 1 = .ok (.aload_n 0, 1) := dk_42 (dk_at dksX0_readNext_0 1 rfl rfl)
theorem dX0_readNext_2 : decode cX0_readNext 2 = .ok (.getfield 232, 3) := dk_180 0 232 (dk_at dksX0_readNext_0 2 rfl rfl)
theorem dX0_readNext_5 : decode cX0_readNext 5 = .ok (.invokevirtual 238, 3) := dk_182 0 238 (dk_at dksX0_readNext_0 5 rfl rfl)
theorem dX0_readNext_8 : decode cX0_readNext 8 = .ok (.bipush 32, 2) := dk_16 32 (dk_at dksX0_readNext_0 8 rfl rfl)
theorem dX0_readNext_10 : decode cX0_readNext 10 = .ok (.if_icmp .eq 16, 3) := dk_159 0 16 (dk_at dksX0_readNext_0 10 rfl rfl)
theorem dX0_readNext_13 : decode cX0_readNext 13 = .ok (.aload_n 0, 1) := dk_42 (dk_at dksX0_readNext_0 13 rfl rfl)
theorem dX0_readNext_14 : decode cX0_readNext 14 = .ok (.aload_n 0, 1) := dk_42 (dk_at dksX0_readNext_0 14 rfl rfl)
theorem dX0_readNext_15 : decode cX0_readNext 15 = .ok (.getfield 232, 3) := dk_180 0 232 (dk_at dksX0_readNext_0 15 rfl rfl)
theorem dX0_readNext_18 : decode cX0_readNext 18 = .ok (.invokevirtual 238, 3) := dk_182 0 238 (dk_at dksX0_readNext_0 18 rfl rfl)
theorem dX0_readNext_21 : decode cX0_readNext 21 = .ok (.bipush 10, 2) := dk_16 10 (dk_at dksX0_readNext_0 21 rfl rfl)
theorem dX0_readNext_23 : decode cX0_readNext 23 = .ok (.if_icmp .ne 16, 3) := dk_160 0 16 (dk_at dksX0_readNext_1 0 rfl rfl)
theorem dX0_readNext_26 : decode cX0_readNext 26 = .ok (.aload_n 0, 1) := dk_42 (dk_at dksX0_readNext_1 3 rfl rfl)
theorem dX0_readNext_27 : decode cX0_readNext 27 = .ok (.dup, 1) := dk_89 (dk_at dksX0_readNext_1 4 rfl rfl)
theorem dX0_readNext_28 : decode cX0_readNext 28 = .ok (.getfield 232, 3) := dk_180 0 232 (dk_at dksX0_readNext_1 5 rfl rfl)
theorem dX0_readNext_31 : decode cX0_readNext 31 = .ok (.iconst 1, 1) := dk_4 (dk_at dksX0_readNext_1 8 rfl rfl)
theorem dX0_readNext_32 : decode cX0_readNext 32 = .ok (.iadd, 1) := dk_96 (dk_at dksX0_readNext_1 9 rfl rfl)
theorem dX0_readNext_33 : decode cX0_readNext 33 = .ok (.putfield 232, 3) := dk_181 0 232 (dk_at dksX0_readNext_1 10 rfl rfl)
theorem dX0_readNext_36 : decode cX0_readNext 36 = .ok (.goto (-36), 3) := dk_167 255 220 (dk_at dksX0_readNext_1 13 rfl rfl)
theorem dX0_readNext_39 : decode cX0_readNext 39 = .ok (.aload_n 0, 1) := dk_42 (dk_at dksX0_readNext_1 16 rfl rfl)
theorem dX0_readNext_40 : decode cX0_readNext 40 = .ok (.aload_n 0, 1) := dk_42 (dk_at dksX0_readNext_1 17 rfl rfl)
theorem dX0_readNext_41 : decode cX0_readNext 41 = .ok (.getfield 232, 3) := dk_180 0 232 (dk_at dksX0_readNext_1 18 rfl rfl)
theorem dX0_readNext_44 : decode cX0_readNext 44 = .ok (.putfield 235, 3) := dk_181 0 235 (dk_at dksX0_readNext_1 21 rfl rfl)
theorem dX0_readNext_47 : decode cX0_readNext 47 = .ok (.aload_n 0, 1) := dk_42 (dk_at dksX0_readNext_2 0 rfl rfl)
theorem dX0_readNext_48 : decode cX0_readNext 48 = .ok (.aload_n 0, 1) := dk_42 (dk_at dksX0_readNext_2 1 rfl rfl)
theorem dX0_readNext_49 : decode cX0_readNext 49 = .ok (.getfield 232, 3) := dk_180 0 232 (dk_at dksX0_readNext_2 2 rfl rfl)
theorem dX0_readNext_52 : decode cX0_readNext 52 = .ok (.invokevirtual 238, 3) := dk_182 0 238 (dk_at dksX0_readNext_2 5 rfl rfl)
theorem dX0_readNext_55 : decode cX0_readNext 55 = .ok (.istore_n 1, 1) := dk_60 (dk_at dksX0_readNext_2 8 rfl rfl)
theorem dX0_readNext_56 : decode cX0_readNext 56 = .ok (.aload_n 0, 1) := dk_42 (dk_at dksX0_readNext_2 9 rfl rfl)
theorem dX0_readNext_57 : decode cX0_readNext 57 = .ok (.iload_n 1, 1) := dk_27 (dk_at dksX0_readNext_2 10 rfl rfl)
theorem dX0_readNext_58 : decode cX0_readNext 58 = .ok (.iconst (-1), 1) := dk_2 (dk_at dksX0_readNext_2 11 rfl rfl)
theorem dX0_readNext_59 : decode cX0_readNext 59 = .ok (.if_icmp .ne 9, 3) := dk_160 0 9 (dk_at dksX0_readNext_2 12 rfl rfl)
theorem dX0_readNext_62 : decode cX0_readNext 62 = .ok (.getstatic 264, 3) := dk_178 1 8 (dk_at dksX0_readNext_2 15 rfl rfl)
theorem dX0_readNext_65 : decode cX0_readNext 65 = .ok (.goto 6, 3) := dk_167 0 6 (dk_at dksX0_readNext_2 18 rfl rfl)
theorem dX0_readNext_68 : decode cX0_readNext 68 = .ok (.getstatic 267, 3) := dk_178 1 11 (dk_at dksX0_readNext_2 21 rfl rfl)
theorem dX0_readNext_71 : decode cX0_readNext 71 = .ok (.putfield 245, 3) := dk_181 0 245 (dk_at dksX0_readNext_3 0 rfl rfl)
theorem dX0_readNext_74 : decode cX0_readNext 74 = .ok (.iload_n 1, 1) := dk_27 (dk_at dksX0_readNext_3 3 rfl rfl)
theorem dX0_readNext_75 : decode cX0_readNext 75 = .ok (.iconst (-1), 1) := dk_2 (dk_at dksX0_readNext_3 4 rfl rfl)
theorem dX0_readNext_76 : decode cX0_readNext 76 = .ok (.if_icmp .ne 4, 3) := dk_160 0 4 (dk_at dksX0_readNext_3 5 rfl rfl)
theorem dX0_readNext_79 : decode cX0_readNext 79 = .ok (.return_, 1) := dk_177 (dk_at dksX0_readNext_3 8 rfl rfl)
theorem dX0_readNext_80 : decode cX0_readNext 80 = .ok (.aload_n 0, 1) := dk_42 (dk_at dksX0_readNext_3 9 rfl rfl)
theorem dX0_readNext_81 : decode cX0_readNext 81 = .ok (.dup, 1) := dk_89 (dk_at dksX0_readNext_3 10 rfl rfl)
theorem dX0_readNext_82 : decode cX0_readNext 82 = .ok (.getfield 232, 3) := dk_180 0 232 (dk_at dksX0_readNext_3 11 rfl rfl)
theorem dX0_readNext_85 : decode cX0_readNext 85 = .ok (.iconst 1, 1) := dk_4 (dk_at dksX0_readNext_3 14 rfl rfl)
theorem dX0_readNext_86 : decode cX0_readNext 86 = .ok (.iadd, 1) := dk_96 (dk_at dksX0_readNext_3 15 rfl rfl)
theorem dX0_readNext_87 : decode cX0_readNext 87 = .ok (.putfield 232, 3) := dk_181 0 232 (dk_at dksX0_readNext_3 16 rfl rfl)
theorem dX0_readNext_90 : decode cX0_readNext 90 = .ok (.iload_n 1, 1) := dk_27 (dk_at dksX0_readNext_3 19 rfl rfl)
theorem dX0_readNext_91 : decode cX0_readNext 91 = .ok (.invokestatic 270, 3) := dk_184 1 14 (dk_at dksX0_readNext_3 20 rfl rfl)
theorem dX0_readNext_94 : decode cX0_readNext 94 = .ok (.ifCond .eq 83, 3) := dk_153 0 83 (dk_at dksX0_readNext_4 0 rfl rfl)
theorem dX0_readNext_97 : decode cX0_readNext 97 = .ok (.aload_n 0, 1) := dk_42 (dk_at dksX0_readNext_4 3 rfl rfl)
theorem dX0_readNext_98 : decode cX0_readNext 98 = .ok (.aload_n 0, 1) := dk_42 (dk_at dksX0_readNext_4 4 rfl rfl)
theorem dX0_readNext_99 : decode cX0_readNext 99 = .ok (.getfield 232, 3) := dk_180 0 232 (dk_at dksX0_readNext_4 5 rfl rfl)
theorem dX0_readNext_102 : decode cX0_readNext 102 = .ok (.invokevirtual 238, 3) := dk_182 0 238 (dk_at dksX0_readNext_4 8 rfl rfl)
theorem dX0_readNext_105 : decode cX0_readNext 105 = .ok (.invokestatic 270, 3) := dk_184 1 14 (dk_at dksX0_readNext_4 11 rfl rfl)
theorem dX0_readNext_108 : decode cX0_readNext 108 = .ok (.ifCond .eq 16, 3) := dk_153 0 16 (dk_at dksX0_readNext_4 14 rfl rfl)
theorem dX0_readNext_111 : decode cX0_readNext 111 = .ok (.aload_n 0, 1) := dk_42 (dk_at dksX0_readNext_4 17 rfl rfl)
theorem dX0_readNext_112 : decode cX0_readNext 112 = .ok (.dup, 1) := dk_89 (dk_at dksX0_readNext_4 18 rfl rfl)
theorem dX0_readNext_113 : decode cX0_readNext 113 = .ok (.getfield 232, 3) := dk_180 0 232 (dk_at dksX0_readNext_4 19 rfl rfl)
theorem dX0_readNext_116 : decode cX0_readNext 116 = .ok (.iconst 1, 1) := dk_4 (dk_at dksX0_readNext_4 22 rfl rfl)
theorem dX0_readNext_117 : decode cX0_readNext 117 = .ok (.iadd, 1) := dk_96 (dk_at dksX0_readNext_4 23 rfl rfl)
theorem dX0_readNext_118 : decode cX0_readNext 118 = .ok (.putfield 232, 3) := dk_181 0 232 (dk_at dksX0_readNext_5 0 rfl rfl)
theorem dX0_readNext_121 : decode cX0_readNext 121 = .ok (.goto (-24), 3) := dk_167 255 232 (dk_at dksX0_readNext_5 3 rfl rfl)
theorem dX0_readNext_124 : decode cX0_readNext 124 = .ok (.aload_n 0, 1) := dk_42 (dk_at dksX0_readNext_5 6 rfl rfl)
theorem dX0_readNext_125 : decode cX0_readNext 125 = .ok (.getstatic 249, 3) := dk_178 0 249 (dk_at dksX0_readNext_5 7 rfl rfl)
theorem dX0_readNext_128 : decode cX0_readNext 128 = .ok (.putfield 245, 3) := dk_181 0 245 (dk_at dksX0_readNext_5 10 rfl rfl)
theorem dX0_readNext_131 : decode cX0_readNext 131 = .ok (.aload_n 0, 1) := dk_42 (dk_at dksX0_readNext_5 13 rfl rfl)
theorem dX0_readNext_132 : decode cX0_readNext 132 = .ok (.aload_n 0, 1) := dk_42 (dk_at dksX0_readNext_5 14 rfl rfl)
theorem dX0_readNext_133 : decode cX0_readNext 133 = .ok (.getfield 118, 3) := dk_180 0 118 (dk_at dksX0_readNext_5 15 rfl rfl)
theorem dX0_readNext_136 : decode cX0_readNext 136 = .ok (.invokevirtual 273, 3) := dk_182 1 17 (dk_at dksX0_readNext_5 18 rfl rfl)
theorem dX0_readNext_139 : decode cX0_readNext 139 = .ok (.iconst (-1), 1) := dk_2 (dk_at dksX0_readNext_5 21 rfl rfl)
theorem dX0_readNext_140 : decode cX0_readNext 140 = .ok (.if_icmp .ne 153, 3) := dk_160 0 153 (dk_at dksX0_readNext_6 0 rfl rfl)
theorem dX0_readNext_143 : decode cX0_readNext 143 = .ok (.aload_n 0, 1) := dk_42 (dk_at dksX0_readNext_6 3 rfl rfl)
theorem dX0_readNext_144 : decode cX0_readNext 144 = .ok (.aload_n 0, 1) := dk_42 (dk_at dksX0_readNext_6 4 rfl rfl)
theorem dX0_readNext_145 : decode cX0_readNext 145 = .ok (.getfield 121, 3) := dk_180 0 121 (dk_at dksX0_readNext_6 5 rfl rfl)
theorem dX0_readNext_148 : decode cX0_readNext 148 = .ok (.invokevirtual 273, 3) := dk_182 1 17 (dk_at dksX0_readNext_6 8 rfl rfl)
theorem dX0_readNext_151 : decode cX0_readNext 151 = .ok (.iconst (-1), 1) := dk_2 (dk_at dksX0_readNext_6 11 rfl rfl)
theorem dX0_readNext_152 : decode cX0_readNext 152 = .ok (.if_icmp .ne 141, 3) := dk_160 0 141 (dk_at dksX0_readNext_6 12 rfl rfl)
theorem dX0_readNext_155 : decode cX0_readNext 155 = .ok (.aload_n 0, 1) := dk_42 (dk_at dksX0_readNext_6 15 rfl rfl)
theorem dX0_readNext_156 : decode cX0_readNext 156 = .ok (.aload_n 0, 1) := dk_42 (dk_at dksX0_readNext_6 16 rfl rfl)
theorem dX0_readNext_157 : decode cX0_readNext 157 = .ok (.getfield 124, 3) := dk_180 0 124 (dk_at dksX0_readNext_6 17 rfl rfl)
theorem dX0_readNext_160 : decode cX0_readNext 160 = .ok (.invokevirtual 273, 3) := dk_182 1 17 (dk_at dksX0_readNext_6 20 rfl rfl)
theorem dX0_readNext_163 : decode cX0_readNext 163 = .ok (.iconst (-1), 1) := dk_2 (dk_at dksX0_readNext_6 23 rfl rfl)
theorem dX0_readNext_164 : decode cX0_readNext 164 = .ok (.if_icmp .ne 129, 3) := dk_160 0 129 (dk_at dksX0_readNext_7 0 rfl rfl)
theorem dX0_readNext_167 : decode cX0_readNext 167 = .ok (.aload_n 0, 1) := dk_42 (dk_at dksX0_readNext_7 3 rfl rfl)
theorem dX0_readNext_168 : decode cX0_readNext 168 = .ok (.getstatic 267, 3) := dk_178 1 11 (dk_at dksX0_readNext_7 4 rfl rfl)
theorem dX0_readNext_171 : decode cX0_readNext 171 = .ok (.putfield 245, 3) := dk_181 0 245 (dk_at dksX0_readNext_7 7 rfl rfl)
theorem dX0_readNext_174 : decode cX0_readNext 174 = .ok (.goto 119, 3) := dk_167 0 119 (dk_at dksX0_readNext_7 10 rfl rfl)
theorem dX0_readNext_177 : decode cX0_readNext 177 = .ok (.iload_n 1, 1) := dk_27 (dk_at dksX0_readNext_7 13 rfl rfl)
theorem dX0_readNext_178 : decode cX0_readNext 178 = .ok (.invokestatic 277, 3) := dk_184 1 21 (dk_at dksX0_readNext_7 14 rfl rfl)
theorem dX0_readNext_181 : decode cX0_readNext 181 = .ok (.ifCond .eq 90, 3) := dk_153 0 90 (dk_at dksX0_readNext_7 17 rfl rfl)
theorem dX0_readNext_184 : decode cX0_readNext 184 = .ok (.aload_n 0, 1) := dk_42 (dk_at dksX0_readNext_7 20 rfl rfl)
theorem dX0_readNext_185 : decode cX0_readNext 185 = .ok (.iload_n 1, 1) := dk_27 (dk_at dksX0_readNext_7 21 rfl rfl)
theorem dX0_readNext_186 : decode cX0_readNext 186 = .ok (.bipush 48, 2) := dk_16 48 (dk_at dksX0_readNext_7 22 rfl rfl)
theorem dX0_readNext_188 : decode cX0_readNext 188 = .ok (.isub, 1) := dk_100 (dk_at dksX0_readNext_8 0 rfl rfl)
theorem dX0_readNext_189 : decode cX0_readNext 189 = .ok (.putfield 261, 3) := dk_181 1 5 (dk_at dksX0_readNext_8 1 rfl rfl)
theorem dX0_readNext_192 : decode cX0_readNext 192 = .ok (.aload_n 0, 1) := dk_42 (dk_at dksX0_readNext_8 4 rfl rfl)
theorem dX0_readNext_193 : decode cX0_readNext 193 = .ok (.aload_n 0, 1) := dk_42 (dk_at dksX0_readNext_8 5 rfl rfl)
theorem dX0_readNext_194 : decode cX0_readNext 194 = .ok (.getfield 232, 3) := dk_180 0 232 (dk_at dksX0_readNext_8 6 rfl rfl)
theorem dX0_readNext_197 : decode cX0_readNext 197 = .ok (.invokevirtual 238, 3) := dk_182 0 238 (dk_at dksX0_readNext_8 9 rfl rfl)
theorem dX0_readNext_200 : decode cX0_readNext 200 = .ok (.invokestatic 277, 3) := dk_184 1 21 (dk_at dksX0_readNext_8 12 rfl rfl)
theorem dX0_readNext_203 : decode cX0_readNext 203 = .ok (.ifCond .eq 45, 3) := dk_153 0 45 (dk_at dksX0_readNext_8 15 rfl rfl)
theorem dX0_readNext_206 : decode cX0_readNext 206 = .ok (.aload_n 0, 1) := dk_42 (dk_at dksX0_readNext_8 18 rfl rfl)
theorem dX0_readNext_207 : decode cX0_readNext 207 = .ok (.ldc_w 280, 3) := dk_19 1 24 (dk_at dksX0_readNext_8 19 rfl rfl)
theorem dX0_readNext_210 : decode cX0_readNext 210 = .ok (.bipush 10, 2) := dk_16 10 (dk_at dksX0_readNext_8 22 rfl rfl)
theorem dX0_readNext_212 : decode cX0_readNext 212 = .ok (.aload_n 0, 1) := dk_42 (dk_at dksX0_readNext_9 0 rfl rfl)
theorem dX0_readNext_213 : decode cX0_readNext 213 = .ok (.getfield 261, 3) := dk_180 1 5 (dk_at dksX0_readNext_9 1 rfl rfl)
theorem dX0_readNext_216 : decode cX0_readNext 216 = .ok (.imul, 1) := dk_104 (dk_at dksX0_readNext_9 4 rfl rfl)
theorem dX0_readNext_217 : decode cX0_readNext 217 = .ok (.aload_n 0, 1) := dk_42 (dk_at dksX0_readNext_9 5 rfl rfl)
theorem dX0_readNext_218 : decode cX0_readNext 218 = .ok (.aload_n 0, 1) := dk_42 (dk_at dksX0_readNext_9 6 rfl rfl)
theorem dX0_readNext_219 : decode cX0_readNext 219 = .ok (.getfield 232, 3) := dk_180 0 232 (dk_at dksX0_readNext_9 7 rfl rfl)
theorem dX0_readNext_222 : decode cX0_readNext 222 = .ok (.invokevirtual 238, 3) := dk_182 0 238 (dk_at dksX0_readNext_9 10 rfl rfl)
theorem dX0_readNext_225 : decode cX0_readNext 225 = .ok (.iadd, 1) := dk_96 (dk_at dksX0_readNext_9 13 rfl rfl)
theorem dX0_readNext_226 : decode cX0_readNext 226 = .ok (.bipush 48, 2) := dk_16 48 (dk_at dksX0_readNext_9 14 rfl rfl)
theorem dX0_readNext_228 : decode cX0_readNext 228 = .ok (.isub, 1) := dk_100 (dk_at dksX0_readNext_9 16 rfl rfl)
theorem dX0_readNext_229 : decode cX0_readNext 229 = .ok (.invokestatic 1, 3) := dk_184 0 1 (dk_at dksX0_readNext_9 17 rfl rfl)
theorem dX0_readNext_232 : decode cX0_readNext 232 = .ok (.putfield 261, 3) := dk_181 1 5 (dk_at dksX0_readNext_9 20 rfl rfl)
theorem dX0_readNext_235 : decode cX0_readNext 235 = .ok (.aload_n 0, 1) := dk_42 (dk_at dksX0_readNext_9 23 rfl rfl)
theorem dX0_readNext_236 : decode cX0_readNext 236 = .ok (.dup, 1) := dk_89 (dk_at dksX0_readNext_10 0 rfl rfl)
theorem dX0_readNext_237 : decode cX0_readNext 237 = .ok (.getfield 232, 3) := dk_180 0 232 (dk_at dksX0_readNext_10 1 rfl rfl)
theorem dX0_readNext_240 : decode cX0_readNext 240 = .ok (.iconst 1, 1) := dk_4 (dk_at dksX0_readNext_10 4 rfl rfl)
theorem dX0_readNext_241 : decode cX0_readNext 241 = .ok (.iadd, 1) := dk_96 (dk_at dksX0_readNext_10 5 rfl rfl)
theorem dX0_readNext_242 : decode cX0_readNext 242 = .ok (.putfield 232, 3) := dk_181 0 232 (dk_at dksX0_readNext_10 6 rfl rfl)
theorem dX0_readNext_245 : decode cX0_readNext 245 = .ok (.goto (-53), 3) := dk_167 255 203 (dk_at dksX0_readNext_10 9 rfl rfl)
theorem dX0_readNext_248 : decode cX0_readNext 248 = .ok (.aload_n 0, 1) := dk_42 (dk_at dksX0_readNext_10 12 rfl rfl)
theorem dX0_readNext_249 : decode cX0_readNext 249 = .ok (.getfield 232, 3) := dk_180 0 232 (dk_at dksX0_readNext_10 13 rfl rfl)
theorem dX0_readNext_252 : decode cX0_readNext 252 = .ok (.aload_n 0, 1) := dk_42 (dk_at dksX0_readNext_10 16 rfl rfl)
theorem dX0_readNext_253 : decode cX0_readNext 253 = .ok (.getfield 235, 3) := dk_180 0 235 (dk_at dksX0_readNext_10 17 rfl rfl)
theorem dX0_readNext_256 : decode cX0_readNext 256 = .ok (.isub, 1) := dk_100 (dk_at dksX0_readNext_10 20 rfl rfl)
theorem dX0_readNext_257 : decode cX0_readNext 257 = .ok (.iconst 4, 1) := dk_7 (dk_at dksX0_readNext_10 21 rfl rfl)
theorem dX0_readNext_258 : decode cX0_readNext 258 = .ok (.if_icmp .gt 35, 3) := dk_163 0 35 (dk_at dksX0_readNext_11 0 rfl rfl)
theorem dX0_readNext_261 : decode cX0_readNext 261 = .ok (.aload_n 0, 1) := dk_42 (dk_at dksX0_readNext_11 3 rfl rfl)
theorem dX0_readNext_262 : decode cX0_readNext 262 = .ok (.getstatic 281, 3) := dk_178 1 25 (dk_at dksX0_readNext_11 4 rfl rfl)
theorem dX0_readNext_265 : decode cX0_readNext 265 = .ok (.putfield 245, 3) := dk_181 0 245 (dk_at dksX0_readNext_11 7 rfl rfl)
theorem dX0_readNext_268 : decode cX0_readNext 268 = .ok (.goto 25, 3) := dk_167 0 25 (dk_at dksX0_readNext_11 10 rfl rfl)
theorem dX0_readNext_271 : decode cX0_readNext 271 = .ok (.ldc_w 284, 3) := dk_19 1 28 (dk_at dksX0_readNext_11 13 rfl rfl)
theorem dX0_readNext_274 : decode cX0_readNext 274 = .ok (.iload_n 1, 1) := dk_27 (dk_at dksX0_readNext_11 16 rfl rfl)
theorem dX0_readNext_275 : decode cX0_readNext 275 = .ok (.invokevirtual 286, 3) := dk_182 1 30 (dk_at dksX0_readNext_11 17 rfl rfl)
theorem dX0_readNext_278 : decode cX0_readNext 278 = .ok (.ifCond .lt 15, 3) := dk_155 0 15 (dk_at dksX0_readNext_11 20 rfl rfl)
theorem dX0_readNext_281 : decode cX0_readNext 281 = .ok (.aload_n 0, 1) := dk_42 (dk_at dksX0_readNext_11 23 rfl rfl)
theorem dX0_readNext_282 : decode cX0_readNext 282 = .ok (.getstatic 258, 3) := dk_178 1 2 (dk_at dksX0_readNext_12 0 rfl rfl)
theorem dX0_readNext_285 : decode cX0_readNext 285 = .ok (.putfield 245, 3) := dk_181 0 245 (dk_at dksX0_readNext_12 3 rfl rfl)
theorem dX0_readNext_288 : decode cX0_readNext 288 = .ok (.aload_n 0, 1) := dk_42 (dk_at dksX0_readNext_12 6 rfl rfl)
theorem dX0_readNext_289 : decode cX0_readNext 289 = .ok (.iload_n 1, 1) := dk_27 (dk_at dksX0_readNext_12 7 rfl rfl)
theorem dX0_readNext_290 : decode cX0_readNext 290 = .ok (.putfield 261, 3) := dk_181 1 5 (dk_at dksX0_readNext_12 8 rfl rfl)
theorem dX0_readNext_293 : decode cX0_readNext 293 = .ok (.return_, 1) := dk_177 (dk_at dksX0_readNext_12 11 rfl rfl)
abbrev cX0_raw : ByteArray := prog_1_method_13_code
def yX0_raw : MethodName := ⟨RX0, "raw", "(I)I"⟩
def dkwX0_raw_0 : List UInt8 := [27, 42, 180, 0, 217, 162, 0, 16, 42, 180, 0, 47, 27, 51, 17, 0, 255, 126, 167, 0, 4, 2, 172]
abbrev dktX0_raw_0 : List UInt8 := dkwX0_raw_0 ++ []
theorem dksX0_raw_0 : cX0_raw.data.toList.drop 0 = dktX0_raw_0 := by decide +kernel
theorem dX0_raw_0 : decode cX0_raw 0 = .ok (.iload_n 1, 1) := dk_27 (dk_at dksX0_raw_0 0 rfl rfl)
theorem dX0_raw_1 : decode cX0_raw 1 = .ok (.aload_n 0, 1) := dk_42 (dk_at dksX0_raw_0 1 rfl rfl)
theorem dX0_raw_2 : decode cX0_raw 2 = .ok (.getfield 217, 3) := dk_180 0 217 (dk_at dksX0_raw_0 2 rfl rfl)
theorem dX0_raw_5 : decode cX0_raw 5 = .ok (.if_icmp .ge 16, 3) := dk_162 0 16 (dk_at dksX0_raw_0 5 rfl rfl)
theorem dX0_raw_8 : decode cX0_raw 8 = .ok (.aload_n 0, 1) := dk_42 (dk_at dksX0_raw_0 8 rfl rfl)
theorem dX0_raw_9 : decode cX0_raw 9 = .ok (.getfield 47, 3) := dk_180 0 47 (dk_at dksX0_raw_0 9 rfl rfl)
theorem dX0_raw_12 : decode cX0_raw 12 = .ok (.iload_n 1, 1) := dk_27 (dk_at dksX0_raw_0 12 rfl rfl)
theorem dX0_raw_13 : decode cX0_raw 13 = .ok (.baload, 1) := dk_51 (dk_at dksX0_raw_0 13 rfl rfl)
theorem dX0_raw_14 : decode cX0_raw 14 = .ok (.sipush 255, 3) := dk_17 0 255 (dk_at dksX0_raw_0 14 rfl rfl)
theorem dX0_raw_17 : decode cX0_raw 17 = .ok (.iand, 1) := dk_126 (dk_at dksX0_raw_0 17 rfl rfl)
theorem dX0_raw_18 : decode cX0_raw 18 = .ok (.goto 4, 3) := dk_167 0 4 (dk_at dksX0_raw_0 18 rfl rfl)
theorem dX0_raw_21 : decode cX0_raw 21 = .ok (.iconst (-1), 1) := dk_2 (dk_at dksX0_raw_0 21 rfl rfl)
theorem dX0_raw_22 : decode cX0_raw 22 = .ok (.ireturn, 1) := dk_172 (dk_at dksX0_raw_0 22 rfl rfl)
abbrev cX0_isLetter : ByteArray := prog_1_method_14_code
def yX0_isLetter : MethodName := ⟨RX0, "isLetter", "(I)Z"⟩
def dkwX0_isLetter_1 : List UInt8 := [167, 0, 4, 3, 172]
abbrev dktX0_isLetter_1 : List UInt8 := dkwX0_isLetter_1 ++ []
def dkwX0_isLetter_0 : List UInt8 := [26, 16, 97, 16, 122, 184, 0, 224, 154, 0, 14, 26, 16, 65, 16, 90, 184, 0, 224, 153, 0, 7, 4]
abbrev dktX0_isLetter_0 : List UInt8 := dkwX0_isLetter_0 ++ dktX0_isLetter_1
theorem dksX0_isLetter_0 : cX0_isLetter.data.toList.drop 0 = dktX0_isLetter_0 := by decide +kernel
theorem dksX0_isLetter_1 : cX0_isLetter.data.toList.drop 23 = dktX0_isLetter_1 := dk_seg dksX0_isLetter_0 23 rfl rfl
theorem dX0_isLetter_0 : decode cX0_isLetter 0 = .ok (.iload_n 0, 1) := dk_26 (dk_at dksX0_isLetter_0 0 rfl rfl)
theorem dX0_isLetter_1 : decode cX0_isLetter 1 = .ok (.bipush 97, 2) := dk_16 97 (dk_at dksX0_isLetter_0 1 rfl rfl)
theorem dX0_isLetter_3 : decode cX0_isLetter 3 = .ok (.bipush 122, 2) := dk_16 122 (dk_at dksX0_isLetter_0 3 rfl rfl)
theorem dX0_isLetter_5 : decode cX0_isLetter 5 = .ok (.invokestatic 224, 3) := dk_184 0 224 (dk_at dksX0_isLetter_0 5 rfl rfl)
theorem dX0_isLetter_8 : decode cX0_isLetter 8 = .ok (.ifCond .ne 14, 3) := dk_154 0 14 (dk_at dksX0_isLetter_0 8 rfl rfl)
theorem dX0_isLetter_11 : decode cX0_isLetter 11 = .ok (.iload_n 0, 1) := dk_26 (dk_at dksX0_isLetter_0 11 rfl rfl)
theorem dX0_isLetter_12 : decode cX0_isLetter 12 = .ok (.bipush 65, 2) := dk_16 65 (dk_at dksX0_isLetter_0 12 rfl rfl)
theorem dX0_isLetter_14 : decode cX0_isLetter 14 = .ok (.bipush 90, 2) := dk_16 90 (dk_at dksX0_isLetter_0 14 rfl rfl)
theorem dX0_isLetter_16 : decode cX0_isLetter 16 = .ok (.invokestatic 224, 3) := dk_184 0 224 (dk_at dksX0_isLetter_0 16 rfl rfl)
theorem dX0_isLetter_19 : decode cX0_isLetter 19 = .ok (.ifCond .eq 7, 3) := dk_153 0 7 (dk_at dksX0_isLetter_0 19 rfl rfl)
theorem dX0_isLetter_22 : decode cX0_isLetter 22 = .ok (.iconst 1, 1) := dk_4 (dk_at dksX0_isLetter_0 22 rfl rfl)
theorem dX0_isLetter_23 : decode cX0_isLetter 23 = .ok (.goto 4, 3) := dk_167 0 4 (dk_at dksX0_isLetter_1 0 rfl rfl)
theorem dX0_isLetter_26 : decode cX0_isLetter 26 = .ok (.iconst 0, 1) := dk_3 (dk_at dksX0_isLetter_1 3 rfl rfl)
theorem dX0_isLetter_27 : decode cX0_isLetter 27 = .ok (.ireturn, 1) := dk_172 (dk_at dksX0_isLetter_1 4 rfl rfl)
abbrev cX0_wordOf : ByteArray := prog_1_method_17_code
def yX0_wordOf : MethodName := ⟨RX0, "wordOf", "([Ljava/lang/String;)I"⟩
def dkwX0_wordOf_1 : List UInt8 := [182, 0, 254, 153, 0, 5, 28, 172, 132, 2, 1, 167, 255, 225, 2, 172]
abbrev dktX0_wordOf_1 : List UInt8 := dkwX0_wordOf_1 ++ []
def dkwX0_wordOf_0 : List UInt8 := [3, 61, 28, 43, 190, 162, 0, 31, 42, 180, 0, 245, 178, 0, 249, 166, 0, 21, 42, 43, 28, 50]
abbrev dktX0_wordOf_0 : List UInt8 := dkwX0_wordOf_0 ++ dktX0_wordOf_1
theorem dksX0_wordOf_0 : cX0_wordOf.data.toList.drop 0 = dktX0_wordOf_0 := by decide +kernel
theorem dksX0_wordOf_1 : cX0_wordOf.data.toList.drop 22 = dktX0_wordOf_1 := dk_seg dksX0_wordOf_0 22 rfl rfl
theorem dX0_wordOf_0 : decode cX0_wordOf 0 = .ok (.iconst 0, 1) := dk_3 (dk_at dksX0_wordOf_0 0 rfl rfl)
theorem dX0_wordOf_1 : decode cX0_wordOf 1 = .ok (.istore_n 2, 1) := dk_61 (dk_at dksX0_wordOf_0 1 rfl rfl)
theorem dX0_wordOf_2 : decode cX0_wordOf 2 = .ok (.iload_n 2, 1) := dk_28 (dk_at dksX0_wordOf_0 2 rfl rfl)
theorem dX0_wordOf_3 : decode cX0_wordOf 3 = .ok (.aload_n 1, 1) := dk_43 (dk_at dksX0_wordOf_0 3 rfl rfl)
theorem dX0_wordOf_4 : decode cX0_wordOf 4 = .ok (.arraylength, 1) := dk_190 (dk_at dksX0_wordOf_0 4 rfl rfl)
theorem dX0_wordOf_5 : decode cX0_wordOf 5 = .ok (.if_icmp .ge 31, 3) := dk_162 0 31 (dk_at dksX0_wordOf_0 5 rfl rfl)
theorem dX0_wordOf_8 : decode cX0_wordOf 8 = .ok (.aload_n 0, 1) := dk_42 (dk_at dksX0_wordOf_0 8 rfl rfl)
theorem dX0_wordOf_9 : decode cX0_wordOf 9 = .ok (.getfield 245, 3) := dk_180 0 245 (dk_at dksX0_wordOf_0 9 rfl rfl)
theorem dX0_wordOf_12 : decode cX0_wordOf 12 = .ok (.getstatic 249, 3) := dk_178 0 249 (dk_at dksX0_wordOf_0 12 rfl rfl)
theorem dX0_wordOf_15 : decode cX0_wordOf 15 = .ok (.if_acmp .ne 21, 3) := dk_166 0 21 (dk_at dksX0_wordOf_0 15 rfl rfl)
theorem dX0_wordOf_18 : decode cX0_wordOf 18 = .ok (.aload_n 0, 1) := dk_42 (dk_at dksX0_wordOf_0 18 rfl rfl)
theorem dX0_wordOf_19 : decode cX0_wordOf 19 = .ok (.aload_n 1, 1) := dk_43 (dk_at dksX0_wordOf_0 19 rfl rfl)
theorem dX0_wordOf_20 : decode cX0_wordOf 20 = .ok (.iload_n 2, 1) := dk_28 (dk_at dksX0_wordOf_0 20 rfl rfl)
theorem dX0_wordOf_21 : decode cX0_wordOf 21 = .ok (.aaload, 1) := dk_50 (dk_at dksX0_wordOf_0 21 rfl rfl)
theorem dX0_wordOf_22 : decode cX0_wordOf 22 = .ok (.invokevirtual 254, 3) := dk_182 0 254 (dk_at dksX0_wordOf_1 0 rfl rfl)
theorem dX0_wordOf_25 : decode cX0_wordOf 25 = .ok (.ifCond .eq 5, 3) := dk_153 0 5 (dk_at dksX0_wordOf_1 3 rfl rfl)
theorem dX0_wordOf_28 : decode cX0_wordOf 28 = .ok (.iload_n 2, 1) := dk_28 (dk_at dksX0_wordOf_1 6 rfl rfl)
theorem dX0_wordOf_29 : decode cX0_wordOf 29 = .ok (.ireturn, 1) := dk_172 (dk_at dksX0_wordOf_1 7 rfl rfl)
theorem dX0_wordOf_30 : decode cX0_wordOf 30 = .ok (.iinc 2 1, 3) := dk_132 2 1 (dk_at dksX0_wordOf_1 8 rfl rfl)
theorem dX0_wordOf_33 : decode cX0_wordOf 33 = .ok (.goto (-31), 3) := dk_167 255 225 (dk_at dksX0_wordOf_1 11 rfl rfl)
theorem dX0_wordOf_36 : decode cX0_wordOf 36 = .ok (.iconst (-1), 1) := dk_2 (dk_at dksX0_wordOf_1 14 rfl rfl)
theorem dX0_wordOf_37 : decode cX0_wordOf 37 = .ok (.ireturn, 1) := dk_172 (dk_at dksX0_wordOf_1 15 rfl rfl)
abbrev cX0_spells : ByteArray := prog_1_method_16_code
def yX0_spells : MethodName := ⟨RX0, "spells", "(Ljava/lang/String;)Z"⟩
def dkwX0_spells_2 : List UInt8 := [3, 172, 132, 2, 1, 167, 255, 225, 4, 172]
abbrev dktX0_spells_2 : List UInt8 := dkwX0_spells_2 ++ []
def dkwX0_spells_1 : List UInt8 := [182, 0, 228, 162, 0, 29, 42, 42, 180, 0, 235, 28, 96, 182, 0, 238, 43, 28, 182, 0, 241, 159, 0, 5]
abbrev dktX0_spells_1 : List UInt8 := dkwX0_spells_1 ++ dktX0_spells_2
def dkwX0_spells_0 : List UInt8 := [43, 182, 0, 228, 42, 180, 0, 232, 42, 180, 0, 235, 100, 159, 0, 5, 3, 172, 3, 61, 28, 43]
abbrev dktX0_spells_0 : List UInt8 := dkwX0_spells_0 ++ dktX0_spells_1
theorem dksX0_spells_0 : cX0_spells.data.toList.drop 0 = dktX0_spells_0 := by decide +kernel
theorem dksX0_spells_1 : cX0_spells.data.toList.drop 22 = dktX0_spells_1 := dk_seg dksX0_spells_0 22 rfl rfl
theorem dksX0_spells_2 : cX0_spells.data.toList.drop 46 = dktX0_spells_2 := dk_seg dksX0_spells_1 24 rfl rfl
theorem dX0_spells_0 : decode cX0_spells 0 = .ok (.aload_n 1, 1) := dk_43 (dk_at dksX0_spells_0 0 rfl rfl)
theorem dX0_spells_1 : decode cX0_spells 1 = .ok (.invokevirtual 228, 3) := dk_182 0 228 (dk_at dksX0_spells_0 1 rfl rfl)
theorem dX0_spells_4 : decode cX0_spells 4 = .ok (.aload_n 0, 1) := dk_42 (dk_at dksX0_spells_0 4 rfl rfl)
theorem dX0_spells_5 : decode cX0_spells 5 = .ok (.getfield 232, 3) := dk_180 0 232 (dk_at dksX0_spells_0 5 rfl rfl)
theorem dX0_spells_8 : decode cX0_spells 8 = .ok (.aload_n 0, 1) := dk_42 (dk_at dksX0_spells_0 8 rfl rfl)
theorem dX0_spells_9 : decode cX0_spells 9 = .ok (.getfield 235, 3) := dk_180 0 235 (dk_at dksX0_spells_0 9 rfl rfl)
theorem dX0_spells_12 : decode cX0_spells 12 = .ok (.isub, 1) := dk_100 (dk_at dksX0_spells_0 12 rfl rfl)
theorem dX0_spells_13 : decode cX0_spells 13 = .ok (.if_icmp .eq 5, 3) := dk_159 0 5 (dk_at dksX0_spells_0 13 rfl rfl)
theorem dX0_spells_16 : decode cX0_spells 16 = .ok (.iconst 0, 1) := dk_3 (dk_at dksX0_spells_0 16 rfl rfl)
theorem dX0_spells_17 : decode cX0_spells 17 = .ok (.ireturn, 1) := dk_172 (dk_at dksX0_spells_0 17 rfl rfl)
theorem dX0_spells_18 : decode cX0_spells 18 = .ok (.iconst 0, 1) := dk_3 (dk_at dksX0_spells_0 18 rfl rfl)
theorem dX0_spells_19 : decode cX0_spells 19 = .ok (.istore_n 2, 1) := dk_61 (dk_at dksX0_spells_0 19 rfl rfl)
theorem dX0_spells_20 : decode cX0_spells 20 = .ok (.iload_n 2, 1) := dk_28 (dk_at dksX0_spells_0 20 rfl rfl)
theorem dX0_spells_21 : decode cX0_spells 21 = .ok (.aload_n 1, 1) := dk_43 (dk_at dksX0_spells_0 21 rfl rfl)
theorem dX0_spells_22 : decode cX0_spells 22 = .ok (.invokevirtual 228, 3) := dk_182 0 228 (dk_at dksX0_spells_1 0 rfl rfl)
theorem dX0_spells_25 : decode cX0_spells 25 = .ok (.if_icmp .ge 29, 3) := dk_162 0 29 (dk_at dksX0_spells_1 3 rfl rfl)
theorem dX0_spells_28 : decode cX0_spells 28 = .ok (.aload_n 0, 1) := dk_42 (dk_at dksX0_spells_1 6 rfl rfl)
theorem dX0_spells_29 : decode cX0_spells 29 = .ok (.aload_n 0, 1) := dk_42 (dk_at dksX0_spells_1 7 rfl rfl)
theorem dX0_spells_30 : decode cX0_spells 30 = .ok (.getfield 235, 3) := dk_180 0 235 (dk_at dksX0_spells_1 8 rfl rfl)
theorem dX0_spells_33 : decode cX0_spells 33 = .ok (.iload_n 2, 1) := dk_28 (dk_at dksX0_spells_1 11 rfl rfl)
theorem dX0_spells_34 : decode cX0_spells 34 = .ok (.iadd, 1) := dk_96 (dk_at dksX0_spells_1 12 rfl rfl)
theorem dX0_spells_35 : decode cX0_spells 35 = .ok (.invokevirtual 238, 3) := dk_182 0 238 (dk_at dksX0_spells_1 13 rfl rfl)
theorem dX0_spells_38 : decode cX0_spells 38 = .ok (.aload_n 1, 1) := dk_43 (dk_at dksX0_spells_1 16 rfl rfl)
theorem dX0_spells_39 : decode cX0_spells 39 = .ok (.iload_n 2, 1) := dk_28 (dk_at dksX0_spells_1 17 rfl rfl)
theorem dX0_spells_40 : decode cX0_spells 40 = .ok (.invokevirtual 241, 3) := dk_182 0 241 (dk_at dksX0_spells_1 18 rfl rfl)
theorem dX0_spells_43 : decode cX0_spells 43 = .ok (.if_icmp .eq 5, 3) := dk_159 0 5 (dk_at dksX0_spells_1 21 rfl rfl)
theorem dX0_spells_46 : decode cX0_spells 46 = .ok (.iconst 0, 1) := dk_3 (dk_at dksX0_spells_2 0 rfl rfl)
theorem dX0_spells_47 : decode cX0_spells 47 = .ok (.ireturn, 1) := dk_172 (dk_at dksX0_spells_2 1 rfl rfl)
theorem dX0_spells_48 : decode cX0_spells 48 = .ok (.iinc 2 1, 3) := dk_132 2 1 (dk_at dksX0_spells_2 2 rfl rfl)
theorem dX0_spells_51 : decode cX0_spells 51 = .ok (.goto (-31), 3) := dk_167 255 225 (dk_at dksX0_spells_2 5 rfl rfl)
theorem dX0_spells_54 : decode cX0_spells 54 = .ok (.iconst 1, 1) := dk_4 (dk_at dksX0_spells_2 8 rfl rfl)
theorem dX0_spells_55 : decode cX0_spells 55 = .ok (.ireturn, 1) := dk_172 (dk_at dksX0_spells_2 9 rfl rfl)
abbrev cX0_isDigit : ByteArray := prog_1_method_15_code
def yX0_isDigit : MethodName := ⟨RX0, "isDigit", "(I)Z"⟩
def dkwX0_isDigit_0 : List UInt8 := [26, 16, 48, 16, 57, 184, 0, 224, 172]
abbrev dktX0_isDigit_0 : List UInt8 := dkwX0_isDigit_0 ++ []
theorem dksX0_isDigit_0 : cX0_isDigit.data.toList.drop 0 = dktX0_isDigit_0 := by decide +kernel
theorem dX0_isDigit_0 : decode cX0_isDigit 0 = .ok (.iload_n 0, 1) := dk_26 (dk_at dksX0_isDigit_0 0 rfl rfl)
theorem dX0_isDigit_1 : decode cX0_isDigit 1 = .ok (.bipush 48, 2) := dk_16 48 (dk_at dksX0_isDigit_0 1 rfl rfl)
theorem dX0_isDigit_3 : decode cX0_isDigit 3 = .ok (.bipush 57, 2) := dk_16 57 (dk_at dksX0_isDigit_0 3 rfl rfl)
theorem dX0_isDigit_5 : decode cX0_isDigit 5 = .ok (.invokestatic 224, 3) := dk_184 0 224 (dk_at dksX0_isDigit_0 5 rfl rfl)
theorem dX0_isDigit_8 : decode cX0_isDigit 8 = .ok (.ireturn, 1) := dk_172 (dk_at dksX0_isDigit_0 8 rfl rfl)
abbrev cX0_takesFacts : ByteArray := prog_1_method_42_code
def yX0_takesFacts : MethodName := ⟨RX0, "takesFacts", "()I"⟩
def dkwX0_takesFacts_1 : List UInt8 := [3, 188, 10, 181, 0, 208, 42, 3, 181, 1, 152, 42, 180, 0, 144, 190, 172]
abbrev dktX0_takesFacts_1 : List UInt8 := dkwX0_takesFacts_1 ++ []
def dkwX0_takesFacts_0 : List UInt8 := [42, 42, 182, 1, 148, 181, 0, 144, 42, 3, 189, 0, 148, 181, 0, 150, 42, 3, 188, 10, 181, 0, 154, 42]
abbrev dktX0_takesFacts_0 : List UInt8 := dkwX0_takesFacts_0 ++ dktX0_takesFacts_1
theorem dksX0_takesFacts_0 : cX0_takesFacts.data.toList.drop 0 = dktX0_takesFacts_0 := by decide +kernel
theorem dksX0_takesFacts_1 : cX0_takesFacts.data.toList.drop 24 = dktX0_takesFacts_1 := dk_seg dksX0_takesFacts_0 24 rfl rfl
theorem dX0_takesFacts_0 : decode cX0_takesFacts 0 = .ok (.aload_n 0, 1) := dk_42 (dk_at dksX0_takesFacts_0 0 rfl rfl)
theorem dX0_takesFacts_1 : decode cX0_takesFacts 1 = .ok (.aload_n 0, 1) := dk_42 (dk_at dksX0_takesFacts_0 1 rfl rfl)
theorem dX0_takesFacts_2 : decode cX0_takesFacts 2 = .ok (.invokevirtual 404, 3) := dk_182 1 148 (dk_at dksX0_takesFacts_0 2 rfl rfl)
theorem dX0_takesFacts_5 : decode cX0_takesFacts 5 = .ok (.putfield 144, 3) := dk_181 0 144 (dk_at dksX0_takesFacts_0 5 rfl rfl)
theorem dX0_takesFacts_8 : decode cX0_takesFacts 8 = .ok (.aload_n 0, 1) := dk_42 (dk_at dksX0_takesFacts_0 8 rfl rfl)
theorem dX0_takesFacts_9 : decode cX0_takesFacts 9 = .ok (.iconst 0, 1) := dk_3 (dk_at dksX0_takesFacts_0 9 rfl rfl)
theorem dX0_takesFacts_10 : decode cX0_takesFacts 10 = .ok (.anewarray 148, 3) := dk_189 0 148 (dk_at dksX0_takesFacts_0 10 rfl rfl)
theorem dX0_takesFacts_13 : decode cX0_takesFacts 13 = .ok (.putfield 150, 3) := dk_181 0 150 (dk_at dksX0_takesFacts_0 13 rfl rfl)
theorem dX0_takesFacts_16 : decode cX0_takesFacts 16 = .ok (.aload_n 0, 1) := dk_42 (dk_at dksX0_takesFacts_0 16 rfl rfl)
theorem dX0_takesFacts_17 : decode cX0_takesFacts 17 = .ok (.iconst 0, 1) := dk_3 (dk_at dksX0_takesFacts_0 17 rfl rfl)
theorem dX0_takesFacts_18 : decode cX0_takesFacts 18 = .ok (.newarray .int, 2) := dk_188_10 (dk_at dksX0_takesFacts_0 18 rfl rfl)
theorem dX0_takesFacts_20 : decode cX0_takesFacts 20 = .ok (.putfield 154, 3) := dk_181 0 154 (dk_at dksX0_takesFacts_0 20 rfl rfl)
theorem dX0_takesFacts_23 : decode cX0_takesFacts 23 = .ok (.aload_n 0, 1) := dk_42 (dk_at dksX0_takesFacts_0 23 rfl rfl)
theorem dX0_takesFacts_24 : decode cX0_takesFacts 24 = .ok (.iconst 0, 1) := dk_3 (dk_at dksX0_takesFacts_1 0 rfl rfl)
theorem dX0_takesFacts_25 : decode cX0_takesFacts 25 = .ok (.newarray .int, 2) := dk_188_10 (dk_at dksX0_takesFacts_1 1 rfl rfl)
theorem dX0_takesFacts_27 : decode cX0_takesFacts 27 = .ok (.putfield 208, 3) := dk_181 0 208 (dk_at dksX0_takesFacts_1 3 rfl rfl)
theorem dX0_takesFacts_30 : decode cX0_takesFacts 30 = .ok (.aload_n 0, 1) := dk_42 (dk_at dksX0_takesFacts_1 6 rfl rfl)
theorem dX0_takesFacts_31 : decode cX0_takesFacts 31 = .ok (.iconst 0, 1) := dk_3 (dk_at dksX0_takesFacts_1 7 rfl rfl)
theorem dX0_takesFacts_32 : decode cX0_takesFacts 32 = .ok (.putfield 408, 3) := dk_181 1 152 (dk_at dksX0_takesFacts_1 8 rfl rfl)
theorem dX0_takesFacts_35 : decode cX0_takesFacts 35 = .ok (.aload_n 0, 1) := dk_42 (dk_at dksX0_takesFacts_1 11 rfl rfl)
theorem dX0_takesFacts_36 : decode cX0_takesFacts 36 = .ok (.getfield 144, 3) := dk_180 0 144 (dk_at dksX0_takesFacts_1 12 rfl rfl)
theorem dX0_takesFacts_39 : decode cX0_takesFacts 39 = .ok (.arraylength, 1) := dk_190 (dk_at dksX0_takesFacts_1 15 rfl rfl)
theorem dX0_takesFacts_40 : decode cX0_takesFacts 40 = .ok (.ireturn, 1) := dk_172 (dk_at dksX0_takesFacts_1 16 rfl rfl)
abbrev cX0_readsFacts : ByteArray := prog_1_method_36_code
def yX0_readsFacts : MethodName := ⟨RX0, "readsFacts", "()[LSilkClerks$Fact;"⟩
def dkwX0_readsFacts_3 : List UInt8 := [45, 21, 4, 43, 21, 4, 50, 83, 132, 4, 1, 167, 255, 238, 45, 176]
abbrev dktX0_readsFacts_3 : List UInt8 := dkwX0_readsFacts_3 ++ []
def dkwX0_readsFacts_2 : List UInt8 := [182, 1, 88, 132, 2, 1, 167, 255, 213, 28, 189, 0, 142, 78, 3, 54, 4, 21, 4, 45, 190, 162, 0, 17]
abbrev dktX0_readsFacts_2 : List UInt8 := dkwX0_readsFacts_2 ++ dktX0_readsFacts_3
def dkwX0_readsFacts_1 : List UInt8 := [182, 1, 71, 182, 1, 42, 42, 28, 16, 10, 182, 1, 101, 43, 28, 42, 182, 1, 133, 83, 42, 16, 59]
abbrev dktX0_readsFacts_1 : List UInt8 := dkwX0_readsFacts_1 ++ dktX0_readsFacts_2
def dkwX0_readsFacts_0 : List UInt8 := [16, 10, 189, 0, 142, 76, 3, 61, 42, 180, 0, 245, 178, 1, 8, 165, 0, 39, 42, 42, 18, 55]
abbrev dktX0_readsFacts_0 : List UInt8 := dkwX0_readsFacts_0 ++ dktX0_readsFacts_1
theorem dksX0_readsFacts_0 : cX0_readsFacts.data.toList.drop 0 = dktX0_readsFacts_0 := by decide +kernel
theorem dksX0_readsFacts_1 : cX0_readsFacts.data.toList.drop 22 = dktX0_readsFacts_1 := dk_seg dksX0_readsFacts_0 22 rfl rfl
theorem dksX0_readsFacts_2 : cX0_readsFacts.data.toList.drop 45 = dktX0_readsFacts_2 := dk_seg dksX0_readsFacts_1 23 rfl rfl
theorem dksX0_readsFacts_3 : cX0_readsFacts.data.toList.drop 69 = dktX0_readsFacts_3 := dk_seg dksX0_readsFacts_2 24 rfl rfl
theorem dX0_readsFacts_0 : decode cX0_readsFacts 0 = .ok (.bipush 10, 2) := dk_16 10 (dk_at dksX0_readsFacts_0 0 rfl rfl)
theorem dX0_readsFacts_2 : decode cX0_readsFacts 2 = .ok (.anewarray 142, 3) := dk_189 0 142 (dk_at dksX0_readsFacts_0 2 rfl rfl)
theorem dX0_readsFacts_5 : decode cX0_readsFacts 5 = .ok (.astore_n 1, 1) := dk_76 (dk_at dksX0_readsFacts_0 5 rfl rfl)
theorem dX0_readsFacts_6 : decode cX0_readsFacts 6 = .ok (.iconst 0, 1) := dk_3 (dk_at dksX0_readsFacts_0 6 rfl rfl)
theorem dX0_readsFacts_7 : decode cX0_readsFacts 7 = .ok (.istore_n 2, 1) := dk_61 (dk_at dksX0_readsFacts_0 7 rfl rfl)
theorem dX0_readsFacts_8 : decode cX0_readsFacts 8 = .ok (.aload_n 0, 1) := dk_42 (dk_at dksX0_readsFacts_0 8 rfl rfl)
theorem dX0_readsFacts_9 : decode cX0_readsFacts 9 = .ok (.getfield 245, 3) := dk_180 0 245 (dk_at dksX0_readsFacts_0 9 rfl rfl)
theorem dX0_readsFacts_12 : decode cX0_readsFacts 12 = .ok (.getstatic 264, 3) := dk_178 1 8 (dk_at dksX0_readsFacts_0 12 rfl rfl)
theorem dX0_readsFacts_15 : decode cX0_readsFacts 15 = .ok (.if_acmp .eq 39, 3) := dk_165 0 39 (dk_at dksX0_readsFacts_0 15 rfl rfl)
theorem dX0_readsFacts_18 : decode cX0_readsFacts 18 = .ok (.aload_n 0, 1) := dk_42 (dk_at dksX0_readsFacts_0 18 rfl rfl)
theorem dX0_readsFacts_19 : decode cX0_readsFacts 19 = .ok (.aload_n 0, 1) := dk_42 (dk_at dksX0_readsFacts_0 19 rfl rfl)
theorem dX0_readsFacts_20 : decode cX0_readsFacts 20 = .ok (.ldc 55, 2) := dk_18 55 (dk_at dksX0_readsFacts_0 20 rfl rfl)
theorem dX0_readsFacts_22 : decode cX0_readsFacts 22 = .ok (.invokevirtual 327, 3) := dk_182 1 71 (dk_at dksX0_readsFacts_1 0 rfl rfl)
theorem dX0_readsFacts_25 : decode cX0_readsFacts 25 = .ok (.invokevirtual 298, 3) := dk_182 1 42 (dk_at dksX0_readsFacts_1 3 rfl rfl)
theorem dX0_readsFacts_28 : decode cX0_readsFacts 28 = .ok (.aload_n 0, 1) := dk_42 (dk_at dksX0_readsFacts_1 6 rfl rfl)
theorem dX0_readsFacts_29 : decode cX0_readsFacts 29 = .ok (.iload_n 2, 1) := dk_28 (dk_at dksX0_readsFacts_1 7 rfl rfl)
theorem dX0_readsFacts_30 : decode cX0_readsFacts 30 = .ok (.bipush 10, 2) := dk_16 10 (dk_at dksX0_readsFacts_1 8 rfl rfl)
theorem dX0_readsFacts_32 : decode cX0_readsFacts 32 = .ok (.invokevirtual 357, 3) := dk_182 1 101 (dk_at dksX0_readsFacts_1 10 rfl rfl)
theorem dX0_readsFacts_35 : decode cX0_readsFacts 35 = .ok (.aload_n 1, 1) := dk_43 (dk_at dksX0_readsFacts_1 13 rfl rfl)
theorem dX0_readsFacts_36 : decode cX0_readsFacts 36 = .ok (.iload_n 2, 1) := dk_28 (dk_at dksX0_readsFacts_1 14 rfl rfl)
theorem dX0_readsFacts_37 : decode cX0_readsFacts 37 = .ok (.aload_n 0, 1) := dk_42 (dk_at dksX0_readsFacts_1 15 rfl rfl)
theorem dX0_readsFacts_38 : decode cX0_readsFacts 38 = .ok (.invokevirtual 389, 3) := dk_182 1 133 (dk_at dksX0_readsFacts_1 16 rfl rfl)
theorem dX0_readsFacts_41 : decode cX0_readsFacts 41 = .ok (.aastore, 1) := dk_83 (dk_at dksX0_readsFacts_1 19 rfl rfl)
theorem dX0_readsFacts_42 : decode cX0_readsFacts 42 = .ok (.aload_n 0, 1) := dk_42 (dk_at dksX0_readsFacts_1 20 rfl rfl)
theorem dX0_readsFacts_43 : decode cX0_readsFacts 43 = .ok (.bipush 59, 2) := dk_16 59 (dk_at dksX0_readsFacts_1 21 rfl rfl)
theorem dX0_readsFacts_45 : decode cX0_readsFacts 45 = .ok (.invokevirtual 344, 3) := dk_182 1 88 (dk_at dksX0_readsFacts_2 0 rfl rfl)
theorem dX0_readsFacts_48 : decode cX0_readsFacts 48 = .ok (.iinc 2 1, 3) := dk_132 2 1 (dk_at dksX0_readsFacts_2 3 rfl rfl)
theorem dX0_readsFacts_51 : decode cX0_readsFacts 51 = .ok (.goto (-43), 3) := dk_167 255 213 (dk_at dksX0_readsFacts_2 6 rfl rfl)
theorem dX0_readsFacts_54 : decode cX0_readsFacts 54 = .ok (.iload_n 2, 1) := dk_28 (dk_at dksX0_readsFacts_2 9 rfl rfl)
theorem dX0_readsFacts_55 : decode cX0_readsFacts 55 = .ok (.anewarray 142, 3) := dk_189 0 142 (dk_at dksX0_readsFacts_2 10 rfl rfl)
theorem dX0_readsFacts_58 : decode cX0_readsFacts 58 = .ok (.astore_n 3, 1) := dk_78 (dk_at dksX0_readsFacts_2 13 rfl rfl)
theorem dX0_readsFacts_59 : decode cX0_readsFacts 59 = .ok (.iconst 0, 1) := dk_3 (dk_at dksX0_readsFacts_2 14 rfl rfl)
theorem dX0_readsFacts_60 : decode cX0_readsFacts 60 = .ok (.istore 4, 2) := dk_54 4 (dk_at dksX0_readsFacts_2 15 rfl rfl)
theorem dX0_readsFacts_62 : decode cX0_readsFacts 62 = .ok (.iload 4, 2) := dk_21 4 (dk_at dksX0_readsFacts_2 17 rfl rfl)
theorem dX0_readsFacts_64 : decode cX0_readsFacts 64 = .ok (.aload_n 3, 1) := dk_45 (dk_at dksX0_readsFacts_2 19 rfl rfl)
theorem dX0_readsFacts_65 : decode cX0_readsFacts 65 = .ok (.arraylength, 1) := dk_190 (dk_at dksX0_readsFacts_2 20 rfl rfl)
theorem dX0_readsFacts_66 : decode cX0_readsFacts 66 = .ok (.if_icmp .ge 17, 3) := dk_162 0 17 (dk_at dksX0_readsFacts_2 21 rfl rfl)
theorem dX0_readsFacts_69 : decode cX0_readsFacts 69 = .ok (.aload_n 3, 1) := dk_45 (dk_at dksX0_readsFacts_3 0 rfl rfl)
theorem dX0_readsFacts_70 : decode cX0_readsFacts 70 = .ok (.iload 4, 2) := dk_21 4 (dk_at dksX0_readsFacts_3 1 rfl rfl)
theorem dX0_readsFacts_72 : decode cX0_readsFacts 72 = .ok (.aload_n 1, 1) := dk_43 (dk_at dksX0_readsFacts_3 3 rfl rfl)
theorem dX0_readsFacts_73 : decode cX0_readsFacts 73 = .ok (.iload 4, 2) := dk_21 4 (dk_at dksX0_readsFacts_3 4 rfl rfl)
theorem dX0_readsFacts_75 : decode cX0_readsFacts 75 = .ok (.aaload, 1) := dk_50 (dk_at dksX0_readsFacts_3 6 rfl rfl)
theorem dX0_readsFacts_76 : decode cX0_readsFacts 76 = .ok (.aastore, 1) := dk_83 (dk_at dksX0_readsFacts_3 7 rfl rfl)
theorem dX0_readsFacts_77 : decode cX0_readsFacts 77 = .ok (.iinc 4 1, 3) := dk_132 4 1 (dk_at dksX0_readsFacts_3 8 rfl rfl)
theorem dX0_readsFacts_80 : decode cX0_readsFacts 80 = .ok (.goto (-18), 3) := dk_167 255 238 (dk_at dksX0_readsFacts_3 11 rfl rfl)
theorem dX0_readsFacts_83 : decode cX0_readsFacts 83 = .ok (.aload_n 3, 1) := dk_45 (dk_at dksX0_readsFacts_3 14 rfl rfl)
theorem dX0_readsFacts_84 : decode cX0_readsFacts 84 = .ok (.areturn, 1) := dk_176 (dk_at dksX0_readsFacts_3 15 rfl rfl)
abbrev cX0_isWord : ByteArray := prog_1_method_18_code
def yX0_isWord : MethodName := ⟨RX0, "isWord", "(Ljava/lang/String;)Z"⟩
def dkwX0_isWord_0 : List UInt8 := [42, 180, 0, 245, 178, 0, 249, 166, 0, 15, 42, 43, 182, 0, 254, 153, 0, 7, 4, 167, 0, 4, 3, 172]
abbrev dktX0_isWord_0 : List UInt8 := dkwX0_isWord_0 ++ []
theorem dksX0_isWord_0 : cX0_isWord.data.toList.drop 0 = dktX0_isWord_0 := by decide +kernel
theorem dX0_isWord_0 : decode cX0_isWord 0 = .ok (.aload_n 0, 1) := dk_42 (dk_at dksX0_isWord_0 0 rfl rfl)
theorem dX0_isWord_1 : decode cX0_isWord 1 = .ok (.getfield 245, 3) := dk_180 0 245 (dk_at dksX0_isWord_0 1 rfl rfl)
theorem dX0_isWord_4 : decode cX0_isWord 4 = .ok (.getstatic 249, 3) := dk_178 0 249 (dk_at dksX0_isWord_0 4 rfl rfl)
theorem dX0_isWord_7 : decode cX0_isWord 7 = .ok (.if_acmp .ne 15, 3) := dk_166 0 15 (dk_at dksX0_isWord_0 7 rfl rfl)
theorem dX0_isWord_10 : decode cX0_isWord 10 = .ok (.aload_n 0, 1) := dk_42 (dk_at dksX0_isWord_0 10 rfl rfl)
theorem dX0_isWord_11 : decode cX0_isWord 11 = .ok (.aload_n 1, 1) := dk_43 (dk_at dksX0_isWord_0 11 rfl rfl)
theorem dX0_isWord_12 : decode cX0_isWord 12 = .ok (.invokevirtual 254, 3) := dk_182 0 254 (dk_at dksX0_isWord_0 12 rfl rfl)
theorem dX0_isWord_15 : decode cX0_isWord 15 = .ok (.ifCond .eq 7, 3) := dk_153 0 7 (dk_at dksX0_isWord_0 15 rfl rfl)
theorem dX0_isWord_18 : decode cX0_isWord 18 = .ok (.iconst 1, 1) := dk_4 (dk_at dksX0_isWord_0 18 rfl rfl)
theorem dX0_isWord_19 : decode cX0_isWord 19 = .ok (.goto 4, 3) := dk_167 0 4 (dk_at dksX0_isWord_0 19 rfl rfl)
theorem dX0_isWord_22 : decode cX0_isWord 22 = .ok (.iconst 0, 1) := dk_3 (dk_at dksX0_isWord_0 22 rfl rfl)
theorem dX0_isWord_23 : decode cX0_isWord 23 = .ok (.ireturn, 1) := dk_172 (dk_at dksX0_isWord_0 23 rfl rfl)
abbrev cX0_must : ByteArray := prog_1_method_21_code
def yX0_must : MethodName := ⟨RX0, "must", "(Z)V"⟩
def dkwX0_must_0 : List UInt8 := [27, 154, 0, 16, 187, 1, 33, 89, 4, 42, 180, 0, 235, 183, 1, 35, 191, 177]
abbrev dktX0_must_0 : List UInt8 := dkwX0_must_0 ++ []
theorem dksX0_must_0 : cX0_must.data.toList.drop 0 = dktX0_must_0 := by decide +kernel
theorem dX0_must_0 : decode cX0_must 0 = .ok (.iload_n 1, 1) := dk_27 (dk_at dksX0_must_0 0 rfl rfl)
theorem dX0_must_1 : decode cX0_must 1 = .ok (.ifCond .ne 16, 3) := dk_154 0 16 (dk_at dksX0_must_0 1 rfl rfl)
theorem dX0_must_4 : decode cX0_must 4 = .ok (.new 289, 3) := dk_187 1 33 (dk_at dksX0_must_0 4 rfl rfl)
theorem dX0_must_7 : decode cX0_must 7 = .ok (.dup, 1) := dk_89 (dk_at dksX0_must_0 7 rfl rfl)
theorem dX0_must_8 : decode cX0_must 8 = .ok (.iconst 1, 1) := dk_4 (dk_at dksX0_must_0 8 rfl rfl)
theorem dX0_must_9 : decode cX0_must 9 = .ok (.aload_n 0, 1) := dk_42 (dk_at dksX0_must_0 9 rfl rfl)
theorem dX0_must_10 : decode cX0_must 10 = .ok (.getfield 235, 3) := dk_180 0 235 (dk_at dksX0_must_0 10 rfl rfl)
theorem dX0_must_13 : decode cX0_must 13 = .ok (.invokespecial 291, 3) := dk_183 1 35 (dk_at dksX0_must_0 13 rfl rfl)
theorem dX0_must_16 : decode cX0_must 16 = .ok (.athrow, 1) := dk_191 (dk_at dksX0_must_0 16 rfl rfl)
theorem dX0_must_17 : decode cX0_must 17 = .ok (.return_, 1) := dk_177 (dk_at dksX0_must_0 17 rfl rfl)
abbrev cX0_isRoom : ByteArray := prog_1_method_32_code
def yX0_isRoom : MethodName := ⟨RX0, "isRoom", "(II)V"⟩
def dkwX0_isRoom_0 : List UInt8 := [27, 28, 160, 0, 16, 187, 1, 33, 89, 6, 42, 180, 0, 235, 183, 1, 35, 191, 177]
abbrev dktX0_isRoom_0 : List UInt8 := dkwX0_isRoom_0 ++ []
theorem dksX0_isRoom_0 : cX0_isRoom.data.toList.drop 0 = dktX0_isRoom_0 := by decide +kernel
theorem dX0_isRoom_0 : decode cX0_isRoom 0 = .ok (.iload_n 1, 1) := dk_27 (dk_at dksX0_isRoom_0 0 rfl rfl)
theorem dX0_isRoom_1 : decode cX0_isRoom 1 = .ok (.iload_n 2, 1) := dk_28 (dk_at dksX0_isRoom_0 1 rfl rfl)
theorem dX0_isRoom_2 : decode cX0_isRoom 2 = .ok (.if_icmp .ne 16, 3) := dk_160 0 16 (dk_at dksX0_isRoom_0 2 rfl rfl)
theorem dX0_isRoom_5 : decode cX0_isRoom 5 = .ok (.new 289, 3) := dk_187 1 33 (dk_at dksX0_isRoom_0 5 rfl rfl)
theorem dX0_isRoom_8 : decode cX0_isRoom 8 = .ok (.dup, 1) := dk_89 (dk_at dksX0_isRoom_0 8 rfl rfl)
theorem dX0_isRoom_9 : decode cX0_isRoom 9 = .ok (.iconst 3, 1) := dk_6 (dk_at dksX0_isRoom_0 9 rfl rfl)
theorem dX0_isRoom_10 : decode cX0_isRoom 10 = .ok (.aload_n 0, 1) := dk_42 (dk_at dksX0_isRoom_0 10 rfl rfl)
theorem dX0_isRoom_11 : decode cX0_isRoom 11 = .ok (.getfield 235, 3) := dk_180 0 235 (dk_at dksX0_isRoom_0 11 rfl rfl)
theorem dX0_isRoom_14 : decode cX0_isRoom 14 = .ok (.invokespecial 291, 3) := dk_183 1 35 (dk_at dksX0_isRoom_0 14 rfl rfl)
theorem dX0_isRoom_17 : decode cX0_isRoom 17 = .ok (.athrow, 1) := dk_191 (dk_at dksX0_isRoom_0 17 rfl rfl)
theorem dX0_isRoom_18 : decode cX0_isRoom 18 = .ok (.return_, 1) := dk_177 (dk_at dksX0_isRoom_0 18 rfl rfl)
abbrev cX0_fact : ByteArray := prog_1_method_35_code
def yX0_fact : MethodName := ⟨RX0, "fact", "()LSilkClerks$Fact;"⟩
def dkwX0_fact_4 : List UInt8 := [187, 0, 142, 89, 43, 28, 42, 18, 59, 3, 16, 99, 182, 1, 124, 183, 1, 130, 176]
abbrev dktX0_fact_4 : List UInt8 := dkwX0_fact_4 ++ []
def dkwX0_fact_3 : List UInt8 := [180, 1, 5, 184, 1, 128, 76, 42, 182, 1, 46, 167, 255, 192, 42, 18, 57, 4, 16, 20, 182, 1, 124, 61]
abbrev dktX0_fact_3 : List UInt8 := dkwX0_fact_3 ++ dktX0_fact_4
def dkwX0_fact_2 : List UInt8 := [183, 1, 35, 191, 43, 190, 16, 6, 160, 0, 13, 187, 1, 33, 89, 6, 28, 183, 1, 35, 191, 43, 42]
abbrev dktX0_fact_2 : List UInt8 := dkwX0_fact_2 ++ dktX0_fact_3
def dkwX0_fact_1 : List UInt8 := [166, 0, 60, 42, 180, 0, 235, 61, 42, 180, 1, 5, 16, 8, 161, 0, 13, 187, 1, 33, 89, 5, 28]
abbrev dktX0_fact_1 : List UInt8 := dkwX0_fact_1 ++ dktX0_fact_2
def dkwX0_fact_0 : List UInt8 := [4, 188, 10, 89, 3, 42, 18, 55, 3, 16, 7, 182, 1, 124, 79, 76, 42, 180, 0, 245, 178, 1, 25]
abbrev dktX0_fact_0 : List UInt8 := dkwX0_fact_0 ++ dktX0_fact_1
theorem dksX0_fact_0 : cX0_fact.data.toList.drop 0 = dktX0_fact_0 := by decide +kernel
theorem dksX0_fact_1 : cX0_fact.data.toList.drop 23 = dktX0_fact_1 := dk_seg dksX0_fact_0 23 rfl rfl
theorem dksX0_fact_2 : cX0_fact.data.toList.drop 46 = dktX0_fact_2 := dk_seg dksX0_fact_1 23 rfl rfl
theorem dksX0_fact_3 : cX0_fact.data.toList.drop 69 = dktX0_fact_3 := dk_seg dksX0_fact_2 23 rfl rfl
theorem dksX0_fact_4 : cX0_fact.data.toList.drop 93 = dktX0_fact_4 := dk_seg dksX0_fact_3 24 rfl rfl
theorem dX0_fact_0 : decode cX0_fact 0 = .ok (.iconst 1, 1) := dk_4 (dk_at dksX0_fact_0 0 rfl rfl)
theorem dX0_fact_1 : decode cX0_fact 1 = .ok (.newarray .int, 2) := dk_188_10 (dk_at dksX0_fact_0 1 rfl rfl)
theorem dX0_fact_3 : decode cX0_fact 3 = .ok (.dup, 1) := dk_89 (dk_at dksX0_fact_0 3 rfl rfl)
theorem dX0_fact_4 : decode cX0_fact 4 = .ok (.iconst 0, 1) := dk_3 (dk_at dksX0_fact_0 4 rfl rfl)
theorem dX0_fact_5 : decode cX0_fact 5 = .ok (.aload_n 0, 1) := dk_42 (dk_at dksX0_fact_0 5 rfl rfl)
theorem dX0_fact_6 : decode cX0_fact 6 = .ok (.ldc 55, 2) := dk_18 55 (dk_at dksX0_fact_0 6 rfl rfl)
theorem dX0_fact_8 : decode cX0_fact 8 = .ok (.iconst 0, 1) := dk_3 (dk_at dksX0_fact_0 8 rfl rfl)
theorem dX0_fact_9 : decode cX0_fact 9 = .ok (.bipush 7, 2) := dk_16 7 (dk_at dksX0_fact_0 9 rfl rfl)
theorem dX0_fact_11 : decode cX0_fact 11 = .ok (.invokevirtual 380, 3) := dk_182 1 124 (dk_at dksX0_fact_0 11 rfl rfl)
theorem dX0_fact_14 : decode cX0_fact 14 = .ok (.iastore, 1) := dk_79 (dk_at dksX0_fact_0 14 rfl rfl)
theorem dX0_fact_15 : decode cX0_fact 15 = .ok (.astore_n 1, 1) := dk_76 (dk_at dksX0_fact_0 15 rfl rfl)
theorem dX0_fact_16 : decode cX0_fact 16 = .ok (.aload_n 0, 1) := dk_42 (dk_at dksX0_fact_0 16 rfl rfl)
theorem dX0_fact_17 : decode cX0_fact 17 = .ok (.getfield 245, 3) := dk_180 0 245 (dk_at dksX0_fact_0 17 rfl rfl)
theorem dX0_fact_20 : decode cX0_fact 20 = .ok (.getstatic 281, 3) := dk_178 1 25 (dk_at dksX0_fact_0 20 rfl rfl)
theorem dX0_fact_23 : decode cX0_fact 23 = .ok (.if_acmp .ne 60, 3) := dk_166 0 60 (dk_at dksX0_fact_1 0 rfl rfl)
theorem dX0_fact_26 : decode cX0_fact 26 = .ok (.aload_n 0, 1) := dk_42 (dk_at dksX0_fact_1 3 rfl rfl)
theorem dX0_fact_27 : decode cX0_fact 27 = .ok (.getfield 235, 3) := dk_180 0 235 (dk_at dksX0_fact_1 4 rfl rfl)
theorem dX0_fact_30 : decode cX0_fact 30 = .ok (.istore_n 2, 1) := dk_61 (dk_at dksX0_fact_1 7 rfl rfl)
theorem dX0_fact_31 : decode cX0_fact 31 = .ok (.aload_n 0, 1) := dk_42 (dk_at dksX0_fact_1 8 rfl rfl)
theorem dX0_fact_32 : decode cX0_fact 32 = .ok (.getfield 261, 3) := dk_180 1 5 (dk_at dksX0_fact_1 9 rfl rfl)
theorem dX0_fact_35 : decode cX0_fact 35 = .ok (.bipush 8, 2) := dk_16 8 (dk_at dksX0_fact_1 12 rfl rfl)
theorem dX0_fact_37 : decode cX0_fact 37 = .ok (.if_icmp .lt 13, 3) := dk_161 0 13 (dk_at dksX0_fact_1 14 rfl rfl)
theorem dX0_fact_40 : decode cX0_fact 40 = .ok (.new 289, 3) := dk_187 1 33 (dk_at dksX0_fact_1 17 rfl rfl)
theorem dX0_fact_43 : decode cX0_fact 43 = .ok (.dup, 1) := dk_89 (dk_at dksX0_fact_1 20 rfl rfl)
theorem dX0_fact_44 : decode cX0_fact 44 = .ok (.iconst 2, 1) := dk_5 (dk_at dksX0_fact_1 21 rfl rfl)
theorem dX0_fact_45 : decode cX0_fact 45 = .ok (.iload_n 2, 1) := dk_28 (dk_at dksX0_fact_1 22 rfl rfl)
theorem dX0_fact_46 : decode cX0_fact 46 = .ok (.invokespecial 291, 3) := dk_183 1 35 (dk_at dksX0_fact_2 0 rfl rfl)
theorem dX0_fact_49 : decode cX0_fact 49 = .ok (.athrow, 1) := dk_191 (dk_at dksX0_fact_2 3 rfl rfl)
theorem dX0_fact_50 : decode cX0_fact 50 = .ok (.aload_n 1, 1) := dk_43 (dk_at dksX0_fact_2 4 rfl rfl)
theorem dX0_fact_51 : decode cX0_fact 51 = .ok (.arraylength, 1) := dk_190 (dk_at dksX0_fact_2 5 rfl rfl)
theorem dX0_fact_52 : decode cX0_fact 52 = .ok (.bipush 6, 2) := dk_16 6 (dk_at dksX0_fact_2 6 rfl rfl)
theorem dX0_fact_54 : decode cX0_fact 54 = .ok (.if_icmp .ne 13, 3) := dk_160 0 13 (dk_at dksX0_fact_2 8 rfl rfl)
theorem dX0_fact_57 : decode cX0_fact 57 = .ok (.new 289, 3) := dk_187 1 33 (dk_at dksX0_fact_2 11 rfl rfl)
theorem dX0_fact_60 : decode cX0_fact 60 = .ok (.dup, 1) := dk_89 (dk_at dksX0_fact_2 14 rfl rfl)
theorem dX0_fact_61 : decode cX0_fact 61 = .ok (.iconst 3, 1) := dk_6 (dk_at dksX0_fact_2 15 rfl rfl)
theorem dX0_fact_62 : decode cX0_fact 62 = .ok (.iload_n 2, 1) := dk_28 (dk_at dksX0_fact_2 16 rfl rfl)
theorem dX0_fact_63 : decode cX0_fact 63 = .ok (.invokespecial 291, 3) := dk_183 1 35 (dk_at dksX0_fact_2 17 rfl rfl)
theorem dX0_fact_66 : decode cX0_fact 66 = .ok (.athrow, 1) := dk_191 (dk_at dksX0_fact_2 20 rfl rfl)
theorem dX0_fact_67 : decode cX0_fact 67 = .ok (.aload_n 1, 1) := dk_43 (dk_at dksX0_fact_2 21 rfl rfl)
theorem dX0_fact_68 : decode cX0_fact 68 = .ok (.aload_n 0, 1) := dk_42 (dk_at dksX0_fact_2 22 rfl rfl)
theorem dX0_fact_69 : decode cX0_fact 69 = .ok (.getfield 261, 3) := dk_180 1 5 (dk_at dksX0_fact_3 0 rfl rfl)
theorem dX0_fact_72 : decode cX0_fact 72 = .ok (.invokestatic 384, 3) := dk_184 1 128 (dk_at dksX0_fact_3 3 rfl rfl)
theorem dX0_fact_75 : decode cX0_fact 75 = .ok (.astore_n 1, 1) := dk_76 (dk_at dksX0_fact_3 6 rfl rfl)
theorem dX0_fact_76 : decode cX0_fact 76 = .ok (.aload_n 0, 1) := dk_42 (dk_at dksX0_fact_3 7 rfl rfl)
theorem dX0_fact_77 : decode cX0_fact 77 = .ok (.invokevirtual 302, 3) := dk_182 1 46 (dk_at dksX0_fact_3 8 rfl rfl)
theorem dX0_fact_80 : decode cX0_fact 80 = .ok (.goto (-64), 3) := dk_167 255 192 (dk_at dksX0_fact_3 11 rfl rfl)
theorem dX0_fact_83 : decode cX0_fact 83 = .ok (.aload_n 0, 1) := dk_42 (dk_at dksX0_fact_3 14 rfl rfl)
theorem dX0_fact_84 : decode cX0_fact 84 = .ok (.ldc 57, 2) := dk_18 57 (dk_at dksX0_fact_3 15 rfl rfl)
theorem dX0_fact_86 : decode cX0_fact 86 = .ok (.iconst 1, 1) := dk_4 (dk_at dksX0_fact_3 17 rfl rfl)
theorem dX0_fact_87 : decode cX0_fact 87 = .ok (.bipush 20, 2) := dk_16 20 (dk_at dksX0_fact_3 18 rfl rfl)
theorem dX0_fact_89 : decode cX0_fact 89 = .ok (.invokevirtual 380, 3) := dk_182 1 124 (dk_at dksX0_fact_3 20 rfl rfl)
theorem dX0_fact_92 : decode cX0_fact 92 = .ok (.istore_n 2, 1) := dk_61 (dk_at dksX0_fact_3 23 rfl rfl)
theorem dX0_fact_93 : decode cX0_fact 93 = .ok (.new 142, 3) := dk_187 0 142 (dk_at dksX0_fact_4 0 rfl rfl)
theorem dX0_fact_96 : decode cX0_fact 96 = .ok (.dup, 1) := dk_89 (dk_at dksX0_fact_4 3 rfl rfl)
theorem dX0_fact_97 : decode cX0_fact 97 = .ok (.aload_n 1, 1) := dk_43 (dk_at dksX0_fact_4 4 rfl rfl)
theorem dX0_fact_98 : decode cX0_fact 98 = .ok (.iload_n 2, 1) := dk_28 (dk_at dksX0_fact_4 5 rfl rfl)
theorem dX0_fact_99 : decode cX0_fact 99 = .ok (.aload_n 0, 1) := dk_42 (dk_at dksX0_fact_4 6 rfl rfl)
theorem dX0_fact_100 : decode cX0_fact 100 = .ok (.ldc 59, 2) := dk_18 59 (dk_at dksX0_fact_4 7 rfl rfl)
theorem dX0_fact_102 : decode cX0_fact 102 = .ok (.iconst 0, 1) := dk_3 (dk_at dksX0_fact_4 9 rfl rfl)
theorem dX0_fact_103 : decode cX0_fact 103 = .ok (.bipush 99, 2) := dk_16 99 (dk_at dksX0_fact_4 10 rfl rfl)
theorem dX0_fact_105 : decode cX0_fact 105 = .ok (.invokevirtual 380, 3) := dk_182 1 124 (dk_at dksX0_fact_4 12 rfl rfl)
theorem dX0_fact_108 : decode cX0_fact 108 = .ok (.invokespecial 386, 3) := dk_183 1 130 (dk_at dksX0_fact_4 15 rfl rfl)
theorem dX0_fact_111 : decode cX0_fact 111 = .ok (.areturn, 1) := dk_176 (dk_at dksX0_fact_4 18 rfl rfl)
abbrev cX0_told : ByteArray := prog_1_method_34_code
def yX0_told : MethodName := ⟨RX0, "told", "(Ljava/lang/String;II)I"⟩
def dkwX0_told_0 : List UInt8 := [42, 42, 43, 182, 1, 71, 182, 1, 42, 42, 182, 1, 46, 42, 28, 29, 182, 1, 121, 172]
abbrev dktX0_told_0 : List UInt8 := dkwX0_told_0 ++ []
theorem dksX0_told_0 : cX0_told.data.toList.drop 0 = dktX0_told_0 := by decide +kernel
theorem dX0_told_0 : decode cX0_told 0 = .ok (.aload_n 0, 1) := dk_42 (dk_at dksX0_told_0 0 rfl rfl)
theorem dX0_told_1 : decode cX0_told 1 = .ok (.aload_n 0, 1) := dk_42 (dk_at dksX0_told_0 1 rfl rfl)
theorem dX0_told_2 : decode cX0_told 2 = .ok (.aload_n 1, 1) := dk_43 (dk_at dksX0_told_0 2 rfl rfl)
theorem dX0_told_3 : decode cX0_told 3 = .ok (.invokevirtual 327, 3) := dk_182 1 71 (dk_at dksX0_told_0 3 rfl rfl)
theorem dX0_told_6 : decode cX0_told 6 = .ok (.invokevirtual 298, 3) := dk_182 1 42 (dk_at dksX0_told_0 6 rfl rfl)
theorem dX0_told_9 : decode cX0_told 9 = .ok (.aload_n 0, 1) := dk_42 (dk_at dksX0_told_0 9 rfl rfl)
theorem dX0_told_10 : decode cX0_told 10 = .ok (.invokevirtual 302, 3) := dk_182 1 46 (dk_at dksX0_told_0 10 rfl rfl)
theorem dX0_told_13 : decode cX0_told 13 = .ok (.aload_n 0, 1) := dk_42 (dk_at dksX0_told_0 13 rfl rfl)
theorem dX0_told_14 : decode cX0_told 14 = .ok (.iload_n 2, 1) := dk_28 (dk_at dksX0_told_0 14 rfl rfl)
theorem dX0_told_15 : decode cX0_told 15 = .ok (.iload_n 3, 1) := dk_29 (dk_at dksX0_told_0 15 rfl rfl)
theorem dX0_told_16 : decode cX0_told 16 = .ok (.invokevirtual 377, 3) := dk_182 1 121 (dk_at dksX0_told_0 16 rfl rfl)
theorem dX0_told_19 : decode cX0_told 19 = .ok (.ireturn, 1) := dk_172 (dk_at dksX0_told_0 19 rfl rfl)
abbrev cX0_number : ByteArray := prog_1_method_33_code
def yX0_number : MethodName := ⟨RX0, "number", "(II)I"⟩
def dkwX0_number_2 : List UInt8 := [62, 42, 182, 1, 46, 29, 172]
abbrev dktX0_number_2 : List UInt8 := dkwX0_number_2 ++ []
def dkwX0_number_1 : List UInt8 := [28, 184, 0, 224, 154, 0, 16, 187, 1, 33, 89, 5, 42, 180, 0, 235, 183, 1, 35, 191, 42, 180, 1, 5]
abbrev dktX0_number_1 : List UInt8 := dkwX0_number_1 ++ dktX0_number_2
def dkwX0_number_0 : List UInt8 := [42, 42, 180, 0, 245, 178, 1, 25, 166, 0, 7, 4, 167, 0, 4, 3, 182, 1, 42, 42, 180, 1, 5, 27]
abbrev dktX0_number_0 : List UInt8 := dkwX0_number_0 ++ dktX0_number_1
theorem dksX0_number_0 : cX0_number.data.toList.drop 0 = dktX0_number_0 := by decide +kernel
theorem dksX0_number_1 : cX0_number.data.toList.drop 24 = dktX0_number_1 := dk_seg dksX0_number_0 24 rfl rfl
theorem dksX0_number_2 : cX0_number.data.toList.drop 48 = dktX0_number_2 := dk_seg dksX0_number_1 24 rfl rfl
theorem dX0_number_0 : decode cX0_number 0 = .ok (.aload_n 0, 1) := dk_42 (dk_at dksX0_number_0 0 rfl rfl)
theorem dX0_number_1 : decode cX0_number 1 = .ok (.aload_n 0, 1) := dk_42 (dk_at dksX0_number_0 1 rfl rfl)
theorem dX0_number_2 : decode cX0_number 2 = .ok (.getfield 245, 3) := dk_180 0 245 (dk_at dksX0_number_0 2 rfl rfl)
theorem dX0_number_5 : decode cX0_number 5 = .ok (.getstatic 281, 3) := dk_178 1 25 (dk_at dksX0_number_0 5 rfl rfl)
theorem dX0_number_8 : decode cX0_number 8 = .ok (.if_acmp .ne 7, 3) := dk_166 0 7 (dk_at dksX0_number_0 8 rfl rfl)
theorem dX0_number_11 : decode cX0_number 11 = .ok (.iconst 1, 1) := dk_4 (dk_at dksX0_number_0 11 rfl rfl)
theorem dX0_number_12 : decode cX0_number 12 = .ok (.goto 4, 3) := dk_167 0 4 (dk_at dksX0_number_0 12 rfl rfl)
theorem dX0_number_15 : decode cX0_number 15 = .ok (.iconst 0, 1) := dk_3 (dk_at dksX0_number_0 15 rfl rfl)
theorem dX0_number_16 : decode cX0_number 16 = .ok (.invokevirtual 298, 3) := dk_182 1 42 (dk_at dksX0_number_0 16 rfl rfl)
theorem dX0_number_19 : decode cX0_number 19 = .ok (.aload_n 0, 1) := dk_42 (dk_at dksX0_number_0 19 rfl rfl)
theorem dX0_number_20 : decode cX0_number 20 = .ok (.getfield 261, 3) := dk_180 1 5 (dk_at dksX0_number_0 20 rfl rfl)
theorem dX0_number_23 : decode cX0_number 23 = .ok (.iload_n 1, 1) := dk_27 (dk_at dksX0_number_0 23 rfl rfl)
theorem dX0_number_24 : decode cX0_number 24 = .ok (.iload_n 2, 1) := dk_28 (dk_at dksX0_number_1 0 rfl rfl)
theorem dX0_number_25 : decode cX0_number 25 = .ok (.invokestatic 224, 3) := dk_184 0 224 (dk_at dksX0_number_1 1 rfl rfl)
theorem dX0_number_28 : decode cX0_number 28 = .ok (.ifCond .ne 16, 3) := dk_154 0 16 (dk_at dksX0_number_1 4 rfl rfl)
theorem dX0_number_31 : decode cX0_number 31 = .ok (.new 289, 3) := dk_187 1 33 (dk_at dksX0_number_1 7 rfl rfl)
theorem dX0_number_34 : decode cX0_number 34 = .ok (.dup, 1) := dk_89 (dk_at dksX0_number_1 10 rfl rfl)
theorem dX0_number_35 : decode cX0_number 35 = .ok (.iconst 2, 1) := dk_5 (dk_at dksX0_number_1 11 rfl rfl)
theorem dX0_number_36 : decode cX0_number 36 = .ok (.aload_n 0, 1) := dk_42 (dk_at dksX0_number_1 12 rfl rfl)
theorem dX0_number_37 : decode cX0_number 37 = .ok (.getfield 235, 3) := dk_180 0 235 (dk_at dksX0_number_1 13 rfl rfl)
theorem dX0_number_40 : decode cX0_number 40 = .ok (.invokespecial 291, 3) := dk_183 1 35 (dk_at dksX0_number_1 16 rfl rfl)
theorem dX0_number_43 : decode cX0_number 43 = .ok (.athrow, 1) := dk_191 (dk_at dksX0_number_1 19 rfl rfl)
theorem dX0_number_44 : decode cX0_number 44 = .ok (.aload_n 0, 1) := dk_42 (dk_at dksX0_number_1 20 rfl rfl)
theorem dX0_number_45 : decode cX0_number 45 = .ok (.getfield 261, 3) := dk_180 1 5 (dk_at dksX0_number_1 21 rfl rfl)
theorem dX0_number_48 : decode cX0_number 48 = .ok (.istore_n 3, 1) := dk_62 (dk_at dksX0_number_2 0 rfl rfl)
theorem dX0_number_49 : decode cX0_number 49 = .ok (.aload_n 0, 1) := dk_42 (dk_at dksX0_number_2 1 rfl rfl)
theorem dX0_number_50 : decode cX0_number 50 = .ok (.invokevirtual 302, 3) := dk_182 1 46 (dk_at dksX0_number_2 2 rfl rfl)
theorem dX0_number_53 : decode cX0_number 53 = .ok (.iload_n 3, 1) := dk_29 (dk_at dksX0_number_2 5 rfl rfl)
theorem dX0_number_54 : decode cX0_number 54 = .ok (.ireturn, 1) := dk_172 (dk_at dksX0_number_2 6 rfl rfl)
abbrev cX0_with : ByteArray := prog_1_method_8_code
def yX0_with : MethodName := ⟨RX0, "with", "([II)[I"⟩
def dkwX0_with_0 : List UInt8 := [42, 42, 190, 4, 96, 184, 0, 35, 77, 44, 42, 190, 27, 79, 44, 176]
abbrev dktX0_with_0 : List UInt8 := dkwX0_with_0 ++ []
theorem dksX0_with_0 : cX0_with.data.toList.drop 0 = dktX0_with_0 := by decide +kernel
theorem dX0_with_0 : decode cX0_with 0 = .ok (.aload_n 0, 1) := dk_42 (dk_at dksX0_with_0 0 rfl rfl)
theorem dX0_with_1 : decode cX0_with 1 = .ok (.aload_n 0, 1) := dk_42 (dk_at dksX0_with_0 1 rfl rfl)
theorem dX0_with_2 : decode cX0_with 2 = .ok (.arraylength, 1) := dk_190 (dk_at dksX0_with_0 2 rfl rfl)
theorem dX0_with_3 : decode cX0_with 3 = .ok (.iconst 1, 1) := dk_4 (dk_at dksX0_with_0 3 rfl rfl)
theorem dX0_with_4 : decode cX0_with 4 = .ok (.iadd, 1) := dk_96 (dk_at dksX0_with_0 4 rfl rfl)
theorem dX0_with_5 : decode cX0_with 5 = .ok (.invokestatic 35, 3) := dk_184 0 35 (dk_at dksX0_with_0 5 rfl rfl)
theorem dX0_with_8 : decode cX0_with 8 = .ok (.astore_n 2, 1) := dk_77 (dk_at dksX0_with_0 8 rfl rfl)
theorem dX0_with_9 : decode cX0_with 9 = .ok (.aload_n 2, 1) := dk_44 (dk_at dksX0_with_0 9 rfl rfl)
theorem dX0_with_10 : decode cX0_with 10 = .ok (.aload_n 0, 1) := dk_42 (dk_at dksX0_with_0 10 rfl rfl)
theorem dX0_with_11 : decode cX0_with 11 = .ok (.arraylength, 1) := dk_190 (dk_at dksX0_with_0 11 rfl rfl)
theorem dX0_with_12 : decode cX0_with 12 = .ok (.iload_n 1, 1) := dk_27 (dk_at dksX0_with_0 12 rfl rfl)
theorem dX0_with_13 : decode cX0_with 13 = .ok (.iastore, 1) := dk_79 (dk_at dksX0_with_0 13 rfl rfl)
theorem dX0_with_14 : decode cX0_with 14 = .ok (.aload_n 2, 1) := dk_44 (dk_at dksX0_with_0 14 rfl rfl)
theorem dX0_with_15 : decode cX0_with 15 = .ok (.areturn, 1) := dk_176 (dk_at dksX0_with_0 15 rfl rfl)
abbrev cX0_takesSign : ByteArray := prog_1_method_22_code
def yX0_takesSign : MethodName := ⟨RX0, "takesSign", "(C)V"⟩
def dkwX0_takesSign_0 : List UInt8 := [42, 42, 27, 182, 1, 38, 182, 1, 42, 42, 182, 1, 46, 177]
abbrev dktX0_takesSign_0 : List UInt8 := dkwX0_takesSign_0 ++ []
theorem dksX0_takesSign_0 : cX0_takesSign.data.toList.drop 0 = dktX0_takesSign_0 := by decide +kernel
theorem dX0_takesSign_0 : decode cX0_takesSign 0 = .ok (.aload_n 0, 1) := dk_42 (dk_at dksX0_takesSign_0 0 rfl rfl)
theorem dX0_takesSign_1 : decode cX0_takesSign 1 = .ok (.aload_n 0, 1) := dk_42 (dk_at dksX0_takesSign_0 1 rfl rfl)
theorem dX0_takesSign_2 : decode cX0_takesSign 2 = .ok (.iload_n 1, 1) := dk_27 (dk_at dksX0_takesSign_0 2 rfl rfl)
theorem dX0_takesSign_3 : decode cX0_takesSign 3 = .ok (.invokevirtual 294, 3) := dk_182 1 38 (dk_at dksX0_takesSign_0 3 rfl rfl)
theorem dX0_takesSign_6 : decode cX0_takesSign 6 = .ok (.invokevirtual 298, 3) := dk_182 1 42 (dk_at dksX0_takesSign_0 6 rfl rfl)
theorem dX0_takesSign_9 : decode cX0_takesSign 9 = .ok (.aload_n 0, 1) := dk_42 (dk_at dksX0_takesSign_0 9 rfl rfl)
theorem dX0_takesSign_10 : decode cX0_takesSign 10 = .ok (.invokevirtual 302, 3) := dk_182 1 46 (dk_at dksX0_takesSign_0 10 rfl rfl)
theorem dX0_takesSign_13 : decode cX0_takesSign 13 = .ok (.return_, 1) := dk_177 (dk_at dksX0_takesSign_0 13 rfl rfl)
abbrev cX0_isSign : ByteArray := prog_1_method_19_code
def yX0_isSign : MethodName := ⟨RX0, "isSign", "(C)Z"⟩
def dkwX0_isSign_0 : List UInt8 := [42, 180, 0, 245, 178, 1, 2, 166, 0, 15, 42, 180, 1, 5, 27, 160, 0, 7, 4, 167, 0, 4, 3, 172]
abbrev dktX0_isSign_0 : List UInt8 := dkwX0_isSign_0 ++ []
theorem dksX0_isSign_0 : cX0_isSign.data.toList.drop 0 = dktX0_isSign_0 := by decide +kernel
theorem dX0_isSign_0 : decode cX0_isSign 0 = .ok (.aload_n 0, 1) := dk_42 (dk_at dksX0_isSign_0 0 rfl rfl)
theorem dX0_isSign_1 : decode cX0_isSign 1 = .ok (.getfield 245, 3) := dk_180 0 245 (dk_at dksX0_isSign_0 1 rfl rfl)
theorem dX0_isSign_4 : decode cX0_isSign 4 = .ok (.getstatic 258, 3) := dk_178 1 2 (dk_at dksX0_isSign_0 4 rfl rfl)
theorem dX0_isSign_7 : decode cX0_isSign 7 = .ok (.if_acmp .ne 15, 3) := dk_166 0 15 (dk_at dksX0_isSign_0 7 rfl rfl)
theorem dX0_isSign_10 : decode cX0_isSign 10 = .ok (.aload_n 0, 1) := dk_42 (dk_at dksX0_isSign_0 10 rfl rfl)
theorem dX0_isSign_11 : decode cX0_isSign 11 = .ok (.getfield 261, 3) := dk_180 1 5 (dk_at dksX0_isSign_0 11 rfl rfl)
theorem dX0_isSign_14 : decode cX0_isSign 14 = .ok (.iload_n 1, 1) := dk_27 (dk_at dksX0_isSign_0 14 rfl rfl)
theorem dX0_isSign_15 : decode cX0_isSign 15 = .ok (.if_icmp .ne 7, 3) := dk_160 0 7 (dk_at dksX0_isSign_0 15 rfl rfl)
theorem dX0_isSign_18 : decode cX0_isSign 18 = .ok (.iconst 1, 1) := dk_4 (dk_at dksX0_isSign_0 18 rfl rfl)
theorem dX0_isSign_19 : decode cX0_isSign 19 = .ok (.goto 4, 3) := dk_167 0 4 (dk_at dksX0_isSign_0 19 rfl rfl)
theorem dX0_isSign_22 : decode cX0_isSign 22 = .ok (.iconst 0, 1) := dk_3 (dk_at dksX0_isSign_0 22 rfl rfl)
theorem dX0_isSign_23 : decode cX0_isSign 23 = .ok (.ireturn, 1) := dk_172 (dk_at dksX0_isSign_0 23 rfl rfl)
abbrev cX0_readsLaw : ByteArray := prog_1_method_30_code
def yX0_readsLaw : MethodName := ⟨RX0, "readsLaw", "()LSilkClerks$Text;"⟩
def dkwX0_readsLaw_5 : List UInt8 := [96, 181, 1, 98, 167, 255, 144, 43, 176]
abbrev dktX0_readsLaw_5 : List UInt8 := dkwX0_readsLaw_5 ++ []
def dkwX0_readsLaw_4 : List UInt8 := [180, 1, 110, 43, 180, 1, 98, 42, 182, 1, 85, 83, 42, 16, 59, 182, 1, 88, 43, 89, 180, 1, 98, 4]
abbrev dktX0_readsLaw_4 : List UInt8 := dkwX0_readsLaw_4 ++ dktX0_readsLaw_5
def dkwX0_readsLaw_3 : List UInt8 := [180, 1, 98, 42, 182, 1, 92, 83, 42, 18, 106, 182, 1, 71, 153, 0, 20, 42, 182, 1, 46, 43]
abbrev dktX0_readsLaw_3 : List UInt8 := dkwX0_readsLaw_3 ++ dktX0_readsLaw_4
def dkwX0_readsLaw_2 : List UInt8 := [16, 16, 182, 1, 101, 42, 182, 1, 46, 43, 180, 1, 104, 43, 180, 1, 98, 28, 79, 43, 180, 1, 107, 43]
abbrev dktX0_readsLaw_2 : List UInt8 := dkwX0_readsLaw_2 ++ dktX0_readsLaw_3
def dkwX0_readsLaw_1 : List UInt8 := [182, 1, 17, 61, 42, 28, 2, 159, 0, 7, 4, 167, 0, 4, 3, 182, 1, 42, 42, 43, 180, 1, 98]
abbrev dktX0_readsLaw_1 : List UInt8 := dkwX0_readsLaw_1 ++ dktX0_readsLaw_2
def dkwX0_readsLaw_0 : List UInt8 := [187, 0, 131, 89, 183, 0, 133, 76, 42, 180, 0, 245, 178, 1, 8, 165, 0, 108, 42, 42, 180, 0, 118]
abbrev dktX0_readsLaw_0 : List UInt8 := dkwX0_readsLaw_0 ++ dktX0_readsLaw_1
theorem dksX0_readsLaw_0 : cX0_readsLaw.data.toList.drop 0 = dktX0_readsLaw_0 := by decide +kernel
theorem dksX0_readsLaw_1 : cX0_readsLaw.data.toList.drop 23 = dktX0_readsLaw_1 := dk_seg dksX0_readsLaw_0 23 rfl rfl
theorem dksX0_readsLaw_2 : cX0_readsLaw.data.toList.drop 46 = dktX0_readsLaw_2 := dk_seg dksX0_readsLaw_1 23 rfl rfl
theorem dksX0_readsLaw_3 : cX0_readsLaw.data.toList.drop 70 = dktX0_readsLaw_3 := dk_seg dksX0_readsLaw_2 24 rfl rfl
theorem dksX0_readsLaw_4 : cX0_readsLaw.data.toList.drop 92 = dktX0_readsLaw_4 := dk_seg dksX0_readsLaw_3 22 rfl rfl
theorem dksX0_readsLaw_5 : cX0_readsLaw.data.toList.drop 116 = dktX0_readsLaw_5 := dk_seg dksX0_readsLaw_4 24 rfl rfl
theorem dX0_readsLaw_0 : decode cX0_readsLaw 0 = .ok (.new 131, 3) := dk_187 0 131 (dk_at dksX0_readsLaw_0 0 rfl rfl)
theorem dX0_readsLaw_3 : decode cX0_readsLaw 3 = .ok (.dup, 1) := dk_89 (dk_at dksX0_readsLaw_0 3 rfl rfl)
theorem dX0_readsLaw_4 : decode cX0_readsLaw 4 = .ok (.invokespecial 133, 3) := dk_183 0 133 (dk_at dksX0_readsLaw_0 4 rfl rfl)
theorem dX0_readsLaw_7 : decode cX0_readsLaw 7 = .ok (.astore_n 1, 1) := dk_76 (dk_at dksX0_readsLaw_0 7 rfl rfl)
theorem dX0_readsLaw_8 : decode cX0_readsLaw 8 = .ok (.aload_n 0, 1) := dk_42 (dk_at dksX0_readsLaw_0 8 rfl rfl)
theorem dX0_readsLaw_9 : decode cX0_readsLaw 9 = .ok (.getfield 245, 3) := dk_180 0 245 (dk_at dksX0_readsLaw_0 9 rfl rfl)
theorem dX0_readsLaw_12 : decode cX0_readsLaw 12 = .ok (.getstatic 264, 3) := dk_178 1 8 (dk_at dksX0_readsLaw_0 12 rfl rfl)
theorem dX0_readsLaw_15 : decode cX0_readsLaw 15 = .ok (.if_acmp .eq 108, 3) := dk_165 0 108 (dk_at dksX0_readsLaw_0 15 rfl rfl)
theorem dX0_readsLaw_18 : decode cX0_readsLaw 18 = .ok (.aload_n 0, 1) := dk_42 (dk_at dksX0_readsLaw_0 18 rfl rfl)
theorem dX0_readsLaw_19 : decode cX0_readsLaw 19 = .ok (.aload_n 0, 1) := dk_42 (dk_at dksX0_readsLaw_0 19 rfl rfl)
theorem dX0_readsLaw_20 : decode cX0_readsLaw 20 = .ok (.getfield 118, 3) := dk_180 0 118 (dk_at dksX0_readsLaw_0 20 rfl rfl)
theorem dX0_readsLaw_23 : decode cX0_readsLaw 23 = .ok (.invokevirtual 273, 3) := dk_182 1 17 (dk_at dksX0_readsLaw_1 0 rfl rfl)
theorem dX0_readsLaw_26 : decode cX0_readsLaw 26 = .ok (.istore_n 2, 1) := dk_61 (dk_at dksX0_readsLaw_1 3 rfl rfl)
theorem dX0_readsLaw_27 : decode cX0_readsLaw 27 = .ok (.aload_n 0, 1) := dk_42 (dk_at dksX0_readsLaw_1 4 rfl rfl)
theorem dX0_readsLaw_28 : decode cX0_readsLaw 28 = .ok (.iload_n 2, 1) := dk_28 (dk_at dksX0_readsLaw_1 5 rfl rfl)
theorem dX0_readsLaw_29 : decode cX0_readsLaw 29 = .ok (.iconst (-1), 1) := dk_2 (dk_at dksX0_readsLaw_1 6 rfl rfl)
theorem dX0_readsLaw_30 : decode cX0_readsLaw 30 = .ok (.if_icmp .eq 7, 3) := dk_159 0 7 (dk_at dksX0_readsLaw_1 7 rfl rfl)
theorem dX0_readsLaw_33 : decode cX0_readsLaw 33 = .ok (.iconst 1, 1) := dk_4 (dk_at dksX0_readsLaw_1 10 rfl rfl)
theorem dX0_readsLaw_34 : decode cX0_readsLaw 34 = .ok (.goto 4, 3) := dk_167 0 4 (dk_at dksX0_readsLaw_1 11 rfl rfl)
theorem dX0_readsLaw_37 : decode cX0_readsLaw 37 = .ok (.iconst 0, 1) := dk_3 (dk_at dksX0_readsLaw_1 14 rfl rfl)
theorem dX0_readsLaw_38 : decode cX0_readsLaw 38 = .ok (.invokevirtual 298, 3) := dk_182 1 42 (dk_at dksX0_readsLaw_1 15 rfl rfl)
theorem dX0_readsLaw_41 : decode cX0_readsLaw 41 = .ok (.aload_n 0, 1) := dk_42 (dk_at dksX0_readsLaw_1 18 rfl rfl)
theorem dX0_readsLaw_42 : decode cX0_readsLaw 42 = .ok (.aload_n 1, 1) := dk_43 (dk_at dksX0_readsLaw_1 19 rfl rfl)
theorem dX0_readsLaw_43 : decode cX0_readsLaw 43 = .ok (.getfield 354, 3) := dk_180 1 98 (dk_at dksX0_readsLaw_1 20 rfl rfl)
theorem dX0_readsLaw_46 : decode cX0_readsLaw 46 = .ok (.bipush 16, 2) := dk_16 16 (dk_at dksX0_readsLaw_2 0 rfl rfl)
theorem dX0_readsLaw_48 : decode cX0_readsLaw 48 = .ok (.invokevirtual 357, 3) := dk_182 1 101 (dk_at dksX0_readsLaw_2 2 rfl rfl)
theorem dX0_readsLaw_51 : decode cX0_readsLaw 51 = .ok (.aload_n 0, 1) := dk_42 (dk_at dksX0_readsLaw_2 5 rfl rfl)
theorem dX0_readsLaw_52 : decode cX0_readsLaw 52 = .ok (.invokevirtual 302, 3) := dk_182 1 46 (dk_at dksX0_readsLaw_2 6 rfl rfl)
theorem dX0_readsLaw_55 : decode cX0_readsLaw 55 = .ok (.aload_n 1, 1) := dk_43 (dk_at dksX0_readsLaw_2 9 rfl rfl)
theorem dX0_readsLaw_56 : decode cX0_readsLaw 56 = .ok (.getfield 360, 3) := dk_180 1 104 (dk_at dksX0_readsLaw_2 10 rfl rfl)
theorem dX0_readsLaw_59 : decode cX0_readsLaw 59 = .ok (.aload_n 1, 1) := dk_43 (dk_at dksX0_readsLaw_2 13 rfl rfl)
theorem dX0_readsLaw_60 : decode cX0_readsLaw 60 = .ok (.getfield 354, 3) := dk_180 1 98 (dk_at dksX0_readsLaw_2 14 rfl rfl)
theorem dX0_readsLaw_63 : decode cX0_readsLaw 63 = .ok (.iload_n 2, 1) := dk_28 (dk_at dksX0_readsLaw_2 17 rfl rfl)
theorem dX0_readsLaw_64 : decode cX0_readsLaw 64 = .ok (.iastore, 1) := dk_79 (dk_at dksX0_readsLaw_2 18 rfl rfl)
theorem dX0_readsLaw_65 : decode cX0_readsLaw 65 = .ok (.aload_n 1, 1) := dk_43 (dk_at dksX0_readsLaw_2 19 rfl rfl)
theorem dX0_readsLaw_66 : decode cX0_readsLaw 66 = .ok (.getfield 363, 3) := dk_180 1 107 (dk_at dksX0_readsLaw_2 20 rfl rfl)
theorem dX0_readsLaw_69 : decode cX0_readsLaw 69 = .ok (.aload_n 1, 1) := dk_43 (dk_at dksX0_readsLaw_2 23 rfl rfl)
theorem dX0_readsLaw_70 : decode cX0_readsLaw 70 = .ok (.getfield 354, 3) := dk_180 1 98 (dk_at dksX0_readsLaw_3 0 rfl rfl)
theorem dX0_readsLaw_73 : decode cX0_readsLaw 73 = .ok (.aload_n 0, 1) := dk_42 (dk_at dksX0_readsLaw_3 3 rfl rfl)
theorem dX0_readsLaw_74 : decode cX0_readsLaw 74 = .ok (.invokevirtual 348, 3) := dk_182 1 92 (dk_at dksX0_readsLaw_3 4 rfl rfl)
theorem dX0_readsLaw_77 : decode cX0_readsLaw 77 = .ok (.aastore, 1) := dk_83 (dk_at dksX0_readsLaw_3 7 rfl rfl)
theorem dX0_readsLaw_78 : decode cX0_readsLaw 78 = .ok (.aload_n 0, 1) := dk_42 (dk_at dksX0_readsLaw_3 8 rfl rfl)
theorem dX0_readsLaw_79 : decode cX0_readsLaw 79 = .ok (.ldc 106, 2) := dk_18 106 (dk_at dksX0_readsLaw_3 9 rfl rfl)
theorem dX0_readsLaw_81 : decode cX0_readsLaw 81 = .ok (.invokevirtual 327, 3) := dk_182 1 71 (dk_at dksX0_readsLaw_3 11 rfl rfl)
theorem dX0_readsLaw_84 : decode cX0_readsLaw 84 = .ok (.ifCond .eq 20, 3) := dk_153 0 20 (dk_at dksX0_readsLaw_3 14 rfl rfl)
theorem dX0_readsLaw_87 : decode cX0_readsLaw 87 = .ok (.aload_n 0, 1) := dk_42 (dk_at dksX0_readsLaw_3 17 rfl rfl)
theorem dX0_readsLaw_88 : decode cX0_readsLaw 88 = .ok (.invokevirtual 302, 3) := dk_182 1 46 (dk_at dksX0_readsLaw_3 18 rfl rfl)
theorem dX0_readsLaw_91 : decode cX0_readsLaw 91 = .ok (.aload_n 1, 1) := dk_43 (dk_at dksX0_readsLaw_3 21 rfl rfl)
theorem dX0_readsLaw_92 : decode cX0_readsLaw 92 = .ok (.getfield 366, 3) := dk_180 1 110 (dk_at dksX0_readsLaw_4 0 rfl rfl)
theorem dX0_readsLaw_95 : decode cX0_readsLaw 95 = .ok (.aload_n 1, 1) := dk_43 (dk_at dksX0_readsLaw_4 3 rfl rfl)
theorem dX0_readsLaw_96 : decode cX0_readsLaw 96 = .ok (.getfield 354, 3) := dk_180 1 98 (dk_at dksX0_readsLaw_4 4 rfl rfl)
theorem dX0_readsLaw_99 : decode cX0_readsLaw 99 = .ok (.aload_n 0, 1) := dk_42 (dk_at dksX0_readsLaw_4 7 rfl rfl)
theorem dX0_readsLaw_100 : decode cX0_readsLaw 100 = .ok (.invokevirtual 341, 3) := dk_182 1 85 (dk_at dksX0_readsLaw_4 8 rfl rfl)
theorem dX0_readsLaw_103 : decode cX0_readsLaw 103 = .ok (.aastore, 1) := dk_83 (dk_at dksX0_readsLaw_4 11 rfl rfl)
theorem dX0_readsLaw_104 : decode cX0_readsLaw 104 = .ok (.aload_n 0, 1) := dk_42 (dk_at dksX0_readsLaw_4 12 rfl rfl)
theorem dX0_readsLaw_105 : decode cX0_readsLaw 105 = .ok (.bipush 59, 2) := dk_16 59 (dk_at dksX0_readsLaw_4 13 rfl rfl)
theorem dX0_readsLaw_107 : decode cX0_readsLaw 107 = .ok (.invokevirtual 344, 3) := dk_182 1 88 (dk_at dksX0_readsLaw_4 15 rfl rfl)
theorem dX0_readsLaw_110 : decode cX0_readsLaw 110 = .ok (.aload_n 1, 1) := dk_43 (dk_at dksX0_readsLaw_4 18 rfl rfl)
theorem dX0_readsLaw_111 : decode cX0_readsLaw 111 = .ok (.dup, 1) := dk_89 (dk_at dksX0_readsLaw_4 19 rfl rfl)
theorem dX0_readsLaw_112 : decode cX0_readsLaw 112 = .ok (.getfield 354, 3) := dk_180 1 98 (dk_at dksX0_readsLaw_4 20 rfl rfl)
theorem dX0_readsLaw_115 : decode cX0_readsLaw 115 = .ok (.iconst 1, 1) := dk_4 (dk_at dksX0_readsLaw_4 23 rfl rfl)
theorem dX0_readsLaw_116 : decode cX0_readsLaw 116 = .ok (.iadd, 1) := dk_96 (dk_at dksX0_readsLaw_5 0 rfl rfl)
theorem dX0_readsLaw_117 : decode cX0_readsLaw 117 = .ok (.putfield 354, 3) := dk_181 1 98 (dk_at dksX0_readsLaw_5 1 rfl rfl)
theorem dX0_readsLaw_120 : decode cX0_readsLaw 120 = .ok (.goto (-112), 3) := dk_167 255 144 (dk_at dksX0_readsLaw_5 4 rfl rfl)
theorem dX0_readsLaw_123 : decode cX0_readsLaw 123 = .ok (.aload_n 1, 1) := dk_43 (dk_at dksX0_readsLaw_5 7 rfl rfl)
theorem dX0_readsLaw_124 : decode cX0_readsLaw 124 = .ok (.areturn, 1) := dk_176 (dk_at dksX0_readsLaw_5 8 rfl rfl)
abbrev cX0_sum : ByteArray := prog_1_method_25_code
def yX0_sum : MethodName := ⟨RX0, "sum", "()LSilkClerks$Term;"⟩
def dkwX0_sum_2 : List UInt8 := [167, 255, 214, 43, 176]
abbrev dktX0_sum_2 : List UInt8 := dkwX0_sum_2 ++ []
def dkwX0_sum_1 : List UInt8 := [180, 1, 5, 146, 61, 42, 182, 1, 46, 187, 1, 60, 89, 28, 43, 42, 182, 1, 65, 183, 1, 62, 76]
abbrev dktX0_sum_1 : List UInt8 := dkwX0_sum_1 ++ dktX0_sum_2
def dkwX0_sum_0 : List UInt8 := [42, 182, 1, 65, 76, 42, 16, 43, 182, 1, 38, 154, 0, 12, 42, 16, 45, 182, 1, 38, 153, 0, 30, 42]
abbrev dktX0_sum_0 : List UInt8 := dkwX0_sum_0 ++ dktX0_sum_1
theorem dksX0_sum_0 : cX0_sum.data.toList.drop 0 = dktX0_sum_0 := by decide +kernel
theorem dksX0_sum_1 : cX0_sum.data.toList.drop 24 = dktX0_sum_1 := dk_seg dksX0_sum_0 24 rfl rfl
theorem dksX0_sum_2 : cX0_sum.data.toList.drop 47 = dktX0_sum_2 := dk_seg dksX0_sum_1 23 rfl rfl
theorem dX0_sum_0 : decode cX0_sum 0 = .ok (.aload_n 0, 1) := dk_42 (dk_at dksX0_sum_0 0 rfl rfl)
theorem dX0_sum_1 : decode cX0_sum 1 = .ok (.invokevirtual 321, 3) := dk_182 1 65 (dk_at dksX0_sum_0 1 rfl rfl)
theorem dX0_sum_4 : decode cX0_sum 4 = .ok (.astore_n 1, 1) := dk_76 (dk_at dksX0_sum_0 4 rfl rfl)
theorem dX0_sum_5 : decode cX0_sum 5 = .ok (.aload_n 0, 1) := dk_42 (dk_at dksX0_sum_0 5 rfl rfl)
theorem dX0_sum_6 : decode cX0_sum 6 = .ok (.bipush 43, 2) := dk_16 43 (dk_at dksX0_sum_0 6 rfl rfl)
theorem dX0_sum_8 : decode cX0_sum 8 = .ok (.invokevirtual 294, 3) := dk_182 1 38 (dk_at dksX0_sum_0 8 rfl rfl)
theorem dX0_sum_11 : decode cX0_sum 11 = .ok (.ifCond .ne 12, 3) := dk_154 0 12 (dk_at dksX0_sum_0 11 rfl rfl)
theorem dX0_sum_14 : decode cX0_sum 14 = .ok (.aload_n 0, 1) := dk_42 (dk_at dksX0_sum_0 14 rfl rfl)
theorem dX0_sum_15 : decode cX0_sum 15 = .ok (.bipush 45, 2) := dk_16 45 (dk_at dksX0_sum_0 15 rfl rfl)
theorem dX0_sum_17 : decode cX0_sum 17 = .ok (.invokevirtual 294, 3) := dk_182 1 38 (dk_at dksX0_sum_0 17 rfl rfl)
theorem dX0_sum_20 : decode cX0_sum 20 = .ok (.ifCond .eq 30, 3) := dk_153 0 30 (dk_at dksX0_sum_0 20 rfl rfl)
theorem dX0_sum_23 : decode cX0_sum 23 = .ok (.aload_n 0, 1) := dk_42 (dk_at dksX0_sum_0 23 rfl rfl)
theorem dX0_sum_24 : decode cX0_sum 24 = .ok (.getfield 261, 3) := dk_180 1 5 (dk_at dksX0_sum_1 0 rfl rfl)
theorem dX0_sum_27 : decode cX0_sum 27 = .ok (.i2c, 1) := dk_146 (dk_at dksX0_sum_1 3 rfl rfl)
theorem dX0_sum_28 : decode cX0_sum 28 = .ok (.istore_n 2, 1) := dk_61 (dk_at dksX0_sum_1 4 rfl rfl)
theorem dX0_sum_29 : decode cX0_sum 29 = .ok (.aload_n 0, 1) := dk_42 (dk_at dksX0_sum_1 5 rfl rfl)
theorem dX0_sum_30 : decode cX0_sum 30 = .ok (.invokevirtual 302, 3) := dk_182 1 46 (dk_at dksX0_sum_1 6 rfl rfl)
theorem dX0_sum_33 : decode cX0_sum 33 = .ok (.new 316, 3) := dk_187 1 60 (dk_at dksX0_sum_1 9 rfl rfl)
theorem dX0_sum_36 : decode cX0_sum 36 = .ok (.dup, 1) := dk_89 (dk_at dksX0_sum_1 12 rfl rfl)
theorem dX0_sum_37 : decode cX0_sum 37 = .ok (.iload_n 2, 1) := dk_28 (dk_at dksX0_sum_1 13 rfl rfl)
theorem dX0_sum_38 : decode cX0_sum 38 = .ok (.aload_n 1, 1) := dk_43 (dk_at dksX0_sum_1 14 rfl rfl)
theorem dX0_sum_39 : decode cX0_sum 39 = .ok (.aload_n 0, 1) := dk_42 (dk_at dksX0_sum_1 15 rfl rfl)
theorem dX0_sum_40 : decode cX0_sum 40 = .ok (.invokevirtual 321, 3) := dk_182 1 65 (dk_at dksX0_sum_1 16 rfl rfl)
theorem dX0_sum_43 : decode cX0_sum 43 = .ok (.invokespecial 318, 3) := dk_183 1 62 (dk_at dksX0_sum_1 19 rfl rfl)
theorem dX0_sum_46 : decode cX0_sum 46 = .ok (.astore_n 1, 1) := dk_76 (dk_at dksX0_sum_1 22 rfl rfl)
theorem dX0_sum_47 : decode cX0_sum 47 = .ok (.goto (-42), 3) := dk_167 255 214 (dk_at dksX0_sum_2 0 rfl rfl)
theorem dX0_sum_50 : decode cX0_sum 50 = .ok (.aload_n 1, 1) := dk_43 (dk_at dksX0_sum_2 3 rfl rfl)
theorem dX0_sum_51 : decode cX0_sum 51 = .ok (.areturn, 1) := dk_176 (dk_at dksX0_sum_2 4 rfl rfl)
abbrev cX0_product : ByteArray := prog_1_method_24_code
def yX0_product : MethodName := ⟨RX0, "product", "()LSilkClerks$Term;"⟩
def dkwX0_product_4 : List UInt8 := [43, 176]
abbrev dktX0_product_4 : List UInt8 := dkwX0_product_4 ++ []
def dkwX0_product_3 : List UInt8 := [180, 0, 235, 183, 1, 35, 191, 187, 1, 60, 89, 28, 43, 42, 182, 1, 56, 183, 1, 62, 76, 167, 255, 169]
abbrev dktX0_product_3 : List UInt8 := dkwX0_product_3 ++ dktX0_product_4
def dkwX0_product_2 : List UInt8 := [166, 0, 7, 4, 167, 0, 4, 3, 182, 1, 42, 42, 180, 1, 5, 154, 0, 16, 187, 1, 33, 89, 5, 42]
abbrev dktX0_product_2 : List UInt8 := dkwX0_product_2 ++ dktX0_product_3
def dkwX0_product_1 : List UInt8 := [180, 1, 5, 146, 61, 42, 182, 1, 46, 28, 16, 47, 160, 0, 42, 42, 42, 180, 0, 245, 178, 1, 25]
abbrev dktX0_product_1 : List UInt8 := dkwX0_product_1 ++ dktX0_product_2
def dkwX0_product_0 : List UInt8 := [42, 182, 1, 56, 76, 42, 16, 42, 182, 1, 38, 154, 0, 12, 42, 16, 47, 182, 1, 38, 153, 0, 75, 42]
abbrev dktX0_product_0 : List UInt8 := dkwX0_product_0 ++ dktX0_product_1
theorem dksX0_product_0 : cX0_product.data.toList.drop 0 = dktX0_product_0 := by decide +kernel
theorem dksX0_product_1 : cX0_product.data.toList.drop 24 = dktX0_product_1 := dk_seg dksX0_product_0 24 rfl rfl
theorem dksX0_product_2 : cX0_product.data.toList.drop 47 = dktX0_product_2 := dk_seg dksX0_product_1 23 rfl rfl
theorem dksX0_product_3 : cX0_product.data.toList.drop 71 = dktX0_product_3 := dk_seg dksX0_product_2 24 rfl rfl
theorem dksX0_product_4 : cX0_product.data.toList.drop 95 = dktX0_product_4 := dk_seg dksX0_product_3 24 rfl rfl
theorem dX0_product_0 : decode cX0_product 0 = .ok (.aload_n 0, 1) := dk_42 (dk_at dksX0_product_0 0 rfl rfl)
theorem dX0_product_1 : decode cX0_product 1 = .ok (.invokevirtual 312, 3) := dk_182 1 56 (dk_at dksX0_product_0 1 rfl rfl)
theorem dX0_product_4 : decode cX0_product 4 = .ok (.astore_n 1, 1) := dk_76 (dk_at dksX0_product_0 4 rfl rfl)
theorem dX0_product_5 : decode cX0_product 5 = .ok (.aload_n 0, 1) := dk_42 (dk_at dksX0_product_0 5 rfl rfl)
theorem dX0_product_6 : decode cX0_product 6 = .ok (.bipush 42, 2) := dk_16 42 (dk_at dksX0_product_0 6 rfl rfl)
theorem dX0_product_8 : decode cX0_product 8 = .ok (.invokevirtual 294, 3) := dk_182 1 38 (dk_at dksX0_product_0 8 rfl rfl)
theorem dX0_product_11 : decode cX0_product 11 = .ok (.ifCond .ne 12, 3) := dk_154 0 12 (dk_at dksX0_product_0 11 rfl rfl)
theorem dX0_product_14 : decode cX0_product 14 = .ok (.aload_n 0, 1) := dk_42 (dk_at dksX0_product_0 14 rfl rfl)
theorem dX0_product_15 : decode cX0_product 15 = .ok (.bipush 47, 2) := dk_16 47 (dk_at dksX0_product_0 15 rfl rfl)
theorem dX0_product_17 : decode cX0_product 17 = .ok (.invokevirtual 294, 3) := dk_182 1 38 (dk_at dksX0_product_0 17 rfl rfl)
theorem dX0_product_20 : decode cX0_product 20 = .ok (.ifCond .eq 75, 3) := dk_153 0 75 (dk_at dksX0_product_0 20 rfl rfl)
theorem dX0_product_23 : decode cX0_product 23 = .ok (.aload_n 0, 1) := dk_42 (dk_at dksX0_product_0 23 rfl rfl)
theorem dX0_product_24 : decode cX0_product 24 = .ok (.getfield 261, 3) := dk_180 1 5 (dk_at dksX0_product_1 0 rfl rfl)
theorem dX0_product_27 : decode cX0_product 27 = .ok (.i2c, 1) := dk_146 (dk_at dksX0_product_1 3 rfl rfl)
theorem dX0_product_28 : decode cX0_product 28 = .ok (.istore_n 2, 1) := dk_61 (dk_at dksX0_product_1 4 rfl rfl)
theorem dX0_product_29 : decode cX0_product 29 = .ok (.aload_n 0, 1) := dk_42 (dk_at dksX0_product_1 5 rfl rfl)
theorem dX0_product_30 : decode cX0_product 30 = .ok (.invokevirtual 302, 3) := dk_182 1 46 (dk_at dksX0_product_1 6 rfl rfl)
theorem dX0_product_33 : decode cX0_product 33 = .ok (.iload_n 2, 1) := dk_28 (dk_at dksX0_product_1 9 rfl rfl)
theorem dX0_product_34 : decode cX0_product 34 = .ok (.bipush 47, 2) := dk_16 47 (dk_at dksX0_product_1 10 rfl rfl)
theorem dX0_product_36 : decode cX0_product 36 = .ok (.if_icmp .ne 42, 3) := dk_160 0 42 (dk_at dksX0_product_1 12 rfl rfl)
theorem dX0_product_39 : decode cX0_product 39 = .ok (.aload_n 0, 1) := dk_42 (dk_at dksX0_product_1 15 rfl rfl)
theorem dX0_product_40 : decode cX0_product 40 = .ok (.aload_n 0, 1) := dk_42 (dk_at dksX0_product_1 16 rfl rfl)
theorem dX0_product_41 : decode cX0_product 41 = .ok (.getfield 245, 3) := dk_180 0 245 (dk_at dksX0_product_1 17 rfl rfl)
theorem dX0_product_44 : decode cX0_product 44 = .ok (.getstatic 281, 3) := dk_178 1 25 (dk_at dksX0_product_1 20 rfl rfl)
theorem dX0_product_47 : decode cX0_product 47 = .ok (.if_acmp .ne 7, 3) := dk_166 0 7 (dk_at dksX0_product_2 0 rfl rfl)
theorem dX0_product_50 : decode cX0_product 50 = .ok (.iconst 1, 1) := dk_4 (dk_at dksX0_product_2 3 rfl rfl)
theorem dX0_product_51 : decode cX0_product 51 = .ok (.goto 4, 3) := dk_167 0 4 (dk_at dksX0_product_2 4 rfl rfl)
theorem dX0_product_54 : decode cX0_product 54 = .ok (.iconst 0, 1) := dk_3 (dk_at dksX0_product_2 7 rfl rfl)
theorem dX0_product_55 : decode cX0_product 55 = .ok (.invokevirtual 298, 3) := dk_182 1 42 (dk_at dksX0_product_2 8 rfl rfl)
theorem dX0_product_58 : decode cX0_product 58 = .ok (.aload_n 0, 1) := dk_42 (dk_at dksX0_product_2 11 rfl rfl)
theorem dX0_product_59 : decode cX0_product 59 = .ok (.getfield 261, 3) := dk_180 1 5 (dk_at dksX0_product_2 12 rfl rfl)
theorem dX0_product_62 : decode cX0_product 62 = .ok (.ifCond .ne 16, 3) := dk_154 0 16 (dk_at dksX0_product_2 15 rfl rfl)
theorem dX0_product_65 : decode cX0_product 65 = .ok (.new 289, 3) := dk_187 1 33 (dk_at dksX0_product_2 18 rfl rfl)
theorem dX0_product_68 : decode cX0_product 68 = .ok (.dup, 1) := dk_89 (dk_at dksX0_product_2 21 rfl rfl)
theorem dX0_product_69 : decode cX0_product 69 = .ok (.iconst 2, 1) := dk_5 (dk_at dksX0_product_2 22 rfl rfl)
theorem dX0_product_70 : decode cX0_product 70 = .ok (.aload_n 0, 1) := dk_42 (dk_at dksX0_product_2 23 rfl rfl)
theorem dX0_product_71 : decode cX0_product 71 = .ok (.getfield 235, 3) := dk_180 0 235 (dk_at dksX0_product_3 0 rfl rfl)
theorem dX0_product_74 : decode cX0_product 74 = .ok (.invokespecial 291, 3) := dk_183 1 35 (dk_at dksX0_product_3 3 rfl rfl)
theorem dX0_product_77 : decode cX0_product 77 = .ok (.athrow, 1) := dk_191 (dk_at dksX0_product_3 6 rfl rfl)
theorem dX0_product_78 : decode cX0_product 78 = .ok (.new 316, 3) := dk_187 1 60 (dk_at dksX0_product_3 7 rfl rfl)
theorem dX0_product_81 : decode cX0_product 81 = .ok (.dup, 1) := dk_89 (dk_at dksX0_product_3 10 rfl rfl)
theorem dX0_product_82 : decode cX0_product 82 = .ok (.iload_n 2, 1) := dk_28 (dk_at dksX0_product_3 11 rfl rfl)
theorem dX0_product_83 : decode cX0_product 83 = .ok (.aload_n 1, 1) := dk_43 (dk_at dksX0_product_3 12 rfl rfl)
theorem dX0_product_84 : decode cX0_product 84 = .ok (.aload_n 0, 1) := dk_42 (dk_at dksX0_product_3 13 rfl rfl)
theorem dX0_product_85 : decode cX0_product 85 = .ok (.invokevirtual 312, 3) := dk_182 1 56 (dk_at dksX0_product_3 14 rfl rfl)
theorem dX0_product_88 : decode cX0_product 88 = .ok (.invokespecial 318, 3) := dk_183 1 62 (dk_at dksX0_product_3 17 rfl rfl)
theorem dX0_product_91 : decode cX0_product 91 = .ok (.astore_n 1, 1) := dk_76 (dk_at dksX0_product_3 20 rfl rfl)
theorem dX0_product_92 : decode cX0_product 92 = .ok (.goto (-87), 3) := dk_167 255 169 (dk_at dksX0_product_3 21 rfl rfl)
theorem dX0_product_95 : decode cX0_product 95 = .ok (.aload_n 1, 1) := dk_43 (dk_at dksX0_product_4 0 rfl rfl)
theorem dX0_product_96 : decode cX0_product 96 = .ok (.areturn, 1) := dk_176 (dk_at dksX0_product_4 1 rfl rfl)
abbrev cX0_unit : ByteArray := prog_1_method_23_code
def yX0_unit : MethodName := ⟨RX0, "unit", "()LSilkClerks$Term;"⟩
def dkwX0_unit_2 : List UInt8 := [182, 1, 42, 42, 182, 1, 46, 187, 1, 53, 89, 27, 183, 1, 55, 176]
abbrev dktX0_unit_2 : List UInt8 := dkwX0_unit_2 ++ []
def dkwX0_unit_1 : List UInt8 := [183, 1, 51, 176, 42, 42, 180, 0, 121, 182, 1, 17, 60, 42, 27, 2, 159, 0, 7, 4, 167, 0, 4, 3]
abbrev dktX0_unit_1 : List UInt8 := dkwX0_unit_1 ++ dktX0_unit_2
def dkwX0_unit_0 : List UInt8 := [42, 180, 0, 245, 178, 1, 25, 166, 0, 21, 42, 180, 1, 5, 60, 42, 182, 1, 46, 187, 1, 49, 89, 27]
abbrev dktX0_unit_0 : List UInt8 := dkwX0_unit_0 ++ dktX0_unit_1
theorem dksX0_unit_0 : cX0_unit.data.toList.drop 0 = dktX0_unit_0 := by decide +kernel
theorem dksX0_unit_1 : cX0_unit.data.toList.drop 24 = dktX0_unit_1 := dk_seg dksX0_unit_0 24 rfl rfl
theorem dksX0_unit_2 : cX0_unit.data.toList.drop 48 = dktX0_unit_2 := dk_seg dksX0_unit_1 24 rfl rfl
theorem dX0_unit_0 : decode cX0_unit 0 = .ok (.aload_n 0, 1) := dk_42 (dk_at dksX0_unit_0 0 rfl rfl)
theorem dX0_unit_1 : decode cX0_unit 1 = .ok (.getfield 245, 3) := dk_180 0 245 (dk_at dksX0_unit_0 1 rfl rfl)
theorem dX0_unit_4 : decode cX0_unit 4 = .ok (.getstatic 281, 3) := dk_178 1 25 (dk_at dksX0_unit_0 4 rfl rfl)
theorem dX0_unit_7 : decode cX0_unit 7 = .ok (.if_acmp .ne 21, 3) := dk_166 0 21 (dk_at dksX0_unit_0 7 rfl rfl)
theorem dX0_unit_10 : decode cX0_unit 10 = .ok (.aload_n 0, 1) := dk_42 (dk_at dksX0_unit_0 10 rfl rfl)
theorem dX0_unit_11 : decode cX0_unit 11 = .ok (.getfield 261, 3) := dk_180 1 5 (dk_at dksX0_unit_0 11 rfl rfl)
theorem dX0_unit_14 : decode cX0_unit 14 = .ok (.istore_n 1, 1) := dk_60 (dk_at dksX0_unit_0 14 rfl rfl)
theorem dX0_unit_15 : decode cX0_unit 15 = .ok (.aload_n 0, 1) := dk_42 (dk_at dksX0_unit_0 15 rfl rfl)
theorem dX0_unit_16 : decode cX0_unit 16 = .ok (.invokevirtual 302, 3) := dk_182 1 46 (dk_at dksX0_unit_0 16 rfl rfl)
theorem dX0_unit_19 : decode cX0_unit 19 = .ok (.new 305, 3) := dk_187 1 49 (dk_at dksX0_unit_0 19 rfl rfl)
theorem dX0_unit_22 : decode cX0_unit 22 = .ok (.dup, 1) := dk_89 (dk_at dksX0_unit_0 22 rfl rfl)
theorem dX0_unit_23 : decode cX0_unit 23 = .ok (.iload_n 1, 1) := dk_27 (dk_at dksX0_unit_0 23 rfl rfl)
theorem dX0_unit_24 : decode cX0_unit 24 = .ok (.invokespecial 307, 3) := dk_183 1 51 (dk_at dksX0_unit_1 0 rfl rfl)
theorem dX0_unit_27 : decode cX0_unit 27 = .ok (.areturn, 1) := dk_176 (dk_at dksX0_unit_1 3 rfl rfl)
theorem dX0_unit_28 : decode cX0_unit 28 = .ok (.aload_n 0, 1) := dk_42 (dk_at dksX0_unit_1 4 rfl rfl)
theorem dX0_unit_29 : decode cX0_unit 29 = .ok (.aload_n 0, 1) := dk_42 (dk_at dksX0_unit_1 5 rfl rfl)
theorem dX0_unit_30 : decode cX0_unit 30 = .ok (.getfield 121, 3) := dk_180 0 121 (dk_at dksX0_unit_1 6 rfl rfl)
theorem dX0_unit_33 : decode cX0_unit 33 = .ok (.invokevirtual 273, 3) := dk_182 1 17 (dk_at dksX0_unit_1 9 rfl rfl)
theorem dX0_unit_36 : decode cX0_unit 36 = .ok (.istore_n 1, 1) := dk_60 (dk_at dksX0_unit_1 12 rfl rfl)
theorem dX0_unit_37 : decode cX0_unit 37 = .ok (.aload_n 0, 1) := dk_42 (dk_at dksX0_unit_1 13 rfl rfl)
theorem dX0_unit_38 : decode cX0_unit 38 = .ok (.iload_n 1, 1) := dk_27 (dk_at dksX0_unit_1 14 rfl rfl)
theorem dX0_unit_39 : decode cX0_unit 39 = .ok (.iconst (-1), 1) := dk_2 (dk_at dksX0_unit_1 15 rfl rfl)
theorem dX0_unit_40 : decode cX0_unit 40 = .ok (.if_icmp .eq 7, 3) := dk_159 0 7 (dk_at dksX0_unit_1 16 rfl rfl)
theorem dX0_unit_43 : decode cX0_unit 43 = .ok (.iconst 1, 1) := dk_4 (dk_at dksX0_unit_1 19 rfl rfl)
theorem dX0_unit_44 : decode cX0_unit 44 = .ok (.goto 4, 3) := dk_167 0 4 (dk_at dksX0_unit_1 20 rfl rfl)
theorem dX0_unit_47 : decode cX0_unit 47 = .ok (.iconst 0, 1) := dk_3 (dk_at dksX0_unit_1 23 rfl rfl)
theorem dX0_unit_48 : decode cX0_unit 48 = .ok (.invokevirtual 298, 3) := dk_182 1 42 (dk_at dksX0_unit_2 0 rfl rfl)
theorem dX0_unit_51 : decode cX0_unit 51 = .ok (.aload_n 0, 1) := dk_42 (dk_at dksX0_unit_2 3 rfl rfl)
theorem dX0_unit_52 : decode cX0_unit 52 = .ok (.invokevirtual 302, 3) := dk_182 1 46 (dk_at dksX0_unit_2 4 rfl rfl)
theorem dX0_unit_55 : decode cX0_unit 55 = .ok (.new 309, 3) := dk_187 1 53 (dk_at dksX0_unit_2 7 rfl rfl)
theorem dX0_unit_58 : decode cX0_unit 58 = .ok (.dup, 1) := dk_89 (dk_at dksX0_unit_2 10 rfl rfl)
theorem dX0_unit_59 : decode cX0_unit 59 = .ok (.iload_n 1, 1) := dk_27 (dk_at dksX0_unit_2 11 rfl rfl)
theorem dX0_unit_60 : decode cX0_unit 60 = .ok (.invokespecial 311, 3) := dk_183 1 55 (dk_at dksX0_unit_2 12 rfl rfl)
theorem dX0_unit_63 : decode cX0_unit 63 = .ok (.areturn, 1) := dk_176 (dk_at dksX0_unit_2 15 rfl rfl)
abbrev cX0_any : ByteArray := prog_1_method_29_code
def yX0_any : MethodName := ⟨RX0, "any", "()LSilkClerks$Term;"⟩
def dkwX0_any_1 : List UInt8 := [43, 42, 182, 1, 95, 183, 1, 62, 76, 167, 255, 228, 43, 176]
abbrev dktX0_any_1 : List UInt8 := dkwX0_any_1 ++ []
def dkwX0_any_0 : List UInt8 := [42, 182, 1, 95, 76, 42, 18, 108, 182, 1, 71, 153, 0, 25, 42, 182, 1, 46, 187, 1, 60, 89, 16, 124]
abbrev dktX0_any_0 : List UInt8 := dkwX0_any_0 ++ dktX0_any_1
theorem dksX0_any_0 : cX0_any.data.toList.drop 0 = dktX0_any_0 := by decide +kernel
theorem dksX0_any_1 : cX0_any.data.toList.drop 24 = dktX0_any_1 := dk_seg dksX0_any_0 24 rfl rfl
theorem dX0_any_0 : decode cX0_any 0 = .ok (.aload_n 0, 1) := dk_42 (dk_at dksX0_any_0 0 rfl rfl)
theorem dX0_any_1 : decode cX0_any 1 = .ok (.invokevirtual 351, 3) := dk_182 1 95 (dk_at dksX0_any_0 1 rfl rfl)
theorem dX0_any_4 : decode cX0_any 4 = .ok (.astore_n 1, 1) := dk_76 (dk_at dksX0_any_0 4 rfl rfl)
theorem dX0_any_5 : decode cX0_any 5 = .ok (.aload_n 0, 1) := dk_42 (dk_at dksX0_any_0 5 rfl rfl)
theorem dX0_any_6 : decode cX0_any 6 = .ok (.ldc 108, 2) := dk_18 108 (dk_at dksX0_any_0 6 rfl rfl)
theorem dX0_any_8 : decode cX0_any 8 = .ok (.invokevirtual 327, 3) := dk_182 1 71 (dk_at dksX0_any_0 8 rfl rfl)
theorem dX0_any_11 : decode cX0_any 11 = .ok (.ifCond .eq 25, 3) := dk_153 0 25 (dk_at dksX0_any_0 11 rfl rfl)
theorem dX0_any_14 : decode cX0_any 14 = .ok (.aload_n 0, 1) := dk_42 (dk_at dksX0_any_0 14 rfl rfl)
theorem dX0_any_15 : decode cX0_any 15 = .ok (.invokevirtual 302, 3) := dk_182 1 46 (dk_at dksX0_any_0 15 rfl rfl)
theorem dX0_any_18 : decode cX0_any 18 = .ok (.new 316, 3) := dk_187 1 60 (dk_at dksX0_any_0 18 rfl rfl)
theorem dX0_any_21 : decode cX0_any 21 = .ok (.dup, 1) := dk_89 (dk_at dksX0_any_0 21 rfl rfl)
theorem dX0_any_22 : decode cX0_any 22 = .ok (.bipush 124, 2) := dk_16 124 (dk_at dksX0_any_0 22 rfl rfl)
theorem dX0_any_24 : decode cX0_any 24 = .ok (.aload_n 1, 1) := dk_43 (dk_at dksX0_any_1 0 rfl rfl)
theorem dX0_any_25 : decode cX0_any 25 = .ok (.aload_n 0, 1) := dk_42 (dk_at dksX0_any_1 1 rfl rfl)
theorem dX0_any_26 : decode cX0_any 26 = .ok (.invokevirtual 351, 3) := dk_182 1 95 (dk_at dksX0_any_1 2 rfl rfl)
theorem dX0_any_29 : decode cX0_any 29 = .ok (.invokespecial 318, 3) := dk_183 1 62 (dk_at dksX0_any_1 5 rfl rfl)
theorem dX0_any_32 : decode cX0_any 32 = .ok (.astore_n 1, 1) := dk_76 (dk_at dksX0_any_1 8 rfl rfl)
theorem dX0_any_33 : decode cX0_any 33 = .ok (.goto (-28), 3) := dk_167 255 228 (dk_at dksX0_any_1 9 rfl rfl)
theorem dX0_any_36 : decode cX0_any 36 = .ok (.aload_n 1, 1) := dk_43 (dk_at dksX0_any_1 12 rfl rfl)
theorem dX0_any_37 : decode cX0_any 37 = .ok (.areturn, 1) := dk_176 (dk_at dksX0_any_1 13 rfl rfl)
abbrev cX0_both : ByteArray := prog_1_method_28_code
def yX0_both : MethodName := ⟨RX0, "both", "()LSilkClerks$Term;"⟩
def dkwX0_both_1 : List UInt8 := [43, 42, 182, 1, 77, 183, 1, 62, 76, 167, 255, 228, 43, 176]
abbrev dktX0_both_1 : List UInt8 := dkwX0_both_1 ++ []
def dkwX0_both_0 : List UInt8 := [42, 182, 1, 77, 76, 42, 18, 77, 182, 1, 71, 153, 0, 25, 42, 182, 1, 46, 187, 1, 60, 89, 16, 38]
abbrev dktX0_both_0 : List UInt8 := dkwX0_both_0 ++ dktX0_both_1
theorem dksX0_both_0 : cX0_both.data.toList.drop 0 = dktX0_both_0 := by decide +kernel
theorem dksX0_both_1 : cX0_both.data.toList.drop 24 = dktX0_both_1 := dk_seg dksX0_both_0 24 rfl rfl
theorem dX0_both_0 : decode cX0_both 0 = .ok (.aload_n 0, 1) := dk_42 (dk_at dksX0_both_0 0 rfl rfl)
theorem dX0_both_1 : decode cX0_both 1 = .ok (.invokevirtual 333, 3) := dk_182 1 77 (dk_at dksX0_both_0 1 rfl rfl)
theorem dX0_both_4 : decode cX0_both 4 = .ok (.astore_n 1, 1) := dk_76 (dk_at dksX0_both_0 4 rfl rfl)
theorem dX0_both_5 : decode cX0_both 5 = .ok (.aload_n 0, 1) := dk_42 (dk_at dksX0_both_0 5 rfl rfl)
theorem dX0_both_6 : decode cX0_both 6 = .ok (.ldc 77, 2) := dk_18 77 (dk_at dksX0_both_0 6 rfl rfl)
theorem dX0_both_8 : decode cX0_both 8 = .ok (.invokevirtual 327, 3) := dk_182 1 71 (dk_at dksX0_both_0 8 rfl rfl)
theorem dX0_both_11 : decode cX0_both 11 = .ok (.ifCond .eq 25, 3) := dk_153 0 25 (dk_at dksX0_both_0 11 rfl rfl)
theorem dX0_both_14 : decode cX0_both 14 = .ok (.aload_n 0, 1) := dk_42 (dk_at dksX0_both_0 14 rfl rfl)
theorem dX0_both_15 : decode cX0_both 15 = .ok (.invokevirtual 302, 3) := dk_182 1 46 (dk_at dksX0_both_0 15 rfl rfl)
theorem dX0_both_18 : decode cX0_both 18 = .ok (.new 316, 3) := dk_187 1 60 (dk_at dksX0_both_0 18 rfl rfl)
theorem dX0_both_21 : decode cX0_both 21 = .ok (.dup, 1) := dk_89 (dk_at dksX0_both_0 21 rfl rfl)
theorem dX0_both_22 : decode cX0_both 22 = .ok (.bipush 38, 2) := dk_16 38 (dk_at dksX0_both_0 22 rfl rfl)
theorem dX0_both_24 : decode cX0_both 24 = .ok (.aload_n 1, 1) := dk_43 (dk_at dksX0_both_1 0 rfl rfl)
theorem dX0_both_25 : decode cX0_both 25 = .ok (.aload_n 0, 1) := dk_42 (dk_at dksX0_both_1 1 rfl rfl)
theorem dX0_both_26 : decode cX0_both 26 = .ok (.invokevirtual 333, 3) := dk_182 1 77 (dk_at dksX0_both_1 2 rfl rfl)
theorem dX0_both_29 : decode cX0_both 29 = .ok (.invokespecial 318, 3) := dk_183 1 62 (dk_at dksX0_both_1 5 rfl rfl)
theorem dX0_both_32 : decode cX0_both 32 = .ok (.astore_n 1, 1) := dk_76 (dk_at dksX0_both_1 8 rfl rfl)
theorem dX0_both_33 : decode cX0_both 33 = .ok (.goto (-28), 3) := dk_167 255 228 (dk_at dksX0_both_1 9 rfl rfl)
theorem dX0_both_36 : decode cX0_both 36 = .ok (.aload_n 1, 1) := dk_43 (dk_at dksX0_both_1 12 rfl rfl)
theorem dX0_both_37 : decode cX0_both 37 = .ok (.areturn, 1) := dk_176 (dk_at dksX0_both_1 13 rfl rfl)
abbrev cX0_oneOf : ByteArray := prog_1_method_27_code
def yX0_oneOf : MethodName := ⟨RX0, "oneOf", "()LSilkClerks$Term;"⟩
def dkwX0_oneOf_5 : List UInt8 := [146, 61, 42, 182, 1, 46, 187, 1, 60, 89, 28, 43, 42, 182, 1, 92, 183, 1, 62, 176]
abbrev dktX0_oneOf_5 : List UInt8 := dkwX0_oneOf_5 ++ []
def dkwX0_oneOf_4 : List UInt8 := [154, 0, 12, 42, 16, 62, 182, 1, 38, 153, 0, 7, 4, 167, 0, 4, 3, 182, 1, 42, 42, 180, 1, 5]
abbrev dktX0_oneOf_4 : List UInt8 := dkwX0_oneOf_4 ++ dktX0_oneOf_5
def dkwX0_oneOf_3 : List UInt8 := [43, 176, 42, 182, 1, 92, 76, 42, 42, 16, 60, 182, 1, 38, 154, 0, 21, 42, 16, 61, 182, 1, 38]
abbrev dktX0_oneOf_3 : List UInt8 := dkwX0_oneOf_3 ++ dktX0_oneOf_4
def dkwX0_oneOf_2 : List UInt8 := [182, 1, 74, 42, 182, 1, 85, 76, 42, 16, 41, 182, 1, 88, 42, 89, 180, 1, 68, 4, 100, 181, 1, 68]
abbrev dktX0_oneOf_2 : List UInt8 := dkwX0_oneOf_2 ++ dktX0_oneOf_3
def dkwX0_oneOf_1 : List UInt8 := [100, 181, 1, 68, 187, 1, 80, 89, 43, 183, 1, 82, 176, 42, 16, 40, 182, 1, 38, 153, 0, 30, 42]
abbrev dktX0_oneOf_1 : List UInt8 := dkwX0_oneOf_1 ++ dktX0_oneOf_2
def dkwX0_oneOf_0 : List UInt8 := [42, 18, 110, 182, 1, 71, 153, 0, 31, 42, 182, 1, 74, 42, 182, 1, 77, 76, 42, 89, 180, 1, 68, 4]
abbrev dktX0_oneOf_0 : List UInt8 := dkwX0_oneOf_0 ++ dktX0_oneOf_1
theorem dksX0_oneOf_0 : cX0_oneOf.data.toList.drop 0 = dktX0_oneOf_0 := by decide +kernel
theorem dksX0_oneOf_1 : cX0_oneOf.data.toList.drop 24 = dktX0_oneOf_1 := dk_seg dksX0_oneOf_0 24 rfl rfl
theorem dksX0_oneOf_2 : cX0_oneOf.data.toList.drop 47 = dktX0_oneOf_2 := dk_seg dksX0_oneOf_1 23 rfl rfl
theorem dksX0_oneOf_3 : cX0_oneOf.data.toList.drop 71 = dktX0_oneOf_3 := dk_seg dksX0_oneOf_2 24 rfl rfl
theorem dksX0_oneOf_4 : cX0_oneOf.data.toList.drop 94 = dktX0_oneOf_4 := dk_seg dksX0_oneOf_3 23 rfl rfl
theorem dksX0_oneOf_5 : cX0_oneOf.data.toList.drop 118 = dktX0_oneOf_5 := dk_seg dksX0_oneOf_4 24 rfl rfl
theorem dX0_oneOf_0 : decode cX0_oneOf 0 = .ok (.aload_n 0, 1) := dk_42 (dk_at dksX0_oneOf_0 0 rfl rfl)
theorem dX0_oneOf_1 : decode cX0_oneOf 1 = .ok (.ldc 110, 2) := dk_18 110 (dk_at dksX0_oneOf_0 1 rfl rfl)
theorem dX0_oneOf_3 : decode cX0_oneOf 3 = .ok (.invokevirtual 327, 3) := dk_182 1 71 (dk_at dksX0_oneOf_0 3 rfl rfl)
theorem dX0_oneOf_6 : decode cX0_oneOf 6 = .ok (.ifCond .eq 31, 3) := dk_153 0 31 (dk_at dksX0_oneOf_0 6 rfl rfl)
theorem dX0_oneOf_9 : decode cX0_oneOf 9 = .ok (.aload_n 0, 1) := dk_42 (dk_at dksX0_oneOf_0 9 rfl rfl)
theorem dX0_oneOf_10 : decode cX0_oneOf 10 = .ok (.invokevirtual 330, 3) := dk_182 1 74 (dk_at dksX0_oneOf_0 10 rfl rfl)
theorem dX0_oneOf_13 : decode cX0_oneOf 13 = .ok (.aload_n 0, 1) := dk_42 (dk_at dksX0_oneOf_0 13 rfl rfl)
theorem dX0_oneOf_14 : decode cX0_oneOf 14 = .ok (.invokevirtual 333, 3) := dk_182 1 77 (dk_at dksX0_oneOf_0 14 rfl rfl)
theorem dX0_oneOf_17 : decode cX0_oneOf 17 = .ok (.astore_n 1, 1) := dk_76 (dk_at dksX0_oneOf_0 17 rfl rfl)
theorem dX0_oneOf_18 : decode cX0_oneOf 18 = .ok (.aload_n 0, 1) := dk_42 (dk_at dksX0_oneOf_0 18 rfl rfl)
theorem dX0_oneOf_19 : decode cX0_oneOf 19 = .ok (.dup, 1) := dk_89 (dk_at dksX0_oneOf_0 19 rfl rfl)
theorem dX0_oneOf_20 : decode cX0_oneOf 20 = .ok (.getfield 324, 3) := dk_180 1 68 (dk_at dksX0_oneOf_0 20 rfl rfl)
theorem dX0_oneOf_23 : decode cX0_oneOf 23 = .ok (.iconst 1, 1) := dk_4 (dk_at dksX0_oneOf_0 23 rfl rfl)
theorem dX0_oneOf_24 : decode cX0_oneOf 24 = .ok (.isub, 1) := dk_100 (dk_at dksX0_oneOf_1 0 rfl rfl)
theorem dX0_oneOf_25 : decode cX0_oneOf 25 = .ok (.putfield 324, 3) := dk_181 1 68 (dk_at dksX0_oneOf_1 1 rfl rfl)
theorem dX0_oneOf_28 : decode cX0_oneOf 28 = .ok (.new 336, 3) := dk_187 1 80 (dk_at dksX0_oneOf_1 4 rfl rfl)
theorem dX0_oneOf_31 : decode cX0_oneOf 31 = .ok (.dup, 1) := dk_89 (dk_at dksX0_oneOf_1 7 rfl rfl)
theorem dX0_oneOf_32 : decode cX0_oneOf 32 = .ok (.aload_n 1, 1) := dk_43 (dk_at dksX0_oneOf_1 8 rfl rfl)
theorem dX0_oneOf_33 : decode cX0_oneOf 33 = .ok (.invokespecial 338, 3) := dk_183 1 82 (dk_at dksX0_oneOf_1 9 rfl rfl)
theorem dX0_oneOf_36 : decode cX0_oneOf 36 = .ok (.areturn, 1) := dk_176 (dk_at dksX0_oneOf_1 12 rfl rfl)
theorem dX0_oneOf_37 : decode cX0_oneOf 37 = .ok (.aload_n 0, 1) := dk_42 (dk_at dksX0_oneOf_1 13 rfl rfl)
theorem dX0_oneOf_38 : decode cX0_oneOf 38 = .ok (.bipush 40, 2) := dk_16 40 (dk_at dksX0_oneOf_1 14 rfl rfl)
theorem dX0_oneOf_40 : decode cX0_oneOf 40 = .ok (.invokevirtual 294, 3) := dk_182 1 38 (dk_at dksX0_oneOf_1 16 rfl rfl)
theorem dX0_oneOf_43 : decode cX0_oneOf 43 = .ok (.ifCond .eq 30, 3) := dk_153 0 30 (dk_at dksX0_oneOf_1 19 rfl rfl)
theorem dX0_oneOf_46 : decode cX0_oneOf 46 = .ok (.aload_n 0, 1) := dk_42 (dk_at dksX0_oneOf_1 22 rfl rfl)
theorem dX0_oneOf_47 : decode cX0_oneOf 47 = .ok (.invokevirtual 330, 3) := dk_182 1 74 (dk_at dksX0_oneOf_2 0 rfl rfl)
theorem dX0_oneOf_50 : decode cX0_oneOf 50 = .ok (.aload_n 0, 1) := dk_42 (dk_at dksX0_oneOf_2 3 rfl rfl)
theorem dX0_oneOf_51 : decode cX0_oneOf 51 = .ok (.invokevirtual 341, 3) := dk_182 1 85 (dk_at dksX0_oneOf_2 4 rfl rfl)
theorem dX0_oneOf_54 : decode cX0_oneOf 54 = .ok (.astore_n 1, 1) := dk_76 (dk_at dksX0_oneOf_2 7 rfl rfl)
theorem dX0_oneOf_55 : decode cX0_oneOf 55 = .ok (.aload_n 0, 1) := dk_42 (dk_at dksX0_oneOf_2 8 rfl rfl)
theorem dX0_oneOf_56 : decode cX0_oneOf 56 = .ok (.bipush 41, 2) := dk_16 41 (dk_at dksX0_oneOf_2 9 rfl rfl)
theorem dX0_oneOf_58 : decode cX0_oneOf 58 = .ok (.invokevirtual 344, 3) := dk_182 1 88 (dk_at dksX0_oneOf_2 11 rfl rfl)
theorem dX0_oneOf_61 : decode cX0_oneOf 61 = .ok (.aload_n 0, 1) := dk_42 (dk_at dksX0_oneOf_2 14 rfl rfl)
theorem dX0_oneOf_62 : decode cX0_oneOf 62 = .ok (.dup, 1) := dk_89 (dk_at dksX0_oneOf_2 15 rfl rfl)
theorem dX0_oneOf_63 : decode cX0_oneOf 63 = .ok (.getfield 324, 3) := dk_180 1 68 (dk_at dksX0_oneOf_2 16 rfl rfl)
theorem dX0_oneOf_66 : decode cX0_oneOf 66 = .ok (.iconst 1, 1) := dk_4 (dk_at dksX0_oneOf_2 19 rfl rfl)
theorem dX0_oneOf_67 : decode cX0_oneOf 67 = .ok (.isub, 1) := dk_100 (dk_at dksX0_oneOf_2 20 rfl rfl)
theorem dX0_oneOf_68 : decode cX0_oneOf 68 = .ok (.putfield 324, 3) := dk_181 1 68 (dk_at dksX0_oneOf_2 21 rfl rfl)
theorem dX0_oneOf_71 : decode cX0_oneOf 71 = .ok (.aload_n 1, 1) := dk_43 (dk_at dksX0_oneOf_3 0 rfl rfl)
theorem dX0_oneOf_72 : decode cX0_oneOf 72 = .ok (.areturn, 1) := dk_176 (dk_at dksX0_oneOf_3 1 rfl rfl)
theorem dX0_oneOf_73 : decode cX0_oneOf 73 = .ok (.aload_n 0, 1) := dk_42 (dk_at dksX0_oneOf_3 2 rfl rfl)
theorem dX0_oneOf_74 : decode cX0_oneOf 74 = .ok (.invokevirtual 348, 3) := dk_182 1 92 (dk_at dksX0_oneOf_3 3 rfl rfl)
theorem dX0_oneOf_77 : decode cX0_oneOf 77 = .ok (.astore_n 1, 1) := dk_76 (dk_at dksX0_oneOf_3 6 rfl rfl)
theorem dX0_oneOf_78 : decode cX0_oneOf 78 = .ok (.aload_n 0, 1) := dk_42 (dk_at dksX0_oneOf_3 7 rfl rfl)
theorem dX0_oneOf_79 : decode cX0_oneOf 79 = .ok (.aload_n 0, 1) := dk_42 (dk_at dksX0_oneOf_3 8 rfl rfl)
theorem dX0_oneOf_80 : decode cX0_oneOf 80 = .ok (.bipush 60, 2) := dk_16 60 (dk_at dksX0_oneOf_3 9 rfl rfl)
theorem dX0_oneOf_82 : decode cX0_oneOf 82 = .ok (.invokevirtual 294, 3) := dk_182 1 38 (dk_at dksX0_oneOf_3 11 rfl rfl)
theorem dX0_oneOf_85 : decode cX0_oneOf 85 = .ok (.ifCond .ne 21, 3) := dk_154 0 21 (dk_at dksX0_oneOf_3 14 rfl rfl)
theorem dX0_oneOf_88 : decode cX0_oneOf 88 = .ok (.aload_n 0, 1) := dk_42 (dk_at dksX0_oneOf_3 17 rfl rfl)
theorem dX0_oneOf_89 : decode cX0_oneOf 89 = .ok (.bipush 61, 2) := dk_16 61 (dk_at dksX0_oneOf_3 18 rfl rfl)
theorem dX0_oneOf_91 : decode cX0_oneOf 91 = .ok (.invokevirtual 294, 3) := dk_182 1 38 (dk_at dksX0_oneOf_3 20 rfl rfl)
theorem dX0_oneOf_94 : decode cX0_oneOf 94 = .ok (.ifCond .ne 12, 3) := dk_154 0 12 (dk_at dksX0_oneOf_4 0 rfl rfl)
theorem dX0_oneOf_97 : decode cX0_oneOf 97 = .ok (.aload_n 0, 1) := dk_42 (dk_at dksX0_oneOf_4 3 rfl rfl)
theorem dX0_oneOf_98 : decode cX0_oneOf 98 = .ok (.bipush 62, 2) := dk_16 62 (dk_at dksX0_oneOf_4 4 rfl rfl)
theorem dX0_oneOf_100 : decode cX0_oneOf 100 = .ok (.invokevirtual 294, 3) := dk_182 1 38 (dk_at dksX0_oneOf_4 6 rfl rfl)
theorem dX0_oneOf_103 : decode cX0_oneOf 103 = .ok (.ifCond .eq 7, 3) := dk_153 0 7 (dk_at dksX0_oneOf_4 9 rfl rfl)
theorem dX0_oneOf_106 : decode cX0_oneOf 106 = .ok (.iconst 1, 1) := dk_4 (dk_at dksX0_oneOf_4 12 rfl rfl)
theorem dX0_oneOf_107 : decode cX0_oneOf 107 = .ok (.goto 4, 3) := dk_167 0 4 (dk_at dksX0_oneOf_4 13 rfl rfl)
theorem dX0_oneOf_110 : decode cX0_oneOf 110 = .ok (.iconst 0, 1) := dk_3 (dk_at dksX0_oneOf_4 16 rfl rfl)
theorem dX0_oneOf_111 : decode cX0_oneOf 111 = .ok (.invokevirtual 298, 3) := dk_182 1 42 (dk_at dksX0_oneOf_4 17 rfl rfl)
theorem dX0_oneOf_114 : decode cX0_oneOf 114 = .ok (.aload_n 0, 1) := dk_42 (dk_at dksX0_oneOf_4 20 rfl rfl)
theorem dX0_oneOf_115 : decode cX0_oneOf 115 = .ok (.getfield 261, 3) := dk_180 1 5 (dk_at dksX0_oneOf_4 21 rfl rfl)
theorem dX0_oneOf_118 : decode cX0_oneOf 118 = .ok (.i2c, 1) := dk_146 (dk_at dksX0_oneOf_5 0 rfl rfl)
theorem dX0_oneOf_119 : decode cX0_oneOf 119 = .ok (.istore_n 2, 1) := dk_61 (dk_at dksX0_oneOf_5 1 rfl rfl)
theorem dX0_oneOf_120 : decode cX0_oneOf 120 = .ok (.aload_n 0, 1) := dk_42 (dk_at dksX0_oneOf_5 2 rfl rfl)
theorem dX0_oneOf_121 : decode cX0_oneOf 121 = .ok (.invokevirtual 302, 3) := dk_182 1 46 (dk_at dksX0_oneOf_5 3 rfl rfl)
theorem dX0_oneOf_124 : decode cX0_oneOf 124 = .ok (.new 316, 3) := dk_187 1 60 (dk_at dksX0_oneOf_5 6 rfl rfl)
theorem dX0_oneOf_127 : decode cX0_oneOf 127 = .ok (.dup, 1) := dk_89 (dk_at dksX0_oneOf_5 9 rfl rfl)
theorem dX0_oneOf_128 : decode cX0_oneOf 128 = .ok (.iload_n 2, 1) := dk_28 (dk_at dksX0_oneOf_5 10 rfl rfl)
theorem dX0_oneOf_129 : decode cX0_oneOf 129 = .ok (.aload_n 1, 1) := dk_43 (dk_at dksX0_oneOf_5 11 rfl rfl)
theorem dX0_oneOf_130 : decode cX0_oneOf 130 = .ok (.aload_n 0, 1) := dk_42 (dk_at dksX0_oneOf_5 12 rfl rfl)
theorem dX0_oneOf_131 : decode cX0_oneOf 131 = .ok (.invokevirtual 348, 3) := dk_182 1 92 (dk_at dksX0_oneOf_5 13 rfl rfl)
theorem dX0_oneOf_134 : decode cX0_oneOf 134 = .ok (.invokespecial 318, 3) := dk_183 1 62 (dk_at dksX0_oneOf_5 16 rfl rfl)
theorem dX0_oneOf_137 : decode cX0_oneOf 137 = .ok (.areturn, 1) := dk_176 (dk_at dksX0_oneOf_5 19 rfl rfl)
abbrev cX0_opens : ByteArray := prog_1_method_26_code
def yX0_opens : MethodName := ⟨RX0, "opens", "()V"⟩
def dkwX0_opens_1 : List UInt8 := [180, 1, 68, 4, 96, 181, 1, 68, 42, 182, 1, 46, 177]
abbrev dktX0_opens_1 : List UInt8 := dkwX0_opens_1 ++ []
def dkwX0_opens_0 : List UInt8 := [42, 180, 1, 68, 16, 8, 160, 0, 16, 187, 1, 33, 89, 6, 42, 180, 0, 235, 183, 1, 35, 191, 42, 89]
abbrev dktX0_opens_0 : List UInt8 := dkwX0_opens_0 ++ dktX0_opens_1
theorem dksX0_opens_0 : cX0_opens.data.toList.drop 0 = dktX0_opens_0 := by decide +kernel
theorem dksX0_opens_1 : cX0_opens.data.toList.drop 24 = dktX0_opens_1 := dk_seg dksX0_opens_0 24 rfl rfl
theorem dX0_opens_0 : decode cX0_opens 0 = .ok (.aload_n 0, 1) := dk_42 (dk_at dksX0_opens_0 0 rfl rfl)
theorem dX0_opens_1 : decode cX0_opens 1 = .ok (.getfield 324, 3) := dk_180 1 68 (dk_at dksX0_opens_0 1 rfl rfl)
theorem dX0_opens_4 : decode cX0_opens 4 = .ok (.bipush 8, 2) := dk_16 8 (dk_at dksX0_opens_0 4 rfl rfl)
theorem dX0_opens_6 : decode cX0_opens 6 = .ok (.if_icmp .ne 16, 3) := dk_160 0 16 (dk_at dksX0_opens_0 6 rfl rfl)
theorem dX0_opens_9 : decode cX0_opens 9 = .ok (.new 289, 3) := dk_187 1 33 (dk_at dksX0_opens_0 9 rfl rfl)
theorem dX0_opens_12 : decode cX0_opens 12 = .ok (.dup, 1) := dk_89 (dk_at dksX0_opens_0 12 rfl rfl)
theorem dX0_opens_13 : decode cX0_opens 13 = .ok (.iconst 3, 1) := dk_6 (dk_at dksX0_opens_0 13 rfl rfl)
theorem dX0_opens_14 : decode cX0_opens 14 = .ok (.aload_n 0, 1) := dk_42 (dk_at dksX0_opens_0 14 rfl rfl)
theorem dX0_opens_15 : decode cX0_opens 15 = .ok (.getfield 235, 3) := dk_180 0 235 (dk_at dksX0_opens_0 15 rfl rfl)
theorem dX0_opens_18 : decode cX0_opens 18 = .ok (.invokespecial 291, 3) := dk_183 1 35 (dk_at dksX0_opens_0 18 rfl rfl)
theorem dX0_opens_21 : decode cX0_opens 21 = .ok (.athrow, 1) := dk_191 (dk_at dksX0_opens_0 21 rfl rfl)
theorem dX0_opens_22 : decode cX0_opens 22 = .ok (.aload_n 0, 1) := dk_42 (dk_at dksX0_opens_0 22 rfl rfl)
theorem dX0_opens_23 : decode cX0_opens 23 = .ok (.dup, 1) := dk_89 (dk_at dksX0_opens_0 23 rfl rfl)
theorem dX0_opens_24 : decode cX0_opens 24 = .ok (.getfield 324, 3) := dk_180 1 68 (dk_at dksX0_opens_1 0 rfl rfl)
theorem dX0_opens_27 : decode cX0_opens 27 = .ok (.iconst 1, 1) := dk_4 (dk_at dksX0_opens_1 3 rfl rfl)
theorem dX0_opens_28 : decode cX0_opens 28 = .ok (.iadd, 1) := dk_96 (dk_at dksX0_opens_1 4 rfl rfl)
theorem dX0_opens_29 : decode cX0_opens 29 = .ok (.putfield 324, 3) := dk_181 1 68 (dk_at dksX0_opens_1 5 rfl rfl)
theorem dX0_opens_32 : decode cX0_opens 32 = .ok (.aload_n 0, 1) := dk_42 (dk_at dksX0_opens_1 8 rfl rfl)
theorem dX0_opens_33 : decode cX0_opens 33 = .ok (.invokevirtual 302, 3) := dk_182 1 46 (dk_at dksX0_opens_1 9 rfl rfl)
theorem dX0_opens_36 : decode cX0_opens 36 = .ok (.return_, 1) := dk_177 (dk_at dksX0_opens_1 12 rfl rfl)
abbrev cX0_readsQueries : ByteArray := prog_1_method_40_code
def yX0_readsQueries : MethodName := ⟨RX0, "readsQueries", "()[I"⟩
def dkwX0_readsQueries_2 : List UInt8 := [167, 255, 213, 43, 176]
abbrev dktX0_readsQueries_2 : List UInt8 := dkwX0_readsQueries_2 ++ []
def dkwX0_readsQueries_1 : List UInt8 := [42, 43, 190, 16, 16, 182, 1, 101, 43, 42, 182, 1, 146, 184, 1, 128, 76, 42, 16, 59, 182, 1, 88]
abbrev dktX0_readsQueries_1 : List UInt8 := dkwX0_readsQueries_1 ++ dktX0_readsQueries_2
def dkwX0_readsQueries_0 : List UInt8 := [3, 188, 10, 76, 42, 180, 0, 245, 178, 1, 8, 165, 0, 39, 42, 42, 18, 73, 182, 1, 71, 182, 1, 42]
abbrev dktX0_readsQueries_0 : List UInt8 := dkwX0_readsQueries_0 ++ dktX0_readsQueries_1
theorem dksX0_readsQueries_0 : cX0_readsQueries.data.toList.drop 0 = dktX0_readsQueries_0 := by decide +kernel
theorem dksX0_readsQueries_1 : cX0_readsQueries.data.toList.drop 24 = dktX0_readsQueries_1 := dk_seg dksX0_readsQueries_0 24 rfl rfl
theorem dksX0_readsQueries_2 : cX0_readsQueries.data.toList.drop 47 = dktX0_readsQueries_2 := dk_seg dksX0_readsQueries_1 23 rfl rfl
theorem dX0_readsQueries_0 : decode cX0_readsQueries 0 = .ok (.iconst 0, 1) := dk_3 (dk_at dksX0_readsQueries_0 0 rfl rfl)
theorem dX0_readsQueries_1 : decode cX0_readsQueries 1 = .ok (.newarray .int, 2) := dk_188_10 (dk_at dksX0_readsQueries_0 1 rfl rfl)
theorem dX0_readsQueries_3 : decode cX0_readsQueries 3 = .ok (.astore_n 1, 1) := dk_76 (dk_at dksX0_readsQueries_0 3 rfl rfl)
theorem dX0_readsQueries_4 : decode cX0_readsQueries 4 = .ok (.aload_n 0, 1) := dk_42 (dk_at dksX0_readsQueries_0 4 rfl rfl)
theorem dX0_readsQueries_5 : decode cX0_readsQueries 5 = .ok (.getfield 245, 3) := dk_180 0 245 (dk_at dksX0_readsQueries_0 5 rfl rfl)
theorem dX0_readsQueries_8 : decode cX0_readsQueries 8 = .ok (.getstatic 264, 3) := dk_178 1 8 (dk_at dksX0_readsQueries_0 8 rfl rfl)
theorem dX0_readsQueries_11 : decode cX0_readsQueries 11 = .ok (.if_acmp .eq 39, 3) := dk_165 0 39 (dk_at dksX0_readsQueries_0 11 rfl rfl)
theorem dX0_readsQueries_14 : decode cX0_readsQueries 14 = .ok (.aload_n 0, 1) := dk_42 (dk_at dksX0_readsQueries_0 14 rfl rfl)
theorem dX0_readsQueries_15 : decode cX0_readsQueries 15 = .ok (.aload_n 0, 1) := dk_42 (dk_at dksX0_readsQueries_0 15 rfl rfl)
theorem dX0_readsQueries_16 : decode cX0_readsQueries 16 = .ok (.ldc 73, 2) := dk_18 73 (dk_at dksX0_readsQueries_0 16 rfl rfl)
theorem dX0_readsQueries_18 : decode cX0_readsQueries 18 = .ok (.invokevirtual 327, 3) := dk_182 1 71 (dk_at dksX0_readsQueries_0 18 rfl rfl)
theorem dX0_readsQueries_21 : decode cX0_readsQueries 21 = .ok (.invokevirtual 298, 3) := dk_182 1 42 (dk_at dksX0_readsQueries_0 21 rfl rfl)
theorem dX0_readsQueries_24 : decode cX0_readsQueries 24 = .ok (.aload_n 0, 1) := dk_42 (dk_at dksX0_readsQueries_1 0 rfl rfl)
theorem dX0_readsQueries_25 : decode cX0_readsQueries 25 = .ok (.aload_n 1, 1) := dk_43 (dk_at dksX0_readsQueries_1 1 rfl rfl)
theorem dX0_readsQueries_26 : decode cX0_readsQueries 26 = .ok (.arraylength, 1) := dk_190 (dk_at dksX0_readsQueries_1 2 rfl rfl)
theorem dX0_readsQueries_27 : decode cX0_readsQueries 27 = .ok (.bipush 16, 2) := dk_16 16 (dk_at dksX0_readsQueries_1 3 rfl rfl)
theorem dX0_readsQueries_29 : decode cX0_readsQueries 29 = .ok (.invokevirtual 357, 3) := dk_182 1 101 (dk_at dksX0_readsQueries_1 5 rfl rfl)
theorem dX0_readsQueries_32 : decode cX0_readsQueries 32 = .ok (.aload_n 1, 1) := dk_43 (dk_at dksX0_readsQueries_1 8 rfl rfl)
theorem dX0_readsQueries_33 : decode cX0_readsQueries 33 = .ok (.aload_n 0, 1) := dk_42 (dk_at dksX0_readsQueries_1 9 rfl rfl)
theorem dX0_readsQueries_34 : decode cX0_readsQueries 34 = .ok (.invokevirtual 402, 3) := dk_182 1 146 (dk_at dksX0_readsQueries_1 10 rfl rfl)
theorem dX0_readsQueries_37 : decode cX0_readsQueries 37 = .ok (.invokestatic 384, 3) := dk_184 1 128 (dk_at dksX0_readsQueries_1 13 rfl rfl)
theorem dX0_readsQueries_40 : decode cX0_readsQueries 40 = .ok (.astore_n 1, 1) := dk_76 (dk_at dksX0_readsQueries_1 16 rfl rfl)
theorem dX0_readsQueries_41 : decode cX0_readsQueries 41 = .ok (.aload_n 0, 1) := dk_42 (dk_at dksX0_readsQueries_1 17 rfl rfl)
theorem dX0_readsQueries_42 : decode cX0_readsQueries 42 = .ok (.bipush 59, 2) := dk_16 59 (dk_at dksX0_readsQueries_1 18 rfl rfl)
theorem dX0_readsQueries_44 : decode cX0_readsQueries 44 = .ok (.invokevirtual 344, 3) := dk_182 1 88 (dk_at dksX0_readsQueries_1 20 rfl rfl)
theorem dX0_readsQueries_47 : decode cX0_readsQueries 47 = .ok (.goto (-43), 3) := dk_167 255 213 (dk_at dksX0_readsQueries_2 0 rfl rfl)
theorem dX0_readsQueries_50 : decode cX0_readsQueries 50 = .ok (.aload_n 1, 1) := dk_43 (dk_at dksX0_readsQueries_2 3 rfl rfl)
theorem dX0_readsQueries_51 : decode cX0_readsQueries 51 = .ok (.areturn, 1) := dk_176 (dk_at dksX0_readsQueries_2 4 rfl rfl)
abbrev cX0_query : ByteArray := prog_1_method_39_code
def yX0_query : MethodName := ⟨RX0, "query", "()I"⟩
def dkwX0_query_2 : List UInt8 := [18, 77, 3, 42, 180, 0, 144, 190, 4, 100, 182, 1, 124, 120, 128, 60, 167, 255, 228, 27, 172]
abbrev dktX0_query_2 : List UInt8 := dkwX0_query_2 ++ []
def dkwX0_query_1 : List UInt8 := [180, 0, 144, 190, 4, 100, 182, 1, 124, 120, 128, 60, 42, 18, 77, 182, 1, 71, 153, 0, 25, 27, 4, 42]
abbrev dktX0_query_1 : List UInt8 := dkwX0_query_1 ++ dktX0_query_2
def dkwX0_query_0 : List UInt8 := [4, 42, 18, 73, 3, 42, 180, 0, 144, 190, 4, 100, 182, 1, 124, 120, 60, 27, 4, 42, 18, 75, 3, 42]
abbrev dktX0_query_0 : List UInt8 := dkwX0_query_0 ++ dktX0_query_1
theorem dksX0_query_0 : cX0_query.data.toList.drop 0 = dktX0_query_0 := by decide +kernel
theorem dksX0_query_1 : cX0_query.data.toList.drop 24 = dktX0_query_1 := dk_seg dksX0_query_0 24 rfl rfl
theorem dksX0_query_2 : cX0_query.data.toList.drop 48 = dktX0_query_2 := dk_seg dksX0_query_1 24 rfl rfl
theorem dX0_query_0 : decode cX0_query 0 = .ok (.iconst 1, 1) := dk_4 (dk_at dksX0_query_0 0 rfl rfl)
theorem dX0_query_1 : decode cX0_query 1 = .ok (.aload_n 0, 1) := dk_42 (dk_at dksX0_query_0 1 rfl rfl)
theorem dX0_query_2 : decode cX0_query 2 = .ok (.ldc 73, 2) := dk_18 73 (dk_at dksX0_query_0 2 rfl rfl)
theorem dX0_query_4 : decode cX0_query 4 = .ok (.iconst 0, 1) := dk_3 (dk_at dksX0_query_0 4 rfl rfl)
theorem dX0_query_5 : decode cX0_query 5 = .ok (.aload_n 0, 1) := dk_42 (dk_at dksX0_query_0 5 rfl rfl)
theorem dX0_query_6 : decode cX0_query 6 = .ok (.getfield 144, 3) := dk_180 0 144 (dk_at dksX0_query_0 6 rfl rfl)
theorem dX0_query_9 : decode cX0_query 9 = .ok (.arraylength, 1) := dk_190 (dk_at dksX0_query_0 9 rfl rfl)
theorem dX0_query_10 : decode cX0_query 10 = .ok (.iconst 1, 1) := dk_4 (dk_at dksX0_query_0 10 rfl rfl)
theorem dX0_query_11 : decode cX0_query 11 = .ok (.isub, 1) := dk_100 (dk_at dksX0_query_0 11 rfl rfl)
theorem dX0_query_12 : decode cX0_query 12 = .ok (.invokevirtual 380, 3) := dk_182 1 124 (dk_at dksX0_query_0 12 rfl rfl)
theorem dX0_query_15 : decode cX0_query 15 = .ok (.ishl, 1) := dk_120 (dk_at dksX0_query_0 15 rfl rfl)
theorem dX0_query_16 : decode cX0_query 16 = .ok (.istore_n 1, 1) := dk_60 (dk_at dksX0_query_0 16 rfl rfl)
theorem dX0_query_17 : decode cX0_query 17 = .ok (.iload_n 1, 1) := dk_27 (dk_at dksX0_query_0 17 rfl rfl)
theorem dX0_query_18 : decode cX0_query 18 = .ok (.iconst 1, 1) := dk_4 (dk_at dksX0_query_0 18 rfl rfl)
theorem dX0_query_19 : decode cX0_query 19 = .ok (.aload_n 0, 1) := dk_42 (dk_at dksX0_query_0 19 rfl rfl)
theorem dX0_query_20 : decode cX0_query 20 = .ok (.ldc 75, 2) := dk_18 75 (dk_at dksX0_query_0 20 rfl rfl)
theorem dX0_query_22 : decode cX0_query 22 = .ok (.iconst 0, 1) := dk_3 (dk_at dksX0_query_0 22 rfl rfl)
theorem dX0_query_23 : decode cX0_query 23 = .ok (.aload_n 0, 1) := dk_42 (dk_at dksX0_query_0 23 rfl rfl)
theorem dX0_query_24 : decode cX0_query 24 = .ok (.getfield 144, 3) := dk_180 0 144 (dk_at dksX0_query_1 0 rfl rfl)
theorem dX0_query_27 : decode cX0_query 27 = .ok (.arraylength, 1) := dk_190 (dk_at dksX0_query_1 3 rfl rfl)
theorem dX0_query_28 : decode cX0_query 28 = .ok (.iconst 1, 1) := dk_4 (dk_at dksX0_query_1 4 rfl rfl)
theorem dX0_query_29 : decode cX0_query 29 = .ok (.isub, 1) := dk_100 (dk_at dksX0_query_1 5 rfl rfl)
theorem dX0_query_30 : decode cX0_query 30 = .ok (.invokevirtual 380, 3) := dk_182 1 124 (dk_at dksX0_query_1 6 rfl rfl)
theorem dX0_query_33 : decode cX0_query 33 = .ok (.ishl, 1) := dk_120 (dk_at dksX0_query_1 9 rfl rfl)
theorem dX0_query_34 : decode cX0_query 34 = .ok (.ior, 1) := dk_128 (dk_at dksX0_query_1 10 rfl rfl)
theorem dX0_query_35 : decode cX0_query 35 = .ok (.istore_n 1, 1) := dk_60 (dk_at dksX0_query_1 11 rfl rfl)
theorem dX0_query_36 : decode cX0_query 36 = .ok (.aload_n 0, 1) := dk_42 (dk_at dksX0_query_1 12 rfl rfl)
theorem dX0_query_37 : decode cX0_query 37 = .ok (.ldc 77, 2) := dk_18 77 (dk_at dksX0_query_1 13 rfl rfl)
theorem dX0_query_39 : decode cX0_query 39 = .ok (.invokevirtual 327, 3) := dk_182 1 71 (dk_at dksX0_query_1 15 rfl rfl)
theorem dX0_query_42 : decode cX0_query 42 = .ok (.ifCond .eq 25, 3) := dk_153 0 25 (dk_at dksX0_query_1 18 rfl rfl)
theorem dX0_query_45 : decode cX0_query 45 = .ok (.iload_n 1, 1) := dk_27 (dk_at dksX0_query_1 21 rfl rfl)
theorem dX0_query_46 : decode cX0_query 46 = .ok (.iconst 1, 1) := dk_4 (dk_at dksX0_query_1 22 rfl rfl)
theorem dX0_query_47 : decode cX0_query 47 = .ok (.aload_n 0, 1) := dk_42 (dk_at dksX0_query_1 23 rfl rfl)
theorem dX0_query_48 : decode cX0_query 48 = .ok (.ldc 77, 2) := dk_18 77 (dk_at dksX0_query_2 0 rfl rfl)
theorem dX0_query_50 : decode cX0_query 50 = .ok (.iconst 0, 1) := dk_3 (dk_at dksX0_query_2 2 rfl rfl)
theorem dX0_query_51 : decode cX0_query 51 = .ok (.aload_n 0, 1) := dk_42 (dk_at dksX0_query_2 3 rfl rfl)
theorem dX0_query_52 : decode cX0_query 52 = .ok (.getfield 144, 3) := dk_180 0 144 (dk_at dksX0_query_2 4 rfl rfl)
theorem dX0_query_55 : decode cX0_query 55 = .ok (.arraylength, 1) := dk_190 (dk_at dksX0_query_2 7 rfl rfl)
theorem dX0_query_56 : decode cX0_query 56 = .ok (.iconst 1, 1) := dk_4 (dk_at dksX0_query_2 8 rfl rfl)
theorem dX0_query_57 : decode cX0_query 57 = .ok (.isub, 1) := dk_100 (dk_at dksX0_query_2 9 rfl rfl)
theorem dX0_query_58 : decode cX0_query 58 = .ok (.invokevirtual 380, 3) := dk_182 1 124 (dk_at dksX0_query_2 10 rfl rfl)
theorem dX0_query_61 : decode cX0_query 61 = .ok (.ishl, 1) := dk_120 (dk_at dksX0_query_2 13 rfl rfl)
theorem dX0_query_62 : decode cX0_query 62 = .ok (.ior, 1) := dk_128 (dk_at dksX0_query_2 14 rfl rfl)
theorem dX0_query_63 : decode cX0_query 63 = .ok (.istore_n 1, 1) := dk_60 (dk_at dksX0_query_2 15 rfl rfl)
theorem dX0_query_64 : decode cX0_query 64 = .ok (.goto (-28), 3) := dk_167 255 228 (dk_at dksX0_query_2 16 rfl rfl)
theorem dX0_query_67 : decode cX0_query 67 = .ok (.iload_n 1, 1) := dk_27 (dk_at dksX0_query_2 19 rfl rfl)
theorem dX0_query_68 : decode cX0_query 68 = .ok (.ireturn, 1) := dk_172 (dk_at dksX0_query_2 20 rfl rfl)
abbrev cX0_readsMulberry : ByteArray := prog_1_method_38_code
def yX0_readsMulberry : MethodName := ⟨RX0, "readsMulberry", "()[LSilkClerks$Meal;"⟩
def dkwX0_readsMulberry_3 : List UInt8 := [45, 21, 4, 43, 21, 4, 50, 83, 132, 4, 1, 167, 255, 238, 45, 176]
abbrev dktX0_readsMulberry_3 : List UInt8 := dkwX0_readsMulberry_3 ++ []
def dkwX0_readsMulberry_2 : List UInt8 := [182, 1, 88, 132, 2, 1, 167, 255, 213, 28, 189, 0, 148, 78, 3, 54, 4, 21, 4, 45, 190, 162, 0, 17]
abbrev dktX0_readsMulberry_2 : List UInt8 := dkwX0_readsMulberry_2 ++ dktX0_readsMulberry_3
def dkwX0_readsMulberry_1 : List UInt8 := [182, 1, 71, 182, 1, 42, 42, 28, 16, 16, 182, 1, 101, 43, 28, 42, 182, 1, 142, 83, 42, 16, 59]
abbrev dktX0_readsMulberry_1 : List UInt8 := dkwX0_readsMulberry_1 ++ dktX0_readsMulberry_2
def dkwX0_readsMulberry_0 : List UInt8 := [16, 16, 189, 0, 148, 76, 3, 61, 42, 180, 0, 245, 178, 1, 8, 165, 0, 39, 42, 42, 18, 67]
abbrev dktX0_readsMulberry_0 : List UInt8 := dkwX0_readsMulberry_0 ++ dktX0_readsMulberry_1
theorem dksX0_readsMulberry_0 : cX0_readsMulberry.data.toList.drop 0 = dktX0_readsMulberry_0 := by decide +kernel
theorem dksX0_readsMulberry_1 : cX0_readsMulberry.data.toList.drop 22 = dktX0_readsMulberry_1 := dk_seg dksX0_readsMulberry_0 22 rfl rfl
theorem dksX0_readsMulberry_2 : cX0_readsMulberry.data.toList.drop 45 = dktX0_readsMulberry_2 := dk_seg dksX0_readsMulberry_1 23 rfl rfl
theorem dksX0_readsMulberry_3 : cX0_readsMulberry.data.toList.drop 69 = dktX0_readsMulberry_3 := dk_seg dksX0_readsMulberry_2 24 rfl rfl
theorem dX0_readsMulberry_0 : decode cX0_readsMulberry 0 = .ok (.bipush 16, 2) := dk_16 16 (dk_at dksX0_readsMulberry_0 0 rfl rfl)
theorem dX0_readsMulberry_2 : decode cX0_readsMulberry 2 = .ok (.anewarray 148, 3) := dk_189 0 148 (dk_at dksX0_readsMulberry_0 2 rfl rfl)
theorem dX0_readsMulberry_5 : decode cX0_readsMulberry 5 = .ok (.astore_n 1, 1) := dk_76 (dk_at dksX0_readsMulberry_0 5 rfl rfl)
theorem dX0_readsMulberry_6 : decode cX0_readsMulberry 6 = .ok (.iconst 0, 1) := dk_3 (dk_at dksX0_readsMulberry_0 6 rfl rfl)
theorem dX0_readsMulberry_7 : decode cX0_readsMulberry 7 = .ok (.istore_n 2, 1) := dk_61 (dk_at dksX0_readsMulberry_0 7 rfl rfl)
theorem dX0_readsMulberry_8 : decode cX0_readsMulberry 8 = .ok (.aload_n 0, 1) := dk_42 (dk_at dksX0_readsMulberry_0 8 rfl rfl)
theorem dX0_readsMulberry_9 : decode cX0_readsMulberry 9 = .ok (.getfield 245, 3) := dk_180 0 245 (dk_at dksX0_readsMulberry_0 9 rfl rfl)
theorem dX0_readsMulberry_12 : decode cX0_readsMulberry 12 = .ok (.getstatic 264, 3) := dk_178 1 8 (dk_at dksX0_readsMulberry_0 12 rfl rfl)
theorem dX0_readsMulberry_15 : decode cX0_readsMulberry 15 = .ok (.if_acmp .eq 39, 3) := dk_165 0 39 (dk_at dksX0_readsMulberry_0 15 rfl rfl)
theorem dX0_readsMulberry_18 : decode cX0_readsMulberry 18 = .ok (.aload_n 0, 1) := dk_42 (dk_at dksX0_readsMulberry_0 18 rfl rfl)
theorem dX0_readsMulberry_19 : decode cX0_readsMulberry 19 = .ok (.aload_n 0, 1) := dk_42 (dk_at dksX0_readsMulberry_0 19 rfl rfl)
theorem dX0_readsMulberry_20 : decode cX0_readsMulberry 20 = .ok (.ldc 67, 2) := dk_18 67 (dk_at dksX0_readsMulberry_0 20 rfl rfl)
theorem dX0_readsMulberry_22 : decode cX0_readsMulberry 22 = .ok (.invokevirtual 327, 3) := dk_182 1 71 (dk_at dksX0_readsMulberry_1 0 rfl rfl)
theorem dX0_readsMulberry_25 : decode cX0_readsMulberry 25 = .ok (.invokevirtual 298, 3) := dk_182 1 42 (dk_at dksX0_readsMulberry_1 3 rfl rfl)
theorem dX0_readsMulberry_28 : decode cX0_readsMulberry 28 = .ok (.aload_n 0, 1) := dk_42 (dk_at dksX0_readsMulberry_1 6 rfl rfl)
theorem dX0_readsMulberry_29 : decode cX0_readsMulberry 29 = .ok (.iload_n 2, 1) := dk_28 (dk_at dksX0_readsMulberry_1 7 rfl rfl)
theorem dX0_readsMulberry_30 : decode cX0_readsMulberry 30 = .ok (.bipush 16, 2) := dk_16 16 (dk_at dksX0_readsMulberry_1 8 rfl rfl)
theorem dX0_readsMulberry_32 : decode cX0_readsMulberry 32 = .ok (.invokevirtual 357, 3) := dk_182 1 101 (dk_at dksX0_readsMulberry_1 10 rfl rfl)
theorem dX0_readsMulberry_35 : decode cX0_readsMulberry 35 = .ok (.aload_n 1, 1) := dk_43 (dk_at dksX0_readsMulberry_1 13 rfl rfl)
theorem dX0_readsMulberry_36 : decode cX0_readsMulberry 36 = .ok (.iload_n 2, 1) := dk_28 (dk_at dksX0_readsMulberry_1 14 rfl rfl)
theorem dX0_readsMulberry_37 : decode cX0_readsMulberry 37 = .ok (.aload_n 0, 1) := dk_42 (dk_at dksX0_readsMulberry_1 15 rfl rfl)
theorem dX0_readsMulberry_38 : decode cX0_readsMulberry 38 = .ok (.invokevirtual 398, 3) := dk_182 1 142 (dk_at dksX0_readsMulberry_1 16 rfl rfl)
theorem dX0_readsMulberry_41 : decode cX0_readsMulberry 41 = .ok (.aastore, 1) := dk_83 (dk_at dksX0_readsMulberry_1 19 rfl rfl)
theorem dX0_readsMulberry_42 : decode cX0_readsMulberry 42 = .ok (.aload_n 0, 1) := dk_42 (dk_at dksX0_readsMulberry_1 20 rfl rfl)
theorem dX0_readsMulberry_43 : decode cX0_readsMulberry 43 = .ok (.bipush 59, 2) := dk_16 59 (dk_at dksX0_readsMulberry_1 21 rfl rfl)
theorem dX0_readsMulberry_45 : decode cX0_readsMulberry 45 = .ok (.invokevirtual 344, 3) := dk_182 1 88 (dk_at dksX0_readsMulberry_2 0 rfl rfl)
theorem dX0_readsMulberry_48 : decode cX0_readsMulberry 48 = .ok (.iinc 2 1, 3) := dk_132 2 1 (dk_at dksX0_readsMulberry_2 3 rfl rfl)
theorem dX0_readsMulberry_51 : decode cX0_readsMulberry 51 = .ok (.goto (-43), 3) := dk_167 255 213 (dk_at dksX0_readsMulberry_2 6 rfl rfl)
theorem dX0_readsMulberry_54 : decode cX0_readsMulberry 54 = .ok (.iload_n 2, 1) := dk_28 (dk_at dksX0_readsMulberry_2 9 rfl rfl)
theorem dX0_readsMulberry_55 : decode cX0_readsMulberry 55 = .ok (.anewarray 148, 3) := dk_189 0 148 (dk_at dksX0_readsMulberry_2 10 rfl rfl)
theorem dX0_readsMulberry_58 : decode cX0_readsMulberry 58 = .ok (.astore_n 3, 1) := dk_78 (dk_at dksX0_readsMulberry_2 13 rfl rfl)
theorem dX0_readsMulberry_59 : decode cX0_readsMulberry 59 = .ok (.iconst 0, 1) := dk_3 (dk_at dksX0_readsMulberry_2 14 rfl rfl)
theorem dX0_readsMulberry_60 : decode cX0_readsMulberry 60 = .ok (.istore 4, 2) := dk_54 4 (dk_at dksX0_readsMulberry_2 15 rfl rfl)
theorem dX0_readsMulberry_62 : decode cX0_readsMulberry 62 = .ok (.iload 4, 2) := dk_21 4 (dk_at dksX0_readsMulberry_2 17 rfl rfl)
theorem dX0_readsMulberry_64 : decode cX0_readsMulberry 64 = .ok (.aload_n 3, 1) := dk_45 (dk_at dksX0_readsMulberry_2 19 rfl rfl)
theorem dX0_readsMulberry_65 : decode cX0_readsMulberry 65 = .ok (.arraylength, 1) := dk_190 (dk_at dksX0_readsMulberry_2 20 rfl rfl)
theorem dX0_readsMulberry_66 : decode cX0_readsMulberry 66 = .ok (.if_icmp .ge 17, 3) := dk_162 0 17 (dk_at dksX0_readsMulberry_2 21 rfl rfl)
theorem dX0_readsMulberry_69 : decode cX0_readsMulberry 69 = .ok (.aload_n 3, 1) := dk_45 (dk_at dksX0_readsMulberry_3 0 rfl rfl)
theorem dX0_readsMulberry_70 : decode cX0_readsMulberry 70 = .ok (.iload 4, 2) := dk_21 4 (dk_at dksX0_readsMulberry_3 1 rfl rfl)
theorem dX0_readsMulberry_72 : decode cX0_readsMulberry 72 = .ok (.aload_n 1, 1) := dk_43 (dk_at dksX0_readsMulberry_3 3 rfl rfl)
theorem dX0_readsMulberry_73 : decode cX0_readsMulberry 73 = .ok (.iload 4, 2) := dk_21 4 (dk_at dksX0_readsMulberry_3 4 rfl rfl)
theorem dX0_readsMulberry_75 : decode cX0_readsMulberry 75 = .ok (.aaload, 1) := dk_50 (dk_at dksX0_readsMulberry_3 6 rfl rfl)
theorem dX0_readsMulberry_76 : decode cX0_readsMulberry 76 = .ok (.aastore, 1) := dk_83 (dk_at dksX0_readsMulberry_3 7 rfl rfl)
theorem dX0_readsMulberry_77 : decode cX0_readsMulberry 77 = .ok (.iinc 4 1, 3) := dk_132 4 1 (dk_at dksX0_readsMulberry_3 8 rfl rfl)
theorem dX0_readsMulberry_80 : decode cX0_readsMulberry 80 = .ok (.goto (-18), 3) := dk_167 255 238 (dk_at dksX0_readsMulberry_3 11 rfl rfl)
theorem dX0_readsMulberry_83 : decode cX0_readsMulberry 83 = .ok (.aload_n 3, 1) := dk_45 (dk_at dksX0_readsMulberry_3 14 rfl rfl)
theorem dX0_readsMulberry_84 : decode cX0_readsMulberry 84 = .ok (.areturn, 1) := dk_176 (dk_at dksX0_readsMulberry_3 15 rfl rfl)
abbrev cX0_meal : ByteArray := prog_1_method_37_code
def yX0_meal : MethodName := ⟨RX0, "meal", "()LSilkClerks$Meal;"⟩
def dkwX0_meal_4 : List UInt8 := [21, 4, 183, 1, 35, 191, 187, 0, 148, 89, 27, 28, 29, 21, 5, 183, 1, 139, 176]
abbrev dktX0_meal_4 : List UInt8 := dkwX0_meal_4 ++ []
def dkwX0_meal_3 : List UInt8 := [42, 180, 0, 144, 190, 4, 100, 182, 1, 121, 54, 5, 29, 21, 5, 160, 0, 14, 187, 1, 33, 89, 5]
abbrev dktX0_meal_3 : List UInt8 := dkwX0_meal_3 ++ dktX0_meal_4
def dkwX0_meal_2 : List UInt8 := [187, 0, 148, 89, 27, 28, 29, 2, 183, 1, 139, 176, 42, 182, 1, 46, 42, 180, 0, 235, 54, 4, 42, 3]
abbrev dktX0_meal_2 : List UInt8 := dkwX0_meal_2 ++ dktX0_meal_3
def dkwX0_meal_1 : List UInt8 := [61, 42, 3, 42, 180, 0, 144, 190, 4, 100, 182, 1, 121, 62, 42, 18, 71, 182, 1, 71, 154, 0, 15]
abbrev dktX0_meal_1 : List UInt8 := dkwX0_meal_1 ++ dktX0_meal_2
def dkwX0_meal_0 : List UInt8 := [42, 18, 67, 3, 17, 3, 231, 182, 1, 124, 60, 42, 18, 69, 3, 42, 180, 1, 136, 4, 100, 182, 1, 124]
abbrev dktX0_meal_0 : List UInt8 := dkwX0_meal_0 ++ dktX0_meal_1
theorem dksX0_meal_0 : cX0_meal.data.toList.drop 0 = dktX0_meal_0 := by decide +kernel
theorem dksX0_meal_1 : cX0_meal.data.toList.drop 24 = dktX0_meal_1 := dk_seg dksX0_meal_0 24 rfl rfl
theorem dksX0_meal_2 : cX0_meal.data.toList.drop 47 = dktX0_meal_2 := dk_seg dksX0_meal_1 23 rfl rfl
theorem dksX0_meal_3 : cX0_meal.data.toList.drop 71 = dktX0_meal_3 := dk_seg dksX0_meal_2 24 rfl rfl
theorem dksX0_meal_4 : cX0_meal.data.toList.drop 94 = dktX0_meal_4 := dk_seg dksX0_meal_3 23 rfl rfl
theorem dX0_meal_0 : decode cX0_meal 0 = .ok (.aload_n 0, 1) := dk_42 (dk_at dksX0_meal_0 0 rfl rfl)
theorem dX0_meal_1 : decode cX0_meal 1 = .ok (.ldc 67, 2) := dk_18 67 (dk_at dksX0_meal_0 1 rfl rfl)
theorem dX0_meal_3 : decode cX0_meal 3 = .ok (.iconst 0, 1) := dk_3 (dk_at dksX0_meal_0 3 rfl rfl)
theorem dX0_meal_4 : decode cX0_meal 4 = .ok (.sipush 999, 3) := dk_17 3 231 (dk_at dksX0_meal_0 4 rfl rfl)
theorem dX0_meal_7 : decode cX0_meal 7 = .ok (.invokevirtual 380, 3) := dk_182 1 124 (dk_at dksX0_meal_0 7 rfl rfl)
theorem dX0_meal_10 : decode cX0_meal 10 = .ok (.istore_n 1, 1) := dk_60 (dk_at dksX0_meal_0 10 rfl rfl)
theorem dX0_meal_11 : decode cX0_meal 11 = .ok (.aload_n 0, 1) := dk_42 (dk_at dksX0_meal_0 11 rfl rfl)
theorem dX0_meal_12 : decode cX0_meal 12 = .ok (.ldc 69, 2) := dk_18 69 (dk_at dksX0_meal_0 12 rfl rfl)
theorem dX0_meal_14 : decode cX0_meal 14 = .ok (.iconst 0, 1) := dk_3 (dk_at dksX0_meal_0 14 rfl rfl)
theorem dX0_meal_15 : decode cX0_meal 15 = .ok (.aload_n 0, 1) := dk_42 (dk_at dksX0_meal_0 15 rfl rfl)
theorem dX0_meal_16 : decode cX0_meal 16 = .ok (.getfield 392, 3) := dk_180 1 136 (dk_at dksX0_meal_0 16 rfl rfl)
theorem dX0_meal_19 : decode cX0_meal 19 = .ok (.iconst 1, 1) := dk_4 (dk_at dksX0_meal_0 19 rfl rfl)
theorem dX0_meal_20 : decode cX0_meal 20 = .ok (.isub, 1) := dk_100 (dk_at dksX0_meal_0 20 rfl rfl)
theorem dX0_meal_21 : decode cX0_meal 21 = .ok (.invokevirtual 380, 3) := dk_182 1 124 (dk_at dksX0_meal_0 21 rfl rfl)
theorem dX0_meal_24 : decode cX0_meal 24 = .ok (.istore_n 2, 1) := dk_61 (dk_at dksX0_meal_1 0 rfl rfl)
theorem dX0_meal_25 : decode cX0_meal 25 = .ok (.aload_n 0, 1) := dk_42 (dk_at dksX0_meal_1 1 rfl rfl)
theorem dX0_meal_26 : decode cX0_meal 26 = .ok (.iconst 0, 1) := dk_3 (dk_at dksX0_meal_1 2 rfl rfl)
theorem dX0_meal_27 : decode cX0_meal 27 = .ok (.aload_n 0, 1) := dk_42 (dk_at dksX0_meal_1 3 rfl rfl)
theorem dX0_meal_28 : decode cX0_meal 28 = .ok (.getfield 144, 3) := dk_180 0 144 (dk_at dksX0_meal_1 4 rfl rfl)
theorem dX0_meal_31 : decode cX0_meal 31 = .ok (.arraylength, 1) := dk_190 (dk_at dksX0_meal_1 7 rfl rfl)
theorem dX0_meal_32 : decode cX0_meal 32 = .ok (.iconst 1, 1) := dk_4 (dk_at dksX0_meal_1 8 rfl rfl)
theorem dX0_meal_33 : decode cX0_meal 33 = .ok (.isub, 1) := dk_100 (dk_at dksX0_meal_1 9 rfl rfl)
theorem dX0_meal_34 : decode cX0_meal 34 = .ok (.invokevirtual 377, 3) := dk_182 1 121 (dk_at dksX0_meal_1 10 rfl rfl)
theorem dX0_meal_37 : decode cX0_meal 37 = .ok (.istore_n 3, 1) := dk_62 (dk_at dksX0_meal_1 13 rfl rfl)
theorem dX0_meal_38 : decode cX0_meal 38 = .ok (.aload_n 0, 1) := dk_42 (dk_at dksX0_meal_1 14 rfl rfl)
theorem dX0_meal_39 : decode cX0_meal 39 = .ok (.ldc 71, 2) := dk_18 71 (dk_at dksX0_meal_1 15 rfl rfl)
theorem dX0_meal_41 : decode cX0_meal 41 = .ok (.invokevirtual 327, 3) := dk_182 1 71 (dk_at dksX0_meal_1 17 rfl rfl)
theorem dX0_meal_44 : decode cX0_meal 44 = .ok (.ifCond .ne 15, 3) := dk_154 0 15 (dk_at dksX0_meal_1 20 rfl rfl)
theorem dX0_meal_47 : decode cX0_meal 47 = .ok (.new 148, 3) := dk_187 0 148 (dk_at dksX0_meal_2 0 rfl rfl)
theorem dX0_meal_50 : decode cX0_meal 50 = .ok (.dup, 1) := dk_89 (dk_at dksX0_meal_2 3 rfl rfl)
theorem dX0_meal_51 : decode cX0_meal 51 = .ok (.iload_n 1, 1) := dk_27 (dk_at dksX0_meal_2 4 rfl rfl)
theorem dX0_meal_52 : decode cX0_meal 52 = .ok (.iload_n 2, 1) := dk_28 (dk_at dksX0_meal_2 5 rfl rfl)
theorem dX0_meal_53 : decode cX0_meal 53 = .ok (.iload_n 3, 1) := dk_29 (dk_at dksX0_meal_2 6 rfl rfl)
theorem dX0_meal_54 : decode cX0_meal 54 = .ok (.iconst (-1), 1) := dk_2 (dk_at dksX0_meal_2 7 rfl rfl)
theorem dX0_meal_55 : decode cX0_meal 55 = .ok (.invokespecial 395, 3) := dk_183 1 139 (dk_at dksX0_meal_2 8 rfl rfl)
theorem dX0_meal_58 : decode cX0_meal 58 = .ok (.areturn, 1) := dk_176 (dk_at dksX0_meal_2 11 rfl rfl)
theorem dX0_meal_59 : decode cX0_meal 59 = .ok (.aload_n 0, 1) := dk_42 (dk_at dksX0_meal_2 12 rfl rfl)
theorem dX0_meal_60 : decode cX0_meal 60 = .ok (.invokevirtual 302, 3) := dk_182 1 46 (dk_at dksX0_meal_2 13 rfl rfl)
theorem dX0_meal_63 : decode cX0_meal 63 = .ok (.aload_n 0, 1) := dk_42 (dk_at dksX0_meal_2 16 rfl rfl)
theorem dX0_meal_64 : decode cX0_meal 64 = .ok (.getfield 235, 3) := dk_180 0 235 (dk_at dksX0_meal_2 17 rfl rfl)
theorem dX0_meal_67 : decode cX0_meal 67 = .ok (.istore 4, 2) := dk_54 4 (dk_at dksX0_meal_2 20 rfl rfl)
theorem dX0_meal_69 : decode cX0_meal 69 = .ok (.aload_n 0, 1) := dk_42 (dk_at dksX0_meal_2 22 rfl rfl)
theorem dX0_meal_70 : decode cX0_meal 70 = .ok (.iconst 0, 1) := dk_3 (dk_at dksX0_meal_2 23 rfl rfl)
theorem dX0_meal_71 : decode cX0_meal 71 = .ok (.aload_n 0, 1) := dk_42 (dk_at dksX0_meal_3 0 rfl rfl)
theorem dX0_meal_72 : decode cX0_meal 72 = .ok (.getfield 144, 3) := dk_180 0 144 (dk_at dksX0_meal_3 1 rfl rfl)
theorem dX0_meal_75 : decode cX0_meal 75 = .ok (.arraylength, 1) := dk_190 (dk_at dksX0_meal_3 4 rfl rfl)
theorem dX0_meal_76 : decode cX0_meal 76 = .ok (.iconst 1, 1) := dk_4 (dk_at dksX0_meal_3 5 rfl rfl)
theorem dX0_meal_77 : decode cX0_meal 77 = .ok (.isub, 1) := dk_100 (dk_at dksX0_meal_3 6 rfl rfl)
theorem dX0_meal_78 : decode cX0_meal 78 = .ok (.invokevirtual 377, 3) := dk_182 1 121 (dk_at dksX0_meal_3 7 rfl rfl)
theorem dX0_meal_81 : decode cX0_meal 81 = .ok (.istore 5, 2) := dk_54 5 (dk_at dksX0_meal_3 10 rfl rfl)
theorem dX0_meal_83 : decode cX0_meal 83 = .ok (.iload_n 3, 1) := dk_29 (dk_at dksX0_meal_3 12 rfl rfl)
theorem dX0_meal_84 : decode cX0_meal 84 = .ok (.iload 5, 2) := dk_21 5 (dk_at dksX0_meal_3 13 rfl rfl)
theorem dX0_meal_86 : decode cX0_meal 86 = .ok (.if_icmp .ne 14, 3) := dk_160 0 14 (dk_at dksX0_meal_3 15 rfl rfl)
theorem dX0_meal_89 : decode cX0_meal 89 = .ok (.new 289, 3) := dk_187 1 33 (dk_at dksX0_meal_3 18 rfl rfl)
theorem dX0_meal_92 : decode cX0_meal 92 = .ok (.dup, 1) := dk_89 (dk_at dksX0_meal_3 21 rfl rfl)
theorem dX0_meal_93 : decode cX0_meal 93 = .ok (.iconst 2, 1) := dk_5 (dk_at dksX0_meal_3 22 rfl rfl)
theorem dX0_meal_94 : decode cX0_meal 94 = .ok (.iload 4, 2) := dk_21 4 (dk_at dksX0_meal_4 0 rfl rfl)
theorem dX0_meal_96 : decode cX0_meal 96 = .ok (.invokespecial 291, 3) := dk_183 1 35 (dk_at dksX0_meal_4 2 rfl rfl)
theorem dX0_meal_99 : decode cX0_meal 99 = .ok (.athrow, 1) := dk_191 (dk_at dksX0_meal_4 5 rfl rfl)
theorem dX0_meal_100 : decode cX0_meal 100 = .ok (.new 148, 3) := dk_187 0 148 (dk_at dksX0_meal_4 6 rfl rfl)
theorem dX0_meal_103 : decode cX0_meal 103 = .ok (.dup, 1) := dk_89 (dk_at dksX0_meal_4 9 rfl rfl)
theorem dX0_meal_104 : decode cX0_meal 104 = .ok (.iload_n 1, 1) := dk_27 (dk_at dksX0_meal_4 10 rfl rfl)
theorem dX0_meal_105 : decode cX0_meal 105 = .ok (.iload_n 2, 1) := dk_28 (dk_at dksX0_meal_4 11 rfl rfl)
theorem dX0_meal_106 : decode cX0_meal 106 = .ok (.iload_n 3, 1) := dk_29 (dk_at dksX0_meal_4 12 rfl rfl)
theorem dX0_meal_107 : decode cX0_meal 107 = .ok (.iload 5, 2) := dk_21 5 (dk_at dksX0_meal_4 13 rfl rfl)
theorem dX0_meal_109 : decode cX0_meal 109 = .ok (.invokespecial 395, 3) := dk_183 1 139 (dk_at dksX0_meal_4 15 rfl rfl)
theorem dX0_meal_112 : decode cX0_meal 112 = .ok (.areturn, 1) := dk_176 (dk_at dksX0_meal_4 18 rfl rfl)
abbrev cX0_fault : ByteArray := prog_1_method_45_code
def yX0_fault : MethodName := ⟨RX0, "fault", "(I)I"⟩
def dkwX0_fault_1 : List UInt8 := [172]
abbrev dktX0_fault_1 : List UInt8 := dkwX0_fault_1 ++ []
def dkwX0_fault_0 : List UInt8 := [27, 154, 0, 10, 42, 180, 1, 173, 167, 0, 16, 27, 4, 160, 0, 10, 42, 180, 0, 127, 167, 0, 4, 2]
abbrev dktX0_fault_0 : List UInt8 := dkwX0_fault_0 ++ dktX0_fault_1
theorem dksX0_fault_0 : cX0_fault.data.toList.drop 0 = dktX0_fault_0 := by decide +kernel
theorem dksX0_fault_1 : cX0_fault.data.toList.drop 24 = dktX0_fault_1 := dk_seg dksX0_fault_0 24 rfl rfl
theorem dX0_fault_0 : decode cX0_fault 0 = .ok (.iload_n 1, 1) := dk_27 (dk_at dksX0_fault_0 0 rfl rfl)
theorem dX0_fault_1 : decode cX0_fault 1 = .ok (.ifCond .ne 10, 3) := dk_154 0 10 (dk_at dksX0_fault_0 1 rfl rfl)
theorem dX0_fault_4 : decode cX0_fault 4 = .ok (.aload_n 0, 1) := dk_42 (dk_at dksX0_fault_0 4 rfl rfl)
theorem dX0_fault_5 : decode cX0_fault 5 = .ok (.getfield 429, 3) := dk_180 1 173 (dk_at dksX0_fault_0 5 rfl rfl)
theorem dX0_fault_8 : decode cX0_fault 8 = .ok (.goto 16, 3) := dk_167 0 16 (dk_at dksX0_fault_0 8 rfl rfl)
theorem dX0_fault_11 : decode cX0_fault 11 = .ok (.iload_n 1, 1) := dk_27 (dk_at dksX0_fault_0 11 rfl rfl)
theorem dX0_fault_12 : decode cX0_fault 12 = .ok (.iconst 1, 1) := dk_4 (dk_at dksX0_fault_0 12 rfl rfl)
theorem dX0_fault_13 : decode cX0_fault 13 = .ok (.if_icmp .ne 10, 3) := dk_160 0 10 (dk_at dksX0_fault_0 13 rfl rfl)
theorem dX0_fault_16 : decode cX0_fault 16 = .ok (.aload_n 0, 1) := dk_42 (dk_at dksX0_fault_0 16 rfl rfl)
theorem dX0_fault_17 : decode cX0_fault 17 = .ok (.getfield 127, 3) := dk_180 0 127 (dk_at dksX0_fault_0 17 rfl rfl)
theorem dX0_fault_20 : decode cX0_fault 20 = .ok (.goto 4, 3) := dk_167 0 4 (dk_at dksX0_fault_0 20 rfl rfl)
theorem dX0_fault_23 : decode cX0_fault 23 = .ok (.iconst (-1), 1) := dk_2 (dk_at dksX0_fault_0 23 rfl rfl)
theorem dX0_fault_24 : decode cX0_fault 24 = .ok (.ireturn, 1) := dk_172 (dk_at dksX0_fault_1 0 rfl rfl)
abbrev cX0_undo : ByteArray := prog_1_method_49_code
def yX0_undo : MethodName := ⟨RX0, "undo", "()Z"⟩
def dkwX0_undo_1 : List UInt8 := [180, 0, 177, 42, 180, 1, 152, 50, 182, 1, 192, 4, 172]
abbrev dktX0_undo_1 : List UInt8 := dkwX0_undo_1 ++ []
def dkwX0_undo_0 : List UInt8 := [42, 180, 1, 152, 154, 0, 5, 3, 172, 42, 89, 180, 1, 152, 4, 100, 181, 1, 152, 42, 180, 0, 164, 42]
abbrev dktX0_undo_0 : List UInt8 := dkwX0_undo_0 ++ dktX0_undo_1
theorem dksX0_undo_0 : cX0_undo.data.toList.drop 0 = dktX0_undo_0 := by decide +kernel
theorem dksX0_undo_1 : cX0_undo.data.toList.drop 24 = dktX0_undo_1 := dk_seg dksX0_undo_0 24 rfl rfl
theorem dX0_undo_0 : decode cX0_undo 0 = .ok (.aload_n 0, 1) := dk_42 (dk_at dksX0_undo_0 0 rfl rfl)
theorem dX0_undo_1 : decode cX0_undo 1 = .ok (.getfield 408, 3) := dk_180 1 152 (dk_at dksX0_undo_0 1 rfl rfl)
theorem dX0_undo_4 : decode cX0_undo 4 = .ok (.ifCond .ne 5, 3) := dk_154 0 5 (dk_at dksX0_undo_0 4 rfl rfl)
theorem dX0_undo_7 : decode cX0_undo 7 = .ok (.iconst 0, 1) := dk_3 (dk_at dksX0_undo_0 7 rfl rfl)
theorem dX0_undo_8 : decode cX0_undo 8 = .ok (.ireturn, 1) := dk_172 (dk_at dksX0_undo_0 8 rfl rfl)
theorem dX0_undo_9 : decode cX0_undo 9 = .ok (.aload_n 0, 1) := dk_42 (dk_at dksX0_undo_0 9 rfl rfl)
theorem dX0_undo_10 : decode cX0_undo 10 = .ok (.dup, 1) := dk_89 (dk_at dksX0_undo_0 10 rfl rfl)
theorem dX0_undo_11 : decode cX0_undo 11 = .ok (.getfield 408, 3) := dk_180 1 152 (dk_at dksX0_undo_0 11 rfl rfl)
theorem dX0_undo_14 : decode cX0_undo 14 = .ok (.iconst 1, 1) := dk_4 (dk_at dksX0_undo_0 14 rfl rfl)
theorem dX0_undo_15 : decode cX0_undo 15 = .ok (.isub, 1) := dk_100 (dk_at dksX0_undo_0 15 rfl rfl)
theorem dX0_undo_16 : decode cX0_undo 16 = .ok (.putfield 408, 3) := dk_181 1 152 (dk_at dksX0_undo_0 16 rfl rfl)
theorem dX0_undo_19 : decode cX0_undo 19 = .ok (.aload_n 0, 1) := dk_42 (dk_at dksX0_undo_0 19 rfl rfl)
theorem dX0_undo_20 : decode cX0_undo 20 = .ok (.getfield 164, 3) := dk_180 0 164 (dk_at dksX0_undo_0 20 rfl rfl)
theorem dX0_undo_23 : decode cX0_undo 23 = .ok (.aload_n 0, 1) := dk_42 (dk_at dksX0_undo_0 23 rfl rfl)
theorem dX0_undo_24 : decode cX0_undo 24 = .ok (.getfield 177, 3) := dk_180 0 177 (dk_at dksX0_undo_1 0 rfl rfl)
theorem dX0_undo_27 : decode cX0_undo 27 = .ok (.aload_n 0, 1) := dk_42 (dk_at dksX0_undo_1 3 rfl rfl)
theorem dX0_undo_28 : decode cX0_undo 28 = .ok (.getfield 408, 3) := dk_180 1 152 (dk_at dksX0_undo_1 4 rfl rfl)
theorem dX0_undo_31 : decode cX0_undo 31 = .ok (.aaload, 1) := dk_50 (dk_at dksX0_undo_1 7 rfl rfl)
theorem dX0_undo_32 : decode cX0_undo 32 = .ok (.invokevirtual 448, 3) := dk_182 1 192 (dk_at dksX0_undo_1 8 rfl rfl)
theorem dX0_undo_35 : decode cX0_undo 35 = .ok (.iconst 1, 1) := dk_4 (dk_at dksX0_undo_1 11 rfl rfl)
theorem dX0_undo_36 : decode cX0_undo 36 = .ok (.ireturn, 1) := dk_172 (dk_at dksX0_undo_1 12 rfl rfl)
abbrev cX0_copies : ByteArray := prog_1_method_4_code
def yX0_copies : MethodName := ⟨RX0, "copies", "([I[I)V"⟩
def dkwX0_copies_0 : List UInt8 := [42, 3, 43, 3, 42, 190, 184, 0, 10, 177]
abbrev dktX0_copies_0 : List UInt8 := dkwX0_copies_0 ++ []
theorem dksX0_copies_0 : cX0_copies.data.toList.drop 0 = dktX0_copies_0 := by decide +kernel
theorem dX0_copies_0 : decode cX0_copies 0 = .ok (.aload_n 0, 1) := dk_42 (dk_at dksX0_copies_0 0 rfl rfl)
theorem dX0_copies_1 : decode cX0_copies 1 = .ok (.iconst 0, 1) := dk_3 (dk_at dksX0_copies_0 1 rfl rfl)
theorem dX0_copies_2 : decode cX0_copies 2 = .ok (.aload_n 1, 1) := dk_43 (dk_at dksX0_copies_0 2 rfl rfl)
theorem dX0_copies_3 : decode cX0_copies 3 = .ok (.iconst 0, 1) := dk_3 (dk_at dksX0_copies_0 3 rfl rfl)
theorem dX0_copies_4 : decode cX0_copies 4 = .ok (.aload_n 0, 1) := dk_42 (dk_at dksX0_copies_0 4 rfl rfl)
theorem dX0_copies_5 : decode cX0_copies 5 = .ok (.arraylength, 1) := dk_190 (dk_at dksX0_copies_0 5 rfl rfl)
theorem dX0_copies_6 : decode cX0_copies 6 = .ok (.invokestatic 10, 3) := dk_184 0 10 (dk_at dksX0_copies_0 6 rfl rfl)
theorem dX0_copies_9 : decode cX0_copies 9 = .ok (.return_, 1) := dk_177 (dk_at dksX0_copies_0 9 rfl rfl)
abbrev cX0_state : ByteArray := prog_1_method_52_code
def yX0_state : MethodName := ⟨RX0, "state", "(I)I"⟩
def dkwX0_state_0 : List UInt8 := [42, 180, 0, 164, 180, 1, 196, 61, 42, 180, 0, 164, 27, 181, 1, 196, 42, 3, 181, 1, 152, 28, 172]
abbrev dktX0_state_0 : List UInt8 := dkwX0_state_0 ++ []
theorem dksX0_state_0 : cX0_state.data.toList.drop 0 = dktX0_state_0 := by decide +kernel
theorem dX0_state_0 : decode cX0_state 0 = .ok (.aload_n 0, 1) := dk_42 (dk_at dksX0_state_0 0 rfl rfl)
theorem dX0_state_1 : decode cX0_state 1 = .ok (.getfield 164, 3) := dk_180 0 164 (dk_at dksX0_state_0 1 rfl rfl)
theorem dX0_state_4 : decode cX0_state 4 = .ok (.getfield 452, 3) := dk_180 1 196 (dk_at dksX0_state_0 4 rfl rfl)
theorem dX0_state_7 : decode cX0_state 7 = .ok (.istore_n 2, 1) := dk_61 (dk_at dksX0_state_0 7 rfl rfl)
theorem dX0_state_8 : decode cX0_state 8 = .ok (.aload_n 0, 1) := dk_42 (dk_at dksX0_state_0 8 rfl rfl)
theorem dX0_state_9 : decode cX0_state 9 = .ok (.getfield 164, 3) := dk_180 0 164 (dk_at dksX0_state_0 9 rfl rfl)
theorem dX0_state_12 : decode cX0_state 12 = .ok (.iload_n 1, 1) := dk_27 (dk_at dksX0_state_0 12 rfl rfl)
theorem dX0_state_13 : decode cX0_state 13 = .ok (.putfield 452, 3) := dk_181 1 196 (dk_at dksX0_state_0 13 rfl rfl)
theorem dX0_state_16 : decode cX0_state 16 = .ok (.aload_n 0, 1) := dk_42 (dk_at dksX0_state_0 16 rfl rfl)
theorem dX0_state_17 : decode cX0_state 17 = .ok (.iconst 0, 1) := dk_3 (dk_at dksX0_state_0 17 rfl rfl)
theorem dX0_state_18 : decode cX0_state 18 = .ok (.putfield 408, 3) := dk_181 1 152 (dk_at dksX0_state_0 18 rfl rfl)
theorem dX0_state_21 : decode cX0_state 21 = .ok (.iload_n 2, 1) := dk_28 (dk_at dksX0_state_0 21 rfl rfl)
theorem dX0_state_22 : decode cX0_state 22 = .ok (.ireturn, 1) := dk_172 (dk_at dksX0_state_0 22 rfl rfl)
abbrev cX0_worm : ByteArray := prog_1_method_53_code
def yX0_worm : MethodName := ⟨RX0, "worm", "(II)I"⟩
def dkwX0_worm_6 : List UInt8 := [180, 1, 136, 4, 96, 181, 1, 136, 42, 3, 181, 1, 152, 29, 172]
abbrev dktX0_worm_6 : List UInt8 := dkwX0_worm_6 ++ []
def dkwX0_worm_5 : List UInt8 := [181, 1, 215, 42, 180, 0, 164, 89, 180, 1, 218, 4, 29, 120, 2, 130, 126, 181, 1, 218, 42, 89]
abbrev dktX0_worm_5 : List UInt8 := dkwX0_worm_5 ++ dktX0_worm_6
def dkwX0_worm_4 : List UInt8 := [180, 0, 164, 180, 1, 212, 29, 3, 79, 42, 180, 0, 164, 89, 180, 1, 215, 4, 29, 120, 2, 130, 126]
abbrev dktX0_worm_4 : List UInt8 := dkwX0_worm_4 ++ dktX0_worm_5
def dkwX0_worm_3 : List UInt8 := [3, 79, 42, 180, 0, 164, 180, 1, 206, 29, 3, 79, 42, 180, 0, 164, 180, 1, 209, 29, 3, 79, 42]
abbrev dktX0_worm_3 : List UInt8 := dkwX0_worm_3 ++ dktX0_worm_4
def dkwX0_worm_2 : List UInt8 := [180, 1, 199, 29, 28, 79, 42, 180, 0, 164, 180, 1, 201, 29, 3, 79, 42, 180, 0, 164, 180, 1, 203, 29]
abbrev dktX0_worm_2 : List UInt8 := dkwX0_worm_2 ++ dktX0_worm_3
def dkwX0_worm_1 : List UInt8 := [16, 12, 160, 0, 5, 2, 172, 42, 180, 1, 136, 62, 42, 180, 0, 157, 29, 27, 79, 42, 180, 0, 164]
abbrev dktX0_worm_1 : List UInt8 := dkwX0_worm_1 ++ dktX0_worm_2
def dkwX0_worm_0 : List UInt8 := [27, 3, 6, 184, 0, 224, 153, 0, 22, 28, 3, 16, 9, 184, 0, 224, 153, 0, 12, 42, 180, 1, 136]
abbrev dktX0_worm_0 : List UInt8 := dkwX0_worm_0 ++ dktX0_worm_1
theorem dksX0_worm_0 : cX0_worm.data.toList.drop 0 = dktX0_worm_0 := by decide +kernel
theorem dksX0_worm_1 : cX0_worm.data.toList.drop 23 = dktX0_worm_1 := dk_seg dksX0_worm_0 23 rfl rfl
theorem dksX0_worm_2 : cX0_worm.data.toList.drop 46 = dktX0_worm_2 := dk_seg dksX0_worm_1 23 rfl rfl
theorem dksX0_worm_3 : cX0_worm.data.toList.drop 70 = dktX0_worm_3 := dk_seg dksX0_worm_2 24 rfl rfl
theorem dksX0_worm_4 : cX0_worm.data.toList.drop 93 = dktX0_worm_4 := dk_seg dksX0_worm_3 23 rfl rfl
theorem dksX0_worm_5 : cX0_worm.data.toList.drop 116 = dktX0_worm_5 := dk_seg dksX0_worm_4 23 rfl rfl
theorem dksX0_worm_6 : cX0_worm.data.toList.drop 138 = dktX0_worm_6 := dk_seg dksX0_worm_5 22 rfl rfl
theorem dX0_worm_0 : decode cX0_worm 0 = .ok (.iload_n 1, 1) := dk_27 (dk_at dksX0_worm_0 0 rfl rfl)
theorem dX0_worm_1 : decode cX0_worm 1 = .ok (.iconst 0, 1) := dk_3 (dk_at dksX0_worm_0 1 rfl rfl)
theorem dX0_worm_2 : decode cX0_worm 2 = .ok (.iconst 3, 1) := dk_6 (dk_at dksX0_worm_0 2 rfl rfl)
theorem dX0_worm_3 : decode cX0_worm 3 = .ok (.invokestatic 224, 3) := dk_184 0 224 (dk_at dksX0_worm_0 3 rfl rfl)
theorem dX0_worm_6 : decode cX0_worm 6 = .ok (.ifCond .eq 22, 3) := dk_153 0 22 (dk_at dksX0_worm_0 6 rfl rfl)
theorem dX0_worm_9 : decode cX0_worm 9 = .ok (.iload_n 2, 1) := dk_28 (dk_at dksX0_worm_0 9 rfl rfl)
theorem dX0_worm_10 : decode cX0_worm 10 = .ok (.iconst 0, 1) := dk_3 (dk_at dksX0_worm_0 10 rfl rfl)
theorem dX0_worm_11 : decode cX0_worm 11 = .ok (.bipush 9, 2) := dk_16 9 (dk_at dksX0_worm_0 11 rfl rfl)
theorem dX0_worm_13 : decode cX0_worm 13 = .ok (.invokestatic 224, 3) := dk_184 0 224 (dk_at dksX0_worm_0 13 rfl rfl)
theorem dX0_worm_16 : decode cX0_worm 16 = .ok (.ifCond .eq 12, 3) := dk_153 0 12 (dk_at dksX0_worm_0 16 rfl rfl)
theorem dX0_worm_19 : decode cX0_worm 19 = .ok (.aload_n 0, 1) := dk_42 (dk_at dksX0_worm_0 19 rfl rfl)
theorem dX0_worm_20 : decode cX0_worm 20 = .ok (.getfield 392, 3) := dk_180 1 136 (dk_at dksX0_worm_0 20 rfl rfl)
theorem dX0_worm_23 : decode cX0_worm 23 = .ok (.bipush 12, 2) := dk_16 12 (dk_at dksX0_worm_1 0 rfl rfl)
theorem dX0_worm_25 : decode cX0_worm 25 = .ok (.if_icmp .ne 5, 3) := dk_160 0 5 (dk_at dksX0_worm_1 2 rfl rfl)
theorem dX0_worm_28 : decode cX0_worm 28 = .ok (.iconst (-1), 1) := dk_2 (dk_at dksX0_worm_1 5 rfl rfl)
theorem dX0_worm_29 : decode cX0_worm 29 = .ok (.ireturn, 1) := dk_172 (dk_at dksX0_worm_1 6 rfl rfl)
theorem dX0_worm_30 : decode cX0_worm 30 = .ok (.aload_n 0, 1) := dk_42 (dk_at dksX0_worm_1 7 rfl rfl)
theorem dX0_worm_31 : decode cX0_worm 31 = .ok (.getfield 392, 3) := dk_180 1 136 (dk_at dksX0_worm_1 8 rfl rfl)
theorem dX0_worm_34 : decode cX0_worm 34 = .ok (.istore_n 3, 1) := dk_62 (dk_at dksX0_worm_1 11 rfl rfl)
theorem dX0_worm_35 : decode cX0_worm 35 = .ok (.aload_n 0, 1) := dk_42 (dk_at dksX0_worm_1 12 rfl rfl)
theorem dX0_worm_36 : decode cX0_worm 36 = .ok (.getfield 157, 3) := dk_180 0 157 (dk_at dksX0_worm_1 13 rfl rfl)
theorem dX0_worm_39 : decode cX0_worm 39 = .ok (.iload_n 3, 1) := dk_29 (dk_at dksX0_worm_1 16 rfl rfl)
theorem dX0_worm_40 : decode cX0_worm 40 = .ok (.iload_n 1, 1) := dk_27 (dk_at dksX0_worm_1 17 rfl rfl)
theorem dX0_worm_41 : decode cX0_worm 41 = .ok (.iastore, 1) := dk_79 (dk_at dksX0_worm_1 18 rfl rfl)
theorem dX0_worm_42 : decode cX0_worm 42 = .ok (.aload_n 0, 1) := dk_42 (dk_at dksX0_worm_1 19 rfl rfl)
theorem dX0_worm_43 : decode cX0_worm 43 = .ok (.getfield 164, 3) := dk_180 0 164 (dk_at dksX0_worm_1 20 rfl rfl)
theorem dX0_worm_46 : decode cX0_worm 46 = .ok (.getfield 455, 3) := dk_180 1 199 (dk_at dksX0_worm_2 0 rfl rfl)
theorem dX0_worm_49 : decode cX0_worm 49 = .ok (.iload_n 3, 1) := dk_29 (dk_at dksX0_worm_2 3 rfl rfl)
theorem dX0_worm_50 : decode cX0_worm 50 = .ok (.iload_n 2, 1) := dk_28 (dk_at dksX0_worm_2 4 rfl rfl)
theorem dX0_worm_51 : decode cX0_worm 51 = .ok (.iastore, 1) := dk_79 (dk_at dksX0_worm_2 5 rfl rfl)
theorem dX0_worm_52 : decode cX0_worm 52 = .ok (.aload_n 0, 1) := dk_42 (dk_at dksX0_worm_2 6 rfl rfl)
theorem dX0_worm_53 : decode cX0_worm 53 = .ok (.getfield 164, 3) := dk_180 0 164 (dk_at dksX0_worm_2 7 rfl rfl)
theorem dX0_worm_56 : decode cX0_worm 56 = .ok (.getfield 457, 3) := dk_180 1 201 (dk_at dksX0_worm_2 10 rfl rfl)
theorem dX0_worm_59 : decode cX0_worm 59 = .ok (.iload_n 3, 1) := dk_29 (dk_at dksX0_worm_2 13 rfl rfl)
theorem dX0_worm_60 : decode cX0_worm 60 = .ok (.iconst 0, 1) := dk_3 (dk_at dksX0_worm_2 14 rfl rfl)
theorem dX0_worm_61 : decode cX0_worm 61 = .ok (.iastore, 1) := dk_79 (dk_at dksX0_worm_2 15 rfl rfl)
theorem dX0_worm_62 : decode cX0_worm 62 = .ok (.aload_n 0, 1) := dk_42 (dk_at dksX0_worm_2 16 rfl rfl)
theorem dX0_worm_63 : decode cX0_worm 63 = .ok (.getfield 164, 3) := dk_180 0 164 (dk_at dksX0_worm_2 17 rfl rfl)
theorem dX0_worm_66 : decode cX0_worm 66 = .ok (.getfield 459, 3) := dk_180 1 203 (dk_at dksX0_worm_2 20 rfl rfl)
theorem dX0_worm_69 : decode cX0_worm 69 = .ok (.iload_n 3, 1) := dk_29 (dk_at dksX0_worm_2 23 rfl rfl)
theorem dX0_worm_70 : decode cX0_worm 70 = .ok (.iconst 0, 1) := dk_3 (dk_at dksX0_worm_3 0 rfl rfl)
theorem dX0_worm_71 : decode cX0_worm 71 = .ok (.iastore, 1) := dk_79 (dk_at dksX0_worm_3 1 rfl rfl)
theorem dX0_worm_72 : decode cX0_worm 72 = .ok (.aload_n 0, 1) := dk_42 (dk_at dksX0_worm_3 2 rfl rfl)
theorem dX0_worm_73 : decode cX0_worm 73 = .ok (.getfield 164, 3) := dk_180 0 164 (dk_at dksX0_worm_3 3 rfl rfl)
theorem dX0_worm_76 : decode cX0_worm 76 = .ok (.getfield 462, 3) := dk_180 1 206 (dk_at dksX0_worm_3 6 rfl rfl)
theorem dX0_worm_79 : decode cX0_worm 79 = .ok (.iload_n 3, 1) := dk_29 (dk_at dksX0_worm_3 9 rfl rfl)
theorem dX0_worm_80 : decode cX0_worm 80 = .ok (.iconst 0, 1) := dk_3 (dk_at dksX0_worm_3 10 rfl rfl)
theorem dX0_worm_81 : decode cX0_worm 81 = .ok (.iastore, 1) := dk_79 (dk_at dksX0_worm_3 11 rfl rfl)
theorem dX0_worm_82 : decode cX0_worm 82 = .ok (.aload_n 0, 1) := dk_42 (dk_at dksX0_worm_3 12 rfl rfl)
theorem dX0_worm_83 : decode cX0_worm 83 = .ok (.getfield 164, 3) := dk_180 0 164 (dk_at dksX0_worm_3 13 rfl rfl)
theorem dX0_worm_86 : decode cX0_worm 86 = .ok (.getfield 465, 3) := dk_180 1 209 (dk_at dksX0_worm_3 16 rfl rfl)
theorem dX0_worm_89 : decode cX0_worm 89 = .ok (.iload_n 3, 1) := dk_29 (dk_at dksX0_worm_3 19 rfl rfl)
theorem dX0_worm_90 : decode cX0_worm 90 = .ok (.iconst 0, 1) := dk_3 (dk_at dksX0_worm_3 20 rfl rfl)
theorem dX0_worm_91 : decode cX0_worm 91 = .ok (.iastore, 1) := dk_79 (dk_at dksX0_worm_3 21 rfl rfl)
theorem dX0_worm_92 : decode cX0_worm 92 = .ok (.aload_n 0, 1) := dk_42 (dk_at dksX0_worm_3 22 rfl rfl)
theorem dX0_worm_93 : decode cX0_worm 93 = .ok (.getfield 164, 3) := dk_180 0 164 (dk_at dksX0_worm_4 0 rfl rfl)
theorem dX0_worm_96 : decode cX0_worm 96 = .ok (.getfield 468, 3) := dk_180 1 212 (dk_at dksX0_worm_4 3 rfl rfl)
theorem dX0_worm_99 : decode cX0_worm 99 = .ok (.iload_n 3, 1) := dk_29 (dk_at dksX0_worm_4 6 rfl rfl)
theorem dX0_worm_100 : decode cX0_worm 100 = .ok (.iconst 0, 1) := dk_3 (dk_at dksX0_worm_4 7 rfl rfl)
theorem dX0_worm_101 : decode cX0_worm 101 = .ok (.iastore, 1) := dk_79 (dk_at dksX0_worm_4 8 rfl rfl)
theorem dX0_worm_102 : decode cX0_worm 102 = .ok (.aload_n 0, 1) := dk_42 (dk_at dksX0_worm_4 9 rfl rfl)
theorem dX0_worm_103 : decode cX0_worm 103 = .ok (.getfield 164, 3) := dk_180 0 164 (dk_at dksX0_worm_4 10 rfl rfl)
theorem dX0_worm_106 : decode cX0_worm 106 = .ok (.dup, 1) := dk_89 (dk_at dksX0_worm_4 13 rfl rfl)
theorem dX0_worm_107 : decode cX0_worm 107 = .ok (.getfield 471, 3) := dk_180 1 215 (dk_at dksX0_worm_4 14 rfl rfl)
theorem dX0_worm_110 : decode cX0_worm 110 = .ok (.iconst 1, 1) := dk_4 (dk_at dksX0_worm_4 17 rfl rfl)
theorem dX0_worm_111 : decode cX0_worm 111 = .ok (.iload_n 3, 1) := dk_29 (dk_at dksX0_worm_4 18 rfl rfl)
theorem dX0_worm_112 : decode cX0_worm 112 = .ok (.ishl, 1) := dk_120 (dk_at dksX0_worm_4 19 rfl rfl)
theorem dX0_worm_113 : decode cX0_worm 113 = .ok (.iconst (-1), 1) := dk_2 (dk_at dksX0_worm_4 20 rfl rfl)
theorem dX0_worm_114 : decode cX0_worm 114 = .ok (.ixor, 1) := dk_130 (dk_at dksX0_worm_4 21 rfl rfl)
theorem dX0_worm_115 : decode cX0_worm 115 = .ok (.iand, 1) := dk_126 (dk_at dksX0_worm_4 22 rfl rfl)
theorem dX0_worm_116 : decode cX0_worm 116 = .ok (.putfield 471, 3) := dk_181 1 215 (dk_at dksX0_worm_5 0 rfl rfl)
theorem dX0_worm_119 : decode cX0_worm 119 = .ok (.aload_n 0, 1) := dk_42 (dk_at dksX0_worm_5 3 rfl rfl)
theorem dX0_worm_120 : decode cX0_worm 120 = .ok (.getfield 164, 3) := dk_180 0 164 (dk_at dksX0_worm_5 4 rfl rfl)
theorem dX0_worm_123 : decode cX0_worm 123 = .ok (.dup, 1) := dk_89 (dk_at dksX0_worm_5 7 rfl rfl)
theorem dX0_worm_124 : decode cX0_worm 124 = .ok (.getfield 474, 3) := dk_180 1 218 (dk_at dksX0_worm_5 8 rfl rfl)
theorem dX0_worm_127 : decode cX0_worm 127 = .ok (.iconst 1, 1) := dk_4 (dk_at dksX0_worm_5 11 rfl rfl)
theorem dX0_worm_128 : decode cX0_worm 128 = .ok (.iload_n 3, 1) := dk_29 (dk_at dksX0_worm_5 12 rfl rfl)
theorem dX0_worm_129 : decode cX0_worm 129 = .ok (.ishl, 1) := dk_120 (dk_at dksX0_worm_5 13 rfl rfl)
theorem dX0_worm_130 : decode cX0_worm 130 = .ok (.iconst (-1), 1) := dk_2 (dk_at dksX0_worm_5 14 rfl rfl)
theorem dX0_worm_131 : decode cX0_worm 131 = .ok (.ixor, 1) := dk_130 (dk_at dksX0_worm_5 15 rfl rfl)
theorem dX0_worm_132 : decode cX0_worm 132 = .ok (.iand, 1) := dk_126 (dk_at dksX0_worm_5 16 rfl rfl)
theorem dX0_worm_133 : decode cX0_worm 133 = .ok (.putfield 474, 3) := dk_181 1 218 (dk_at dksX0_worm_5 17 rfl rfl)
theorem dX0_worm_136 : decode cX0_worm 136 = .ok (.aload_n 0, 1) := dk_42 (dk_at dksX0_worm_5 20 rfl rfl)
theorem dX0_worm_137 : decode cX0_worm 137 = .ok (.dup, 1) := dk_89 (dk_at dksX0_worm_5 21 rfl rfl)
theorem dX0_worm_138 : decode cX0_worm 138 = .ok (.getfield 392, 3) := dk_180 1 136 (dk_at dksX0_worm_6 0 rfl rfl)
theorem dX0_worm_141 : decode cX0_worm 141 = .ok (.iconst 1, 1) := dk_4 (dk_at dksX0_worm_6 3 rfl rfl)
theorem dX0_worm_142 : decode cX0_worm 142 = .ok (.iadd, 1) := dk_96 (dk_at dksX0_worm_6 4 rfl rfl)
theorem dX0_worm_143 : decode cX0_worm 143 = .ok (.putfield 392, 3) := dk_181 1 136 (dk_at dksX0_worm_6 5 rfl rfl)
theorem dX0_worm_146 : decode cX0_worm 146 = .ok (.aload_n 0, 1) := dk_42 (dk_at dksX0_worm_6 8 rfl rfl)
theorem dX0_worm_147 : decode cX0_worm 147 = .ok (.iconst 0, 1) := dk_3 (dk_at dksX0_worm_6 9 rfl rfl)
theorem dX0_worm_148 : decode cX0_worm 148 = .ok (.putfield 408, 3) := dk_181 1 152 (dk_at dksX0_worm_6 10 rfl rfl)
theorem dX0_worm_151 : decode cX0_worm 151 = .ok (.iload_n 3, 1) := dk_29 (dk_at dksX0_worm_6 13 rfl rfl)
theorem dX0_worm_152 : decode cX0_worm 152 = .ok (.ireturn, 1) := dk_172 (dk_at dksX0_worm_6 14 rfl rfl)
abbrev cX0_set : ByteArray := prog_1_method_54_code
def yX0_set : MethodName := ⟨RX0, "set", "(III)Z"⟩
def dkwX0_set_4 : List UInt8 := [180, 0, 164, 180, 1, 201, 28, 29, 79, 42, 3, 181, 1, 152, 4, 172]
abbrev dktX0_set_4 : List UInt8 := dkwX0_set_4 ++ []
def dkwX0_set_3 : List UInt8 := [181, 1, 226, 167, 0, 28, 27, 5, 160, 0, 13, 42, 180, 0, 164, 180, 1, 199, 167, 0, 10, 42]
abbrev dktX0_set_3 : List UInt8 := dkwX0_set_3 ++ dktX0_set_4
def dkwX0_set_2 : List UInt8 := [154, 0, 14, 42, 180, 0, 164, 29, 181, 1, 224, 167, 0, 44, 27, 4, 160, 0, 14, 42, 180, 0, 164, 29]
abbrev dktX0_set_2 : List UInt8 := dkwX0_set_2 ++ dktX0_set_3
def dkwX0_set_1 : List UInt8 := [184, 0, 224, 153, 0, 16, 27, 4, 164, 0, 13, 42, 28, 182, 1, 221, 154, 0, 5, 3, 172, 27]
abbrev dktX0_set_1 : List UInt8 := dkwX0_set_1 ++ dktX0_set_2
def dkwX0_set_0 : List UInt8 := [27, 3, 6, 184, 0, 224, 153, 0, 36, 29, 3, 27, 154, 0, 9, 17, 3, 231, 167, 0, 5, 16, 9]
abbrev dktX0_set_0 : List UInt8 := dkwX0_set_0 ++ dktX0_set_1
theorem dksX0_set_0 : cX0_set.data.toList.drop 0 = dktX0_set_0 := by decide +kernel
theorem dksX0_set_1 : cX0_set.data.toList.drop 23 = dktX0_set_1 := dk_seg dksX0_set_0 23 rfl rfl
theorem dksX0_set_2 : cX0_set.data.toList.drop 45 = dktX0_set_2 := dk_seg dksX0_set_1 22 rfl rfl
theorem dksX0_set_3 : cX0_set.data.toList.drop 69 = dktX0_set_3 := dk_seg dksX0_set_2 24 rfl rfl
theorem dksX0_set_4 : cX0_set.data.toList.drop 91 = dktX0_set_4 := dk_seg dksX0_set_3 22 rfl rfl
theorem dX0_set_0 : decode cX0_set 0 = .ok (.iload_n 1, 1) := dk_27 (dk_at dksX0_set_0 0 rfl rfl)
theorem dX0_set_1 : decode cX0_set 1 = .ok (.iconst 0, 1) := dk_3 (dk_at dksX0_set_0 1 rfl rfl)
theorem dX0_set_2 : decode cX0_set 2 = .ok (.iconst 3, 1) := dk_6 (dk_at dksX0_set_0 2 rfl rfl)
theorem dX0_set_3 : decode cX0_set 3 = .ok (.invokestatic 224, 3) := dk_184 0 224 (dk_at dksX0_set_0 3 rfl rfl)
theorem dX0_set_6 : decode cX0_set 6 = .ok (.ifCond .eq 36, 3) := dk_153 0 36 (dk_at dksX0_set_0 6 rfl rfl)
theorem dX0_set_9 : decode cX0_set 9 = .ok (.iload_n 3, 1) := dk_29 (dk_at dksX0_set_0 9 rfl rfl)
theorem dX0_set_10 : decode cX0_set 10 = .ok (.iconst 0, 1) := dk_3 (dk_at dksX0_set_0 10 rfl rfl)
theorem dX0_set_11 : decode cX0_set 11 = .ok (.iload_n 1, 1) := dk_27 (dk_at dksX0_set_0 11 rfl rfl)
theorem dX0_set_12 : decode cX0_set 12 = .ok (.ifCond .ne 9, 3) := dk_154 0 9 (dk_at dksX0_set_0 12 rfl rfl)
theorem dX0_set_15 : decode cX0_set 15 = .ok (.sipush 999, 3) := dk_17 3 231 (dk_at dksX0_set_0 15 rfl rfl)
theorem dX0_set_18 : decode cX0_set 18 = .ok (.goto 5, 3) := dk_167 0 5 (dk_at dksX0_set_0 18 rfl rfl)
theorem dX0_set_21 : decode cX0_set 21 = .ok (.bipush 9, 2) := dk_16 9 (dk_at dksX0_set_0 21 rfl rfl)
theorem dX0_set_23 : decode cX0_set 23 = .ok (.invokestatic 224, 3) := dk_184 0 224 (dk_at dksX0_set_1 0 rfl rfl)
theorem dX0_set_26 : decode cX0_set 26 = .ok (.ifCond .eq 16, 3) := dk_153 0 16 (dk_at dksX0_set_1 3 rfl rfl)
theorem dX0_set_29 : decode cX0_set 29 = .ok (.iload_n 1, 1) := dk_27 (dk_at dksX0_set_1 6 rfl rfl)
theorem dX0_set_30 : decode cX0_set 30 = .ok (.iconst 1, 1) := dk_4 (dk_at dksX0_set_1 7 rfl rfl)
theorem dX0_set_31 : decode cX0_set 31 = .ok (.if_icmp .le 13, 3) := dk_164 0 13 (dk_at dksX0_set_1 8 rfl rfl)
theorem dX0_set_34 : decode cX0_set 34 = .ok (.aload_n 0, 1) := dk_42 (dk_at dksX0_set_1 11 rfl rfl)
theorem dX0_set_35 : decode cX0_set 35 = .ok (.iload_n 2, 1) := dk_28 (dk_at dksX0_set_1 12 rfl rfl)
theorem dX0_set_36 : decode cX0_set 36 = .ok (.invokevirtual 477, 3) := dk_182 1 221 (dk_at dksX0_set_1 13 rfl rfl)
theorem dX0_set_39 : decode cX0_set 39 = .ok (.ifCond .ne 5, 3) := dk_154 0 5 (dk_at dksX0_set_1 16 rfl rfl)
theorem dX0_set_42 : decode cX0_set 42 = .ok (.iconst 0, 1) := dk_3 (dk_at dksX0_set_1 19 rfl rfl)
theorem dX0_set_43 : decode cX0_set 43 = .ok (.ireturn, 1) := dk_172 (dk_at dksX0_set_1 20 rfl rfl)
theorem dX0_set_44 : decode cX0_set 44 = .ok (.iload_n 1, 1) := dk_27 (dk_at dksX0_set_1 21 rfl rfl)
theorem dX0_set_45 : decode cX0_set 45 = .ok (.ifCond .ne 14, 3) := dk_154 0 14 (dk_at dksX0_set_2 0 rfl rfl)
theorem dX0_set_48 : decode cX0_set 48 = .ok (.aload_n 0, 1) := dk_42 (dk_at dksX0_set_2 3 rfl rfl)
theorem dX0_set_49 : decode cX0_set 49 = .ok (.getfield 164, 3) := dk_180 0 164 (dk_at dksX0_set_2 4 rfl rfl)
theorem dX0_set_52 : decode cX0_set 52 = .ok (.iload_n 3, 1) := dk_29 (dk_at dksX0_set_2 7 rfl rfl)
theorem dX0_set_53 : decode cX0_set 53 = .ok (.putfield 480, 3) := dk_181 1 224 (dk_at dksX0_set_2 8 rfl rfl)
theorem dX0_set_56 : decode cX0_set 56 = .ok (.goto 44, 3) := dk_167 0 44 (dk_at dksX0_set_2 11 rfl rfl)
theorem dX0_set_59 : decode cX0_set 59 = .ok (.iload_n 1, 1) := dk_27 (dk_at dksX0_set_2 14 rfl rfl)
theorem dX0_set_60 : decode cX0_set 60 = .ok (.iconst 1, 1) := dk_4 (dk_at dksX0_set_2 15 rfl rfl)
theorem dX0_set_61 : decode cX0_set 61 = .ok (.if_icmp .ne 14, 3) := dk_160 0 14 (dk_at dksX0_set_2 16 rfl rfl)
theorem dX0_set_64 : decode cX0_set 64 = .ok (.aload_n 0, 1) := dk_42 (dk_at dksX0_set_2 19 rfl rfl)
theorem dX0_set_65 : decode cX0_set 65 = .ok (.getfield 164, 3) := dk_180 0 164 (dk_at dksX0_set_2 20 rfl rfl)
theorem dX0_set_68 : decode cX0_set 68 = .ok (.iload_n 3, 1) := dk_29 (dk_at dksX0_set_2 23 rfl rfl)
theorem dX0_set_69 : decode cX0_set 69 = .ok (.putfield 482, 3) := dk_181 1 226 (dk_at dksX0_set_3 0 rfl rfl)
theorem dX0_set_72 : decode cX0_set 72 = .ok (.goto 28, 3) := dk_167 0 28 (dk_at dksX0_set_3 3 rfl rfl)
theorem dX0_set_75 : decode cX0_set 75 = .ok (.iload_n 1, 1) := dk_27 (dk_at dksX0_set_3 6 rfl rfl)
theorem dX0_set_76 : decode cX0_set 76 = .ok (.iconst 2, 1) := dk_5 (dk_at dksX0_set_3 7 rfl rfl)
theorem dX0_set_77 : decode cX0_set 77 = .ok (.if_icmp .ne 13, 3) := dk_160 0 13 (dk_at dksX0_set_3 8 rfl rfl)
theorem dX0_set_80 : decode cX0_set 80 = .ok (.aload_n 0, 1) := dk_42 (dk_at dksX0_set_3 11 rfl rfl)
theorem dX0_set_81 : decode cX0_set 81 = .ok (.getfield 164, 3) := dk_180 0 164 (dk_at dksX0_set_3 12 rfl rfl)
theorem dX0_set_84 : decode cX0_set 84 = .ok (.getfield 455, 3) := dk_180 1 199 (dk_at dksX0_set_3 15 rfl rfl)
theorem dX0_set_87 : decode cX0_set 87 = .ok (.goto 10, 3) := dk_167 0 10 (dk_at dksX0_set_3 18 rfl rfl)
theorem dX0_set_90 : decode cX0_set 90 = .ok (.aload_n 0, 1) := dk_42 (dk_at dksX0_set_3 21 rfl rfl)
theorem dX0_set_91 : decode cX0_set 91 = .ok (.getfield 164, 3) := dk_180 0 164 (dk_at dksX0_set_4 0 rfl rfl)
theorem dX0_set_94 : decode cX0_set 94 = .ok (.getfield 457, 3) := dk_180 1 201 (dk_at dksX0_set_4 3 rfl rfl)
theorem dX0_set_97 : decode cX0_set 97 = .ok (.iload_n 2, 1) := dk_28 (dk_at dksX0_set_4 6 rfl rfl)
theorem dX0_set_98 : decode cX0_set 98 = .ok (.iload_n 3, 1) := dk_29 (dk_at dksX0_set_4 7 rfl rfl)
theorem dX0_set_99 : decode cX0_set 99 = .ok (.iastore, 1) := dk_79 (dk_at dksX0_set_4 8 rfl rfl)
theorem dX0_set_100 : decode cX0_set 100 = .ok (.aload_n 0, 1) := dk_42 (dk_at dksX0_set_4 9 rfl rfl)
theorem dX0_set_101 : decode cX0_set 101 = .ok (.iconst 0, 1) := dk_3 (dk_at dksX0_set_4 10 rfl rfl)
theorem dX0_set_102 : decode cX0_set 102 = .ok (.putfield 408, 3) := dk_181 1 152 (dk_at dksX0_set_4 11 rfl rfl)
theorem dX0_set_105 : decode cX0_set 105 = .ok (.iconst 1, 1) := dk_4 (dk_at dksX0_set_4 14 rfl rfl)
theorem dX0_set_106 : decode cX0_set 106 = .ok (.ireturn, 1) := dk_172 (dk_at dksX0_set_4 15 rfl rfl)
abbrev cX0_isWorm : ByteArray := prog_1_method_50_code
def yX0_isWorm : MethodName := ⟨RX0, "isWorm", "(I)Z"⟩
def dkwX0_isWorm_0 : List UInt8 := [27, 3, 42, 180, 1, 136, 4, 100, 184, 0, 224, 172]
abbrev dktX0_isWorm_0 : List UInt8 := dkwX0_isWorm_0 ++ []
theorem dksX0_isWorm_0 : cX0_isWorm.data.toList.drop 0 = dktX0_isWorm_0 := by decide +kernel
theorem dX0_isWorm_0 : decode cX0_isWorm 0 = .ok (.iload_n 1, 1) := dk_27 (dk_at dksX0_isWorm_0 0 rfl rfl)
theorem dX0_isWorm_1 : decode cX0_isWorm 1 = .ok (.iconst 0, 1) := dk_3 (dk_at dksX0_isWorm_0 1 rfl rfl)
theorem dX0_isWorm_2 : decode cX0_isWorm 2 = .ok (.aload_n 0, 1) := dk_42 (dk_at dksX0_isWorm_0 2 rfl rfl)
theorem dX0_isWorm_3 : decode cX0_isWorm 3 = .ok (.getfield 392, 3) := dk_180 1 136 (dk_at dksX0_isWorm_0 3 rfl rfl)
theorem dX0_isWorm_6 : decode cX0_isWorm 6 = .ok (.iconst 1, 1) := dk_4 (dk_at dksX0_isWorm_0 6 rfl rfl)
theorem dX0_isWorm_7 : decode cX0_isWorm 7 = .ok (.isub, 1) := dk_100 (dk_at dksX0_isWorm_0 7 rfl rfl)
theorem dX0_isWorm_8 : decode cX0_isWorm 8 = .ok (.invokestatic 224, 3) := dk_184 0 224 (dk_at dksX0_isWorm_0 8 rfl rfl)
theorem dX0_isWorm_11 : decode cX0_isWorm 11 = .ok (.ireturn, 1) := dk_172 (dk_at dksX0_isWorm_0 11 rfl rfl)
abbrev cX0_feedOne : ByteArray := prog_1_method_55_code
def yX0_feedOne : MethodName := ⟨RX0, "feedOne", "(III)I"⟩
def dkwX0_feedOne_2 : List UInt8 := [2, 172, 42, 182, 1, 234, 42, 180, 0, 164, 27, 28, 29, 182, 1, 237, 172]
abbrev dktX0_feedOne_2 : List UInt8 := dkwX0_feedOne_2 ++ []
def dkwX0_feedOne_1 : List UInt8 := [182, 1, 228, 153, 0, 21, 28, 29, 159, 0, 16, 42, 180, 0, 164, 27, 28, 29, 182, 1, 231, 154, 0, 5]
abbrev dktX0_feedOne_1 : List UInt8 := dkwX0_feedOne_1 ++ dktX0_feedOne_2
def dkwX0_feedOne_0 : List UInt8 := [42, 27, 182, 1, 221, 153, 0, 42, 42, 28, 182, 1, 228, 153, 0, 34, 29, 2, 159, 0, 11, 42, 29]
abbrev dktX0_feedOne_0 : List UInt8 := dkwX0_feedOne_0 ++ dktX0_feedOne_1
theorem dksX0_feedOne_0 : cX0_feedOne.data.toList.drop 0 = dktX0_feedOne_0 := by decide +kernel
theorem dksX0_feedOne_1 : cX0_feedOne.data.toList.drop 23 = dktX0_feedOne_1 := dk_seg dksX0_feedOne_0 23 rfl rfl
theorem dksX0_feedOne_2 : cX0_feedOne.data.toList.drop 47 = dktX0_feedOne_2 := dk_seg dksX0_feedOne_1 24 rfl rfl
theorem dX0_feedOne_0 : decode cX0_feedOne 0 = .ok (.aload_n 0, 1) := dk_42 (dk_at dksX0_feedOne_0 0 rfl rfl)
theorem dX0_feedOne_1 : decode cX0_feedOne 1 = .ok (.iload_n 1, 1) := dk_27 (dk_at dksX0_feedOne_0 1 rfl rfl)
theorem dX0_feedOne_2 : decode cX0_feedOne 2 = .ok (.invokevirtual 477, 3) := dk_182 1 221 (dk_at dksX0_feedOne_0 2 rfl rfl)
theorem dX0_feedOne_5 : decode cX0_feedOne 5 = .ok (.ifCond .eq 42, 3) := dk_153 0 42 (dk_at dksX0_feedOne_0 5 rfl rfl)
theorem dX0_feedOne_8 : decode cX0_feedOne 8 = .ok (.aload_n 0, 1) := dk_42 (dk_at dksX0_feedOne_0 8 rfl rfl)
theorem dX0_feedOne_9 : decode cX0_feedOne 9 = .ok (.iload_n 2, 1) := dk_28 (dk_at dksX0_feedOne_0 9 rfl rfl)
theorem dX0_feedOne_10 : decode cX0_feedOne 10 = .ok (.invokevirtual 484, 3) := dk_182 1 228 (dk_at dksX0_feedOne_0 10 rfl rfl)
theorem dX0_feedOne_13 : decode cX0_feedOne 13 = .ok (.ifCond .eq 34, 3) := dk_153 0 34 (dk_at dksX0_feedOne_0 13 rfl rfl)
theorem dX0_feedOne_16 : decode cX0_feedOne 16 = .ok (.iload_n 3, 1) := dk_29 (dk_at dksX0_feedOne_0 16 rfl rfl)
theorem dX0_feedOne_17 : decode cX0_feedOne 17 = .ok (.iconst (-1), 1) := dk_2 (dk_at dksX0_feedOne_0 17 rfl rfl)
theorem dX0_feedOne_18 : decode cX0_feedOne 18 = .ok (.if_icmp .eq 11, 3) := dk_159 0 11 (dk_at dksX0_feedOne_0 18 rfl rfl)
theorem dX0_feedOne_21 : decode cX0_feedOne 21 = .ok (.aload_n 0, 1) := dk_42 (dk_at dksX0_feedOne_0 21 rfl rfl)
theorem dX0_feedOne_22 : decode cX0_feedOne 22 = .ok (.iload_n 3, 1) := dk_29 (dk_at dksX0_feedOne_0 22 rfl rfl)
theorem dX0_feedOne_23 : decode cX0_feedOne 23 = .ok (.invokevirtual 484, 3) := dk_182 1 228 (dk_at dksX0_feedOne_1 0 rfl rfl)
theorem dX0_feedOne_26 : decode cX0_feedOne 26 = .ok (.ifCond .eq 21, 3) := dk_153 0 21 (dk_at dksX0_feedOne_1 3 rfl rfl)
theorem dX0_feedOne_29 : decode cX0_feedOne 29 = .ok (.iload_n 2, 1) := dk_28 (dk_at dksX0_feedOne_1 6 rfl rfl)
theorem dX0_feedOne_30 : decode cX0_feedOne 30 = .ok (.iload_n 3, 1) := dk_29 (dk_at dksX0_feedOne_1 7 rfl rfl)
theorem dX0_feedOne_31 : decode cX0_feedOne 31 = .ok (.if_icmp .eq 16, 3) := dk_159 0 16 (dk_at dksX0_feedOne_1 8 rfl rfl)
theorem dX0_feedOne_34 : decode cX0_feedOne 34 = .ok (.aload_n 0, 1) := dk_42 (dk_at dksX0_feedOne_1 11 rfl rfl)
theorem dX0_feedOne_35 : decode cX0_feedOne 35 = .ok (.getfield 164, 3) := dk_180 0 164 (dk_at dksX0_feedOne_1 12 rfl rfl)
theorem dX0_feedOne_38 : decode cX0_feedOne 38 = .ok (.iload_n 1, 1) := dk_27 (dk_at dksX0_feedOne_1 15 rfl rfl)
theorem dX0_feedOne_39 : decode cX0_feedOne 39 = .ok (.iload_n 2, 1) := dk_28 (dk_at dksX0_feedOne_1 16 rfl rfl)
theorem dX0_feedOne_40 : decode cX0_feedOne 40 = .ok (.iload_n 3, 1) := dk_29 (dk_at dksX0_feedOne_1 17 rfl rfl)
theorem dX0_feedOne_41 : decode cX0_feedOne 41 = .ok (.invokevirtual 487, 3) := dk_182 1 231 (dk_at dksX0_feedOne_1 18 rfl rfl)
theorem dX0_feedOne_44 : decode cX0_feedOne 44 = .ok (.ifCond .ne 5, 3) := dk_154 0 5 (dk_at dksX0_feedOne_1 21 rfl rfl)
theorem dX0_feedOne_47 : decode cX0_feedOne 47 = .ok (.iconst (-1), 1) := dk_2 (dk_at dksX0_feedOne_2 0 rfl rfl)
theorem dX0_feedOne_48 : decode cX0_feedOne 48 = .ok (.ireturn, 1) := dk_172 (dk_at dksX0_feedOne_2 1 rfl rfl)
theorem dX0_feedOne_49 : decode cX0_feedOne 49 = .ok (.aload_n 0, 1) := dk_42 (dk_at dksX0_feedOne_2 2 rfl rfl)
theorem dX0_feedOne_50 : decode cX0_feedOne 50 = .ok (.invokevirtual 490, 3) := dk_182 1 234 (dk_at dksX0_feedOne_2 3 rfl rfl)
theorem dX0_feedOne_53 : decode cX0_feedOne 53 = .ok (.aload_n 0, 1) := dk_42 (dk_at dksX0_feedOne_2 6 rfl rfl)
theorem dX0_feedOne_54 : decode cX0_feedOne 54 = .ok (.getfield 164, 3) := dk_180 0 164 (dk_at dksX0_feedOne_2 7 rfl rfl)
theorem dX0_feedOne_57 : decode cX0_feedOne 57 = .ok (.iload_n 1, 1) := dk_27 (dk_at dksX0_feedOne_2 10 rfl rfl)
theorem dX0_feedOne_58 : decode cX0_feedOne 58 = .ok (.iload_n 2, 1) := dk_28 (dk_at dksX0_feedOne_2 11 rfl rfl)
theorem dX0_feedOne_59 : decode cX0_feedOne 59 = .ok (.iload_n 3, 1) := dk_29 (dk_at dksX0_feedOne_2 12 rfl rfl)
theorem dX0_feedOne_60 : decode cX0_feedOne 60 = .ok (.invokevirtual 493, 3) := dk_182 1 237 (dk_at dksX0_feedOne_2 13 rfl rfl)
theorem dX0_feedOne_63 : decode cX0_feedOne 63 = .ok (.ireturn, 1) := dk_172 (dk_at dksX0_feedOne_2 16 rfl rfl)
abbrev cX0_isFact : ByteArray := prog_1_method_51_code
def yX0_isFact : MethodName := ⟨RX0, "isFact", "(I)Z"⟩
def dkwX0_isFact_0 : List UInt8 := [27, 3, 42, 180, 0, 144, 190, 4, 100, 184, 0, 224, 172]
abbrev dktX0_isFact_0 : List UInt8 := dkwX0_isFact_0 ++ []
theorem dksX0_isFact_0 : cX0_isFact.data.toList.drop 0 = dktX0_isFact_0 := by decide +kernel
theorem dX0_isFact_0 : decode cX0_isFact 0 = .ok (.iload_n 1, 1) := dk_27 (dk_at dksX0_isFact_0 0 rfl rfl)
theorem dX0_isFact_1 : decode cX0_isFact 1 = .ok (.iconst 0, 1) := dk_3 (dk_at dksX0_isFact_0 1 rfl rfl)
theorem dX0_isFact_2 : decode cX0_isFact 2 = .ok (.aload_n 0, 1) := dk_42 (dk_at dksX0_isFact_0 2 rfl rfl)
theorem dX0_isFact_3 : decode cX0_isFact 3 = .ok (.getfield 144, 3) := dk_180 0 144 (dk_at dksX0_isFact_0 3 rfl rfl)
theorem dX0_isFact_6 : decode cX0_isFact 6 = .ok (.arraylength, 1) := dk_190 (dk_at dksX0_isFact_0 6 rfl rfl)
theorem dX0_isFact_7 : decode cX0_isFact 7 = .ok (.iconst 1, 1) := dk_4 (dk_at dksX0_isFact_0 7 rfl rfl)
theorem dX0_isFact_8 : decode cX0_isFact 8 = .ok (.isub, 1) := dk_100 (dk_at dksX0_isFact_0 8 rfl rfl)
theorem dX0_isFact_9 : decode cX0_isFact 9 = .ok (.invokestatic 224, 3) := dk_184 0 224 (dk_at dksX0_isFact_0 9 rfl rfl)
theorem dX0_isFact_12 : decode cX0_isFact 12 = .ok (.ireturn, 1) := dk_172 (dk_at dksX0_isFact_0 12 rfl rfl)
abbrev cX0_has : ByteArray := prog_1_method_3_code
def yX0_has : MethodName := ⟨RX0, "has", "(II)Z"⟩
def dkwX0_has_0 : List UInt8 := [26, 27, 122, 4, 126, 4, 160, 0, 7, 4, 167, 0, 4, 3, 172]
abbrev dktX0_has_0 : List UInt8 := dkwX0_has_0 ++ []
theorem dksX0_has_0 : cX0_has.data.toList.drop 0 = dktX0_has_0 := by decide +kernel
theorem dX0_has_0 : decode cX0_has 0 = .ok (.iload_n 0, 1) := dk_26 (dk_at dksX0_has_0 0 rfl rfl)
theorem dX0_has_1 : decode cX0_has 1 = .ok (.iload_n 1, 1) := dk_27 (dk_at dksX0_has_0 1 rfl rfl)
theorem dX0_has_2 : decode cX0_has 2 = .ok (.ishr, 1) := dk_122 (dk_at dksX0_has_0 2 rfl rfl)
theorem dX0_has_3 : decode cX0_has 3 = .ok (.iconst 1, 1) := dk_4 (dk_at dksX0_has_0 3 rfl rfl)
theorem dX0_has_4 : decode cX0_has 4 = .ok (.iand, 1) := dk_126 (dk_at dksX0_has_0 4 rfl rfl)
theorem dX0_has_5 : decode cX0_has 5 = .ok (.iconst 1, 1) := dk_4 (dk_at dksX0_has_0 5 rfl rfl)
theorem dX0_has_6 : decode cX0_has 6 = .ok (.if_icmp .ne 7, 3) := dk_160 0 7 (dk_at dksX0_has_0 6 rfl rfl)
theorem dX0_has_9 : decode cX0_has 9 = .ok (.iconst 1, 1) := dk_4 (dk_at dksX0_has_0 9 rfl rfl)
theorem dX0_has_10 : decode cX0_has 10 = .ok (.goto 4, 3) := dk_167 0 4 (dk_at dksX0_has_0 10 rfl rfl)
theorem dX0_has_13 : decode cX0_has 13 = .ok (.iconst 0, 1) := dk_3 (dk_at dksX0_has_0 13 rfl rfl)
theorem dX0_has_14 : decode cX0_has 14 = .ok (.ireturn, 1) := dk_172 (dk_at dksX0_has_0 14 rfl rfl)
abbrev cX0_tells : ByteArray := prog_1_method_31_code
def yX0_tells : MethodName := ⟨RX0, "tells", "(III)I"⟩
def dkwX0_tells_4 : List UInt8 := [42, 180, 0, 138, 182, 1, 112, 3, 29, 184, 1, 117, 172]
abbrev dktX0_tells_4 : List UInt8 := dkwX0_tells_4 ++ []
def dkwX0_tells_3 : List UInt8 := [42, 180, 0, 134, 180, 1, 98, 160, 0, 7, 28, 167, 0, 20, 42, 180, 0, 134, 180, 1, 107, 21, 4, 50]
abbrev dktX0_tells_3 : List UInt8 := dkwX0_tells_3 ++ dktX0_tells_4
def dkwX0_tells_2 : List UInt8 := [180, 1, 110, 21, 4, 50, 42, 180, 0, 138, 182, 1, 112, 154, 0, 9, 132, 4, 1, 167, 255, 194, 21, 4]
abbrev dktX0_tells_2 : List UInt8 := dkwX0_tells_2 ++ dktX0_tells_3
def dkwX0_tells_1 : List UInt8 := [46, 27, 160, 0, 36, 42, 180, 0, 134, 180, 1, 110, 21, 4, 50, 198, 0, 29, 42, 180, 0, 134]
abbrev dktX0_tells_1 : List UInt8 := dkwX0_tells_1 ++ dktX0_tells_2
def dkwX0_tells_0 : List UInt8 := [3, 54, 4, 21, 4, 42, 180, 0, 134, 180, 1, 98, 162, 0, 56, 42, 180, 0, 134, 180, 1, 104, 21, 4]
abbrev dktX0_tells_0 : List UInt8 := dkwX0_tells_0 ++ dktX0_tells_1
theorem dksX0_tells_0 : cX0_tells.data.toList.drop 0 = dktX0_tells_0 := by decide +kernel
theorem dksX0_tells_1 : cX0_tells.data.toList.drop 24 = dktX0_tells_1 := dk_seg dksX0_tells_0 24 rfl rfl
theorem dksX0_tells_2 : cX0_tells.data.toList.drop 46 = dktX0_tells_2 := dk_seg dksX0_tells_1 22 rfl rfl
theorem dksX0_tells_3 : cX0_tells.data.toList.drop 70 = dktX0_tells_3 := dk_seg dksX0_tells_2 24 rfl rfl
theorem dksX0_tells_4 : cX0_tells.data.toList.drop 94 = dktX0_tells_4 := dk_seg dksX0_tells_3 24 rfl rfl
theorem dX0_tells_0 : decode cX0_tells 0 = .ok (.iconst 0, 1) := dk_3 (dk_at dksX0_tells_0 0 rfl rfl)
theorem dX0_tells_1 : decode cX0_tells 1 = .ok (.istore 4, 2) := dk_54 4 (dk_at dksX0_tells_0 1 rfl rfl)
theorem dX0_tells_3 : decode cX0_tells 3 = .ok (.iload 4, 2) := dk_21 4 (dk_at dksX0_tells_0 3 rfl rfl)
theorem dX0_tells_5 : decode cX0_tells 5 = .ok (.aload_n 0, 1) := dk_42 (dk_at dksX0_tells_0 5 rfl rfl)
theorem dX0_tells_6 : decode cX0_tells 6 = .ok (.getfield 134, 3) := dk_180 0 134 (dk_at dksX0_tells_0 6 rfl rfl)
theorem dX0_tells_9 : decode cX0_tells 9 = .ok (.getfield 354, 3) := dk_180 1 98 (dk_at dksX0_tells_0 9 rfl rfl)
theorem dX0_tells_12 : decode cX0_tells 12 = .ok (.if_icmp .ge 56, 3) := dk_162 0 56 (dk_at dksX0_tells_0 12 rfl rfl)
theorem dX0_tells_15 : decode cX0_tells 15 = .ok (.aload_n 0, 1) := dk_42 (dk_at dksX0_tells_0 15 rfl rfl)
theorem dX0_tells_16 : decode cX0_tells 16 = .ok (.getfield 134, 3) := dk_180 0 134 (dk_at dksX0_tells_0 16 rfl rfl)
theorem dX0_tells_19 : decode cX0_tells 19 = .ok (.getfield 360, 3) := dk_180 1 104 (dk_at dksX0_tells_0 19 rfl rfl)
theorem dX0_tells_22 : decode cX0_tells 22 = .ok (.iload 4, 2) := dk_21 4 (dk_at dksX0_tells_0 22 rfl rfl)
theorem dX0_tells_24 : decode cX0_tells 24 = .ok (.iaload, 1) := dk_46 (dk_at dksX0_tells_1 0 rfl rfl)
theorem dX0_tells_25 : decode cX0_tells 25 = .ok (.iload_n 1, 1) := dk_27 (dk_at dksX0_tells_1 1 rfl rfl)
theorem dX0_tells_26 : decode cX0_tells 26 = .ok (.if_icmp .ne 36, 3) := dk_160 0 36 (dk_at dksX0_tells_1 2 rfl rfl)
theorem dX0_tells_29 : decode cX0_tells 29 = .ok (.aload_n 0, 1) := dk_42 (dk_at dksX0_tells_1 5 rfl rfl)
theorem dX0_tells_30 : decode cX0_tells 30 = .ok (.getfield 134, 3) := dk_180 0 134 (dk_at dksX0_tells_1 6 rfl rfl)
theorem dX0_tells_33 : decode cX0_tells 33 = .ok (.getfield 366, 3) := dk_180 1 110 (dk_at dksX0_tells_1 9 rfl rfl)
theorem dX0_tells_36 : decode cX0_tells 36 = .ok (.iload 4, 2) := dk_21 4 (dk_at dksX0_tells_1 12 rfl rfl)
theorem dX0_tells_38 : decode cX0_tells 38 = .ok (.aaload, 1) := dk_50 (dk_at dksX0_tells_1 14 rfl rfl)
theorem dX0_tells_39 : decode cX0_tells 39 = .ok (.ifnull 29, 3) := dk_198 0 29 (dk_at dksX0_tells_1 15 rfl rfl)
theorem dX0_tells_42 : decode cX0_tells 42 = .ok (.aload_n 0, 1) := dk_42 (dk_at dksX0_tells_1 18 rfl rfl)
theorem dX0_tells_43 : decode cX0_tells 43 = .ok (.getfield 134, 3) := dk_180 0 134 (dk_at dksX0_tells_1 19 rfl rfl)
theorem dX0_tells_46 : decode cX0_tells 46 = .ok (.getfield 366, 3) := dk_180 1 110 (dk_at dksX0_tells_2 0 rfl rfl)
theorem dX0_tells_49 : decode cX0_tells 49 = .ok (.iload 4, 2) := dk_21 4 (dk_at dksX0_tells_2 3 rfl rfl)
theorem dX0_tells_51 : decode cX0_tells 51 = .ok (.aaload, 1) := dk_50 (dk_at dksX0_tells_2 5 rfl rfl)
theorem dX0_tells_52 : decode cX0_tells 52 = .ok (.aload_n 0, 1) := dk_42 (dk_at dksX0_tells_2 6 rfl rfl)
theorem dX0_tells_53 : decode cX0_tells 53 = .ok (.getfield 138, 3) := dk_180 0 138 (dk_at dksX0_tells_2 7 rfl rfl)
theorem dX0_tells_56 : decode cX0_tells 56 = .ok (.invokevirtual 368, 3) := dk_182 1 112 (dk_at dksX0_tells_2 10 rfl rfl)
theorem dX0_tells_59 : decode cX0_tells 59 = .ok (.ifCond .ne 9, 3) := dk_154 0 9 (dk_at dksX0_tells_2 13 rfl rfl)
theorem dX0_tells_62 : decode cX0_tells 62 = .ok (.iinc 4 1, 3) := dk_132 4 1 (dk_at dksX0_tells_2 16 rfl rfl)
theorem dX0_tells_65 : decode cX0_tells 65 = .ok (.goto (-62), 3) := dk_167 255 194 (dk_at dksX0_tells_2 19 rfl rfl)
theorem dX0_tells_68 : decode cX0_tells 68 = .ok (.iload 4, 2) := dk_21 4 (dk_at dksX0_tells_2 22 rfl rfl)
theorem dX0_tells_70 : decode cX0_tells 70 = .ok (.aload_n 0, 1) := dk_42 (dk_at dksX0_tells_3 0 rfl rfl)
theorem dX0_tells_71 : decode cX0_tells 71 = .ok (.getfield 134, 3) := dk_180 0 134 (dk_at dksX0_tells_3 1 rfl rfl)
theorem dX0_tells_74 : decode cX0_tells 74 = .ok (.getfield 354, 3) := dk_180 1 98 (dk_at dksX0_tells_3 4 rfl rfl)
theorem dX0_tells_77 : decode cX0_tells 77 = .ok (.if_icmp .ne 7, 3) := dk_160 0 7 (dk_at dksX0_tells_3 7 rfl rfl)
theorem dX0_tells_80 : decode cX0_tells 80 = .ok (.iload_n 2, 1) := dk_28 (dk_at dksX0_tells_3 10 rfl rfl)
theorem dX0_tells_81 : decode cX0_tells 81 = .ok (.goto 20, 3) := dk_167 0 20 (dk_at dksX0_tells_3 11 rfl rfl)
theorem dX0_tells_84 : decode cX0_tells 84 = .ok (.aload_n 0, 1) := dk_42 (dk_at dksX0_tells_3 14 rfl rfl)
theorem dX0_tells_85 : decode cX0_tells 85 = .ok (.getfield 134, 3) := dk_180 0 134 (dk_at dksX0_tells_3 15 rfl rfl)
theorem dX0_tells_88 : decode cX0_tells 88 = .ok (.getfield 363, 3) := dk_180 1 107 (dk_at dksX0_tells_3 18 rfl rfl)
theorem dX0_tells_91 : decode cX0_tells 91 = .ok (.iload 4, 2) := dk_21 4 (dk_at dksX0_tells_3 21 rfl rfl)
theorem dX0_tells_93 : decode cX0_tells 93 = .ok (.aaload, 1) := dk_50 (dk_at dksX0_tells_3 23 rfl rfl)
theorem dX0_tells_94 : decode cX0_tells 94 = .ok (.aload_n 0, 1) := dk_42 (dk_at dksX0_tells_4 0 rfl rfl)
theorem dX0_tells_95 : decode cX0_tells 95 = .ok (.getfield 138, 3) := dk_180 0 138 (dk_at dksX0_tells_4 1 rfl rfl)
theorem dX0_tells_98 : decode cX0_tells 98 = .ok (.invokevirtual 368, 3) := dk_182 1 112 (dk_at dksX0_tells_4 4 rfl rfl)
theorem dX0_tells_101 : decode cX0_tells 101 = .ok (.iconst 0, 1) := dk_3 (dk_at dksX0_tells_4 7 rfl rfl)
theorem dX0_tells_102 : decode cX0_tells 102 = .ok (.iload_n 3, 1) := dk_29 (dk_at dksX0_tells_4 8 rfl rfl)
theorem dX0_tells_103 : decode cX0_tells 103 = .ok (.invokestatic 373, 3) := dk_184 1 117 (dk_at dksX0_tells_4 9 rfl rfl)
theorem dX0_tells_106 : decode cX0_tells 106 = .ok (.ireturn, 1) := dk_172 (dk_at dksX0_tells_4 12 rfl rfl)
abbrev cX0_held : ByteArray := prog_1_method_2_code
def yX0_held : MethodName := ⟨RX0, "held", "(III)I"⟩
def dkwX0_held_0 : List UInt8 := [27, 28, 26, 184, 0, 1, 184, 0, 7, 172]
abbrev dktX0_held_0 : List UInt8 := dkwX0_held_0 ++ []
theorem dksX0_held_0 : cX0_held.data.toList.drop 0 = dktX0_held_0 := by decide +kernel
theorem dX0_held_0 : decode cX0_held 0 = .ok (.iload_n 1, 1) := dk_27 (dk_at dksX0_held_0 0 rfl rfl)
theorem dX0_held_1 : decode cX0_held 1 = .ok (.iload_n 2, 1) := dk_28 (dk_at dksX0_held_0 1 rfl rfl)
theorem dX0_held_2 : decode cX0_held 2 = .ok (.iload_n 0, 1) := dk_26 (dk_at dksX0_held_0 2 rfl rfl)
theorem dX0_held_3 : decode cX0_held 3 = .ok (.invokestatic 1, 3) := dk_184 0 1 (dk_at dksX0_held_0 3 rfl rfl)
theorem dX0_held_6 : decode cX0_held 6 = .ok (.invokestatic 7, 3) := dk_184 0 7 (dk_at dksX0_held_0 6 rfl rfl)
theorem dX0_held_9 : decode cX0_held 9 = .ok (.ireturn, 1) := dk_172 (dk_at dksX0_held_0 9 rfl rfl)
abbrev cX0_keepsAhead : ByteArray := prog_1_method_48_code
def yX0_keepsAhead : MethodName := ⟨RX0, "keepsAhead", "()V"⟩
def dkwX0_keepsAhead_4 : List UInt8 := [180, 0, 164, 182, 1, 192, 42, 89, 180, 1, 152, 4, 96, 181, 1, 152, 177]
abbrev dktX0_keepsAhead_4 : List UInt8 := dkwX0_keepsAhead_4 ++ []
def dkwX0_keepsAhead_3 : List UInt8 := [180, 1, 152, 187, 0, 159, 89, 42, 183, 0, 161, 83, 42, 180, 0, 177, 42, 180, 1, 152, 50, 42]
abbrev dktX0_keepsAhead_3 : List UInt8 := dkwX0_keepsAhead_3 ++ dktX0_keepsAhead_4
def dkwX0_keepsAhead_2 : List UInt8 := [180, 1, 152, 43, 83, 42, 180, 0, 177, 42, 180, 1, 152, 50, 199, 0, 20, 42, 180, 0, 177, 42]
abbrev dktX0_keepsAhead_2 : List UInt8 := dkwX0_keepsAhead_2 ++ dktX0_keepsAhead_3
def dkwX0_keepsAhead_1 : List UInt8 := [180, 0, 177, 3, 8, 184, 0, 10, 42, 89, 180, 1, 152, 4, 100, 181, 1, 152, 42, 180, 0, 177, 42]
abbrev dktX0_keepsAhead_1 : List UInt8 := dkwX0_keepsAhead_1 ++ dktX0_keepsAhead_2
def dkwX0_keepsAhead_0 : List UInt8 := [42, 180, 1, 152, 16, 6, 160, 0, 44, 42, 180, 0, 177, 3, 50, 76, 42, 180, 0, 177, 4, 42]
abbrev dktX0_keepsAhead_0 : List UInt8 := dkwX0_keepsAhead_0 ++ dktX0_keepsAhead_1
theorem dksX0_keepsAhead_0 : cX0_keepsAhead.data.toList.drop 0 = dktX0_keepsAhead_0 := by decide +kernel
theorem dksX0_keepsAhead_1 : cX0_keepsAhead.data.toList.drop 22 = dktX0_keepsAhead_1 := dk_seg dksX0_keepsAhead_0 22 rfl rfl
theorem dksX0_keepsAhead_2 : cX0_keepsAhead.data.toList.drop 45 = dktX0_keepsAhead_2 := dk_seg dksX0_keepsAhead_1 23 rfl rfl
theorem dksX0_keepsAhead_3 : cX0_keepsAhead.data.toList.drop 67 = dktX0_keepsAhead_3 := dk_seg dksX0_keepsAhead_2 22 rfl rfl
theorem dksX0_keepsAhead_4 : cX0_keepsAhead.data.toList.drop 89 = dktX0_keepsAhead_4 := dk_seg dksX0_keepsAhead_3 22 rfl rfl
theorem dX0_keepsAhead_0 : decode cX0_keepsAhead 0 = .ok (.aload_n 0, 1) := dk_42 (dk_at dksX0_keepsAhead_0 0 rfl rfl)
theorem dX0_keepsAhead_1 : decode cX0_keepsAhead 1 = .ok (.getfield 408, 3) := dk_180 1 152 (dk_at dksX0_keepsAhead_0 1 rfl rfl)
theorem dX0_keepsAhead_4 : decode cX0_keepsAhead 4 = .ok (.bipush 6, 2) := dk_16 6 (dk_at dksX0_keepsAhead_0 4 rfl rfl)
theorem dX0_keepsAhead_6 : decode cX0_keepsAhead 6 = .ok (.if_icmp .ne 44, 3) := dk_160 0 44 (dk_at dksX0_keepsAhead_0 6 rfl rfl)
theorem dX0_keepsAhead_9 : decode cX0_keepsAhead 9 = .ok (.aload_n 0, 1) := dk_42 (dk_at dksX0_keepsAhead_0 9 rfl rfl)
theorem dX0_keepsAhead_10 : decode cX0_keepsAhead 10 = .ok (.getfield 177, 3) := dk_180 0 177 (dk_at dksX0_keepsAhead_0 10 rfl rfl)
theorem dX0_keepsAhead_13 : decode cX0_keepsAhead 13 = .ok (.iconst 0, 1) := dk_3 (dk_at dksX0_keepsAhead_0 13 rfl rfl)
theorem dX0_keepsAhead_14 : decode cX0_keepsAhead 14 = .ok (.aaload, 1) := dk_50 (dk_at dksX0_keepsAhead_0 14 rfl rfl)
theorem dX0_keepsAhead_15 : decode cX0_keepsAhead 15 = .ok (.astore_n 1, 1) := dk_76 (dk_at dksX0_keepsAhead_0 15 rfl rfl)
theorem dX0_keepsAhead_16 : decode cX0_keepsAhead 16 = .ok (.aload_n 0, 1) := dk_42 (dk_at dksX0_keepsAhead_0 16 rfl rfl)
theorem dX0_keepsAhead_17 : decode cX0_keepsAhead 17 = .ok (.getfield 177, 3) := dk_180 0 177 (dk_at dksX0_keepsAhead_0 17 rfl rfl)
theorem dX0_keepsAhead_20 : decode cX0_keepsAhead 20 = .ok (.iconst 1, 1) := dk_4 (dk_at dksX0_keepsAhead_0 20 rfl rfl)
theorem dX0_keepsAhead_21 : decode cX0_keepsAhead 21 = .ok (.aload_n 0, 1) := dk_42 (dk_at dksX0_keepsAhead_0 21 rfl rfl)
theorem dX0_keepsAhead_22 : decode cX0_keepsAhead 22 = .ok (.getfield 177, 3) := dk_180 0 177 (dk_at dksX0_keepsAhead_1 0 rfl rfl)
theorem dX0_keepsAhead_25 : decode cX0_keepsAhead 25 = .ok (.iconst 0, 1) := dk_3 (dk_at dksX0_keepsAhead_1 3 rfl rfl)
theorem dX0_keepsAhead_26 : decode cX0_keepsAhead 26 = .ok (.iconst 5, 1) := dk_8 (dk_at dksX0_keepsAhead_1 4 rfl rfl)
theorem dX0_keepsAhead_27 : decode cX0_keepsAhead 27 = .ok (.invokestatic 10, 3) := dk_184 0 10 (dk_at dksX0_keepsAhead_1 5 rfl rfl)
theorem dX0_keepsAhead_30 : decode cX0_keepsAhead 30 = .ok (.aload_n 0, 1) := dk_42 (dk_at dksX0_keepsAhead_1 8 rfl rfl)
theorem dX0_keepsAhead_31 : decode cX0_keepsAhead 31 = .ok (.dup, 1) := dk_89 (dk_at dksX0_keepsAhead_1 9 rfl rfl)
theorem dX0_keepsAhead_32 : decode cX0_keepsAhead 32 = .ok (.getfield 408, 3) := dk_180 1 152 (dk_at dksX0_keepsAhead_1 10 rfl rfl)
theorem dX0_keepsAhead_35 : decode cX0_keepsAhead 35 = .ok (.iconst 1, 1) := dk_4 (dk_at dksX0_keepsAhead_1 13 rfl rfl)
theorem dX0_keepsAhead_36 : decode cX0_keepsAhead 36 = .ok (.isub, 1) := dk_100 (dk_at dksX0_keepsAhead_1 14 rfl rfl)
theorem dX0_keepsAhead_37 : decode cX0_keepsAhead 37 = .ok (.putfield 408, 3) := dk_181 1 152 (dk_at dksX0_keepsAhead_1 15 rfl rfl)
theorem dX0_keepsAhead_40 : decode cX0_keepsAhead 40 = .ok (.aload_n 0, 1) := dk_42 (dk_at dksX0_keepsAhead_1 18 rfl rfl)
theorem dX0_keepsAhead_41 : decode cX0_keepsAhead 41 = .ok (.getfield 177, 3) := dk_180 0 177 (dk_at dksX0_keepsAhead_1 19 rfl rfl)
theorem dX0_keepsAhead_44 : decode cX0_keepsAhead 44 = .ok (.aload_n 0, 1) := dk_42 (dk_at dksX0_keepsAhead_1 22 rfl rfl)
theorem dX0_keepsAhead_45 : decode cX0_keepsAhead 45 = .ok (.getfield 408, 3) := dk_180 1 152 (dk_at dksX0_keepsAhead_2 0 rfl rfl)
theorem dX0_keepsAhead_48 : decode cX0_keepsAhead 48 = .ok (.aload_n 1, 1) := dk_43 (dk_at dksX0_keepsAhead_2 3 rfl rfl)
theorem dX0_keepsAhead_49 : decode cX0_keepsAhead 49 = .ok (.aastore, 1) := dk_83 (dk_at dksX0_keepsAhead_2 4 rfl rfl)
theorem dX0_keepsAhead_50 : decode cX0_keepsAhead 50 = .ok (.aload_n 0, 1) := dk_42 (dk_at dksX0_keepsAhead_2 5 rfl rfl)
theorem dX0_keepsAhead_51 : decode cX0_keepsAhead 51 = .ok (.getfield 177, 3) := dk_180 0 177 (dk_at dksX0_keepsAhead_2 6 rfl rfl)
theorem dX0_keepsAhead_54 : decode cX0_keepsAhead 54 = .ok (.aload_n 0, 1) := dk_42 (dk_at dksX0_keepsAhead_2 9 rfl rfl)
theorem dX0_keepsAhead_55 : decode cX0_keepsAhead 55 = .ok (.getfield 408, 3) := dk_180 1 152 (dk_at dksX0_keepsAhead_2 10 rfl rfl)
theorem dX0_keepsAhead_58 : decode cX0_keepsAhead 58 = .ok (.aaload, 1) := dk_50 (dk_at dksX0_keepsAhead_2 13 rfl rfl)
theorem dX0_keepsAhead_59 : decode cX0_keepsAhead 59 = .ok (.ifnonnull 20, 3) := dk_199 0 20 (dk_at dksX0_keepsAhead_2 14 rfl rfl)
theorem dX0_keepsAhead_62 : decode cX0_keepsAhead 62 = .ok (.aload_n 0, 1) := dk_42 (dk_at dksX0_keepsAhead_2 17 rfl rfl)
theorem dX0_keepsAhead_63 : decode cX0_keepsAhead 63 = .ok (.getfield 177, 3) := dk_180 0 177 (dk_at dksX0_keepsAhead_2 18 rfl rfl)
theorem dX0_keepsAhead_66 : decode cX0_keepsAhead 66 = .ok (.aload_n 0, 1) := dk_42 (dk_at dksX0_keepsAhead_2 21 rfl rfl)
theorem dX0_keepsAhead_67 : decode cX0_keepsAhead 67 = .ok (.getfield 408, 3) := dk_180 1 152 (dk_at dksX0_keepsAhead_3 0 rfl rfl)
theorem dX0_keepsAhead_70 : decode cX0_keepsAhead 70 = .ok (.new 159, 3) := dk_187 0 159 (dk_at dksX0_keepsAhead_3 3 rfl rfl)
theorem dX0_keepsAhead_73 : decode cX0_keepsAhead 73 = .ok (.dup, 1) := dk_89 (dk_at dksX0_keepsAhead_3 6 rfl rfl)
theorem dX0_keepsAhead_74 : decode cX0_keepsAhead 74 = .ok (.aload_n 0, 1) := dk_42 (dk_at dksX0_keepsAhead_3 7 rfl rfl)
theorem dX0_keepsAhead_75 : decode cX0_keepsAhead 75 = .ok (.invokespecial 161, 3) := dk_183 0 161 (dk_at dksX0_keepsAhead_3 8 rfl rfl)
theorem dX0_keepsAhead_78 : decode cX0_keepsAhead 78 = .ok (.aastore, 1) := dk_83 (dk_at dksX0_keepsAhead_3 11 rfl rfl)
theorem dX0_keepsAhead_79 : decode cX0_keepsAhead 79 = .ok (.aload_n 0, 1) := dk_42 (dk_at dksX0_keepsAhead_3 12 rfl rfl)
theorem dX0_keepsAhead_80 : decode cX0_keepsAhead 80 = .ok (.getfield 177, 3) := dk_180 0 177 (dk_at dksX0_keepsAhead_3 13 rfl rfl)
theorem dX0_keepsAhead_83 : decode cX0_keepsAhead 83 = .ok (.aload_n 0, 1) := dk_42 (dk_at dksX0_keepsAhead_3 16 rfl rfl)
theorem dX0_keepsAhead_84 : decode cX0_keepsAhead 84 = .ok (.getfield 408, 3) := dk_180 1 152 (dk_at dksX0_keepsAhead_3 17 rfl rfl)
theorem dX0_keepsAhead_87 : decode cX0_keepsAhead 87 = .ok (.aaload, 1) := dk_50 (dk_at dksX0_keepsAhead_3 20 rfl rfl)
theorem dX0_keepsAhead_88 : decode cX0_keepsAhead 88 = .ok (.aload_n 0, 1) := dk_42 (dk_at dksX0_keepsAhead_3 21 rfl rfl)
theorem dX0_keepsAhead_89 : decode cX0_keepsAhead 89 = .ok (.getfield 164, 3) := dk_180 0 164 (dk_at dksX0_keepsAhead_4 0 rfl rfl)
theorem dX0_keepsAhead_92 : decode cX0_keepsAhead 92 = .ok (.invokevirtual 448, 3) := dk_182 1 192 (dk_at dksX0_keepsAhead_4 3 rfl rfl)
theorem dX0_keepsAhead_95 : decode cX0_keepsAhead 95 = .ok (.aload_n 0, 1) := dk_42 (dk_at dksX0_keepsAhead_4 6 rfl rfl)
theorem dX0_keepsAhead_96 : decode cX0_keepsAhead 96 = .ok (.dup, 1) := dk_89 (dk_at dksX0_keepsAhead_4 7 rfl rfl)
theorem dX0_keepsAhead_97 : decode cX0_keepsAhead 97 = .ok (.getfield 408, 3) := dk_180 1 152 (dk_at dksX0_keepsAhead_4 8 rfl rfl)
theorem dX0_keepsAhead_100 : decode cX0_keepsAhead 100 = .ok (.iconst 1, 1) := dk_4 (dk_at dksX0_keepsAhead_4 11 rfl rfl)
theorem dX0_keepsAhead_101 : decode cX0_keepsAhead 101 = .ok (.iadd, 1) := dk_96 (dk_at dksX0_keepsAhead_4 12 rfl rfl)
theorem dX0_keepsAhead_102 : decode cX0_keepsAhead 102 = .ok (.putfield 408, 3) := dk_181 1 152 (dk_at dksX0_keepsAhead_4 13 rfl rfl)
theorem dX0_keepsAhead_105 : decode cX0_keepsAhead 105 = .ok (.return_, 1) := dk_177 (dk_at dksX0_keepsAhead_4 16 rfl rfl)
abbrev cX0_spunOf : ByteArray := prog_1_method_46_code
def yX0_spunOf : MethodName := ⟨RX0, "spunOf", "(II)[I"⟩
def dkwX0_spunOf_4 : List UInt8 := [167, 255, 206, 25, 5, 176]
abbrev dktX0_spunOf_4 : List UInt8 := dkwX0_spunOf_4 ++ []
def dkwX0_spunOf_3 : List UInt8 := [21, 7, 25, 4, 190, 162, 0, 16, 25, 5, 21, 6, 132, 6, 1, 25, 4, 21, 7, 46, 79, 132, 7, 1]
abbrev dktX0_spunOf_3 : List UInt8 := dkwX0_spunOf_3 ++ dktX0_spunOf_4
def dkwX0_spunOf_2 : List UInt8 := [16, 6, 162, 0, 49, 21, 7, 45, 190, 162, 0, 15, 25, 5, 21, 6, 132, 6, 1, 45, 21, 7, 46, 79]
abbrev dktX0_spunOf_2 : List UInt8 := dkwX0_spunOf_2 ++ dktX0_spunOf_3
def dkwX0_spunOf_1 : List UInt8 := [182, 1, 184, 58, 4, 45, 190, 25, 4, 190, 96, 188, 10, 58, 5, 3, 54, 6, 3, 54, 7, 21, 7]
abbrev dktX0_spunOf_1 : List UInt8 := dkwX0_spunOf_1 ++ dktX0_spunOf_2
def dkwX0_spunOf_0 : List UInt8 := [42, 180, 0, 144, 27, 50, 182, 1, 184, 78, 28, 2, 160, 0, 5, 45, 176, 42, 180, 0, 144, 28, 50]
abbrev dktX0_spunOf_0 : List UInt8 := dkwX0_spunOf_0 ++ dktX0_spunOf_1
theorem dksX0_spunOf_0 : cX0_spunOf.data.toList.drop 0 = dktX0_spunOf_0 := by decide +kernel
theorem dksX0_spunOf_1 : cX0_spunOf.data.toList.drop 23 = dktX0_spunOf_1 := dk_seg dksX0_spunOf_0 23 rfl rfl
theorem dksX0_spunOf_2 : cX0_spunOf.data.toList.drop 46 = dktX0_spunOf_2 := dk_seg dksX0_spunOf_1 23 rfl rfl
theorem dksX0_spunOf_3 : cX0_spunOf.data.toList.drop 70 = dktX0_spunOf_3 := dk_seg dksX0_spunOf_2 24 rfl rfl
theorem dksX0_spunOf_4 : cX0_spunOf.data.toList.drop 94 = dktX0_spunOf_4 := dk_seg dksX0_spunOf_3 24 rfl rfl
theorem dX0_spunOf_0 : decode cX0_spunOf 0 = .ok (.aload_n 0, 1) := dk_42 (dk_at dksX0_spunOf_0 0 rfl rfl)
theorem dX0_spunOf_1 : decode cX0_spunOf 1 = .ok (.getfield 144, 3) := dk_180 0 144 (dk_at dksX0_spunOf_0 1 rfl rfl)
theorem dX0_spunOf_4 : decode cX0_spunOf 4 = .ok (.iload_n 1, 1) := dk_27 (dk_at dksX0_spunOf_0 4 rfl rfl)
theorem dX0_spunOf_5 : decode cX0_spunOf 5 = .ok (.aaload, 1) := dk_50 (dk_at dksX0_spunOf_0 5 rfl rfl)
theorem dX0_spunOf_6 : decode cX0_spunOf 6 = .ok (.invokevirtual 440, 3) := dk_182 1 184 (dk_at dksX0_spunOf_0 6 rfl rfl)
theorem dX0_spunOf_9 : decode cX0_spunOf 9 = .ok (.astore_n 3, 1) := dk_78 (dk_at dksX0_spunOf_0 9 rfl rfl)
theorem dX0_spunOf_10 : decode cX0_spunOf 10 = .ok (.iload_n 2, 1) := dk_28 (dk_at dksX0_spunOf_0 10 rfl rfl)
theorem dX0_spunOf_11 : decode cX0_spunOf 11 = .ok (.iconst (-1), 1) := dk_2 (dk_at dksX0_spunOf_0 11 rfl rfl)
theorem dX0_spunOf_12 : decode cX0_spunOf 12 = .ok (.if_icmp .ne 5, 3) := dk_160 0 5 (dk_at dksX0_spunOf_0 12 rfl rfl)
theorem dX0_spunOf_15 : decode cX0_spunOf 15 = .ok (.aload_n 3, 1) := dk_45 (dk_at dksX0_spunOf_0 15 rfl rfl)
theorem dX0_spunOf_16 : decode cX0_spunOf 16 = .ok (.areturn, 1) := dk_176 (dk_at dksX0_spunOf_0 16 rfl rfl)
theorem dX0_spunOf_17 : decode cX0_spunOf 17 = .ok (.aload_n 0, 1) := dk_42 (dk_at dksX0_spunOf_0 17 rfl rfl)
theorem dX0_spunOf_18 : decode cX0_spunOf 18 = .ok (.getfield 144, 3) := dk_180 0 144 (dk_at dksX0_spunOf_0 18 rfl rfl)
theorem dX0_spunOf_21 : decode cX0_spunOf 21 = .ok (.iload_n 2, 1) := dk_28 (dk_at dksX0_spunOf_0 21 rfl rfl)
theorem dX0_spunOf_22 : decode cX0_spunOf 22 = .ok (.aaload, 1) := dk_50 (dk_at dksX0_spunOf_0 22 rfl rfl)
theorem dX0_spunOf_23 : decode cX0_spunOf 23 = .ok (.invokevirtual 440, 3) := dk_182 1 184 (dk_at dksX0_spunOf_1 0 rfl rfl)
theorem dX0_spunOf_26 : decode cX0_spunOf 26 = .ok (.astore 4, 2) := dk_58 4 (dk_at dksX0_spunOf_1 3 rfl rfl)
theorem dX0_spunOf_28 : decode cX0_spunOf 28 = .ok (.aload_n 3, 1) := dk_45 (dk_at dksX0_spunOf_1 5 rfl rfl)
theorem dX0_spunOf_29 : decode cX0_spunOf 29 = .ok (.arraylength, 1) := dk_190 (dk_at dksX0_spunOf_1 6 rfl rfl)
theorem dX0_spunOf_30 : decode cX0_spunOf 30 = .ok (.aload 4, 2) := dk_25 4 (dk_at dksX0_spunOf_1 7 rfl rfl)
theorem dX0_spunOf_32 : decode cX0_spunOf 32 = .ok (.arraylength, 1) := dk_190 (dk_at dksX0_spunOf_1 9 rfl rfl)
theorem dX0_spunOf_33 : decode cX0_spunOf 33 = .ok (.iadd, 1) := dk_96 (dk_at dksX0_spunOf_1 10 rfl rfl)
theorem dX0_spunOf_34 : decode cX0_spunOf 34 = .ok (.newarray .int, 2) := dk_188_10 (dk_at dksX0_spunOf_1 11 rfl rfl)
theorem dX0_spunOf_36 : decode cX0_spunOf 36 = .ok (.astore 5, 2) := dk_58 5 (dk_at dksX0_spunOf_1 13 rfl rfl)
theorem dX0_spunOf_38 : decode cX0_spunOf 38 = .ok (.iconst 0, 1) := dk_3 (dk_at dksX0_spunOf_1 15 rfl rfl)
theorem dX0_spunOf_39 : decode cX0_spunOf 39 = .ok (.istore 6, 2) := dk_54 6 (dk_at dksX0_spunOf_1 16 rfl rfl)
theorem dX0_spunOf_41 : decode cX0_spunOf 41 = .ok (.iconst 0, 1) := dk_3 (dk_at dksX0_spunOf_1 18 rfl rfl)
theorem dX0_spunOf_42 : decode cX0_spunOf 42 = .ok (.istore 7, 2) := dk_54 7 (dk_at dksX0_spunOf_1 19 rfl rfl)
theorem dX0_spunOf_44 : decode cX0_spunOf 44 = .ok (.iload 7, 2) := dk_21 7 (dk_at dksX0_spunOf_1 21 rfl rfl)
theorem dX0_spunOf_46 : decode cX0_spunOf 46 = .ok (.bipush 6, 2) := dk_16 6 (dk_at dksX0_spunOf_2 0 rfl rfl)
theorem dX0_spunOf_48 : decode cX0_spunOf 48 = .ok (.if_icmp .ge 49, 3) := dk_162 0 49 (dk_at dksX0_spunOf_2 2 rfl rfl)
theorem dX0_spunOf_51 : decode cX0_spunOf 51 = .ok (.iload 7, 2) := dk_21 7 (dk_at dksX0_spunOf_2 5 rfl rfl)
theorem dX0_spunOf_53 : decode cX0_spunOf 53 = .ok (.aload_n 3, 1) := dk_45 (dk_at dksX0_spunOf_2 7 rfl rfl)
theorem dX0_spunOf_54 : decode cX0_spunOf 54 = .ok (.arraylength, 1) := dk_190 (dk_at dksX0_spunOf_2 8 rfl rfl)
theorem dX0_spunOf_55 : decode cX0_spunOf 55 = .ok (.if_icmp .ge 15, 3) := dk_162 0 15 (dk_at dksX0_spunOf_2 9 rfl rfl)
theorem dX0_spunOf_58 : decode cX0_spunOf 58 = .ok (.aload 5, 2) := dk_25 5 (dk_at dksX0_spunOf_2 12 rfl rfl)
theorem dX0_spunOf_60 : decode cX0_spunOf 60 = .ok (.iload 6, 2) := dk_21 6 (dk_at dksX0_spunOf_2 14 rfl rfl)
theorem dX0_spunOf_62 : decode cX0_spunOf 62 = .ok (.iinc 6 1, 3) := dk_132 6 1 (dk_at dksX0_spunOf_2 16 rfl rfl)
theorem dX0_spunOf_65 : decode cX0_spunOf 65 = .ok (.aload_n 3, 1) := dk_45 (dk_at dksX0_spunOf_2 19 rfl rfl)
theorem dX0_spunOf_66 : decode cX0_spunOf 66 = .ok (.iload 7, 2) := dk_21 7 (dk_at dksX0_spunOf_2 20 rfl rfl)
theorem dX0_spunOf_68 : decode cX0_spunOf 68 = .ok (.iaload, 1) := dk_46 (dk_at dksX0_spunOf_2 22 rfl rfl)
theorem dX0_spunOf_69 : decode cX0_spunOf 69 = .ok (.iastore, 1) := dk_79 (dk_at dksX0_spunOf_2 23 rfl rfl)
theorem dX0_spunOf_70 : decode cX0_spunOf 70 = .ok (.iload 7, 2) := dk_21 7 (dk_at dksX0_spunOf_3 0 rfl rfl)
theorem dX0_spunOf_72 : decode cX0_spunOf 72 = .ok (.aload 4, 2) := dk_25 4 (dk_at dksX0_spunOf_3 2 rfl rfl)
theorem dX0_spunOf_74 : decode cX0_spunOf 74 = .ok (.arraylength, 1) := dk_190 (dk_at dksX0_spunOf_3 4 rfl rfl)
theorem dX0_spunOf_75 : decode cX0_spunOf 75 = .ok (.if_icmp .ge 16, 3) := dk_162 0 16 (dk_at dksX0_spunOf_3 5 rfl rfl)
theorem dX0_spunOf_78 : decode cX0_spunOf 78 = .ok (.aload 5, 2) := dk_25 5 (dk_at dksX0_spunOf_3 8 rfl rfl)
theorem dX0_spunOf_80 : decode cX0_spunOf 80 = .ok (.iload 6, 2) := dk_21 6 (dk_at dksX0_spunOf_3 10 rfl rfl)
theorem dX0_spunOf_82 : decode cX0_spunOf 82 = .ok (.iinc 6 1, 3) := dk_132 6 1 (dk_at dksX0_spunOf_3 12 rfl rfl)
theorem dX0_spunOf_85 : decode cX0_spunOf 85 = .ok (.aload 4, 2) := dk_25 4 (dk_at dksX0_spunOf_3 15 rfl rfl)
theorem dX0_spunOf_87 : decode cX0_spunOf 87 = .ok (.iload 7, 2) := dk_21 7 (dk_at dksX0_spunOf_3 17 rfl rfl)
theorem dX0_spunOf_89 : decode cX0_spunOf 89 = .ok (.iaload, 1) := dk_46 (dk_at dksX0_spunOf_3 19 rfl rfl)
theorem dX0_spunOf_90 : decode cX0_spunOf 90 = .ok (.iastore, 1) := dk_79 (dk_at dksX0_spunOf_3 20 rfl rfl)
theorem dX0_spunOf_91 : decode cX0_spunOf 91 = .ok (.iinc 7 1, 3) := dk_132 7 1 (dk_at dksX0_spunOf_3 21 rfl rfl)
theorem dX0_spunOf_94 : decode cX0_spunOf 94 = .ok (.goto (-50), 3) := dk_167 255 206 (dk_at dksX0_spunOf_4 0 rfl rfl)
theorem dX0_spunOf_97 : decode cX0_spunOf 97 = .ok (.aload 5, 2) := dk_25 5 (dk_at dksX0_spunOf_4 3 rfl rfl)
theorem dX0_spunOf_99 : decode cX0_spunOf 99 = .ok (.areturn, 1) := dk_176 (dk_at dksX0_spunOf_4 5 rfl rfl)
abbrev cX0_writes : ByteArray := prog_1_method_47_code
def yX0_writes : MethodName := ⟨RX0, "writes", "(III)V"⟩
def dkwX0_writes_3 : List UInt8 := [180, 0, 164, 89, 180, 1, 187, 4, 96, 181, 1, 187, 177]
abbrev dktX0_writes_3 : List UInt8 := dkwX0_writes_3 ++ []
def dkwX0_writes_2 : List UInt8 := [27, 79, 42, 180, 0, 174, 21, 4, 5, 96, 28, 79, 42, 180, 0, 174, 21, 4, 6, 96, 29, 79, 42]
abbrev dktX0_writes_2 : List UInt8 := dkwX0_writes_2 ++ dktX0_writes_3
def dkwX0_writes_1 : List UInt8 := [54, 4, 42, 180, 0, 174, 21, 4, 42, 180, 0, 164, 180, 1, 190, 79, 42, 180, 0, 174, 21, 4, 4, 96]
abbrev dktX0_writes_1 : List UInt8 := dkwX0_writes_1 ++ dktX0_writes_2
def dkwX0_writes_0 : List UInt8 := [42, 180, 0, 164, 180, 1, 187, 17, 0, 150, 160, 0, 4, 177, 7, 42, 180, 0, 164, 180, 1, 187, 104]
abbrev dktX0_writes_0 : List UInt8 := dkwX0_writes_0 ++ dktX0_writes_1
theorem dksX0_writes_0 : cX0_writes.data.toList.drop 0 = dktX0_writes_0 := by decide +kernel
theorem dksX0_writes_1 : cX0_writes.data.toList.drop 23 = dktX0_writes_1 := dk_seg dksX0_writes_0 23 rfl rfl
theorem dksX0_writes_2 : cX0_writes.data.toList.drop 47 = dktX0_writes_2 := dk_seg dksX0_writes_1 24 rfl rfl
theorem dksX0_writes_3 : cX0_writes.data.toList.drop 70 = dktX0_writes_3 := dk_seg dksX0_writes_2 23 rfl rfl
theorem dX0_writes_0 : decode cX0_writes 0 = .ok (.aload_n 0, 1) := dk_42 (dk_at dksX0_writes_0 0 rfl rfl)
theorem dX0_writes_1 : decode cX0_writes 1 = .ok (.getfield 164, 3) := dk_180 0 164 (dk_at dksX0_writes_0 1 rfl rfl)
theorem dX0_writes_4 : decode cX0_writes 4 = .ok (.getfield 443, 3) := dk_180 1 187 (dk_at dksX0_writes_0 4 rfl rfl)
theorem dX0_writes_7 : decode cX0_writes 7 = .ok (.sipush 150, 3) := dk_17 0 150 (dk_at dksX0_writes_0 7 rfl rfl)
theorem dX0_writes_10 : decode cX0_writes 10 = .ok (.if_icmp .ne 4, 3) := dk_160 0 4 (dk_at dksX0_writes_0 10 rfl rfl)
theorem dX0_writes_13 : decode cX0_writes 13 = .ok (.return_, 1) := dk_177 (dk_at dksX0_writes_0 13 rfl rfl)
theorem dX0_writes_14 : decode cX0_writes 14 = .ok (.iconst 4, 1) := dk_7 (dk_at dksX0_writes_0 14 rfl rfl)
theorem dX0_writes_15 : decode cX0_writes 15 = .ok (.aload_n 0, 1) := dk_42 (dk_at dksX0_writes_0 15 rfl rfl)
theorem dX0_writes_16 : decode cX0_writes 16 = .ok (.getfield 164, 3) := dk_180 0 164 (dk_at dksX0_writes_0 16 rfl rfl)
theorem dX0_writes_19 : decode cX0_writes 19 = .ok (.getfield 443, 3) := dk_180 1 187 (dk_at dksX0_writes_0 19 rfl rfl)
theorem dX0_writes_22 : decode cX0_writes 22 = .ok (.imul, 1) := dk_104 (dk_at dksX0_writes_0 22 rfl rfl)
theorem dX0_writes_23 : decode cX0_writes 23 = .ok (.istore 4, 2) := dk_54 4 (dk_at dksX0_writes_1 0 rfl rfl)
theorem dX0_writes_25 : decode cX0_writes 25 = .ok (.aload_n 0, 1) := dk_42 (dk_at dksX0_writes_1 2 rfl rfl)
theorem dX0_writes_26 : decode cX0_writes 26 = .ok (.getfield 174, 3) := dk_180 0 174 (dk_at dksX0_writes_1 3 rfl rfl)
theorem dX0_writes_29 : decode cX0_writes 29 = .ok (.iload 4, 2) := dk_21 4 (dk_at dksX0_writes_1 6 rfl rfl)
theorem dX0_writes_31 : decode cX0_writes 31 = .ok (.aload_n 0, 1) := dk_42 (dk_at dksX0_writes_1 8 rfl rfl)
theorem dX0_writes_32 : decode cX0_writes 32 = .ok (.getfield 164, 3) := dk_180 0 164 (dk_at dksX0_writes_1 9 rfl rfl)
theorem dX0_writes_35 : decode cX0_writes 35 = .ok (.getfield 446, 3) := dk_180 1 190 (dk_at dksX0_writes_1 12 rfl rfl)
theorem dX0_writes_38 : decode cX0_writes 38 = .ok (.iastore, 1) := dk_79 (dk_at dksX0_writes_1 15 rfl rfl)
theorem dX0_writes_39 : decode cX0_writes 39 = .ok (.aload_n 0, 1) := dk_42 (dk_at dksX0_writes_1 16 rfl rfl)
theorem dX0_writes_40 : decode cX0_writes 40 = .ok (.getfield 174, 3) := dk_180 0 174 (dk_at dksX0_writes_1 17 rfl rfl)
theorem dX0_writes_43 : decode cX0_writes 43 = .ok (.iload 4, 2) := dk_21 4 (dk_at dksX0_writes_1 20 rfl rfl)
theorem dX0_writes_45 : decode cX0_writes 45 = .ok (.iconst 1, 1) := dk_4 (dk_at dksX0_writes_1 22 rfl rfl)
theorem dX0_writes_46 : decode cX0_writes 46 = .ok (.iadd, 1) := dk_96 (dk_at dksX0_writes_1 23 rfl rfl)
theorem dX0_writes_47 : decode cX0_writes 47 = .ok (.iload_n 1, 1) := dk_27 (dk_at dksX0_writes_2 0 rfl rfl)
theorem dX0_writes_48 : decode cX0_writes 48 = .ok (.iastore, 1) := dk_79 (dk_at dksX0_writes_2 1 rfl rfl)
theorem dX0_writes_49 : decode cX0_writes 49 = .ok (.aload_n 0, 1) := dk_42 (dk_at dksX0_writes_2 2 rfl rfl)
theorem dX0_writes_50 : decode cX0_writes 50 = .ok (.getfield 174, 3) := dk_180 0 174 (dk_at dksX0_writes_2 3 rfl rfl)
theorem dX0_writes_53 : decode cX0_writes 53 = .ok (.iload 4, 2) := dk_21 4 (dk_at dksX0_writes_2 6 rfl rfl)
theorem dX0_writes_55 : decode cX0_writes 55 = .ok (.iconst 2, 1) := dk_5 (dk_at dksX0_writes_2 8 rfl rfl)
theorem dX0_writes_56 : decode cX0_writes 56 = .ok (.iadd, 1) := dk_96 (dk_at dksX0_writes_2 9 rfl rfl)
theorem dX0_writes_57 : decode cX0_writes 57 = .ok (.iload_n 2, 1) := dk_28 (dk_at dksX0_writes_2 10 rfl rfl)
theorem dX0_writes_58 : decode cX0_writes 58 = .ok (.iastore, 1) := dk_79 (dk_at dksX0_writes_2 11 rfl rfl)
theorem dX0_writes_59 : decode cX0_writes 59 = .ok (.aload_n 0, 1) := dk_42 (dk_at dksX0_writes_2 12 rfl rfl)
theorem dX0_writes_60 : decode cX0_writes 60 = .ok (.getfield 174, 3) := dk_180 0 174 (dk_at dksX0_writes_2 13 rfl rfl)
theorem dX0_writes_63 : decode cX0_writes 63 = .ok (.iload 4, 2) := dk_21 4 (dk_at dksX0_writes_2 16 rfl rfl)
theorem dX0_writes_65 : decode cX0_writes 65 = .ok (.iconst 3, 1) := dk_6 (dk_at dksX0_writes_2 18 rfl rfl)
theorem dX0_writes_66 : decode cX0_writes 66 = .ok (.iadd, 1) := dk_96 (dk_at dksX0_writes_2 19 rfl rfl)
theorem dX0_writes_67 : decode cX0_writes 67 = .ok (.iload_n 3, 1) := dk_29 (dk_at dksX0_writes_2 20 rfl rfl)
theorem dX0_writes_68 : decode cX0_writes 68 = .ok (.iastore, 1) := dk_79 (dk_at dksX0_writes_2 21 rfl rfl)
theorem dX0_writes_69 : decode cX0_writes 69 = .ok (.aload_n 0, 1) := dk_42 (dk_at dksX0_writes_2 22 rfl rfl)
theorem dX0_writes_70 : decode cX0_writes 70 = .ok (.getfield 164, 3) := dk_180 0 164 (dk_at dksX0_writes_3 0 rfl rfl)
theorem dX0_writes_73 : decode cX0_writes 73 = .ok (.dup, 1) := dk_89 (dk_at dksX0_writes_3 3 rfl rfl)
theorem dX0_writes_74 : decode cX0_writes 74 = .ok (.getfield 443, 3) := dk_180 1 187 (dk_at dksX0_writes_3 4 rfl rfl)
theorem dX0_writes_77 : decode cX0_writes 77 = .ok (.iconst 1, 1) := dk_4 (dk_at dksX0_writes_3 7 rfl rfl)
theorem dX0_writes_78 : decode cX0_writes 78 = .ok (.iadd, 1) := dk_96 (dk_at dksX0_writes_3 8 rfl rfl)
theorem dX0_writes_79 : decode cX0_writes 79 = .ok (.putfield 443, 3) := dk_181 1 187 (dk_at dksX0_writes_3 9 rfl rfl)
theorem dX0_writes_82 : decode cX0_writes 82 = .ok (.return_, 1) := dk_177 (dk_at dksX0_writes_3 12 rfl rfl)
abbrev cX0_cocoon : ByteArray := prog_1_method_56_code
def yX0_cocoon : MethodName := ⟨RX0, "cocoon", "(IZ)Z"⟩
def dkwX0_cocoon_2 : List UInt8 := [42, 180, 0, 164, 27, 182, 1, 246, 167, 0, 11, 42, 180, 0, 164, 27, 182, 1, 249, 4, 172]
abbrev dktX0_cocoon_2 : List UInt8 := dkwX0_cocoon_2 ++ []
def dkwX0_cocoon_1 : List UInt8 := [167, 0, 16, 42, 180, 0, 164, 27, 182, 1, 243, 154, 0, 5, 3, 172, 42, 182, 1, 234, 28, 153, 0, 14]
abbrev dktX0_cocoon_1 : List UInt8 := dkwX0_cocoon_1 ++ dktX0_cocoon_2
def dkwX0_cocoon_0 : List UInt8 := [42, 27, 182, 1, 221, 153, 0, 32, 28, 153, 0, 17, 42, 180, 0, 164, 27, 182, 1, 240, 153, 0, 17]
abbrev dktX0_cocoon_0 : List UInt8 := dkwX0_cocoon_0 ++ dktX0_cocoon_1
theorem dksX0_cocoon_0 : cX0_cocoon.data.toList.drop 0 = dktX0_cocoon_0 := by decide +kernel
theorem dksX0_cocoon_1 : cX0_cocoon.data.toList.drop 23 = dktX0_cocoon_1 := dk_seg dksX0_cocoon_0 23 rfl rfl
theorem dksX0_cocoon_2 : cX0_cocoon.data.toList.drop 47 = dktX0_cocoon_2 := dk_seg dksX0_cocoon_1 24 rfl rfl
theorem dX0_cocoon_0 : decode cX0_cocoon 0 = .ok (.aload_n 0, 1) := dk_42 (dk_at dksX0_cocoon_0 0 rfl rfl)
theorem dX0_cocoon_1 : decode cX0_cocoon 1 = .ok (.iload_n 1, 1) := dk_27 (dk_at dksX0_cocoon_0 1 rfl rfl)
theorem dX0_cocoon_2 : decode cX0_cocoon 2 = .ok (.invokevirtual 477, 3) := dk_182 1 221 (dk_at dksX0_cocoon_0 2 rfl rfl)
theorem dX0_cocoon_5 : decode cX0_cocoon 5 = .ok (.ifCond .eq 32, 3) := dk_153 0 32 (dk_at dksX0_cocoon_0 5 rfl rfl)
theorem dX0_cocoon_8 : decode cX0_cocoon 8 = .ok (.iload_n 2, 1) := dk_28 (dk_at dksX0_cocoon_0 8 rfl rfl)
theorem dX0_cocoon_9 : decode cX0_cocoon 9 = .ok (.ifCond .eq 17, 3) := dk_153 0 17 (dk_at dksX0_cocoon_0 9 rfl rfl)
theorem dX0_cocoon_12 : decode cX0_cocoon 12 = .ok (.aload_n 0, 1) := dk_42 (dk_at dksX0_cocoon_0 12 rfl rfl)
theorem dX0_cocoon_13 : decode cX0_cocoon 13 = .ok (.getfield 164, 3) := dk_180 0 164 (dk_at dksX0_cocoon_0 13 rfl rfl)
theorem dX0_cocoon_16 : decode cX0_cocoon 16 = .ok (.iload_n 1, 1) := dk_27 (dk_at dksX0_cocoon_0 16 rfl rfl)
theorem dX0_cocoon_17 : decode cX0_cocoon 17 = .ok (.invokevirtual 496, 3) := dk_182 1 240 (dk_at dksX0_cocoon_0 17 rfl rfl)
theorem dX0_cocoon_20 : decode cX0_cocoon 20 = .ok (.ifCond .eq 17, 3) := dk_153 0 17 (dk_at dksX0_cocoon_0 20 rfl rfl)
theorem dX0_cocoon_23 : decode cX0_cocoon 23 = .ok (.goto 16, 3) := dk_167 0 16 (dk_at dksX0_cocoon_1 0 rfl rfl)
theorem dX0_cocoon_26 : decode cX0_cocoon 26 = .ok (.aload_n 0, 1) := dk_42 (dk_at dksX0_cocoon_1 3 rfl rfl)
theorem dX0_cocoon_27 : decode cX0_cocoon 27 = .ok (.getfield 164, 3) := dk_180 0 164 (dk_at dksX0_cocoon_1 4 rfl rfl)
theorem dX0_cocoon_30 : decode cX0_cocoon 30 = .ok (.iload_n 1, 1) := dk_27 (dk_at dksX0_cocoon_1 7 rfl rfl)
theorem dX0_cocoon_31 : decode cX0_cocoon 31 = .ok (.invokevirtual 499, 3) := dk_182 1 243 (dk_at dksX0_cocoon_1 8 rfl rfl)
theorem dX0_cocoon_34 : decode cX0_cocoon 34 = .ok (.ifCond .ne 5, 3) := dk_154 0 5 (dk_at dksX0_cocoon_1 11 rfl rfl)
theorem dX0_cocoon_37 : decode cX0_cocoon 37 = .ok (.iconst 0, 1) := dk_3 (dk_at dksX0_cocoon_1 14 rfl rfl)
theorem dX0_cocoon_38 : decode cX0_cocoon 38 = .ok (.ireturn, 1) := dk_172 (dk_at dksX0_cocoon_1 15 rfl rfl)
theorem dX0_cocoon_39 : decode cX0_cocoon 39 = .ok (.aload_n 0, 1) := dk_42 (dk_at dksX0_cocoon_1 16 rfl rfl)
theorem dX0_cocoon_40 : decode cX0_cocoon 40 = .ok (.invokevirtual 490, 3) := dk_182 1 234 (dk_at dksX0_cocoon_1 17 rfl rfl)
theorem dX0_cocoon_43 : decode cX0_cocoon 43 = .ok (.iload_n 2, 1) := dk_28 (dk_at dksX0_cocoon_1 20 rfl rfl)
theorem dX0_cocoon_44 : decode cX0_cocoon 44 = .ok (.ifCond .eq 14, 3) := dk_153 0 14 (dk_at dksX0_cocoon_1 21 rfl rfl)
theorem dX0_cocoon_47 : decode cX0_cocoon 47 = .ok (.aload_n 0, 1) := dk_42 (dk_at dksX0_cocoon_2 0 rfl rfl)
theorem dX0_cocoon_48 : decode cX0_cocoon 48 = .ok (.getfield 164, 3) := dk_180 0 164 (dk_at dksX0_cocoon_2 1 rfl rfl)
theorem dX0_cocoon_51 : decode cX0_cocoon 51 = .ok (.iload_n 1, 1) := dk_27 (dk_at dksX0_cocoon_2 4 rfl rfl)
theorem dX0_cocoon_52 : decode cX0_cocoon 52 = .ok (.invokevirtual 502, 3) := dk_182 1 246 (dk_at dksX0_cocoon_2 5 rfl rfl)
theorem dX0_cocoon_55 : decode cX0_cocoon 55 = .ok (.goto 11, 3) := dk_167 0 11 (dk_at dksX0_cocoon_2 8 rfl rfl)
theorem dX0_cocoon_58 : decode cX0_cocoon 58 = .ok (.aload_n 0, 1) := dk_42 (dk_at dksX0_cocoon_2 11 rfl rfl)
theorem dX0_cocoon_59 : decode cX0_cocoon 59 = .ok (.getfield 164, 3) := dk_180 0 164 (dk_at dksX0_cocoon_2 12 rfl rfl)
theorem dX0_cocoon_62 : decode cX0_cocoon 62 = .ok (.iload_n 1, 1) := dk_27 (dk_at dksX0_cocoon_2 15 rfl rfl)
theorem dX0_cocoon_63 : decode cX0_cocoon 63 = .ok (.invokevirtual 505, 3) := dk_182 1 249 (dk_at dksX0_cocoon_2 16 rfl rfl)
theorem dX0_cocoon_66 : decode cX0_cocoon 66 = .ok (.iconst 1, 1) := dk_4 (dk_at dksX0_cocoon_2 19 rfl rfl)
theorem dX0_cocoon_67 : decode cX0_cocoon 67 = .ok (.ireturn, 1) := dk_172 (dk_at dksX0_cocoon_2 20 rfl rfl)
abbrev cX0_days : ByteArray := prog_1_method_57_code
def yX0_days : MethodName := ⟨RX0, "days", "(I)I"⟩
def dkwX0_days_2 : List UInt8 := [182, 1, 252, 96, 61, 132, 3, 1, 167, 255, 234, 28, 172]
abbrev dktX0_days_2 : List UInt8 := dkwX0_days_2 ++ []
def dkwX0_days_1 : List UInt8 := [164, 0, 5, 2, 172, 3, 61, 3, 62, 29, 27, 162, 0, 23, 42, 182, 1, 234, 28, 42, 180, 0, 164]
abbrev dktX0_days_1 : List UInt8 := dkwX0_days_1 ++ dktX0_days_2
def dkwX0_days_0 : List UInt8 := [27, 4, 16, 60, 184, 0, 224, 153, 0, 18, 42, 180, 0, 164, 180, 1, 190, 27, 96, 17, 39, 15]
abbrev dktX0_days_0 : List UInt8 := dkwX0_days_0 ++ dktX0_days_1
theorem dksX0_days_0 : cX0_days.data.toList.drop 0 = dktX0_days_0 := by decide +kernel
theorem dksX0_days_1 : cX0_days.data.toList.drop 22 = dktX0_days_1 := dk_seg dksX0_days_0 22 rfl rfl
theorem dksX0_days_2 : cX0_days.data.toList.drop 45 = dktX0_days_2 := dk_seg dksX0_days_1 23 rfl rfl
theorem dX0_days_0 : decode cX0_days 0 = .ok (.iload_n 1, 1) := dk_27 (dk_at dksX0_days_0 0 rfl rfl)
theorem dX0_days_1 : decode cX0_days 1 = .ok (.iconst 1, 1) := dk_4 (dk_at dksX0_days_0 1 rfl rfl)
theorem dX0_days_2 : decode cX0_days 2 = .ok (.bipush 60, 2) := dk_16 60 (dk_at dksX0_days_0 2 rfl rfl)
theorem dX0_days_4 : decode cX0_days 4 = .ok (.invokestatic 224, 3) := dk_184 0 224 (dk_at dksX0_days_0 4 rfl rfl)
theorem dX0_days_7 : decode cX0_days 7 = .ok (.ifCond .eq 18, 3) := dk_153 0 18 (dk_at dksX0_days_0 7 rfl rfl)
theorem dX0_days_10 : decode cX0_days 10 = .ok (.aload_n 0, 1) := dk_42 (dk_at dksX0_days_0 10 rfl rfl)
theorem dX0_days_11 : decode cX0_days 11 = .ok (.getfield 164, 3) := dk_180 0 164 (dk_at dksX0_days_0 11 rfl rfl)
theorem dX0_days_14 : decode cX0_days 14 = .ok (.getfield 446, 3) := dk_180 1 190 (dk_at dksX0_days_0 14 rfl rfl)
theorem dX0_days_17 : decode cX0_days 17 = .ok (.iload_n 1, 1) := dk_27 (dk_at dksX0_days_0 17 rfl rfl)
theorem dX0_days_18 : decode cX0_days 18 = .ok (.iadd, 1) := dk_96 (dk_at dksX0_days_0 18 rfl rfl)
theorem dX0_days_19 : decode cX0_days 19 = .ok (.sipush 9999, 3) := dk_17 39 15 (dk_at dksX0_days_0 19 rfl rfl)
theorem dX0_days_22 : decode cX0_days 22 = .ok (.if_icmp .le 5, 3) := dk_164 0 5 (dk_at dksX0_days_1 0 rfl rfl)
theorem dX0_days_25 : decode cX0_days 25 = .ok (.iconst (-1), 1) := dk_2 (dk_at dksX0_days_1 3 rfl rfl)
theorem dX0_days_26 : decode cX0_days 26 = .ok (.ireturn, 1) := dk_172 (dk_at dksX0_days_1 4 rfl rfl)
theorem dX0_days_27 : decode cX0_days 27 = .ok (.iconst 0, 1) := dk_3 (dk_at dksX0_days_1 5 rfl rfl)
theorem dX0_days_28 : decode cX0_days 28 = .ok (.istore_n 2, 1) := dk_61 (dk_at dksX0_days_1 6 rfl rfl)
theorem dX0_days_29 : decode cX0_days 29 = .ok (.iconst 0, 1) := dk_3 (dk_at dksX0_days_1 7 rfl rfl)
theorem dX0_days_30 : decode cX0_days 30 = .ok (.istore_n 3, 1) := dk_62 (dk_at dksX0_days_1 8 rfl rfl)
theorem dX0_days_31 : decode cX0_days 31 = .ok (.iload_n 3, 1) := dk_29 (dk_at dksX0_days_1 9 rfl rfl)
theorem dX0_days_32 : decode cX0_days 32 = .ok (.iload_n 1, 1) := dk_27 (dk_at dksX0_days_1 10 rfl rfl)
theorem dX0_days_33 : decode cX0_days 33 = .ok (.if_icmp .ge 23, 3) := dk_162 0 23 (dk_at dksX0_days_1 11 rfl rfl)
theorem dX0_days_36 : decode cX0_days 36 = .ok (.aload_n 0, 1) := dk_42 (dk_at dksX0_days_1 14 rfl rfl)
theorem dX0_days_37 : decode cX0_days 37 = .ok (.invokevirtual 490, 3) := dk_182 1 234 (dk_at dksX0_days_1 15 rfl rfl)
theorem dX0_days_40 : decode cX0_days 40 = .ok (.iload_n 2, 1) := dk_28 (dk_at dksX0_days_1 18 rfl rfl)
theorem dX0_days_41 : decode cX0_days 41 = .ok (.aload_n 0, 1) := dk_42 (dk_at dksX0_days_1 19 rfl rfl)
theorem dX0_days_42 : decode cX0_days 42 = .ok (.getfield 164, 3) := dk_180 0 164 (dk_at dksX0_days_1 20 rfl rfl)
theorem dX0_days_45 : decode cX0_days 45 = .ok (.invokevirtual 508, 3) := dk_182 1 252 (dk_at dksX0_days_2 0 rfl rfl)
theorem dX0_days_48 : decode cX0_days 48 = .ok (.iadd, 1) := dk_96 (dk_at dksX0_days_2 3 rfl rfl)
theorem dX0_days_49 : decode cX0_days 49 = .ok (.istore_n 2, 1) := dk_61 (dk_at dksX0_days_2 4 rfl rfl)
theorem dX0_days_50 : decode cX0_days 50 = .ok (.iinc 3 1, 3) := dk_132 3 1 (dk_at dksX0_days_2 5 rfl rfl)
theorem dX0_days_53 : decode cX0_days 53 = .ok (.goto (-22), 3) := dk_167 255 234 (dk_at dksX0_days_2 8 rfl rfl)
theorem dX0_days_56 : decode cX0_days 56 = .ok (.iload_n 2, 1) := dk_28 (dk_at dksX0_days_2 11 rfl rfl)
theorem dX0_days_57 : decode cX0_days 57 = .ok (.ireturn, 1) := dk_172 (dk_at dksX0_days_2 12 rfl rfl)
abbrev cX0_of : ByteArray := prog_1_method_58_code
def yX0_of : MethodName := ⟨RX0, "of", "(II)I"⟩
def dkwX0_of_8 : List UInt8 := [180, 0, 164, 180, 1, 203, 27, 46, 172, 42, 180, 0, 164, 27, 3, 3, 182, 2, 12, 172, 16, 254, 172]
abbrev dktX0_of_8 : List UInt8 := dkwX0_of_8 ++ []
def dkwX0_of_7 : List UInt8 := [167, 0, 4, 3, 172, 42, 180, 0, 164, 27, 182, 2, 6, 172, 42, 180, 0, 164, 27, 182, 2, 9, 172, 42]
abbrev dktX0_of_7 : List UInt8 := dkwX0_of_7 ++ dktX0_of_8
def dkwX0_of_6 : List UInt8 := [153, 0, 7, 4, 167, 0, 4, 3, 172, 42, 180, 0, 164, 180, 1, 218, 27, 184, 2, 2, 153, 0, 7, 4]
abbrev dktX0_of_6 : List UInt8 := dkwX0_of_6 ++ dktX0_of_7
def dkwX0_of_5 : List UInt8 := [180, 0, 164, 180, 1, 209, 27, 46, 4, 100, 172, 42, 180, 0, 164, 180, 1, 215, 27, 184, 2, 2]
abbrev dktX0_of_5 : List UInt8 := dkwX0_of_5 ++ dktX0_of_6
def dkwX0_of_4 : List UInt8 := [27, 46, 172, 42, 180, 0, 164, 180, 1, 212, 27, 46, 172, 42, 180, 0, 164, 180, 1, 206, 27, 46, 172, 42]
abbrev dktX0_of_4 : List UInt8 := dkwX0_of_4 ++ dktX0_of_5
def dkwX0_of_3 : List UInt8 := [42, 180, 0, 157, 27, 46, 172, 42, 180, 0, 164, 180, 1, 199, 27, 46, 172, 42, 180, 0, 164, 180, 1, 201]
abbrev dktX0_of_3 : List UInt8 := dkwX0_of_3 ++ dktX0_of_4
def dkwX0_of_2 : List UInt8 := [171, 0, 0, 0, 0, 244, 0, 0, 0, 12, 0, 0, 0, 0, 0, 0, 0, 106, 0, 0, 0, 1, 0, 0, 0, 113, 0, 0, 0, 2, 0, 0, 0, 123, 0, 0, 0, 3, 0, 0, 0, 133, 0, 0, 0, 4, 0, 0, 0, 143, 0, 0, 0, 5, 0, 0, 0, 153, 0, 0, 0, 6, 0, 0, 0, 165, 0, 0, 0, 7, 0, 0, 0, 185, 0, 0, 0, 8, 0, 0, 0, 205, 0, 0, 0, 9, 0, 0, 0, 214, 0, 0, 0, 10, 0, 0, 0, 223, 0, 0, 0, 70, 0, 0, 0, 233]
abbrev dktX0_of_2 : List UInt8 := dkwX0_of_2 ++ dktX0_of_3
def dkwX0_of_1 : List UInt8 := [46, 96, 184, 0, 224, 153, 0, 16, 42, 180, 0, 164, 27, 28, 16, 20, 100, 182, 1, 255, 172, 28]
abbrev dktX0_of_1 : List UInt8 := dkwX0_of_1 ++ dktX0_of_2
def dkwX0_of_0 : List UInt8 := [42, 27, 182, 1, 221, 154, 0, 6, 16, 254, 172, 28, 16, 20, 16, 19, 42, 180, 0, 164, 180, 1, 212, 27]
abbrev dktX0_of_0 : List UInt8 := dkwX0_of_0 ++ dktX0_of_1
theorem dksX0_of_0 : cX0_of.data.toList.drop 0 = dktX0_of_0 := by decide +kernel
theorem dksX0_of_1 : cX0_of.data.toList.drop 24 = dktX0_of_1 := dk_seg dksX0_of_0 24 rfl rfl
theorem dksX0_of_2 : cX0_of.data.toList.drop 46 = dktX0_of_2 := dk_seg dksX0_of_1 22 rfl rfl
theorem dksX0_of_3 : cX0_of.data.toList.drop 152 = dktX0_of_3 := dk_seg dksX0_of_2 106 rfl rfl
theorem dksX0_of_4 : cX0_of.data.toList.drop 176 = dktX0_of_4 := dk_seg dksX0_of_3 24 rfl rfl
theorem dksX0_of_5 : cX0_of.data.toList.drop 200 = dktX0_of_5 := dk_seg dksX0_of_4 24 rfl rfl
theorem dksX0_of_6 : cX0_of.data.toList.drop 222 = dktX0_of_6 := dk_seg dksX0_of_5 22 rfl rfl
theorem dksX0_of_7 : cX0_of.data.toList.drop 246 = dktX0_of_7 := dk_seg dksX0_of_6 24 rfl rfl
theorem dksX0_of_8 : cX0_of.data.toList.drop 270 = dktX0_of_8 := dk_seg dksX0_of_7 24 rfl rfl
theorem dX0_of_0 : decode cX0_of 0 = .ok (.aload_n 0, 1) := dk_42 (dk_at dksX0_of_0 0 rfl rfl)
theorem dX0_of_1 : decode cX0_of 1 = .ok (.iload_n 1, 1) := dk_27 (dk_at dksX0_of_0 1 rfl rfl)
theorem dX0_of_2 : decode cX0_of 2 = .ok (.invokevirtual 477, 3) := dk_182 1 221 (dk_at dksX0_of_0 2 rfl rfl)
theorem dX0_of_5 : decode cX0_of 5 = .ok (.ifCond .ne 6, 3) := dk_154 0 6 (dk_at dksX0_of_0 5 rfl rfl)
theorem dX0_of_8 : decode cX0_of 8 = .ok (.bipush (-2), 2) := dk_16 254 (dk_at dksX0_of_0 8 rfl rfl)
theorem dX0_of_10 : decode cX0_of 10 = .ok (.ireturn, 1) := dk_172 (dk_at dksX0_of_0 10 rfl rfl)
theorem dX0_of_11 : decode cX0_of 11 = .ok (.iload_n 2, 1) := dk_28 (dk_at dksX0_of_0 11 rfl rfl)
theorem dX0_of_12 : decode cX0_of 12 = .ok (.bipush 20, 2) := dk_16 20 (dk_at dksX0_of_0 12 rfl rfl)
theorem dX0_of_14 : decode cX0_of 14 = .ok (.bipush 19, 2) := dk_16 19 (dk_at dksX0_of_0 14 rfl rfl)
theorem dX0_of_16 : decode cX0_of 16 = .ok (.aload_n 0, 1) := dk_42 (dk_at dksX0_of_0 16 rfl rfl)
theorem dX0_of_17 : decode cX0_of 17 = .ok (.getfield 164, 3) := dk_180 0 164 (dk_at dksX0_of_0 17 rfl rfl)
theorem dX0_of_20 : decode cX0_of 20 = .ok (.getfield 468, 3) := dk_180 1 212 (dk_at dksX0_of_0 20 rfl rfl)
theorem dX0_of_23 : decode cX0_of 23 = .ok (.iload_n 1, 1) := dk_27 (dk_at dksX0_of_0 23 rfl rfl)
theorem dX0_of_24 : decode cX0_of 24 = .ok (.iaload, 1) := dk_46 (dk_at dksX0_of_1 0 rfl rfl)
theorem dX0_of_25 : decode cX0_of 25 = .ok (.iadd, 1) := dk_96 (dk_at dksX0_of_1 1 rfl rfl)
theorem dX0_of_26 : decode cX0_of 26 = .ok (.invokestatic 224, 3) := dk_184 0 224 (dk_at dksX0_of_1 2 rfl rfl)
theorem dX0_of_29 : decode cX0_of 29 = .ok (.ifCond .eq 16, 3) := dk_153 0 16 (dk_at dksX0_of_1 5 rfl rfl)
theorem dX0_of_32 : decode cX0_of 32 = .ok (.aload_n 0, 1) := dk_42 (dk_at dksX0_of_1 8 rfl rfl)
theorem dX0_of_33 : decode cX0_of 33 = .ok (.getfield 164, 3) := dk_180 0 164 (dk_at dksX0_of_1 9 rfl rfl)
theorem dX0_of_36 : decode cX0_of 36 = .ok (.iload_n 1, 1) := dk_27 (dk_at dksX0_of_1 12 rfl rfl)
theorem dX0_of_37 : decode cX0_of 37 = .ok (.iload_n 2, 1) := dk_28 (dk_at dksX0_of_1 13 rfl rfl)
theorem dX0_of_38 : decode cX0_of 38 = .ok (.bipush 20, 2) := dk_16 20 (dk_at dksX0_of_1 14 rfl rfl)
theorem dX0_of_40 : decode cX0_of 40 = .ok (.isub, 1) := dk_100 (dk_at dksX0_of_1 16 rfl rfl)
theorem dX0_of_41 : decode cX0_of 41 = .ok (.invokevirtual 511, 3) := dk_182 1 255 (dk_at dksX0_of_1 17 rfl rfl)
theorem dX0_of_44 : decode cX0_of 44 = .ok (.ireturn, 1) := dk_172 (dk_at dksX0_of_1 20 rfl rfl)
theorem dX0_of_45 : decode cX0_of 45 = .ok (.iload_n 2, 1) := dk_28 (dk_at dksX0_of_1 21 rfl rfl)
theorem dX0_of_46 : decode cX0_of 46 = .ok (.lookupswitch 244 #[(0, 106), (1, 113), (2, 123), (3, 133), (4, 143), (5, 153), (6, 165), (7, 185), (8, 205), (9, 214), (10, 223), (70, 233)], 106) := by decide +kernel
theorem dX0_of_152 : decode cX0_of 152 = .ok (.aload_n 0, 1) := dk_42 (dk_at dksX0_of_3 0 rfl rfl)
theorem dX0_of_153 : decode cX0_of 153 = .ok (.getfield 157, 3) := dk_180 0 157 (dk_at dksX0_of_3 1 rfl rfl)
theorem dX0_of_156 : decode cX0_of 156 = .ok (.iload_n 1, 1) := dk_27 (dk_at dksX0_of_3 4 rfl rfl)
theorem dX0_of_157 : decode cX0_of 157 = .ok (.iaload, 1) := dk_46 (dk_at dksX0_of_3 5 rfl rfl)
theorem dX0_of_158 : decode cX0_of 158 = .ok (.ireturn, 1) := dk_172 (dk_at dksX0_of_3 6 rfl rfl)
theorem dX0_of_159 : decode cX0_of 159 = .ok (.aload_n 0, 1) := dk_42 (dk_at dksX0_of_3 7 rfl rfl)
theorem dX0_of_160 : decode cX0_of 160 = .ok (.getfield 164, 3) := dk_180 0 164 (dk_at dksX0_of_3 8 rfl rfl)
theorem dX0_of_163 : decode cX0_of 163 = .ok (.getfield 455, 3) := dk_180 1 199 (dk_at dksX0_of_3 11 rfl rfl)
theorem dX0_of_166 : decode cX0_of 166 = .ok (.iload_n 1, 1) := dk_27 (dk_at dksX0_of_3 14 rfl rfl)
theorem dX0_of_167 : decode cX0_of 167 = .ok (.iaload, 1) := dk_46 (dk_at dksX0_of_3 15 rfl rfl)
theorem dX0_of_168 : decode cX0_of 168 = .ok (.ireturn, 1) := dk_172 (dk_at dksX0_of_3 16 rfl rfl)
theorem dX0_of_169 : decode cX0_of 169 = .ok (.aload_n 0, 1) := dk_42 (dk_at dksX0_of_3 17 rfl rfl)
theorem dX0_of_170 : decode cX0_of 170 = .ok (.getfield 164, 3) := dk_180 0 164 (dk_at dksX0_of_3 18 rfl rfl)
theorem dX0_of_173 : decode cX0_of 173 = .ok (.getfield 457, 3) := dk_180 1 201 (dk_at dksX0_of_3 21 rfl rfl)
theorem dX0_of_176 : decode cX0_of 176 = .ok (.iload_n 1, 1) := dk_27 (dk_at dksX0_of_4 0 rfl rfl)
theorem dX0_of_177 : decode cX0_of 177 = .ok (.iaload, 1) := dk_46 (dk_at dksX0_of_4 1 rfl rfl)
theorem dX0_of_178 : decode cX0_of 178 = .ok (.ireturn, 1) := dk_172 (dk_at dksX0_of_4 2 rfl rfl)
theorem dX0_of_179 : decode cX0_of 179 = .ok (.aload_n 0, 1) := dk_42 (dk_at dksX0_of_4 3 rfl rfl)
theorem dX0_of_180 : decode cX0_of 180 = .ok (.getfield 164, 3) := dk_180 0 164 (dk_at dksX0_of_4 4 rfl rfl)
theorem dX0_of_183 : decode cX0_of 183 = .ok (.getfield 468, 3) := dk_180 1 212 (dk_at dksX0_of_4 7 rfl rfl)
theorem dX0_of_186 : decode cX0_of 186 = .ok (.iload_n 1, 1) := dk_27 (dk_at dksX0_of_4 10 rfl rfl)
theorem dX0_of_187 : decode cX0_of 187 = .ok (.iaload, 1) := dk_46 (dk_at dksX0_of_4 11 rfl rfl)
theorem dX0_of_188 : decode cX0_of 188 = .ok (.ireturn, 1) := dk_172 (dk_at dksX0_of_4 12 rfl rfl)
theorem dX0_of_189 : decode cX0_of 189 = .ok (.aload_n 0, 1) := dk_42 (dk_at dksX0_of_4 13 rfl rfl)
theorem dX0_of_190 : decode cX0_of 190 = .ok (.getfield 164, 3) := dk_180 0 164 (dk_at dksX0_of_4 14 rfl rfl)
theorem dX0_of_193 : decode cX0_of 193 = .ok (.getfield 462, 3) := dk_180 1 206 (dk_at dksX0_of_4 17 rfl rfl)
theorem dX0_of_196 : decode cX0_of 196 = .ok (.iload_n 1, 1) := dk_27 (dk_at dksX0_of_4 20 rfl rfl)
theorem dX0_of_197 : decode cX0_of 197 = .ok (.iaload, 1) := dk_46 (dk_at dksX0_of_4 21 rfl rfl)
theorem dX0_of_198 : decode cX0_of 198 = .ok (.ireturn, 1) := dk_172 (dk_at dksX0_of_4 22 rfl rfl)
theorem dX0_of_199 : decode cX0_of 199 = .ok (.aload_n 0, 1) := dk_42 (dk_at dksX0_of_4 23 rfl rfl)
theorem dX0_of_200 : decode cX0_of 200 = .ok (.getfield 164, 3) := dk_180 0 164 (dk_at dksX0_of_5 0 rfl rfl)
theorem dX0_of_203 : decode cX0_of 203 = .ok (.getfield 465, 3) := dk_180 1 209 (dk_at dksX0_of_5 3 rfl rfl)
theorem dX0_of_206 : decode cX0_of 206 = .ok (.iload_n 1, 1) := dk_27 (dk_at dksX0_of_5 6 rfl rfl)
theorem dX0_of_207 : decode cX0_of 207 = .ok (.iaload, 1) := dk_46 (dk_at dksX0_of_5 7 rfl rfl)
theorem dX0_of_208 : decode cX0_of 208 = .ok (.iconst 1, 1) := dk_4 (dk_at dksX0_of_5 8 rfl rfl)
theorem dX0_of_209 : decode cX0_of 209 = .ok (.isub, 1) := dk_100 (dk_at dksX0_of_5 9 rfl rfl)
theorem dX0_of_210 : decode cX0_of 210 = .ok (.ireturn, 1) := dk_172 (dk_at dksX0_of_5 10 rfl rfl)
theorem dX0_of_211 : decode cX0_of 211 = .ok (.aload_n 0, 1) := dk_42 (dk_at dksX0_of_5 11 rfl rfl)
theorem dX0_of_212 : decode cX0_of 212 = .ok (.getfield 164, 3) := dk_180 0 164 (dk_at dksX0_of_5 12 rfl rfl)
theorem dX0_of_215 : decode cX0_of 215 = .ok (.getfield 471, 3) := dk_180 1 215 (dk_at dksX0_of_5 15 rfl rfl)
theorem dX0_of_218 : decode cX0_of 218 = .ok (.iload_n 1, 1) := dk_27 (dk_at dksX0_of_5 18 rfl rfl)
theorem dX0_of_219 : decode cX0_of 219 = .ok (.invokestatic 514, 3) := dk_184 2 2 (dk_at dksX0_of_5 19 rfl rfl)
theorem dX0_of_222 : decode cX0_of 222 = .ok (.ifCond .eq 7, 3) := dk_153 0 7 (dk_at dksX0_of_6 0 rfl rfl)
theorem dX0_of_225 : decode cX0_of 225 = .ok (.iconst 1, 1) := dk_4 (dk_at dksX0_of_6 3 rfl rfl)
theorem dX0_of_226 : decode cX0_of 226 = .ok (.goto 4, 3) := dk_167 0 4 (dk_at dksX0_of_6 4 rfl rfl)
theorem dX0_of_229 : decode cX0_of 229 = .ok (.iconst 0, 1) := dk_3 (dk_at dksX0_of_6 7 rfl rfl)
theorem dX0_of_230 : decode cX0_of 230 = .ok (.ireturn, 1) := dk_172 (dk_at dksX0_of_6 8 rfl rfl)
theorem dX0_of_231 : decode cX0_of 231 = .ok (.aload_n 0, 1) := dk_42 (dk_at dksX0_of_6 9 rfl rfl)
theorem dX0_of_232 : decode cX0_of 232 = .ok (.getfield 164, 3) := dk_180 0 164 (dk_at dksX0_of_6 10 rfl rfl)
theorem dX0_of_235 : decode cX0_of 235 = .ok (.getfield 474, 3) := dk_180 1 218 (dk_at dksX0_of_6 13 rfl rfl)
theorem dX0_of_238 : decode cX0_of 238 = .ok (.iload_n 1, 1) := dk_27 (dk_at dksX0_of_6 16 rfl rfl)
theorem dX0_of_239 : decode cX0_of 239 = .ok (.invokestatic 514, 3) := dk_184 2 2 (dk_at dksX0_of_6 17 rfl rfl)
theorem dX0_of_242 : decode cX0_of 242 = .ok (.ifCond .eq 7, 3) := dk_153 0 7 (dk_at dksX0_of_6 20 rfl rfl)
theorem dX0_of_245 : decode cX0_of 245 = .ok (.iconst 1, 1) := dk_4 (dk_at dksX0_of_6 23 rfl rfl)
theorem dX0_of_246 : decode cX0_of 246 = .ok (.goto 4, 3) := dk_167 0 4 (dk_at dksX0_of_7 0 rfl rfl)
theorem dX0_of_249 : decode cX0_of 249 = .ok (.iconst 0, 1) := dk_3 (dk_at dksX0_of_7 3 rfl rfl)
theorem dX0_of_250 : decode cX0_of 250 = .ok (.ireturn, 1) := dk_172 (dk_at dksX0_of_7 4 rfl rfl)
theorem dX0_of_251 : decode cX0_of 251 = .ok (.aload_n 0, 1) := dk_42 (dk_at dksX0_of_7 5 rfl rfl)
theorem dX0_of_252 : decode cX0_of 252 = .ok (.getfield 164, 3) := dk_180 0 164 (dk_at dksX0_of_7 6 rfl rfl)
theorem dX0_of_255 : decode cX0_of 255 = .ok (.iload_n 1, 1) := dk_27 (dk_at dksX0_of_7 9 rfl rfl)
theorem dX0_of_256 : decode cX0_of 256 = .ok (.invokevirtual 518, 3) := dk_182 2 6 (dk_at dksX0_of_7 10 rfl rfl)
theorem dX0_of_259 : decode cX0_of 259 = .ok (.ireturn, 1) := dk_172 (dk_at dksX0_of_7 13 rfl rfl)
theorem dX0_of_260 : decode cX0_of 260 = .ok (.aload_n 0, 1) := dk_42 (dk_at dksX0_of_7 14 rfl rfl)
theorem dX0_of_261 : decode cX0_of 261 = .ok (.getfield 164, 3) := dk_180 0 164 (dk_at dksX0_of_7 15 rfl rfl)
theorem dX0_of_264 : decode cX0_of 264 = .ok (.iload_n 1, 1) := dk_27 (dk_at dksX0_of_7 18 rfl rfl)
theorem dX0_of_265 : decode cX0_of 265 = .ok (.invokevirtual 521, 3) := dk_182 2 9 (dk_at dksX0_of_7 19 rfl rfl)
theorem dX0_of_268 : decode cX0_of 268 = .ok (.ireturn, 1) := dk_172 (dk_at dksX0_of_7 22 rfl rfl)
theorem dX0_of_269 : decode cX0_of 269 = .ok (.aload_n 0, 1) := dk_42 (dk_at dksX0_of_7 23 rfl rfl)
theorem dX0_of_270 : decode cX0_of 270 = .ok (.getfield 164, 3) := dk_180 0 164 (dk_at dksX0_of_8 0 rfl rfl)
theorem dX0_of_273 : decode cX0_of 273 = .ok (.getfield 459, 3) := dk_180 1 203 (dk_at dksX0_of_8 3 rfl rfl)
theorem dX0_of_276 : decode cX0_of 276 = .ok (.iload_n 1, 1) := dk_27 (dk_at dksX0_of_8 6 rfl rfl)
theorem dX0_of_277 : decode cX0_of 277 = .ok (.iaload, 1) := dk_46 (dk_at dksX0_of_8 7 rfl rfl)
theorem dX0_of_278 : decode cX0_of 278 = .ok (.ireturn, 1) := dk_172 (dk_at dksX0_of_8 8 rfl rfl)
theorem dX0_of_279 : decode cX0_of 279 = .ok (.aload_n 0, 1) := dk_42 (dk_at dksX0_of_8 9 rfl rfl)
theorem dX0_of_280 : decode cX0_of 280 = .ok (.getfield 164, 3) := dk_180 0 164 (dk_at dksX0_of_8 10 rfl rfl)
theorem dX0_of_283 : decode cX0_of 283 = .ok (.iload_n 1, 1) := dk_27 (dk_at dksX0_of_8 13 rfl rfl)
theorem dX0_of_284 : decode cX0_of 284 = .ok (.iconst 0, 1) := dk_3 (dk_at dksX0_of_8 14 rfl rfl)
theorem dX0_of_285 : decode cX0_of 285 = .ok (.iconst 0, 1) := dk_3 (dk_at dksX0_of_8 15 rfl rfl)
theorem dX0_of_286 : decode cX0_of 286 = .ok (.invokevirtual 524, 3) := dk_182 2 12 (dk_at dksX0_of_8 16 rfl rfl)
theorem dX0_of_289 : decode cX0_of 289 = .ok (.ireturn, 1) := dk_172 (dk_at dksX0_of_8 19 rfl rfl)
theorem dX0_of_290 : decode cX0_of 290 = .ok (.bipush (-2), 2) := dk_16 254 (dk_at dksX0_of_8 20 rfl rfl)
theorem dX0_of_292 : decode cX0_of 292 = .ok (.ireturn, 1) := dk_172 (dk_at dksX0_of_8 22 rfl rfl)
abbrev cX0_fact_2 : ByteArray := prog_1_method_59_code
def yX0_fact_2 : MethodName := ⟨RX0, "fact", "(II)I"⟩
def dkwX0_fact_2_4 : List UInt8 := [182, 2, 17, 167, 0, 4, 2, 172]
abbrev dktX0_fact_2_4 : List UInt8 := dkwX0_fact_2_4 ++ []
def dkwX0_fact_2_3 : List UInt8 := [180, 0, 144, 27, 50, 182, 2, 15, 167, 0, 21, 28, 5, 160, 0, 15, 42, 180, 0, 144, 27, 50]
abbrev dktX0_fact_2_3 : List UInt8 := dkwX0_fact_2_3 ++ dktX0_fact_2_4
def dkwX0_fact_2_2 : List UInt8 := [154, 0, 16, 42, 180, 0, 144, 27, 50, 182, 1, 184, 190, 167, 0, 38, 28, 4, 160, 0, 15, 42]
abbrev dktX0_fact_2_2 : List UInt8 := dkwX0_fact_2_2 ++ dktX0_fact_2_3
def dkwX0_fact_2_1 : List UInt8 := [190, 96, 184, 0, 224, 153, 0, 18, 42, 180, 0, 144, 27, 50, 182, 1, 184, 28, 16, 10, 100, 46, 172, 28]
abbrev dktX0_fact_2_1 : List UInt8 := dkwX0_fact_2_1 ++ dktX0_fact_2_2
def dkwX0_fact_2_0 : List UInt8 := [42, 27, 182, 1, 228, 154, 0, 5, 2, 172, 28, 16, 10, 16, 9, 42, 180, 0, 144, 27, 50, 182, 1, 184]
abbrev dktX0_fact_2_0 : List UInt8 := dkwX0_fact_2_0 ++ dktX0_fact_2_1
theorem dksX0_fact_2_0 : cX0_fact_2.data.toList.drop 0 = dktX0_fact_2_0 := by decide +kernel
theorem dksX0_fact_2_1 : cX0_fact_2.data.toList.drop 24 = dktX0_fact_2_1 := dk_seg dksX0_fact_2_0 24 rfl rfl
theorem dksX0_fact_2_2 : cX0_fact_2.data.toList.drop 48 = dktX0_fact_2_2 := dk_seg dksX0_fact_2_1 24 rfl rfl
theorem dksX0_fact_2_3 : cX0_fact_2.data.toList.drop 70 = dktX0_fact_2_3 := dk_seg dksX0_fact_2_2 22 rfl rfl
theorem dksX0_fact_2_4 : cX0_fact_2.data.toList.drop 92 = dktX0_fact_2_4 := dk_seg dksX0_fact_2_3 22 rfl rfl
theorem dX0_fact_2_0 : decode cX0_fact_2 0 = .ok (.aload_n 0, 1) := dk_42 (dk_at dksX0_fact_2_0 0 rfl rfl)
theorem dX0_fact_2_1 : decode cX0_fact_2 1 = .ok (.iload_n 1, 1) := dk_27 (dk_at dksX0_fact_2_0 1 rfl rfl)
theorem dX0_fact_2_2 : decode cX0_fact_2 2 = .ok (.invokevirtual 484, 3) := dk_182 1 228 (dk_at dksX0_fact_2_0 2 rfl rfl)
theorem dX0_fact_2_5 : decode cX0_fact_2 5 = .ok (.ifCond .ne 5, 3) := dk_154 0 5 (dk_at dksX0_fact_2_0 5 rfl rfl)
theorem dX0_fact_2_8 : decode cX0_fact_2 8 = .ok (.iconst (-1), 1) := dk_2 (dk_at dksX0_fact_2_0 8 rfl rfl)
theorem dX0_fact_2_9 : decode cX0_fact_2 9 = .ok (.ireturn, 1) := dk_172 (dk_at dksX0_fact_2_0 9 rfl rfl)
theorem dX0_fact_2_10 : decode cX0_fact_2 10 = .ok (.iload_n 2, 1) := dk_28 (dk_at dksX0_fact_2_0 10 rfl rfl)
theorem dX0_fact_2_11 : decode cX0_fact_2 11 = .ok (.bipush 10, 2) := dk_16 10 (dk_at dksX0_fact_2_0 11 rfl rfl)
theorem dX0_fact_2_13 : decode cX0_fact_2 13 = .ok (.bipush 9, 2) := dk_16 9 (dk_at dksX0_fact_2_0 13 rfl rfl)
theorem dX0_fact_2_15 : decode cX0_fact_2 15 = .ok (.aload_n 0, 1) := dk_42 (dk_at dksX0_fact_2_0 15 rfl rfl)
theorem dX0_fact_2_16 : decode cX0_fact_2 16 = .ok (.getfield 144, 3) := dk_180 0 144 (dk_at dksX0_fact_2_0 16 rfl rfl)
theorem dX0_fact_2_19 : decode cX0_fact_2 19 = .ok (.iload_n 1, 1) := dk_27 (dk_at dksX0_fact_2_0 19 rfl rfl)
theorem dX0_fact_2_20 : decode cX0_fact_2 20 = .ok (.aaload, 1) := dk_50 (dk_at dksX0_fact_2_0 20 rfl rfl)
theorem dX0_fact_2_21 : decode cX0_fact_2 21 = .ok (.invokevirtual 440, 3) := dk_182 1 184 (dk_at dksX0_fact_2_0 21 rfl rfl)
theorem dX0_fact_2_24 : decode cX0_fact_2 24 = .ok (.arraylength, 1) := dk_190 (dk_at dksX0_fact_2_1 0 rfl rfl)
theorem dX0_fact_2_25 : decode cX0_fact_2 25 = .ok (.iadd, 1) := dk_96 (dk_at dksX0_fact_2_1 1 rfl rfl)
theorem dX0_fact_2_26 : decode cX0_fact_2 26 = .ok (.invokestatic 224, 3) := dk_184 0 224 (dk_at dksX0_fact_2_1 2 rfl rfl)
theorem dX0_fact_2_29 : decode cX0_fact_2 29 = .ok (.ifCond .eq 18, 3) := dk_153 0 18 (dk_at dksX0_fact_2_1 5 rfl rfl)
theorem dX0_fact_2_32 : decode cX0_fact_2 32 = .ok (.aload_n 0, 1) := dk_42 (dk_at dksX0_fact_2_1 8 rfl rfl)
theorem dX0_fact_2_33 : decode cX0_fact_2 33 = .ok (.getfield 144, 3) := dk_180 0 144 (dk_at dksX0_fact_2_1 9 rfl rfl)
theorem dX0_fact_2_36 : decode cX0_fact_2 36 = .ok (.iload_n 1, 1) := dk_27 (dk_at dksX0_fact_2_1 12 rfl rfl)
theorem dX0_fact_2_37 : decode cX0_fact_2 37 = .ok (.aaload, 1) := dk_50 (dk_at dksX0_fact_2_1 13 rfl rfl)
theorem dX0_fact_2_38 : decode cX0_fact_2 38 = .ok (.invokevirtual 440, 3) := dk_182 1 184 (dk_at dksX0_fact_2_1 14 rfl rfl)
theorem dX0_fact_2_41 : decode cX0_fact_2 41 = .ok (.iload_n 2, 1) := dk_28 (dk_at dksX0_fact_2_1 17 rfl rfl)
theorem dX0_fact_2_42 : decode cX0_fact_2 42 = .ok (.bipush 10, 2) := dk_16 10 (dk_at dksX0_fact_2_1 18 rfl rfl)
theorem dX0_fact_2_44 : decode cX0_fact_2 44 = .ok (.isub, 1) := dk_100 (dk_at dksX0_fact_2_1 20 rfl rfl)
theorem dX0_fact_2_45 : decode cX0_fact_2 45 = .ok (.iaload, 1) := dk_46 (dk_at dksX0_fact_2_1 21 rfl rfl)
theorem dX0_fact_2_46 : decode cX0_fact_2 46 = .ok (.ireturn, 1) := dk_172 (dk_at dksX0_fact_2_1 22 rfl rfl)
theorem dX0_fact_2_47 : decode cX0_fact_2 47 = .ok (.iload_n 2, 1) := dk_28 (dk_at dksX0_fact_2_1 23 rfl rfl)
theorem dX0_fact_2_48 : decode cX0_fact_2 48 = .ok (.ifCond .ne 16, 3) := dk_154 0 16 (dk_at dksX0_fact_2_2 0 rfl rfl)
theorem dX0_fact_2_51 : decode cX0_fact_2 51 = .ok (.aload_n 0, 1) := dk_42 (dk_at dksX0_fact_2_2 3 rfl rfl)
theorem dX0_fact_2_52 : decode cX0_fact_2 52 = .ok (.getfield 144, 3) := dk_180 0 144 (dk_at dksX0_fact_2_2 4 rfl rfl)
theorem dX0_fact_2_55 : decode cX0_fact_2 55 = .ok (.iload_n 1, 1) := dk_27 (dk_at dksX0_fact_2_2 7 rfl rfl)
theorem dX0_fact_2_56 : decode cX0_fact_2 56 = .ok (.aaload, 1) := dk_50 (dk_at dksX0_fact_2_2 8 rfl rfl)
theorem dX0_fact_2_57 : decode cX0_fact_2 57 = .ok (.invokevirtual 440, 3) := dk_182 1 184 (dk_at dksX0_fact_2_2 9 rfl rfl)
theorem dX0_fact_2_60 : decode cX0_fact_2 60 = .ok (.arraylength, 1) := dk_190 (dk_at dksX0_fact_2_2 12 rfl rfl)
theorem dX0_fact_2_61 : decode cX0_fact_2 61 = .ok (.goto 38, 3) := dk_167 0 38 (dk_at dksX0_fact_2_2 13 rfl rfl)
theorem dX0_fact_2_64 : decode cX0_fact_2 64 = .ok (.iload_n 2, 1) := dk_28 (dk_at dksX0_fact_2_2 16 rfl rfl)
theorem dX0_fact_2_65 : decode cX0_fact_2 65 = .ok (.iconst 1, 1) := dk_4 (dk_at dksX0_fact_2_2 17 rfl rfl)
theorem dX0_fact_2_66 : decode cX0_fact_2 66 = .ok (.if_icmp .ne 15, 3) := dk_160 0 15 (dk_at dksX0_fact_2_2 18 rfl rfl)
theorem dX0_fact_2_69 : decode cX0_fact_2 69 = .ok (.aload_n 0, 1) := dk_42 (dk_at dksX0_fact_2_2 21 rfl rfl)
theorem dX0_fact_2_70 : decode cX0_fact_2 70 = .ok (.getfield 144, 3) := dk_180 0 144 (dk_at dksX0_fact_2_3 0 rfl rfl)
theorem dX0_fact_2_73 : decode cX0_fact_2 73 = .ok (.iload_n 1, 1) := dk_27 (dk_at dksX0_fact_2_3 3 rfl rfl)
theorem dX0_fact_2_74 : decode cX0_fact_2 74 = .ok (.aaload, 1) := dk_50 (dk_at dksX0_fact_2_3 4 rfl rfl)
theorem dX0_fact_2_75 : decode cX0_fact_2 75 = .ok (.invokevirtual 527, 3) := dk_182 2 15 (dk_at dksX0_fact_2_3 5 rfl rfl)
theorem dX0_fact_2_78 : decode cX0_fact_2 78 = .ok (.goto 21, 3) := dk_167 0 21 (dk_at dksX0_fact_2_3 8 rfl rfl)
theorem dX0_fact_2_81 : decode cX0_fact_2 81 = .ok (.iload_n 2, 1) := dk_28 (dk_at dksX0_fact_2_3 11 rfl rfl)
theorem dX0_fact_2_82 : decode cX0_fact_2 82 = .ok (.iconst 2, 1) := dk_5 (dk_at dksX0_fact_2_3 12 rfl rfl)
theorem dX0_fact_2_83 : decode cX0_fact_2 83 = .ok (.if_icmp .ne 15, 3) := dk_160 0 15 (dk_at dksX0_fact_2_3 13 rfl rfl)
theorem dX0_fact_2_86 : decode cX0_fact_2 86 = .ok (.aload_n 0, 1) := dk_42 (dk_at dksX0_fact_2_3 16 rfl rfl)
theorem dX0_fact_2_87 : decode cX0_fact_2 87 = .ok (.getfield 144, 3) := dk_180 0 144 (dk_at dksX0_fact_2_3 17 rfl rfl)
theorem dX0_fact_2_90 : decode cX0_fact_2 90 = .ok (.iload_n 1, 1) := dk_27 (dk_at dksX0_fact_2_3 20 rfl rfl)
theorem dX0_fact_2_91 : decode cX0_fact_2 91 = .ok (.aaload, 1) := dk_50 (dk_at dksX0_fact_2_3 21 rfl rfl)
theorem dX0_fact_2_92 : decode cX0_fact_2 92 = .ok (.invokevirtual 529, 3) := dk_182 2 17 (dk_at dksX0_fact_2_4 0 rfl rfl)
theorem dX0_fact_2_95 : decode cX0_fact_2 95 = .ok (.goto 4, 3) := dk_167 0 4 (dk_at dksX0_fact_2_4 3 rfl rfl)
theorem dX0_fact_2_98 : decode cX0_fact_2 98 = .ok (.iconst (-1), 1) := dk_2 (dk_at dksX0_fact_2_4 6 rfl rfl)
theorem dX0_fact_2_99 : decode cX0_fact_2 99 = .ok (.ireturn, 1) := dk_172 (dk_at dksX0_fact_2_4 7 rfl rfl)
abbrev cX0_book : ByteArray := prog_1_method_60_code
def yX0_book : MethodName := ⟨RX0, "book", "(II)I"⟩
def dkwX0_book_1 : List UInt8 := [153, 0, 16, 42, 180, 0, 174, 7, 27, 104, 28, 96, 46, 167, 0, 4, 2, 172]
abbrev dktX0_book_1 : List UInt8 := dkwX0_book_1 ++ []
def dkwX0_book_0 : List UInt8 := [27, 3, 42, 180, 0, 164, 180, 1, 187, 4, 100, 184, 0, 224, 153, 0, 25, 28, 3, 6, 184, 0, 224]
abbrev dktX0_book_0 : List UInt8 := dkwX0_book_0 ++ dktX0_book_1
theorem dksX0_book_0 : cX0_book.data.toList.drop 0 = dktX0_book_0 := by decide +kernel
theorem dksX0_book_1 : cX0_book.data.toList.drop 23 = dktX0_book_1 := dk_seg dksX0_book_0 23 rfl rfl
theorem dX0_book_0 : decode cX0_book 0 = .ok (.iload_n 1, 1) := dk_27 (dk_at dksX0_book_0 0 rfl rfl)
theorem dX0_book_1 : decode cX0_book 1 = .ok (.iconst 0, 1) := dk_3 (dk_at dksX0_book_0 1 rfl rfl)
theorem dX0_book_2 : decode cX0_book 2 = .ok (.aload_n 0, 1) := dk_42 (dk_at dksX0_book_0 2 rfl rfl)
theorem dX0_book_3 : decode cX0_book 3 = .ok (.getfield 164, 3) := dk_180 0 164 (dk_at dksX0_book_0 3 rfl rfl)
theorem dX0_book_6 : decode cX0_book 6 = .ok (.getfield 443, 3) := dk_180 1 187 (dk_at dksX0_book_0 6 rfl rfl)
theorem dX0_book_9 : decode cX0_book 9 = .ok (.iconst 1, 1) := dk_4 (dk_at dksX0_book_0 9 rfl rfl)
theorem dX0_book_10 : decode cX0_book 10 = .ok (.isub, 1) := dk_100 (dk_at dksX0_book_0 10 rfl rfl)
theorem dX0_book_11 : decode cX0_book 11 = .ok (.invokestatic 224, 3) := dk_184 0 224 (dk_at dksX0_book_0 11 rfl rfl)
theorem dX0_book_14 : decode cX0_book 14 = .ok (.ifCond .eq 25, 3) := dk_153 0 25 (dk_at dksX0_book_0 14 rfl rfl)
theorem dX0_book_17 : decode cX0_book 17 = .ok (.iload_n 2, 1) := dk_28 (dk_at dksX0_book_0 17 rfl rfl)
theorem dX0_book_18 : decode cX0_book 18 = .ok (.iconst 0, 1) := dk_3 (dk_at dksX0_book_0 18 rfl rfl)
theorem dX0_book_19 : decode cX0_book 19 = .ok (.iconst 3, 1) := dk_6 (dk_at dksX0_book_0 19 rfl rfl)
theorem dX0_book_20 : decode cX0_book 20 = .ok (.invokestatic 224, 3) := dk_184 0 224 (dk_at dksX0_book_0 20 rfl rfl)
theorem dX0_book_23 : decode cX0_book 23 = .ok (.ifCond .eq 16, 3) := dk_153 0 16 (dk_at dksX0_book_1 0 rfl rfl)
theorem dX0_book_26 : decode cX0_book 26 = .ok (.aload_n 0, 1) := dk_42 (dk_at dksX0_book_1 3 rfl rfl)
theorem dX0_book_27 : decode cX0_book 27 = .ok (.getfield 174, 3) := dk_180 0 174 (dk_at dksX0_book_1 4 rfl rfl)
theorem dX0_book_30 : decode cX0_book 30 = .ok (.iconst 4, 1) := dk_7 (dk_at dksX0_book_1 7 rfl rfl)
theorem dX0_book_31 : decode cX0_book 31 = .ok (.iload_n 1, 1) := dk_27 (dk_at dksX0_book_1 8 rfl rfl)
theorem dX0_book_32 : decode cX0_book 32 = .ok (.imul, 1) := dk_104 (dk_at dksX0_book_1 9 rfl rfl)
theorem dX0_book_33 : decode cX0_book 33 = .ok (.iload_n 2, 1) := dk_28 (dk_at dksX0_book_1 10 rfl rfl)
theorem dX0_book_34 : decode cX0_book 34 = .ok (.iadd, 1) := dk_96 (dk_at dksX0_book_1 11 rfl rfl)
theorem dX0_book_35 : decode cX0_book 35 = .ok (.iaload, 1) := dk_46 (dk_at dksX0_book_1 12 rfl rfl)
theorem dX0_book_36 : decode cX0_book 36 = .ok (.goto 4, 3) := dk_167 0 4 (dk_at dksX0_book_1 13 rfl rfl)
theorem dX0_book_39 : decode cX0_book 39 = .ok (.iconst (-1), 1) := dk_2 (dk_at dksX0_book_1 16 rfl rfl)
theorem dX0_book_40 : decode cX0_book 40 = .ok (.ireturn, 1) := dk_172 (dk_at dksX0_book_1 17 rfl rfl)
abbrev cX0_goes : ByteArray := prog_1_method_61_code
def yX0_goes : MethodName := ⟨RX0, "goes", "(II)I"⟩
def dkwX0_goes_4 : List UInt8 := [186, 2, 29, 0, 0, 184, 2, 32, 184, 0, 30, 172]
abbrev dktX0_goes_4 : List UInt8 := dkwX0_goes_4 ++ []
def dkwX0_goes_3 : List UInt8 := [180, 2, 26, 167, 0, 31, 28, 5, 160, 0, 10, 45, 180, 1, 224, 167, 0, 19, 42, 180, 1, 136, 45]
abbrev dktX0_goes_3 : List UInt8 := dkwX0_goes_3 ++ dktX0_goes_4
def dkwX0_goes_2 : List UInt8 := [87, 132, 4, 1, 167, 255, 242, 28, 154, 0, 10, 45, 180, 2, 23, 167, 0, 43, 28, 4, 160, 0, 10, 45]
abbrev dktX0_goes_2 : List UInt8 := dkwX0_goes_2 ++ dktX0_goes_3
def dkwX0_goes_1 : List UInt8 := [180, 0, 168, 42, 180, 0, 164, 182, 2, 19, 78, 3, 54, 4, 21, 4, 27, 162, 0, 14, 45, 182, 1, 252]
abbrev dktX0_goes_1 : List UInt8 := dkwX0_goes_1 ++ dktX0_goes_2
def dkwX0_goes_0 : List UInt8 := [27, 4, 16, 99, 184, 0, 224, 153, 0, 12, 28, 3, 6, 184, 0, 224, 154, 0, 5, 2, 172, 42]
abbrev dktX0_goes_0 : List UInt8 := dkwX0_goes_0 ++ dktX0_goes_1
theorem dksX0_goes_0 : cX0_goes.data.toList.drop 0 = dktX0_goes_0 := by decide +kernel
theorem dksX0_goes_1 : cX0_goes.data.toList.drop 22 = dktX0_goes_1 := dk_seg dksX0_goes_0 22 rfl rfl
theorem dksX0_goes_2 : cX0_goes.data.toList.drop 46 = dktX0_goes_2 := dk_seg dksX0_goes_1 24 rfl rfl
theorem dksX0_goes_3 : cX0_goes.data.toList.drop 70 = dktX0_goes_3 := dk_seg dksX0_goes_2 24 rfl rfl
theorem dksX0_goes_4 : cX0_goes.data.toList.drop 93 = dktX0_goes_4 := dk_seg dksX0_goes_3 23 rfl rfl
theorem dX0_goes_0 : decode cX0_goes 0 = .ok (.iload_n 1, 1) := dk_27 (dk_at dksX0_goes_0 0 rfl rfl)
theorem dX0_goes_1 : decode cX0_goes 1 = .ok (.iconst 1, 1) := dk_4 (dk_at dksX0_goes_0 1 rfl rfl)
theorem dX0_goes_2 : decode cX0_goes 2 = .ok (.bipush 99, 2) := dk_16 99 (dk_at dksX0_goes_0 2 rfl rfl)
theorem dX0_goes_4 : decode cX0_goes 4 = .ok (.invokestatic 224, 3) := dk_184 0 224 (dk_at dksX0_goes_0 4 rfl rfl)
theorem dX0_goes_7 : decode cX0_goes 7 = .ok (.ifCond .eq 12, 3) := dk_153 0 12 (dk_at dksX0_goes_0 7 rfl rfl)
theorem dX0_goes_10 : decode cX0_goes 10 = .ok (.iload_n 2, 1) := dk_28 (dk_at dksX0_goes_0 10 rfl rfl)
theorem dX0_goes_11 : decode cX0_goes 11 = .ok (.iconst 0, 1) := dk_3 (dk_at dksX0_goes_0 11 rfl rfl)
theorem dX0_goes_12 : decode cX0_goes 12 = .ok (.iconst 3, 1) := dk_6 (dk_at dksX0_goes_0 12 rfl rfl)
theorem dX0_goes_13 : decode cX0_goes 13 = .ok (.invokestatic 224, 3) := dk_184 0 224 (dk_at dksX0_goes_0 13 rfl rfl)
theorem dX0_goes_16 : decode cX0_goes 16 = .ok (.ifCond .ne 5, 3) := dk_154 0 5 (dk_at dksX0_goes_0 16 rfl rfl)
theorem dX0_goes_19 : decode cX0_goes 19 = .ok (.iconst (-1), 1) := dk_2 (dk_at dksX0_goes_0 19 rfl rfl)
theorem dX0_goes_20 : decode cX0_goes 20 = .ok (.ireturn, 1) := dk_172 (dk_at dksX0_goes_0 20 rfl rfl)
theorem dX0_goes_21 : decode cX0_goes 21 = .ok (.aload_n 0, 1) := dk_42 (dk_at dksX0_goes_0 21 rfl rfl)
theorem dX0_goes_22 : decode cX0_goes 22 = .ok (.getfield 168, 3) := dk_180 0 168 (dk_at dksX0_goes_1 0 rfl rfl)
theorem dX0_goes_25 : decode cX0_goes 25 = .ok (.aload_n 0, 1) := dk_42 (dk_at dksX0_goes_1 3 rfl rfl)
theorem dX0_goes_26 : decode cX0_goes 26 = .ok (.getfield 164, 3) := dk_180 0 164 (dk_at dksX0_goes_1 4 rfl rfl)
theorem dX0_goes_29 : decode cX0_goes 29 = .ok (.invokevirtual 531, 3) := dk_182 2 19 (dk_at dksX0_goes_1 7 rfl rfl)
theorem dX0_goes_32 : decode cX0_goes 32 = .ok (.astore_n 3, 1) := dk_78 (dk_at dksX0_goes_1 10 rfl rfl)
theorem dX0_goes_33 : decode cX0_goes 33 = .ok (.iconst 0, 1) := dk_3 (dk_at dksX0_goes_1 11 rfl rfl)
theorem dX0_goes_34 : decode cX0_goes 34 = .ok (.istore 4, 2) := dk_54 4 (dk_at dksX0_goes_1 12 rfl rfl)
theorem dX0_goes_36 : decode cX0_goes 36 = .ok (.iload 4, 2) := dk_21 4 (dk_at dksX0_goes_1 14 rfl rfl)
theorem dX0_goes_38 : decode cX0_goes 38 = .ok (.iload_n 1, 1) := dk_27 (dk_at dksX0_goes_1 16 rfl rfl)
theorem dX0_goes_39 : decode cX0_goes 39 = .ok (.if_icmp .ge 14, 3) := dk_162 0 14 (dk_at dksX0_goes_1 17 rfl rfl)
theorem dX0_goes_42 : decode cX0_goes 42 = .ok (.aload_n 3, 1) := dk_45 (dk_at dksX0_goes_1 20 rfl rfl)
theorem dX0_goes_43 : decode cX0_goes 43 = .ok (.invokevirtual 508, 3) := dk_182 1 252 (dk_at dksX0_goes_1 21 rfl rfl)
theorem dX0_goes_46 : decode cX0_goes 46 = .ok (.pop, 1) := dk_87 (dk_at dksX0_goes_2 0 rfl rfl)
theorem dX0_goes_47 : decode cX0_goes 47 = .ok (.iinc 4 1, 3) := dk_132 4 1 (dk_at dksX0_goes_2 1 rfl rfl)
theorem dX0_goes_50 : decode cX0_goes 50 = .ok (.goto (-14), 3) := dk_167 255 242 (dk_at dksX0_goes_2 4 rfl rfl)
theorem dX0_goes_53 : decode cX0_goes 53 = .ok (.iload_n 2, 1) := dk_28 (dk_at dksX0_goes_2 7 rfl rfl)
theorem dX0_goes_54 : decode cX0_goes 54 = .ok (.ifCond .ne 10, 3) := dk_154 0 10 (dk_at dksX0_goes_2 8 rfl rfl)
theorem dX0_goes_57 : decode cX0_goes 57 = .ok (.aload_n 3, 1) := dk_45 (dk_at dksX0_goes_2 11 rfl rfl)
theorem dX0_goes_58 : decode cX0_goes 58 = .ok (.getfield 535, 3) := dk_180 2 23 (dk_at dksX0_goes_2 12 rfl rfl)
theorem dX0_goes_61 : decode cX0_goes 61 = .ok (.goto 43, 3) := dk_167 0 43 (dk_at dksX0_goes_2 15 rfl rfl)
theorem dX0_goes_64 : decode cX0_goes 64 = .ok (.iload_n 2, 1) := dk_28 (dk_at dksX0_goes_2 18 rfl rfl)
theorem dX0_goes_65 : decode cX0_goes 65 = .ok (.iconst 1, 1) := dk_4 (dk_at dksX0_goes_2 19 rfl rfl)
theorem dX0_goes_66 : decode cX0_goes 66 = .ok (.if_icmp .ne 10, 3) := dk_160 0 10 (dk_at dksX0_goes_2 20 rfl rfl)
theorem dX0_goes_69 : decode cX0_goes 69 = .ok (.aload_n 3, 1) := dk_45 (dk_at dksX0_goes_2 23 rfl rfl)
theorem dX0_goes_70 : decode cX0_goes 70 = .ok (.getfield 538, 3) := dk_180 2 26 (dk_at dksX0_goes_3 0 rfl rfl)
theorem dX0_goes_73 : decode cX0_goes 73 = .ok (.goto 31, 3) := dk_167 0 31 (dk_at dksX0_goes_3 3 rfl rfl)
theorem dX0_goes_76 : decode cX0_goes 76 = .ok (.iload_n 2, 1) := dk_28 (dk_at dksX0_goes_3 6 rfl rfl)
theorem dX0_goes_77 : decode cX0_goes 77 = .ok (.iconst 2, 1) := dk_5 (dk_at dksX0_goes_3 7 rfl rfl)
theorem dX0_goes_78 : decode cX0_goes 78 = .ok (.if_icmp .ne 10, 3) := dk_160 0 10 (dk_at dksX0_goes_3 8 rfl rfl)
theorem dX0_goes_81 : decode cX0_goes 81 = .ok (.aload_n 3, 1) := dk_45 (dk_at dksX0_goes_3 11 rfl rfl)
theorem dX0_goes_82 : decode cX0_goes 82 = .ok (.getfield 480, 3) := dk_180 1 224 (dk_at dksX0_goes_3 12 rfl rfl)
theorem dX0_goes_85 : decode cX0_goes 85 = .ok (.goto 19, 3) := dk_167 0 19 (dk_at dksX0_goes_3 15 rfl rfl)
theorem dX0_goes_88 : decode cX0_goes 88 = .ok (.aload_n 0, 1) := dk_42 (dk_at dksX0_goes_3 18 rfl rfl)
theorem dX0_goes_89 : decode cX0_goes 89 = .ok (.getfield 392, 3) := dk_180 1 136 (dk_at dksX0_goes_3 19 rfl rfl)
theorem dX0_goes_92 : decode cX0_goes 92 = .ok (.aload_n 3, 1) := dk_45 (dk_at dksX0_goes_3 22 rfl rfl)
theorem dX0_goes_93 : decode cX0_goes 93 = .ok (.invokedynamic 541, 5) := by decide +kernel
theorem dX0_goes_98 : decode cX0_goes 98 = .ok (.invokestatic 544, 3) := dk_184 2 32 (dk_at dksX0_goes_4 5 rfl rfl)
theorem dX0_goes_101 : decode cX0_goes 101 = .ok (.invokestatic 30, 3) := dk_184 0 30 (dk_at dksX0_goes_4 8 rfl rfl)
theorem dX0_goes_104 : decode cX0_goes 104 = .ok (.ireturn, 1) := dk_172 (dk_at dksX0_goes_4 11 rfl rfl)
abbrev cX0_lambda_goes_0 : ByteArray := prog_1_method_121_code
def yX0_lambda_goes_0 : MethodName := ⟨RX0, "lambda$goes$0", "(LSilkClerks$Trays;I)Z"⟩
def dkwX0_lambda_goes_0_0 : List UInt8 := [42, 180, 1, 209, 27, 46, 158, 0, 7, 4, 167, 0, 4, 3, 172]
abbrev dktX0_lambda_goes_0_0 : List UInt8 := dkwX0_lambda_goes_0_0 ++ []
theorem dksX0_lambda_goes_0_0 : cX0_lambda_goes_0.data.toList.drop 0 = dktX0_lambda_goes_0_0 := by decide +kernel
theorem dX0_lambda_goes_0_0 : decode cX0_lambda_goes_0 0 = .ok (.aload_n 0, 1) := dk_42 (dk_at dksX0_lambda_goes_0_0 0 rfl rfl)
theorem dX0_lambda_goes_0_1 : decode cX0_lambda_goes_0 1 = .ok (.getfield 465, 3) := dk_180 1 209 (dk_at dksX0_lambda_goes_0_0 1 rfl rfl)
theorem dX0_lambda_goes_0_4 : decode cX0_lambda_goes_0 4 = .ok (.iload_n 1, 1) := dk_27 (dk_at dksX0_lambda_goes_0_0 4 rfl rfl)
theorem dX0_lambda_goes_0_5 : decode cX0_lambda_goes_0 5 = .ok (.iaload, 1) := dk_46 (dk_at dksX0_lambda_goes_0_0 5 rfl rfl)
theorem dX0_lambda_goes_0_6 : decode cX0_lambda_goes_0 6 = .ok (.ifCond .le 7, 3) := dk_158 0 7 (dk_at dksX0_lambda_goes_0_0 6 rfl rfl)
theorem dX0_lambda_goes_0_9 : decode cX0_lambda_goes_0 9 = .ok (.iconst 1, 1) := dk_4 (dk_at dksX0_lambda_goes_0_0 9 rfl rfl)
theorem dX0_lambda_goes_0_10 : decode cX0_lambda_goes_0 10 = .ok (.goto 4, 3) := dk_167 0 4 (dk_at dksX0_lambda_goes_0_0 10 rfl rfl)
theorem dX0_lambda_goes_0_13 : decode cX0_lambda_goes_0 13 = .ok (.iconst 0, 1) := dk_3 (dk_at dksX0_lambda_goes_0_0 13 rfl rfl)
theorem dX0_lambda_goes_0_14 : decode cX0_lambda_goes_0 14 = .ok (.ireturn, 1) := dk_172 (dk_at dksX0_lambda_goes_0_0 14 rfl rfl)
abbrev cX0_setOf : ByteArray := prog_1_method_5_code
def yX0_setOf : MethodName := ⟨RX0, "setOf", "(ILSilkClerks$Condition;)I"⟩
def dkwX0_setOf_1 : List UInt8 := [167, 0, 4, 3, 128, 61, 132, 3, 1, 167, 255, 228, 28, 172]
abbrev dktX0_setOf_1 : List UInt8 := dkwX0_setOf_1 ++ []
def dkwX0_setOf_0 : List UInt8 := [3, 61, 3, 62, 29, 26, 162, 0, 29, 28, 43, 29, 185, 0, 16, 2, 0, 153, 0, 9, 4, 29, 120]
abbrev dktX0_setOf_0 : List UInt8 := dkwX0_setOf_0 ++ dktX0_setOf_1
theorem dksX0_setOf_0 : cX0_setOf.data.toList.drop 0 = dktX0_setOf_0 := by decide +kernel
theorem dksX0_setOf_1 : cX0_setOf.data.toList.drop 23 = dktX0_setOf_1 := dk_seg dksX0_setOf_0 23 rfl rfl
theorem dX0_setOf_0 : decode cX0_setOf 0 = .ok (.iconst 0, 1) := dk_3 (dk_at dksX0_setOf_0 0 rfl rfl)
theorem dX0_setOf_1 : decode cX0_setOf 1 = .ok (.istore_n 2, 1) := dk_61 (dk_at dksX0_setOf_0 1 rfl rfl)
theorem dX0_setOf_2 : decode cX0_setOf 2 = .ok (.iconst 0, 1) := dk_3 (dk_at dksX0_setOf_0 2 rfl rfl)
theorem dX0_setOf_3 : decode cX0_setOf 3 = .ok (.istore_n 3, 1) := dk_62 (dk_at dksX0_setOf_0 3 rfl rfl)
theorem dX0_setOf_4 : decode cX0_setOf 4 = .ok (.iload_n 3, 1) := dk_29 (dk_at dksX0_setOf_0 4 rfl rfl)
theorem dX0_setOf_5 : decode cX0_setOf 5 = .ok (.iload_n 0, 1) := dk_26 (dk_at dksX0_setOf_0 5 rfl rfl)
theorem dX0_setOf_6 : decode cX0_setOf 6 = .ok (.if_icmp .ge 29, 3) := dk_162 0 29 (dk_at dksX0_setOf_0 6 rfl rfl)
theorem dX0_setOf_9 : decode cX0_setOf 9 = .ok (.iload_n 2, 1) := dk_28 (dk_at dksX0_setOf_0 9 rfl rfl)
theorem dX0_setOf_10 : decode cX0_setOf 10 = .ok (.aload_n 1, 1) := dk_43 (dk_at dksX0_setOf_0 10 rfl rfl)
theorem dX0_setOf_11 : decode cX0_setOf 11 = .ok (.iload_n 3, 1) := dk_29 (dk_at dksX0_setOf_0 11 rfl rfl)
theorem dX0_setOf_12 : decode cX0_setOf 12 = .ok (.invokeinterface 16 2, 5) := by decide +kernel
theorem dX0_setOf_17 : decode cX0_setOf 17 = .ok (.ifCond .eq 9, 3) := dk_153 0 9 (dk_at dksX0_setOf_0 17 rfl rfl)
theorem dX0_setOf_20 : decode cX0_setOf 20 = .ok (.iconst 1, 1) := dk_4 (dk_at dksX0_setOf_0 20 rfl rfl)
theorem dX0_setOf_21 : decode cX0_setOf 21 = .ok (.iload_n 3, 1) := dk_29 (dk_at dksX0_setOf_0 21 rfl rfl)
theorem dX0_setOf_22 : decode cX0_setOf 22 = .ok (.ishl, 1) := dk_120 (dk_at dksX0_setOf_0 22 rfl rfl)
theorem dX0_setOf_23 : decode cX0_setOf 23 = .ok (.goto 4, 3) := dk_167 0 4 (dk_at dksX0_setOf_1 0 rfl rfl)
theorem dX0_setOf_26 : decode cX0_setOf 26 = .ok (.iconst 0, 1) := dk_3 (dk_at dksX0_setOf_1 3 rfl rfl)
theorem dX0_setOf_27 : decode cX0_setOf 27 = .ok (.ior, 1) := dk_128 (dk_at dksX0_setOf_1 4 rfl rfl)
theorem dX0_setOf_28 : decode cX0_setOf 28 = .ok (.istore_n 2, 1) := dk_61 (dk_at dksX0_setOf_1 5 rfl rfl)
theorem dX0_setOf_29 : decode cX0_setOf 29 = .ok (.iinc 3 1, 3) := dk_132 3 1 (dk_at dksX0_setOf_1 6 rfl rfl)
theorem dX0_setOf_32 : decode cX0_setOf 32 = .ok (.goto (-28), 3) := dk_167 255 228 (dk_at dksX0_setOf_1 9 rfl rfl)
theorem dX0_setOf_35 : decode cX0_setOf 35 = .ok (.iload_n 2, 1) := dk_28 (dk_at dksX0_setOf_1 12 rfl rfl)
theorem dX0_setOf_36 : decode cX0_setOf 36 = .ok (.ireturn, 1) := dk_172 (dk_at dksX0_setOf_1 13 rfl rfl)
abbrev cX0_would : ByteArray := prog_1_method_62_code
def yX0_would : MethodName := ⟨RX0, "would", "(III)I"⟩
def dkwX0_would_2 : List UInt8 := [153, 0, 10, 25, 4, 29, 46, 167, 0, 4, 2, 172]
abbrev dktX0_would_2 : List UInt8 := dkwX0_would_2 ++ []
def dkwX0_would_1 : List UInt8 := [160, 0, 5, 2, 172, 42, 27, 28, 182, 2, 36, 58, 4, 29, 3, 25, 4, 190, 4, 100, 184, 0, 224]
abbrev dktX0_would_1 : List UInt8 := dkwX0_would_1 ++ dktX0_would_2
def dkwX0_would_0 : List UInt8 := [42, 27, 182, 1, 228, 153, 0, 21, 28, 2, 159, 0, 11, 42, 28, 182, 1, 228, 153, 0, 8, 27, 28]
abbrev dktX0_would_0 : List UInt8 := dkwX0_would_0 ++ dktX0_would_1
theorem dksX0_would_0 : cX0_would.data.toList.drop 0 = dktX0_would_0 := by decide +kernel
theorem dksX0_would_1 : cX0_would.data.toList.drop 23 = dktX0_would_1 := dk_seg dksX0_would_0 23 rfl rfl
theorem dksX0_would_2 : cX0_would.data.toList.drop 46 = dktX0_would_2 := dk_seg dksX0_would_1 23 rfl rfl
theorem dX0_would_0 : decode cX0_would 0 = .ok (.aload_n 0, 1) := dk_42 (dk_at dksX0_would_0 0 rfl rfl)
theorem dX0_would_1 : decode cX0_would 1 = .ok (.iload_n 1, 1) := dk_27 (dk_at dksX0_would_0 1 rfl rfl)
theorem dX0_would_2 : decode cX0_would 2 = .ok (.invokevirtual 484, 3) := dk_182 1 228 (dk_at dksX0_would_0 2 rfl rfl)
theorem dX0_would_5 : decode cX0_would 5 = .ok (.ifCond .eq 21, 3) := dk_153 0 21 (dk_at dksX0_would_0 5 rfl rfl)
theorem dX0_would_8 : decode cX0_would 8 = .ok (.iload_n 2, 1) := dk_28 (dk_at dksX0_would_0 8 rfl rfl)
theorem dX0_would_9 : decode cX0_would 9 = .ok (.iconst (-1), 1) := dk_2 (dk_at dksX0_would_0 9 rfl rfl)
theorem dX0_would_10 : decode cX0_would 10 = .ok (.if_icmp .eq 11, 3) := dk_159 0 11 (dk_at dksX0_would_0 10 rfl rfl)
theorem dX0_would_13 : decode cX0_would 13 = .ok (.aload_n 0, 1) := dk_42 (dk_at dksX0_would_0 13 rfl rfl)
theorem dX0_would_14 : decode cX0_would 14 = .ok (.iload_n 2, 1) := dk_28 (dk_at dksX0_would_0 14 rfl rfl)
theorem dX0_would_15 : decode cX0_would 15 = .ok (.invokevirtual 484, 3) := dk_182 1 228 (dk_at dksX0_would_0 15 rfl rfl)
theorem dX0_would_18 : decode cX0_would 18 = .ok (.ifCond .eq 8, 3) := dk_153 0 8 (dk_at dksX0_would_0 18 rfl rfl)
theorem dX0_would_21 : decode cX0_would 21 = .ok (.iload_n 1, 1) := dk_27 (dk_at dksX0_would_0 21 rfl rfl)
theorem dX0_would_22 : decode cX0_would 22 = .ok (.iload_n 2, 1) := dk_28 (dk_at dksX0_would_0 22 rfl rfl)
theorem dX0_would_23 : decode cX0_would 23 = .ok (.if_icmp .ne 5, 3) := dk_160 0 5 (dk_at dksX0_would_1 0 rfl rfl)
theorem dX0_would_26 : decode cX0_would 26 = .ok (.iconst (-1), 1) := dk_2 (dk_at dksX0_would_1 3 rfl rfl)
theorem dX0_would_27 : decode cX0_would 27 = .ok (.ireturn, 1) := dk_172 (dk_at dksX0_would_1 4 rfl rfl)
theorem dX0_would_28 : decode cX0_would 28 = .ok (.aload_n 0, 1) := dk_42 (dk_at dksX0_would_1 5 rfl rfl)
theorem dX0_would_29 : decode cX0_would 29 = .ok (.iload_n 1, 1) := dk_27 (dk_at dksX0_would_1 6 rfl rfl)
theorem dX0_would_30 : decode cX0_would 30 = .ok (.iload_n 2, 1) := dk_28 (dk_at dksX0_would_1 7 rfl rfl)
theorem dX0_would_31 : decode cX0_would 31 = .ok (.invokevirtual 548, 3) := dk_182 2 36 (dk_at dksX0_would_1 8 rfl rfl)
theorem dX0_would_34 : decode cX0_would 34 = .ok (.astore 4, 2) := dk_58 4 (dk_at dksX0_would_1 11 rfl rfl)
theorem dX0_would_36 : decode cX0_would 36 = .ok (.iload_n 3, 1) := dk_29 (dk_at dksX0_would_1 13 rfl rfl)
theorem dX0_would_37 : decode cX0_would 37 = .ok (.iconst 0, 1) := dk_3 (dk_at dksX0_would_1 14 rfl rfl)
theorem dX0_would_38 : decode cX0_would 38 = .ok (.aload 4, 2) := dk_25 4 (dk_at dksX0_would_1 15 rfl rfl)
theorem dX0_would_40 : decode cX0_would 40 = .ok (.arraylength, 1) := dk_190 (dk_at dksX0_would_1 17 rfl rfl)
theorem dX0_would_41 : decode cX0_would 41 = .ok (.iconst 1, 1) := dk_4 (dk_at dksX0_would_1 18 rfl rfl)
theorem dX0_would_42 : decode cX0_would 42 = .ok (.isub, 1) := dk_100 (dk_at dksX0_would_1 19 rfl rfl)
theorem dX0_would_43 : decode cX0_would 43 = .ok (.invokestatic 224, 3) := dk_184 0 224 (dk_at dksX0_would_1 20 rfl rfl)
theorem dX0_would_46 : decode cX0_would 46 = .ok (.ifCond .eq 10, 3) := dk_153 0 10 (dk_at dksX0_would_2 0 rfl rfl)
theorem dX0_would_49 : decode cX0_would 49 = .ok (.aload 4, 2) := dk_25 4 (dk_at dksX0_would_2 3 rfl rfl)
theorem dX0_would_51 : decode cX0_would 51 = .ok (.iload_n 3, 1) := dk_29 (dk_at dksX0_would_2 5 rfl rfl)
theorem dX0_would_52 : decode cX0_would 52 = .ok (.iaload, 1) := dk_46 (dk_at dksX0_would_2 6 rfl rfl)
theorem dX0_would_53 : decode cX0_would 53 = .ok (.goto 4, 3) := dk_167 0 4 (dk_at dksX0_would_2 7 rfl rfl)
theorem dX0_would_56 : decode cX0_would 56 = .ok (.iconst (-1), 1) := dk_2 (dk_at dksX0_would_2 10 rfl rfl)
theorem dX0_would_57 : decode cX0_would 57 = .ok (.ireturn, 1) := dk_172 (dk_at dksX0_would_2 11 rfl rfl)
abbrev cX0_reads : ByteArray := prog_1_method_63_code
def yX0_reads : MethodName := ⟨RX0, "reads", "(II)I"⟩
def dkwX0_reads_5 : List UInt8 := [42, 180, 0, 183, 190, 172]
abbrev dktX0_reads_5 : List UInt8 := dkwX0_reads_5 ++ []
def dkwX0_reads_4 : List UInt8 := [181, 0, 183, 42, 180, 0, 183, 42, 180, 0, 183, 190, 4, 100, 187, 0, 181, 89, 27, 28, 183, 2, 40, 83]
abbrev dktX0_reads_4 : List UInt8 := dkwX0_reads_4 ++ dktX0_reads_5
def dkwX0_reads_3 : List UInt8 := [162, 0, 20, 45, 21, 4, 42, 180, 0, 183, 21, 4, 50, 83, 132, 4, 1, 167, 255, 232, 42, 45]
abbrev dktX0_reads_3 : List UInt8 := dkwX0_reads_3 ++ dktX0_reads_4
def dkwX0_reads_2 : List UInt8 := [172, 42, 180, 0, 183, 190, 4, 96, 189, 0, 181, 78, 3, 54, 4, 21, 4, 42, 180, 0, 183, 190]
abbrev dktX0_reads_2 : List UInt8 := dkwX0_reads_2 ++ dktX0_reads_3
def dkwX0_reads_1 : List UInt8 := [153, 0, 23, 28, 3, 16, 11, 184, 0, 224, 153, 0, 13, 42, 180, 0, 183, 190, 16, 12, 160, 0, 5, 2]
abbrev dktX0_reads_1 : List UInt8 := dkwX0_reads_1 ++ dktX0_reads_2
def dkwX0_reads_0 : List UInt8 := [27, 2, 160, 0, 13, 42, 3, 189, 0, 181, 181, 0, 183, 3, 172, 27, 3, 16, 7, 184, 0, 224]
abbrev dktX0_reads_0 : List UInt8 := dkwX0_reads_0 ++ dktX0_reads_1
theorem dksX0_reads_0 : cX0_reads.data.toList.drop 0 = dktX0_reads_0 := by decide +kernel
theorem dksX0_reads_1 : cX0_reads.data.toList.drop 22 = dktX0_reads_1 := dk_seg dksX0_reads_0 22 rfl rfl
theorem dksX0_reads_2 : cX0_reads.data.toList.drop 46 = dktX0_reads_2 := dk_seg dksX0_reads_1 24 rfl rfl
theorem dksX0_reads_3 : cX0_reads.data.toList.drop 68 = dktX0_reads_3 := dk_seg dksX0_reads_2 22 rfl rfl
theorem dksX0_reads_4 : cX0_reads.data.toList.drop 90 = dktX0_reads_4 := dk_seg dksX0_reads_3 22 rfl rfl
theorem dksX0_reads_5 : cX0_reads.data.toList.drop 114 = dktX0_reads_5 := dk_seg dksX0_reads_4 24 rfl rfl
theorem dX0_reads_0 : decode cX0_reads 0 = .ok (.iload_n 1, 1) := dk_27 (dk_at dksX0_reads_0 0 rfl rfl)
theorem dX0_reads_1 : decode cX0_reads 1 = .ok (.iconst (-1), 1) := dk_2 (dk_at dksX0_reads_0 1 rfl rfl)
theorem dX0_reads_2 : decode cX0_reads 2 = .ok (.if_icmp .ne 13, 3) := dk_160 0 13 (dk_at dksX0_reads_0 2 rfl rfl)
theorem dX0_reads_5 : decode cX0_reads 5 = .ok (.aload_n 0, 1) := dk_42 (dk_at dksX0_reads_0 5 rfl rfl)
theorem dX0_reads_6 : decode cX0_reads 6 = .ok (.iconst 0, 1) := dk_3 (dk_at dksX0_reads_0 6 rfl rfl)
theorem dX0_reads_7 : decode cX0_reads 7 = .ok (.anewarray 181, 3) := dk_189 0 181 (dk_at dksX0_reads_0 7 rfl rfl)
theorem dX0_reads_10 : decode cX0_reads 10 = .ok (.putfield 183, 3) := dk_181 0 183 (dk_at dksX0_reads_0 10 rfl rfl)
theorem dX0_reads_13 : decode cX0_reads 13 = .ok (.iconst 0, 1) := dk_3 (dk_at dksX0_reads_0 13 rfl rfl)
theorem dX0_reads_14 : decode cX0_reads 14 = .ok (.ireturn, 1) := dk_172 (dk_at dksX0_reads_0 14 rfl rfl)
theorem dX0_reads_15 : decode cX0_reads 15 = .ok (.iload_n 1, 1) := dk_27 (dk_at dksX0_reads_0 15 rfl rfl)
theorem dX0_reads_16 : decode cX0_reads 16 = .ok (.iconst 0, 1) := dk_3 (dk_at dksX0_reads_0 16 rfl rfl)
theorem dX0_reads_17 : decode cX0_reads 17 = .ok (.bipush 7, 2) := dk_16 7 (dk_at dksX0_reads_0 17 rfl rfl)
theorem dX0_reads_19 : decode cX0_reads 19 = .ok (.invokestatic 224, 3) := dk_184 0 224 (dk_at dksX0_reads_0 19 rfl rfl)
theorem dX0_reads_22 : decode cX0_reads 22 = .ok (.ifCond .eq 23, 3) := dk_153 0 23 (dk_at dksX0_reads_1 0 rfl rfl)
theorem dX0_reads_25 : decode cX0_reads 25 = .ok (.iload_n 2, 1) := dk_28 (dk_at dksX0_reads_1 3 rfl rfl)
theorem dX0_reads_26 : decode cX0_reads 26 = .ok (.iconst 0, 1) := dk_3 (dk_at dksX0_reads_1 4 rfl rfl)
theorem dX0_reads_27 : decode cX0_reads 27 = .ok (.bipush 11, 2) := dk_16 11 (dk_at dksX0_reads_1 5 rfl rfl)
theorem dX0_reads_29 : decode cX0_reads 29 = .ok (.invokestatic 224, 3) := dk_184 0 224 (dk_at dksX0_reads_1 7 rfl rfl)
theorem dX0_reads_32 : decode cX0_reads 32 = .ok (.ifCond .eq 13, 3) := dk_153 0 13 (dk_at dksX0_reads_1 10 rfl rfl)
theorem dX0_reads_35 : decode cX0_reads 35 = .ok (.aload_n 0, 1) := dk_42 (dk_at dksX0_reads_1 13 rfl rfl)
theorem dX0_reads_36 : decode cX0_reads 36 = .ok (.getfield 183, 3) := dk_180 0 183 (dk_at dksX0_reads_1 14 rfl rfl)
theorem dX0_reads_39 : decode cX0_reads 39 = .ok (.arraylength, 1) := dk_190 (dk_at dksX0_reads_1 17 rfl rfl)
theorem dX0_reads_40 : decode cX0_reads 40 = .ok (.bipush 12, 2) := dk_16 12 (dk_at dksX0_reads_1 18 rfl rfl)
theorem dX0_reads_42 : decode cX0_reads 42 = .ok (.if_icmp .ne 5, 3) := dk_160 0 5 (dk_at dksX0_reads_1 20 rfl rfl)
theorem dX0_reads_45 : decode cX0_reads 45 = .ok (.iconst (-1), 1) := dk_2 (dk_at dksX0_reads_1 23 rfl rfl)
theorem dX0_reads_46 : decode cX0_reads 46 = .ok (.ireturn, 1) := dk_172 (dk_at dksX0_reads_2 0 rfl rfl)
theorem dX0_reads_47 : decode cX0_reads 47 = .ok (.aload_n 0, 1) := dk_42 (dk_at dksX0_reads_2 1 rfl rfl)
theorem dX0_reads_48 : decode cX0_reads 48 = .ok (.getfield 183, 3) := dk_180 0 183 (dk_at dksX0_reads_2 2 rfl rfl)
theorem dX0_reads_51 : decode cX0_reads 51 = .ok (.arraylength, 1) := dk_190 (dk_at dksX0_reads_2 5 rfl rfl)
theorem dX0_reads_52 : decode cX0_reads 52 = .ok (.iconst 1, 1) := dk_4 (dk_at dksX0_reads_2 6 rfl rfl)
theorem dX0_reads_53 : decode cX0_reads 53 = .ok (.iadd, 1) := dk_96 (dk_at dksX0_reads_2 7 rfl rfl)
theorem dX0_reads_54 : decode cX0_reads 54 = .ok (.anewarray 181, 3) := dk_189 0 181 (dk_at dksX0_reads_2 8 rfl rfl)
theorem dX0_reads_57 : decode cX0_reads 57 = .ok (.astore_n 3, 1) := dk_78 (dk_at dksX0_reads_2 11 rfl rfl)
theorem dX0_reads_58 : decode cX0_reads 58 = .ok (.iconst 0, 1) := dk_3 (dk_at dksX0_reads_2 12 rfl rfl)
theorem dX0_reads_59 : decode cX0_reads 59 = .ok (.istore 4, 2) := dk_54 4 (dk_at dksX0_reads_2 13 rfl rfl)
theorem dX0_reads_61 : decode cX0_reads 61 = .ok (.iload 4, 2) := dk_21 4 (dk_at dksX0_reads_2 15 rfl rfl)
theorem dX0_reads_63 : decode cX0_reads 63 = .ok (.aload_n 0, 1) := dk_42 (dk_at dksX0_reads_2 17 rfl rfl)
theorem dX0_reads_64 : decode cX0_reads 64 = .ok (.getfield 183, 3) := dk_180 0 183 (dk_at dksX0_reads_2 18 rfl rfl)
theorem dX0_reads_67 : decode cX0_reads 67 = .ok (.arraylength, 1) := dk_190 (dk_at dksX0_reads_2 21 rfl rfl)
theorem dX0_reads_68 : decode cX0_reads 68 = .ok (.if_icmp .ge 20, 3) := dk_162 0 20 (dk_at dksX0_reads_3 0 rfl rfl)
theorem dX0_reads_71 : decode cX0_reads 71 = .ok (.aload_n 3, 1) := dk_45 (dk_at dksX0_reads_3 3 rfl rfl)
theorem dX0_reads_72 : decode cX0_reads 72 = .ok (.iload 4, 2) := dk_21 4 (dk_at dksX0_reads_3 4 rfl rfl)
theorem dX0_reads_74 : decode cX0_reads 74 = .ok (.aload_n 0, 1) := dk_42 (dk_at dksX0_reads_3 6 rfl rfl)
theorem dX0_reads_75 : decode cX0_reads 75 = .ok (.getfield 183, 3) := dk_180 0 183 (dk_at dksX0_reads_3 7 rfl rfl)
theorem dX0_reads_78 : decode cX0_reads 78 = .ok (.iload 4, 2) := dk_21 4 (dk_at dksX0_reads_3 10 rfl rfl)
theorem dX0_reads_80 : decode cX0_reads 80 = .ok (.aaload, 1) := dk_50 (dk_at dksX0_reads_3 12 rfl rfl)
theorem dX0_reads_81 : decode cX0_reads 81 = .ok (.aastore, 1) := dk_83 (dk_at dksX0_reads_3 13 rfl rfl)
theorem dX0_reads_82 : decode cX0_reads 82 = .ok (.iinc 4 1, 3) := dk_132 4 1 (dk_at dksX0_reads_3 14 rfl rfl)
theorem dX0_reads_85 : decode cX0_reads 85 = .ok (.goto (-24), 3) := dk_167 255 232 (dk_at dksX0_reads_3 17 rfl rfl)
theorem dX0_reads_88 : decode cX0_reads 88 = .ok (.aload_n 0, 1) := dk_42 (dk_at dksX0_reads_3 20 rfl rfl)
theorem dX0_reads_89 : decode cX0_reads 89 = .ok (.aload_n 3, 1) := dk_45 (dk_at dksX0_reads_3 21 rfl rfl)
theorem dX0_reads_90 : decode cX0_reads 90 = .ok (.putfield 183, 3) := dk_181 0 183 (dk_at dksX0_reads_4 0 rfl rfl)
theorem dX0_reads_93 : decode cX0_reads 93 = .ok (.aload_n 0, 1) := dk_42 (dk_at dksX0_reads_4 3 rfl rfl)
theorem dX0_reads_94 : decode cX0_reads 94 = .ok (.getfield 183, 3) := dk_180 0 183 (dk_at dksX0_reads_4 4 rfl rfl)
theorem dX0_reads_97 : decode cX0_reads 97 = .ok (.aload_n 0, 1) := dk_42 (dk_at dksX0_reads_4 7 rfl rfl)
theorem dX0_reads_98 : decode cX0_reads 98 = .ok (.getfield 183, 3) := dk_180 0 183 (dk_at dksX0_reads_4 8 rfl rfl)
theorem dX0_reads_101 : decode cX0_reads 101 = .ok (.arraylength, 1) := dk_190 (dk_at dksX0_reads_4 11 rfl rfl)
theorem dX0_reads_102 : decode cX0_reads 102 = .ok (.iconst 1, 1) := dk_4 (dk_at dksX0_reads_4 12 rfl rfl)
theorem dX0_reads_103 : decode cX0_reads 103 = .ok (.isub, 1) := dk_100 (dk_at dksX0_reads_4 13 rfl rfl)
theorem dX0_reads_104 : decode cX0_reads 104 = .ok (.new 181, 3) := dk_187 0 181 (dk_at dksX0_reads_4 14 rfl rfl)
theorem dX0_reads_107 : decode cX0_reads 107 = .ok (.dup, 1) := dk_89 (dk_at dksX0_reads_4 17 rfl rfl)
theorem dX0_reads_108 : decode cX0_reads 108 = .ok (.iload_n 1, 1) := dk_27 (dk_at dksX0_reads_4 18 rfl rfl)
theorem dX0_reads_109 : decode cX0_reads 109 = .ok (.iload_n 2, 1) := dk_28 (dk_at dksX0_reads_4 19 rfl rfl)
theorem dX0_reads_110 : decode cX0_reads 110 = .ok (.invokespecial 552, 3) := dk_183 2 40 (dk_at dksX0_reads_4 20 rfl rfl)
theorem dX0_reads_113 : decode cX0_reads 113 = .ok (.aastore, 1) := dk_83 (dk_at dksX0_reads_4 23 rfl rfl)
theorem dX0_reads_114 : decode cX0_reads 114 = .ok (.aload_n 0, 1) := dk_42 (dk_at dksX0_reads_5 0 rfl rfl)
theorem dX0_reads_115 : decode cX0_reads 115 = .ok (.getfield 183, 3) := dk_180 0 183 (dk_at dksX0_reads_5 1 rfl rfl)
theorem dX0_reads_118 : decode cX0_reads 118 = .ok (.arraylength, 1) := dk_190 (dk_at dksX0_reads_5 4 rfl rfl)
theorem dX0_reads_119 : decode cX0_reads 119 = .ok (.ireturn, 1) := dk_172 (dk_at dksX0_reads_5 5 rfl rfl)
abbrev cX0_fits : ByteArray := prog_1_method_68_code
def yX0_fits : MethodName := ⟨RX0, "fits", "(I)I"⟩
def dkwX0_fits_3 : List UInt8 := [167, 0, 11, 44, 3, 46, 16, 11, 112, 4, 100, 172]
abbrev dktX0_fits_3 : List UInt8 := dkwX0_fits_3 ++ []
def dkwX0_fits_2 : List UInt8 := [184, 2, 59, 172, 44, 190, 154, 0, 7, 2, 167, 0, 25, 27, 4, 160, 0, 12, 44, 3, 46, 16, 11, 108]
abbrev dktX0_fits_2 : List UInt8 := dkwX0_fits_2 ++ dktX0_fits_3
def dkwX0_fits_1 : List UInt8 := [6, 160, 0, 26, 44, 190, 5, 162, 0, 7, 2, 167, 0, 15, 16, 12, 42, 44, 186, 2, 56, 0, 0]
abbrev dktX0_fits_1 : List UInt8 := dkwX0_fits_1 ++ dktX0_fits_2
def dkwX0_fits_0 : List UInt8 := [27, 3, 6, 184, 0, 224, 154, 0, 5, 2, 172, 42, 182, 2, 53, 77, 27, 154, 0, 6, 44, 190, 172, 27]
abbrev dktX0_fits_0 : List UInt8 := dkwX0_fits_0 ++ dktX0_fits_1
theorem dksX0_fits_0 : cX0_fits.data.toList.drop 0 = dktX0_fits_0 := by decide +kernel
theorem dksX0_fits_1 : cX0_fits.data.toList.drop 24 = dktX0_fits_1 := dk_seg dksX0_fits_0 24 rfl rfl
theorem dksX0_fits_2 : cX0_fits.data.toList.drop 47 = dktX0_fits_2 := dk_seg dksX0_fits_1 23 rfl rfl
theorem dksX0_fits_3 : cX0_fits.data.toList.drop 71 = dktX0_fits_3 := dk_seg dksX0_fits_2 24 rfl rfl
theorem dX0_fits_0 : decode cX0_fits 0 = .ok (.iload_n 1, 1) := dk_27 (dk_at dksX0_fits_0 0 rfl rfl)
theorem dX0_fits_1 : decode cX0_fits 1 = .ok (.iconst 0, 1) := dk_3 (dk_at dksX0_fits_0 1 rfl rfl)
theorem dX0_fits_2 : decode cX0_fits 2 = .ok (.iconst 3, 1) := dk_6 (dk_at dksX0_fits_0 2 rfl rfl)
theorem dX0_fits_3 : decode cX0_fits 3 = .ok (.invokestatic 224, 3) := dk_184 0 224 (dk_at dksX0_fits_0 3 rfl rfl)
theorem dX0_fits_6 : decode cX0_fits 6 = .ok (.ifCond .ne 5, 3) := dk_154 0 5 (dk_at dksX0_fits_0 6 rfl rfl)
theorem dX0_fits_9 : decode cX0_fits 9 = .ok (.iconst (-1), 1) := dk_2 (dk_at dksX0_fits_0 9 rfl rfl)
theorem dX0_fits_10 : decode cX0_fits 10 = .ok (.ireturn, 1) := dk_172 (dk_at dksX0_fits_0 10 rfl rfl)
theorem dX0_fits_11 : decode cX0_fits 11 = .ok (.aload_n 0, 1) := dk_42 (dk_at dksX0_fits_0 11 rfl rfl)
theorem dX0_fits_12 : decode cX0_fits 12 = .ok (.invokevirtual 565, 3) := dk_182 2 53 (dk_at dksX0_fits_0 12 rfl rfl)
theorem dX0_fits_15 : decode cX0_fits 15 = .ok (.astore_n 2, 1) := dk_77 (dk_at dksX0_fits_0 15 rfl rfl)
theorem dX0_fits_16 : decode cX0_fits 16 = .ok (.iload_n 1, 1) := dk_27 (dk_at dksX0_fits_0 16 rfl rfl)
theorem dX0_fits_17 : decode cX0_fits 17 = .ok (.ifCond .ne 6, 3) := dk_154 0 6 (dk_at dksX0_fits_0 17 rfl rfl)
theorem dX0_fits_20 : decode cX0_fits 20 = .ok (.aload_n 2, 1) := dk_44 (dk_at dksX0_fits_0 20 rfl rfl)
theorem dX0_fits_21 : decode cX0_fits 21 = .ok (.arraylength, 1) := dk_190 (dk_at dksX0_fits_0 21 rfl rfl)
theorem dX0_fits_22 : decode cX0_fits 22 = .ok (.ireturn, 1) := dk_172 (dk_at dksX0_fits_0 22 rfl rfl)
theorem dX0_fits_23 : decode cX0_fits 23 = .ok (.iload_n 1, 1) := dk_27 (dk_at dksX0_fits_0 23 rfl rfl)
theorem dX0_fits_24 : decode cX0_fits 24 = .ok (.iconst 3, 1) := dk_6 (dk_at dksX0_fits_1 0 rfl rfl)
theorem dX0_fits_25 : decode cX0_fits 25 = .ok (.if_icmp .ne 26, 3) := dk_160 0 26 (dk_at dksX0_fits_1 1 rfl rfl)
theorem dX0_fits_28 : decode cX0_fits 28 = .ok (.aload_n 2, 1) := dk_44 (dk_at dksX0_fits_1 4 rfl rfl)
theorem dX0_fits_29 : decode cX0_fits 29 = .ok (.arraylength, 1) := dk_190 (dk_at dksX0_fits_1 5 rfl rfl)
theorem dX0_fits_30 : decode cX0_fits 30 = .ok (.iconst 2, 1) := dk_5 (dk_at dksX0_fits_1 6 rfl rfl)
theorem dX0_fits_31 : decode cX0_fits 31 = .ok (.if_icmp .ge 7, 3) := dk_162 0 7 (dk_at dksX0_fits_1 7 rfl rfl)
theorem dX0_fits_34 : decode cX0_fits 34 = .ok (.iconst (-1), 1) := dk_2 (dk_at dksX0_fits_1 10 rfl rfl)
theorem dX0_fits_35 : decode cX0_fits 35 = .ok (.goto 15, 3) := dk_167 0 15 (dk_at dksX0_fits_1 11 rfl rfl)
theorem dX0_fits_38 : decode cX0_fits 38 = .ok (.bipush 12, 2) := dk_16 12 (dk_at dksX0_fits_1 14 rfl rfl)
theorem dX0_fits_40 : decode cX0_fits 40 = .ok (.aload_n 0, 1) := dk_42 (dk_at dksX0_fits_1 16 rfl rfl)
theorem dX0_fits_41 : decode cX0_fits 41 = .ok (.aload_n 2, 1) := dk_44 (dk_at dksX0_fits_1 17 rfl rfl)
theorem dX0_fits_42 : decode cX0_fits 42 = .ok (.invokedynamic 568, 5) := by decide +kernel
theorem dX0_fits_47 : decode cX0_fits 47 = .ok (.invokestatic 571, 3) := dk_184 2 59 (dk_at dksX0_fits_2 0 rfl rfl)
theorem dX0_fits_50 : decode cX0_fits 50 = .ok (.ireturn, 1) := dk_172 (dk_at dksX0_fits_2 3 rfl rfl)
theorem dX0_fits_51 : decode cX0_fits 51 = .ok (.aload_n 2, 1) := dk_44 (dk_at dksX0_fits_2 4 rfl rfl)
theorem dX0_fits_52 : decode cX0_fits 52 = .ok (.arraylength, 1) := dk_190 (dk_at dksX0_fits_2 5 rfl rfl)
theorem dX0_fits_53 : decode cX0_fits 53 = .ok (.ifCond .ne 7, 3) := dk_154 0 7 (dk_at dksX0_fits_2 6 rfl rfl)
theorem dX0_fits_56 : decode cX0_fits 56 = .ok (.iconst (-1), 1) := dk_2 (dk_at dksX0_fits_2 9 rfl rfl)
theorem dX0_fits_57 : decode cX0_fits 57 = .ok (.goto 25, 3) := dk_167 0 25 (dk_at dksX0_fits_2 10 rfl rfl)
theorem dX0_fits_60 : decode cX0_fits 60 = .ok (.iload_n 1, 1) := dk_27 (dk_at dksX0_fits_2 13 rfl rfl)
theorem dX0_fits_61 : decode cX0_fits 61 = .ok (.iconst 1, 1) := dk_4 (dk_at dksX0_fits_2 14 rfl rfl)
theorem dX0_fits_62 : decode cX0_fits 62 = .ok (.if_icmp .ne 12, 3) := dk_160 0 12 (dk_at dksX0_fits_2 15 rfl rfl)
theorem dX0_fits_65 : decode cX0_fits 65 = .ok (.aload_n 2, 1) := dk_44 (dk_at dksX0_fits_2 18 rfl rfl)
theorem dX0_fits_66 : decode cX0_fits 66 = .ok (.iconst 0, 1) := dk_3 (dk_at dksX0_fits_2 19 rfl rfl)
theorem dX0_fits_67 : decode cX0_fits 67 = .ok (.iaload, 1) := dk_46 (dk_at dksX0_fits_2 20 rfl rfl)
theorem dX0_fits_68 : decode cX0_fits 68 = .ok (.bipush 11, 2) := dk_16 11 (dk_at dksX0_fits_2 21 rfl rfl)
theorem dX0_fits_70 : decode cX0_fits 70 = .ok (.idiv, 1) := dk_108 (dk_at dksX0_fits_2 23 rfl rfl)
theorem dX0_fits_71 : decode cX0_fits 71 = .ok (.goto 11, 3) := dk_167 0 11 (dk_at dksX0_fits_3 0 rfl rfl)
theorem dX0_fits_74 : decode cX0_fits 74 = .ok (.aload_n 2, 1) := dk_44 (dk_at dksX0_fits_3 3 rfl rfl)
theorem dX0_fits_75 : decode cX0_fits 75 = .ok (.iconst 0, 1) := dk_3 (dk_at dksX0_fits_3 4 rfl rfl)
theorem dX0_fits_76 : decode cX0_fits 76 = .ok (.iaload, 1) := dk_46 (dk_at dksX0_fits_3 5 rfl rfl)
theorem dX0_fits_77 : decode cX0_fits 77 = .ok (.bipush 11, 2) := dk_16 11 (dk_at dksX0_fits_3 6 rfl rfl)
theorem dX0_fits_79 : decode cX0_fits 79 = .ok (.irem, 1) := dk_112 (dk_at dksX0_fits_3 8 rfl rfl)
theorem dX0_fits_80 : decode cX0_fits 80 = .ok (.iconst 1, 1) := dk_4 (dk_at dksX0_fits_3 9 rfl rfl)
theorem dX0_fits_81 : decode cX0_fits 81 = .ok (.isub, 1) := dk_100 (dk_at dksX0_fits_3 10 rfl rfl)
theorem dX0_fits_82 : decode cX0_fits 82 = .ok (.ireturn, 1) := dk_172 (dk_at dksX0_fits_3 11 rfl rfl)
abbrev cX0_couples : ByteArray := prog_1_method_66_code
def yX0_couples : MethodName := ⟨RX0, "couples", "()[I"⟩
def dkwX0_couples_2 : List UInt8 := [28, 104, 29, 96, 4, 96, 184, 1, 128, 76, 132, 3, 1, 167, 255, 213, 132, 2, 1, 167, 255, 196, 43, 176]
abbrev dktX0_couples_2 : List UInt8 := dkwX0_couples_2 ++ []
def dkwX0_couples_1 : List UInt8 := [162, 0, 40, 28, 29, 159, 0, 29, 42, 42, 28, 29, 182, 2, 36, 182, 2, 49, 153, 0, 16, 43, 16, 11]
abbrev dktX0_couples_1 : List UInt8 := dkwX0_couples_1 ++ dktX0_couples_2
def dkwX0_couples_0 : List UInt8 := [3, 188, 10, 76, 3, 61, 28, 42, 180, 0, 144, 190, 162, 0, 57, 2, 62, 29, 42, 180, 0, 144, 190]
abbrev dktX0_couples_0 : List UInt8 := dkwX0_couples_0 ++ dktX0_couples_1
theorem dksX0_couples_0 : cX0_couples.data.toList.drop 0 = dktX0_couples_0 := by decide +kernel
theorem dksX0_couples_1 : cX0_couples.data.toList.drop 23 = dktX0_couples_1 := dk_seg dksX0_couples_0 23 rfl rfl
theorem dksX0_couples_2 : cX0_couples.data.toList.drop 47 = dktX0_couples_2 := dk_seg dksX0_couples_1 24 rfl rfl
theorem dX0_couples_0 : decode cX0_couples 0 = .ok (.iconst 0, 1) := dk_3 (dk_at dksX0_couples_0 0 rfl rfl)
theorem dX0_couples_1 : decode cX0_couples 1 = .ok (.newarray .int, 2) := dk_188_10 (dk_at dksX0_couples_0 1 rfl rfl)
theorem dX0_couples_3 : decode cX0_couples 3 = .ok (.astore_n 1, 1) := dk_76 (dk_at dksX0_couples_0 3 rfl rfl)
theorem dX0_couples_4 : decode cX0_couples 4 = .ok (.iconst 0, 1) := dk_3 (dk_at dksX0_couples_0 4 rfl rfl)
theorem dX0_couples_5 : decode cX0_couples 5 = .ok (.istore_n 2, 1) := dk_61 (dk_at dksX0_couples_0 5 rfl rfl)
theorem dX0_couples_6 : decode cX0_couples 6 = .ok (.iload_n 2, 1) := dk_28 (dk_at dksX0_couples_0 6 rfl rfl)
theorem dX0_couples_7 : decode cX0_couples 7 = .ok (.aload_n 0, 1) := dk_42 (dk_at dksX0_couples_0 7 rfl rfl)
theorem dX0_couples_8 : decode cX0_couples 8 = .ok (.getfield 144, 3) := dk_180 0 144 (dk_at dksX0_couples_0 8 rfl rfl)
theorem dX0_couples_11 : decode cX0_couples 11 = .ok (.arraylength, 1) := dk_190 (dk_at dksX0_couples_0 11 rfl rfl)
theorem dX0_couples_12 : decode cX0_couples 12 = .ok (.if_icmp .ge 57, 3) := dk_162 0 57 (dk_at dksX0_couples_0 12 rfl rfl)
theorem dX0_couples_15 : decode cX0_couples 15 = .ok (.iconst (-1), 1) := dk_2 (dk_at dksX0_couples_0 15 rfl rfl)
theorem dX0_couples_16 : decode cX0_couples 16 = .ok (.istore_n 3, 1) := dk_62 (dk_at dksX0_couples_0 16 rfl rfl)
theorem dX0_couples_17 : decode cX0_couples 17 = .ok (.iload_n 3, 1) := dk_29 (dk_at dksX0_couples_0 17 rfl rfl)
theorem dX0_couples_18 : decode cX0_couples 18 = .ok (.aload_n 0, 1) := dk_42 (dk_at dksX0_couples_0 18 rfl rfl)
theorem dX0_couples_19 : decode cX0_couples 19 = .ok (.getfield 144, 3) := dk_180 0 144 (dk_at dksX0_couples_0 19 rfl rfl)
theorem dX0_couples_22 : decode cX0_couples 22 = .ok (.arraylength, 1) := dk_190 (dk_at dksX0_couples_0 22 rfl rfl)
theorem dX0_couples_23 : decode cX0_couples 23 = .ok (.if_icmp .ge 40, 3) := dk_162 0 40 (dk_at dksX0_couples_1 0 rfl rfl)
theorem dX0_couples_26 : decode cX0_couples 26 = .ok (.iload_n 2, 1) := dk_28 (dk_at dksX0_couples_1 3 rfl rfl)
theorem dX0_couples_27 : decode cX0_couples 27 = .ok (.iload_n 3, 1) := dk_29 (dk_at dksX0_couples_1 4 rfl rfl)
theorem dX0_couples_28 : decode cX0_couples 28 = .ok (.if_icmp .eq 29, 3) := dk_159 0 29 (dk_at dksX0_couples_1 5 rfl rfl)
theorem dX0_couples_31 : decode cX0_couples 31 = .ok (.aload_n 0, 1) := dk_42 (dk_at dksX0_couples_1 8 rfl rfl)
theorem dX0_couples_32 : decode cX0_couples 32 = .ok (.aload_n 0, 1) := dk_42 (dk_at dksX0_couples_1 9 rfl rfl)
theorem dX0_couples_33 : decode cX0_couples 33 = .ok (.iload_n 2, 1) := dk_28 (dk_at dksX0_couples_1 10 rfl rfl)
theorem dX0_couples_34 : decode cX0_couples 34 = .ok (.iload_n 3, 1) := dk_29 (dk_at dksX0_couples_1 11 rfl rfl)
theorem dX0_couples_35 : decode cX0_couples 35 = .ok (.invokevirtual 548, 3) := dk_182 2 36 (dk_at dksX0_couples_1 12 rfl rfl)
theorem dX0_couples_38 : decode cX0_couples 38 = .ok (.invokevirtual 561, 3) := dk_182 2 49 (dk_at dksX0_couples_1 15 rfl rfl)
theorem dX0_couples_41 : decode cX0_couples 41 = .ok (.ifCond .eq 16, 3) := dk_153 0 16 (dk_at dksX0_couples_1 18 rfl rfl)
theorem dX0_couples_44 : decode cX0_couples 44 = .ok (.aload_n 1, 1) := dk_43 (dk_at dksX0_couples_1 21 rfl rfl)
theorem dX0_couples_45 : decode cX0_couples 45 = .ok (.bipush 11, 2) := dk_16 11 (dk_at dksX0_couples_1 22 rfl rfl)
theorem dX0_couples_47 : decode cX0_couples 47 = .ok (.iload_n 2, 1) := dk_28 (dk_at dksX0_couples_2 0 rfl rfl)
theorem dX0_couples_48 : decode cX0_couples 48 = .ok (.imul, 1) := dk_104 (dk_at dksX0_couples_2 1 rfl rfl)
theorem dX0_couples_49 : decode cX0_couples 49 = .ok (.iload_n 3, 1) := dk_29 (dk_at dksX0_couples_2 2 rfl rfl)
theorem dX0_couples_50 : decode cX0_couples 50 = .ok (.iadd, 1) := dk_96 (dk_at dksX0_couples_2 3 rfl rfl)
theorem dX0_couples_51 : decode cX0_couples 51 = .ok (.iconst 1, 1) := dk_4 (dk_at dksX0_couples_2 4 rfl rfl)
theorem dX0_couples_52 : decode cX0_couples 52 = .ok (.iadd, 1) := dk_96 (dk_at dksX0_couples_2 5 rfl rfl)
theorem dX0_couples_53 : decode cX0_couples 53 = .ok (.invokestatic 384, 3) := dk_184 1 128 (dk_at dksX0_couples_2 6 rfl rfl)
theorem dX0_couples_56 : decode cX0_couples 56 = .ok (.astore_n 1, 1) := dk_76 (dk_at dksX0_couples_2 9 rfl rfl)
theorem dX0_couples_57 : decode cX0_couples 57 = .ok (.iinc 3 1, 3) := dk_132 3 1 (dk_at dksX0_couples_2 10 rfl rfl)
theorem dX0_couples_60 : decode cX0_couples 60 = .ok (.goto (-43), 3) := dk_167 255 213 (dk_at dksX0_couples_2 13 rfl rfl)
theorem dX0_couples_63 : decode cX0_couples 63 = .ok (.iinc 2 1, 3) := dk_132 2 1 (dk_at dksX0_couples_2 16 rfl rfl)
theorem dX0_couples_66 : decode cX0_couples 66 = .ok (.goto (-60), 3) := dk_167 255 196 (dk_at dksX0_couples_2 19 rfl rfl)
theorem dX0_couples_69 : decode cX0_couples 69 = .ok (.aload_n 1, 1) := dk_43 (dk_at dksX0_couples_2 22 rfl rfl)
theorem dX0_couples_70 : decode cX0_couples 70 = .ok (.areturn, 1) := dk_176 (dk_at dksX0_couples_2 23 rfl rfl)
abbrev cX0_fitsAll : ByteArray := prog_1_method_65_code
def yX0_fitsAll : MethodName := ⟨RX0, "fitsAll", "([I)Z"⟩
def dkwX0_fitsAll_1 : List UInt8 := [42, 180, 0, 183, 28, 50, 182, 2, 47, 159, 0, 5, 3, 172, 132, 2, 1, 167, 255, 217, 4, 172]
abbrev dktX0_fitsAll_1 : List UInt8 := dkwX0_fitsAll_1 ++ []
def dkwX0_fitsAll_0 : List UInt8 := [3, 61, 28, 42, 180, 0, 183, 190, 162, 0, 36, 43, 42, 180, 0, 183, 28, 50, 182, 2, 41, 184, 2, 43]
abbrev dktX0_fitsAll_0 : List UInt8 := dkwX0_fitsAll_0 ++ dktX0_fitsAll_1
theorem dksX0_fitsAll_0 : cX0_fitsAll.data.toList.drop 0 = dktX0_fitsAll_0 := by decide +kernel
theorem dksX0_fitsAll_1 : cX0_fitsAll.data.toList.drop 24 = dktX0_fitsAll_1 := dk_seg dksX0_fitsAll_0 24 rfl rfl
theorem dX0_fitsAll_0 : decode cX0_fitsAll 0 = .ok (.iconst 0, 1) := dk_3 (dk_at dksX0_fitsAll_0 0 rfl rfl)
theorem dX0_fitsAll_1 : decode cX0_fitsAll 1 = .ok (.istore_n 2, 1) := dk_61 (dk_at dksX0_fitsAll_0 1 rfl rfl)
theorem dX0_fitsAll_2 : decode cX0_fitsAll 2 = .ok (.iload_n 2, 1) := dk_28 (dk_at dksX0_fitsAll_0 2 rfl rfl)
theorem dX0_fitsAll_3 : decode cX0_fitsAll 3 = .ok (.aload_n 0, 1) := dk_42 (dk_at dksX0_fitsAll_0 3 rfl rfl)
theorem dX0_fitsAll_4 : decode cX0_fitsAll 4 = .ok (.getfield 183, 3) := dk_180 0 183 (dk_at dksX0_fitsAll_0 4 rfl rfl)
theorem dX0_fitsAll_7 : decode cX0_fitsAll 7 = .ok (.arraylength, 1) := dk_190 (dk_at dksX0_fitsAll_0 7 rfl rfl)
theorem dX0_fitsAll_8 : decode cX0_fitsAll 8 = .ok (.if_icmp .ge 36, 3) := dk_162 0 36 (dk_at dksX0_fitsAll_0 8 rfl rfl)
theorem dX0_fitsAll_11 : decode cX0_fitsAll 11 = .ok (.aload_n 1, 1) := dk_43 (dk_at dksX0_fitsAll_0 11 rfl rfl)
theorem dX0_fitsAll_12 : decode cX0_fitsAll 12 = .ok (.aload_n 0, 1) := dk_42 (dk_at dksX0_fitsAll_0 12 rfl rfl)
theorem dX0_fitsAll_13 : decode cX0_fitsAll 13 = .ok (.getfield 183, 3) := dk_180 0 183 (dk_at dksX0_fitsAll_0 13 rfl rfl)
theorem dX0_fitsAll_16 : decode cX0_fitsAll 16 = .ok (.iload_n 2, 1) := dk_28 (dk_at dksX0_fitsAll_0 16 rfl rfl)
theorem dX0_fitsAll_17 : decode cX0_fitsAll 17 = .ok (.aaload, 1) := dk_50 (dk_at dksX0_fitsAll_0 17 rfl rfl)
theorem dX0_fitsAll_18 : decode cX0_fitsAll 18 = .ok (.invokevirtual 553, 3) := dk_182 2 41 (dk_at dksX0_fitsAll_0 18 rfl rfl)
theorem dX0_fitsAll_21 : decode cX0_fitsAll 21 = .ok (.invokestatic 555, 3) := dk_184 2 43 (dk_at dksX0_fitsAll_0 21 rfl rfl)
theorem dX0_fitsAll_24 : decode cX0_fitsAll 24 = .ok (.aload_n 0, 1) := dk_42 (dk_at dksX0_fitsAll_1 0 rfl rfl)
theorem dX0_fitsAll_25 : decode cX0_fitsAll 25 = .ok (.getfield 183, 3) := dk_180 0 183 (dk_at dksX0_fitsAll_1 1 rfl rfl)
theorem dX0_fitsAll_28 : decode cX0_fitsAll 28 = .ok (.iload_n 2, 1) := dk_28 (dk_at dksX0_fitsAll_1 4 rfl rfl)
theorem dX0_fitsAll_29 : decode cX0_fitsAll 29 = .ok (.aaload, 1) := dk_50 (dk_at dksX0_fitsAll_1 5 rfl rfl)
theorem dX0_fitsAll_30 : decode cX0_fitsAll 30 = .ok (.invokevirtual 559, 3) := dk_182 2 47 (dk_at dksX0_fitsAll_1 6 rfl rfl)
theorem dX0_fitsAll_33 : decode cX0_fitsAll 33 = .ok (.if_icmp .eq 5, 3) := dk_159 0 5 (dk_at dksX0_fitsAll_1 9 rfl rfl)
theorem dX0_fitsAll_36 : decode cX0_fitsAll 36 = .ok (.iconst 0, 1) := dk_3 (dk_at dksX0_fitsAll_1 12 rfl rfl)
theorem dX0_fitsAll_37 : decode cX0_fitsAll 37 = .ok (.ireturn, 1) := dk_172 (dk_at dksX0_fitsAll_1 13 rfl rfl)
theorem dX0_fitsAll_38 : decode cX0_fitsAll 38 = .ok (.iinc 2 1, 3) := dk_132 2 1 (dk_at dksX0_fitsAll_1 14 rfl rfl)
theorem dX0_fitsAll_41 : decode cX0_fitsAll 41 = .ok (.goto (-39), 3) := dk_167 255 217 (dk_at dksX0_fitsAll_1 17 rfl rfl)
theorem dX0_fitsAll_44 : decode cX0_fitsAll 44 = .ok (.iconst 1, 1) := dk_4 (dk_at dksX0_fitsAll_1 20 rfl rfl)
theorem dX0_fitsAll_45 : decode cX0_fitsAll 45 = .ok (.ireturn, 1) := dk_172 (dk_at dksX0_fitsAll_1 21 rfl rfl)
abbrev cX0_markOf : ByteArray := prog_1_method_64_code
def yX0_markOf : MethodName := ⟨RX0, "markOf", "([II)I"⟩
def dkwX0_markOf_0 : List UInt8 := [27, 42, 190, 162, 0, 9, 42, 27, 46, 167, 0, 4, 2, 172]
abbrev dktX0_markOf_0 : List UInt8 := dkwX0_markOf_0 ++ []
theorem dksX0_markOf_0 : cX0_markOf.data.toList.drop 0 = dktX0_markOf_0 := by decide +kernel
theorem dX0_markOf_0 : decode cX0_markOf 0 = .ok (.iload_n 1, 1) := dk_27 (dk_at dksX0_markOf_0 0 rfl rfl)
theorem dX0_markOf_1 : decode cX0_markOf 1 = .ok (.aload_n 0, 1) := dk_42 (dk_at dksX0_markOf_0 1 rfl rfl)
theorem dX0_markOf_2 : decode cX0_markOf 2 = .ok (.arraylength, 1) := dk_190 (dk_at dksX0_markOf_0 2 rfl rfl)
theorem dX0_markOf_3 : decode cX0_markOf 3 = .ok (.if_icmp .ge 9, 3) := dk_162 0 9 (dk_at dksX0_markOf_0 3 rfl rfl)
theorem dX0_markOf_6 : decode cX0_markOf 6 = .ok (.aload_n 0, 1) := dk_42 (dk_at dksX0_markOf_0 6 rfl rfl)
theorem dX0_markOf_7 : decode cX0_markOf 7 = .ok (.iload_n 1, 1) := dk_27 (dk_at dksX0_markOf_0 7 rfl rfl)
theorem dX0_markOf_8 : decode cX0_markOf 8 = .ok (.iaload, 1) := dk_46 (dk_at dksX0_markOf_0 8 rfl rfl)
theorem dX0_markOf_9 : decode cX0_markOf 9 = .ok (.goto 4, 3) := dk_167 0 4 (dk_at dksX0_markOf_0 9 rfl rfl)
theorem dX0_markOf_12 : decode cX0_markOf 12 = .ok (.iconst (-1), 1) := dk_2 (dk_at dksX0_markOf_0 12 rfl rfl)
theorem dX0_markOf_13 : decode cX0_markOf 13 = .ok (.ireturn, 1) := dk_172 (dk_at dksX0_markOf_0 13 rfl rfl)
abbrev cX0_lambda_fits_1 : ByteArray := prog_1_method_120_code
def yX0_lambda_fits_1 : MethodName := ⟨RX0, "lambda$fits$1", "([II)I"⟩
def dkwX0_lambda_fits_1_0 : List UInt8 := [42, 43, 28, 182, 2, 189, 172]
abbrev dktX0_lambda_fits_1_0 : List UInt8 := dkwX0_lambda_fits_1_0 ++ []
theorem dksX0_lambda_fits_1_0 : cX0_lambda_fits_1.data.toList.drop 0 = dktX0_lambda_fits_1_0 := by decide +kernel
theorem dX0_lambda_fits_1_0 : decode cX0_lambda_fits_1 0 = .ok (.aload_n 0, 1) := dk_42 (dk_at dksX0_lambda_fits_1_0 0 rfl rfl)
theorem dX0_lambda_fits_1_1 : decode cX0_lambda_fits_1 1 = .ok (.aload_n 1, 1) := dk_43 (dk_at dksX0_lambda_fits_1_0 1 rfl rfl)
theorem dX0_lambda_fits_1_2 : decode cX0_lambda_fits_1 2 = .ok (.iload_n 2, 1) := dk_28 (dk_at dksX0_lambda_fits_1_0 2 rfl rfl)
theorem dX0_lambda_fits_1_3 : decode cX0_lambda_fits_1 3 = .ok (.invokevirtual 701, 3) := dk_182 2 189 (dk_at dksX0_lambda_fits_1_0 3 rfl rfl)
theorem dX0_lambda_fits_1_6 : decode cX0_lambda_fits_1 6 = .ok (.ireturn, 1) := dk_172 (dk_at dksX0_lambda_fits_1_0 6 rfl rfl)
abbrev cX0_mostAlike : ByteArray := prog_1_method_67_code
def yX0_mostAlike : MethodName := ⟨RX0, "mostAlike", "([II)I"⟩
def dkwX0_mostAlike_3 : List UInt8 := [21, 4, 172]
abbrev dktX0_mostAlike_3 : List UInt8 := dkwX0_mostAlike_3 ++ []
def dkwX0_mostAlike_2 : List UInt8 := [21, 6, 92, 46, 4, 96, 79, 21, 4, 45, 21, 6, 46, 184, 0, 7, 54, 4, 132, 5, 1, 167, 255, 199]
abbrev dktX0_mostAlike_2 : List UInt8 := dkwX0_mostAlike_2 ++ dktX0_mostAlike_3
def dkwX0_mostAlike_1 : List UInt8 := [16, 11, 108, 43, 21, 5, 46, 16, 11, 112, 4, 100, 182, 2, 36, 28, 184, 2, 43, 4, 96, 54, 6, 45]
abbrev dktX0_mostAlike_1 : List UInt8 := dkwX0_mostAlike_1 ++ dktX0_mostAlike_2
def dkwX0_mostAlike_0 : List UInt8 := [16, 9, 188, 10, 78, 3, 54, 4, 3, 54, 5, 21, 5, 43, 190, 162, 0, 56, 42, 43, 21, 5, 46]
abbrev dktX0_mostAlike_0 : List UInt8 := dkwX0_mostAlike_0 ++ dktX0_mostAlike_1
theorem dksX0_mostAlike_0 : cX0_mostAlike.data.toList.drop 0 = dktX0_mostAlike_0 := by decide +kernel
theorem dksX0_mostAlike_1 : cX0_mostAlike.data.toList.drop 23 = dktX0_mostAlike_1 := dk_seg dksX0_mostAlike_0 23 rfl rfl
theorem dksX0_mostAlike_2 : cX0_mostAlike.data.toList.drop 47 = dktX0_mostAlike_2 := dk_seg dksX0_mostAlike_1 24 rfl rfl
theorem dksX0_mostAlike_3 : cX0_mostAlike.data.toList.drop 71 = dktX0_mostAlike_3 := dk_seg dksX0_mostAlike_2 24 rfl rfl
theorem dX0_mostAlike_0 : decode cX0_mostAlike 0 = .ok (.bipush 9, 2) := dk_16 9 (dk_at dksX0_mostAlike_0 0 rfl rfl)
theorem dX0_mostAlike_2 : decode cX0_mostAlike 2 = .ok (.newarray .int, 2) := dk_188_10 (dk_at dksX0_mostAlike_0 2 rfl rfl)
theorem dX0_mostAlike_4 : decode cX0_mostAlike 4 = .ok (.astore_n 3, 1) := dk_78 (dk_at dksX0_mostAlike_0 4 rfl rfl)
theorem dX0_mostAlike_5 : decode cX0_mostAlike 5 = .ok (.iconst 0, 1) := dk_3 (dk_at dksX0_mostAlike_0 5 rfl rfl)
theorem dX0_mostAlike_6 : decode cX0_mostAlike 6 = .ok (.istore 4, 2) := dk_54 4 (dk_at dksX0_mostAlike_0 6 rfl rfl)
theorem dX0_mostAlike_8 : decode cX0_mostAlike 8 = .ok (.iconst 0, 1) := dk_3 (dk_at dksX0_mostAlike_0 8 rfl rfl)
theorem dX0_mostAlike_9 : decode cX0_mostAlike 9 = .ok (.istore 5, 2) := dk_54 5 (dk_at dksX0_mostAlike_0 9 rfl rfl)
theorem dX0_mostAlike_11 : decode cX0_mostAlike 11 = .ok (.iload 5, 2) := dk_21 5 (dk_at dksX0_mostAlike_0 11 rfl rfl)
theorem dX0_mostAlike_13 : decode cX0_mostAlike 13 = .ok (.aload_n 1, 1) := dk_43 (dk_at dksX0_mostAlike_0 13 rfl rfl)
theorem dX0_mostAlike_14 : decode cX0_mostAlike 14 = .ok (.arraylength, 1) := dk_190 (dk_at dksX0_mostAlike_0 14 rfl rfl)
theorem dX0_mostAlike_15 : decode cX0_mostAlike 15 = .ok (.if_icmp .ge 56, 3) := dk_162 0 56 (dk_at dksX0_mostAlike_0 15 rfl rfl)
theorem dX0_mostAlike_18 : decode cX0_mostAlike 18 = .ok (.aload_n 0, 1) := dk_42 (dk_at dksX0_mostAlike_0 18 rfl rfl)
theorem dX0_mostAlike_19 : decode cX0_mostAlike 19 = .ok (.aload_n 1, 1) := dk_43 (dk_at dksX0_mostAlike_0 19 rfl rfl)
theorem dX0_mostAlike_20 : decode cX0_mostAlike 20 = .ok (.iload 5, 2) := dk_21 5 (dk_at dksX0_mostAlike_0 20 rfl rfl)
theorem dX0_mostAlike_22 : decode cX0_mostAlike 22 = .ok (.iaload, 1) := dk_46 (dk_at dksX0_mostAlike_0 22 rfl rfl)
theorem dX0_mostAlike_23 : decode cX0_mostAlike 23 = .ok (.bipush 11, 2) := dk_16 11 (dk_at dksX0_mostAlike_1 0 rfl rfl)
theorem dX0_mostAlike_25 : decode cX0_mostAlike 25 = .ok (.idiv, 1) := dk_108 (dk_at dksX0_mostAlike_1 2 rfl rfl)
theorem dX0_mostAlike_26 : decode cX0_mostAlike 26 = .ok (.aload_n 1, 1) := dk_43 (dk_at dksX0_mostAlike_1 3 rfl rfl)
theorem dX0_mostAlike_27 : decode cX0_mostAlike 27 = .ok (.iload 5, 2) := dk_21 5 (dk_at dksX0_mostAlike_1 4 rfl rfl)
theorem dX0_mostAlike_29 : decode cX0_mostAlike 29 = .ok (.iaload, 1) := dk_46 (dk_at dksX0_mostAlike_1 6 rfl rfl)
theorem dX0_mostAlike_30 : decode cX0_mostAlike 30 = .ok (.bipush 11, 2) := dk_16 11 (dk_at dksX0_mostAlike_1 7 rfl rfl)
theorem dX0_mostAlike_32 : decode cX0_mostAlike 32 = .ok (.irem, 1) := dk_112 (dk_at dksX0_mostAlike_1 9 rfl rfl)
theorem dX0_mostAlike_33 : decode cX0_mostAlike 33 = .ok (.iconst 1, 1) := dk_4 (dk_at dksX0_mostAlike_1 10 rfl rfl)
theorem dX0_mostAlike_34 : decode cX0_mostAlike 34 = .ok (.isub, 1) := dk_100 (dk_at dksX0_mostAlike_1 11 rfl rfl)
theorem dX0_mostAlike_35 : decode cX0_mostAlike 35 = .ok (.invokevirtual 548, 3) := dk_182 2 36 (dk_at dksX0_mostAlike_1 12 rfl rfl)
theorem dX0_mostAlike_38 : decode cX0_mostAlike 38 = .ok (.iload_n 2, 1) := dk_28 (dk_at dksX0_mostAlike_1 15 rfl rfl)
theorem dX0_mostAlike_39 : decode cX0_mostAlike 39 = .ok (.invokestatic 555, 3) := dk_184 2 43 (dk_at dksX0_mostAlike_1 16 rfl rfl)
theorem dX0_mostAlike_42 : decode cX0_mostAlike 42 = .ok (.iconst 1, 1) := dk_4 (dk_at dksX0_mostAlike_1 19 rfl rfl)
theorem dX0_mostAlike_43 : decode cX0_mostAlike 43 = .ok (.iadd, 1) := dk_96 (dk_at dksX0_mostAlike_1 20 rfl rfl)
theorem dX0_mostAlike_44 : decode cX0_mostAlike 44 = .ok (.istore 6, 2) := dk_54 6 (dk_at dksX0_mostAlike_1 21 rfl rfl)
theorem dX0_mostAlike_46 : decode cX0_mostAlike 46 = .ok (.aload_n 3, 1) := dk_45 (dk_at dksX0_mostAlike_1 23 rfl rfl)
theorem dX0_mostAlike_47 : decode cX0_mostAlike 47 = .ok (.iload 6, 2) := dk_21 6 (dk_at dksX0_mostAlike_2 0 rfl rfl)
theorem dX0_mostAlike_49 : decode cX0_mostAlike 49 = .ok (.dup2, 1) := dk_92 (dk_at dksX0_mostAlike_2 2 rfl rfl)
theorem dX0_mostAlike_50 : decode cX0_mostAlike 50 = .ok (.iaload, 1) := dk_46 (dk_at dksX0_mostAlike_2 3 rfl rfl)
theorem dX0_mostAlike_51 : decode cX0_mostAlike 51 = .ok (.iconst 1, 1) := dk_4 (dk_at dksX0_mostAlike_2 4 rfl rfl)
theorem dX0_mostAlike_52 : decode cX0_mostAlike 52 = .ok (.iadd, 1) := dk_96 (dk_at dksX0_mostAlike_2 5 rfl rfl)
theorem dX0_mostAlike_53 : decode cX0_mostAlike 53 = .ok (.iastore, 1) := dk_79 (dk_at dksX0_mostAlike_2 6 rfl rfl)
theorem dX0_mostAlike_54 : decode cX0_mostAlike 54 = .ok (.iload 4, 2) := dk_21 4 (dk_at dksX0_mostAlike_2 7 rfl rfl)
theorem dX0_mostAlike_56 : decode cX0_mostAlike 56 = .ok (.aload_n 3, 1) := dk_45 (dk_at dksX0_mostAlike_2 9 rfl rfl)
theorem dX0_mostAlike_57 : decode cX0_mostAlike 57 = .ok (.iload 6, 2) := dk_21 6 (dk_at dksX0_mostAlike_2 10 rfl rfl)
theorem dX0_mostAlike_59 : decode cX0_mostAlike 59 = .ok (.iaload, 1) := dk_46 (dk_at dksX0_mostAlike_2 12 rfl rfl)
theorem dX0_mostAlike_60 : decode cX0_mostAlike 60 = .ok (.invokestatic 7, 3) := dk_184 0 7 (dk_at dksX0_mostAlike_2 13 rfl rfl)
theorem dX0_mostAlike_63 : decode cX0_mostAlike 63 = .ok (.istore 4, 2) := dk_54 4 (dk_at dksX0_mostAlike_2 16 rfl rfl)
theorem dX0_mostAlike_65 : decode cX0_mostAlike 65 = .ok (.iinc 5 1, 3) := dk_132 5 1 (dk_at dksX0_mostAlike_2 18 rfl rfl)
theorem dX0_mostAlike_68 : decode cX0_mostAlike 68 = .ok (.goto (-57), 3) := dk_167 255 199 (dk_at dksX0_mostAlike_2 21 rfl rfl)
theorem dX0_mostAlike_71 : decode cX0_mostAlike 71 = .ok (.iload 4, 2) := dk_21 4 (dk_at dksX0_mostAlike_3 0 rfl rfl)
theorem dX0_mostAlike_73 : decode cX0_mostAlike 73 = .ok (.ireturn, 1) := dk_172 (dk_at dksX0_mostAlike_3 2 rfl rfl)
abbrev cX0_leastBy : ByteArray := prog_1_method_6_code
def yX0_leastBy : MethodName := ⟨RX0, "leastBy", "(ILSilkClerks$Measure;)I"⟩
def dkwX0_leastBy_1 : List UInt8 := [43, 28, 185, 0, 24, 2, 0, 162, 0, 7, 29, 167, 0, 4, 28, 61, 132, 3, 1, 167, 255, 225, 28, 172]
abbrev dktX0_leastBy_1 : List UInt8 := dkwX0_leastBy_1 ++ []
def dkwX0_leastBy_0 : List UInt8 := [26, 158, 0, 7, 3, 167, 0, 4, 2, 61, 4, 62, 29, 26, 162, 0, 32, 43, 29, 185, 0, 24, 2, 0]
abbrev dktX0_leastBy_0 : List UInt8 := dkwX0_leastBy_0 ++ dktX0_leastBy_1
theorem dksX0_leastBy_0 : cX0_leastBy.data.toList.drop 0 = dktX0_leastBy_0 := by decide +kernel
theorem dksX0_leastBy_1 : cX0_leastBy.data.toList.drop 24 = dktX0_leastBy_1 := dk_seg dksX0_leastBy_0 24 rfl rfl
theorem dX0_leastBy_0 : decode cX0_leastBy 0 = .ok (.iload_n 0, 1) := dk_26 (dk_at dksX0_leastBy_0 0 rfl rfl)
theorem dX0_leastBy_1 : decode cX0_leastBy 1 = .ok (.ifCond .le 7, 3) := dk_158 0 7 (dk_at dksX0_leastBy_0 1 rfl rfl)
theorem dX0_leastBy_4 : decode cX0_leastBy 4 = .ok (.iconst 0, 1) := dk_3 (dk_at dksX0_leastBy_0 4 rfl rfl)
theorem dX0_leastBy_5 : decode cX0_leastBy 5 = .ok (.goto 4, 3) := dk_167 0 4 (dk_at dksX0_leastBy_0 5 rfl rfl)
theorem dX0_leastBy_8 : decode cX0_leastBy 8 = .ok (.iconst (-1), 1) := dk_2 (dk_at dksX0_leastBy_0 8 rfl rfl)
theorem dX0_leastBy_9 : decode cX0_leastBy 9 = .ok (.istore_n 2, 1) := dk_61 (dk_at dksX0_leastBy_0 9 rfl rfl)
theorem dX0_leastBy_10 : decode cX0_leastBy 10 = .ok (.iconst 1, 1) := dk_4 (dk_at dksX0_leastBy_0 10 rfl rfl)
theorem dX0_leastBy_11 : decode cX0_leastBy 11 = .ok (.istore_n 3, 1) := dk_62 (dk_at dksX0_leastBy_0 11 rfl rfl)
theorem dX0_leastBy_12 : decode cX0_leastBy 12 = .ok (.iload_n 3, 1) := dk_29 (dk_at dksX0_leastBy_0 12 rfl rfl)
theorem dX0_leastBy_13 : decode cX0_leastBy 13 = .ok (.iload_n 0, 1) := dk_26 (dk_at dksX0_leastBy_0 13 rfl rfl)
theorem dX0_leastBy_14 : decode cX0_leastBy 14 = .ok (.if_icmp .ge 32, 3) := dk_162 0 32 (dk_at dksX0_leastBy_0 14 rfl rfl)
theorem dX0_leastBy_17 : decode cX0_leastBy 17 = .ok (.aload_n 1, 1) := dk_43 (dk_at dksX0_leastBy_0 17 rfl rfl)
theorem dX0_leastBy_18 : decode cX0_leastBy 18 = .ok (.iload_n 3, 1) := dk_29 (dk_at dksX0_leastBy_0 18 rfl rfl)
theorem dX0_leastBy_19 : decode cX0_leastBy 19 = .ok (.invokeinterface 24 2, 5) := by decide +kernel
theorem dX0_leastBy_24 : decode cX0_leastBy 24 = .ok (.aload_n 1, 1) := dk_43 (dk_at dksX0_leastBy_1 0 rfl rfl)
theorem dX0_leastBy_25 : decode cX0_leastBy 25 = .ok (.iload_n 2, 1) := dk_28 (dk_at dksX0_leastBy_1 1 rfl rfl)
theorem dX0_leastBy_26 : decode cX0_leastBy 26 = .ok (.invokeinterface 24 2, 5) := by decide +kernel
theorem dX0_leastBy_31 : decode cX0_leastBy 31 = .ok (.if_icmp .ge 7, 3) := dk_162 0 7 (dk_at dksX0_leastBy_1 7 rfl rfl)
theorem dX0_leastBy_34 : decode cX0_leastBy 34 = .ok (.iload_n 3, 1) := dk_29 (dk_at dksX0_leastBy_1 10 rfl rfl)
theorem dX0_leastBy_35 : decode cX0_leastBy 35 = .ok (.goto 4, 3) := dk_167 0 4 (dk_at dksX0_leastBy_1 11 rfl rfl)
theorem dX0_leastBy_38 : decode cX0_leastBy 38 = .ok (.iload_n 2, 1) := dk_28 (dk_at dksX0_leastBy_1 14 rfl rfl)
theorem dX0_leastBy_39 : decode cX0_leastBy 39 = .ok (.istore_n 2, 1) := dk_61 (dk_at dksX0_leastBy_1 15 rfl rfl)
theorem dX0_leastBy_40 : decode cX0_leastBy 40 = .ok (.iinc 3 1, 3) := dk_132 3 1 (dk_at dksX0_leastBy_1 16 rfl rfl)
theorem dX0_leastBy_43 : decode cX0_leastBy 43 = .ok (.goto (-31), 3) := dk_167 255 225 (dk_at dksX0_leastBy_1 19 rfl rfl)
theorem dX0_leastBy_46 : decode cX0_leastBy 46 = .ok (.iload_n 2, 1) := dk_28 (dk_at dksX0_leastBy_1 22 rfl rfl)
theorem dX0_leastBy_47 : decode cX0_leastBy 47 = .ok (.ireturn, 1) := dk_172 (dk_at dksX0_leastBy_1 23 rfl rfl)
abbrev cX0_reel : ByteArray := prog_1_method_75_code
def yX0_reel : MethodName := ⟨RX0, "reel", "(I)I"⟩
def dkwX0_reel_8 : List UInt8 := [154, 0, 7, 29, 167, 0, 5, 21, 4, 172]
abbrev dktX0_reel_8 : List UInt8 := dkwX0_reel_8 ++ []
def dkwX0_reel_7 : List UInt8 := [21, 5, 182, 2, 81, 184, 0, 7, 54, 4, 21, 5, 184, 0, 30, 62, 132, 5, 1, 167, 255, 97, 27]
abbrev dktX0_reel_7 : List UInt8 := dkwX0_reel_7 ++ dktX0_reel_8
def dkwX0_reel_6 : List UInt8 := [167, 0, 40, 21, 5, 184, 0, 30, 29, 164, 0, 12, 42, 21, 5, 182, 2, 81, 167, 0, 14, 21, 4, 42]
abbrev dktX0_reel_6 : List UInt8 := dkwX0_reel_6 ++ dktX0_reel_7
def dkwX0_reel_5 : List UInt8 := [128, 54, 6, 132, 7, 1, 167, 255, 169, 21, 6, 153, 0, 52, 21, 5, 184, 0, 30, 29, 162, 0, 6]
abbrev dktX0_reel_5 : List UInt8 := dkwX0_reel_5 ++ dktX0_reel_6
def dkwX0_reel_4 : List UInt8 := [21, 6, 42, 180, 0, 188, 16, 12, 21, 5, 104, 21, 7, 96, 46, 4, 160, 0, 7, 4, 167, 0, 4, 3]
abbrev dktX0_reel_4 : List UInt8 := dkwX0_reel_4 ++ dktX0_reel_5
def dkwX0_reel_3 : List UInt8 := [184, 2, 2, 153, 0, 18, 42, 21, 5, 21, 7, 182, 2, 78, 153, 0, 7, 4, 167, 0, 4, 3, 79]
abbrev dktX0_reel_3 : List UInt8 := dkwX0_reel_3 ++ dktX0_reel_4
def dkwX0_reel_2 : List UInt8 := [180, 0, 188, 16, 12, 21, 5, 104, 21, 7, 96, 21, 5, 28, 2, 130, 126, 154, 0, 28, 21, 5, 21, 7]
abbrev dktX0_reel_2 : List UInt8 := dkwX0_reel_2 ++ dktX0_reel_3
def dkwX0_reel_1 : List UInt8 := [21, 5, 28, 163, 0, 159, 3, 54, 6, 3, 54, 7, 21, 7, 42, 180, 1, 136, 162, 0, 84, 42]
abbrev dktX0_reel_1 : List UInt8 := dkwX0_reel_1 ++ dktX0_reel_2
def dkwX0_reel_0 : List UInt8 := [27, 3, 4, 184, 0, 224, 154, 0, 5, 2, 172, 42, 182, 2, 75, 61, 3, 62, 3, 54, 4, 4, 54, 5]
abbrev dktX0_reel_0 : List UInt8 := dkwX0_reel_0 ++ dktX0_reel_1
theorem dksX0_reel_0 : cX0_reel.data.toList.drop 0 = dktX0_reel_0 := by decide +kernel
theorem dksX0_reel_1 : cX0_reel.data.toList.drop 24 = dktX0_reel_1 := dk_seg dksX0_reel_0 24 rfl rfl
theorem dksX0_reel_2 : cX0_reel.data.toList.drop 46 = dktX0_reel_2 := dk_seg dksX0_reel_1 22 rfl rfl
theorem dksX0_reel_3 : cX0_reel.data.toList.drop 70 = dktX0_reel_3 := dk_seg dksX0_reel_2 24 rfl rfl
theorem dksX0_reel_4 : cX0_reel.data.toList.drop 93 = dktX0_reel_4 := dk_seg dksX0_reel_3 23 rfl rfl
theorem dksX0_reel_5 : cX0_reel.data.toList.drop 117 = dktX0_reel_5 := dk_seg dksX0_reel_4 24 rfl rfl
theorem dksX0_reel_6 : cX0_reel.data.toList.drop 140 = dktX0_reel_6 := dk_seg dksX0_reel_5 23 rfl rfl
theorem dksX0_reel_7 : cX0_reel.data.toList.drop 164 = dktX0_reel_7 := dk_seg dksX0_reel_6 24 rfl rfl
theorem dksX0_reel_8 : cX0_reel.data.toList.drop 187 = dktX0_reel_8 := dk_seg dksX0_reel_7 23 rfl rfl
theorem dX0_reel_0 : decode cX0_reel 0 = .ok (.iload_n 1, 1) := dk_27 (dk_at dksX0_reel_0 0 rfl rfl)
theorem dX0_reel_1 : decode cX0_reel 1 = .ok (.iconst 0, 1) := dk_3 (dk_at dksX0_reel_0 1 rfl rfl)
theorem dX0_reel_2 : decode cX0_reel 2 = .ok (.iconst 1, 1) := dk_4 (dk_at dksX0_reel_0 2 rfl rfl)
theorem dX0_reel_3 : decode cX0_reel 3 = .ok (.invokestatic 224, 3) := dk_184 0 224 (dk_at dksX0_reel_0 3 rfl rfl)
theorem dX0_reel_6 : decode cX0_reel 6 = .ok (.ifCond .ne 5, 3) := dk_154 0 5 (dk_at dksX0_reel_0 6 rfl rfl)
theorem dX0_reel_9 : decode cX0_reel 9 = .ok (.iconst (-1), 1) := dk_2 (dk_at dksX0_reel_0 9 rfl rfl)
theorem dX0_reel_10 : decode cX0_reel 10 = .ok (.ireturn, 1) := dk_172 (dk_at dksX0_reel_0 10 rfl rfl)
theorem dX0_reel_11 : decode cX0_reel 11 = .ok (.aload_n 0, 1) := dk_42 (dk_at dksX0_reel_0 11 rfl rfl)
theorem dX0_reel_12 : decode cX0_reel 12 = .ok (.invokevirtual 587, 3) := dk_182 2 75 (dk_at dksX0_reel_0 12 rfl rfl)
theorem dX0_reel_15 : decode cX0_reel 15 = .ok (.istore_n 2, 1) := dk_61 (dk_at dksX0_reel_0 15 rfl rfl)
theorem dX0_reel_16 : decode cX0_reel 16 = .ok (.iconst 0, 1) := dk_3 (dk_at dksX0_reel_0 16 rfl rfl)
theorem dX0_reel_17 : decode cX0_reel 17 = .ok (.istore_n 3, 1) := dk_62 (dk_at dksX0_reel_0 17 rfl rfl)
theorem dX0_reel_18 : decode cX0_reel 18 = .ok (.iconst 0, 1) := dk_3 (dk_at dksX0_reel_0 18 rfl rfl)
theorem dX0_reel_19 : decode cX0_reel 19 = .ok (.istore 4, 2) := dk_54 4 (dk_at dksX0_reel_0 19 rfl rfl)
theorem dX0_reel_21 : decode cX0_reel 21 = .ok (.iconst 1, 1) := dk_4 (dk_at dksX0_reel_0 21 rfl rfl)
theorem dX0_reel_22 : decode cX0_reel 22 = .ok (.istore 5, 2) := dk_54 5 (dk_at dksX0_reel_0 22 rfl rfl)
theorem dX0_reel_24 : decode cX0_reel 24 = .ok (.iload 5, 2) := dk_21 5 (dk_at dksX0_reel_1 0 rfl rfl)
theorem dX0_reel_26 : decode cX0_reel 26 = .ok (.iload_n 2, 1) := dk_28 (dk_at dksX0_reel_1 2 rfl rfl)
theorem dX0_reel_27 : decode cX0_reel 27 = .ok (.if_icmp .gt 159, 3) := dk_163 0 159 (dk_at dksX0_reel_1 3 rfl rfl)
theorem dX0_reel_30 : decode cX0_reel 30 = .ok (.iconst 0, 1) := dk_3 (dk_at dksX0_reel_1 6 rfl rfl)
theorem dX0_reel_31 : decode cX0_reel 31 = .ok (.istore 6, 2) := dk_54 6 (dk_at dksX0_reel_1 7 rfl rfl)
theorem dX0_reel_33 : decode cX0_reel 33 = .ok (.iconst 0, 1) := dk_3 (dk_at dksX0_reel_1 9 rfl rfl)
theorem dX0_reel_34 : decode cX0_reel 34 = .ok (.istore 7, 2) := dk_54 7 (dk_at dksX0_reel_1 10 rfl rfl)
theorem dX0_reel_36 : decode cX0_reel 36 = .ok (.iload 7, 2) := dk_21 7 (dk_at dksX0_reel_1 12 rfl rfl)
theorem dX0_reel_38 : decode cX0_reel 38 = .ok (.aload_n 0, 1) := dk_42 (dk_at dksX0_reel_1 14 rfl rfl)
theorem dX0_reel_39 : decode cX0_reel 39 = .ok (.getfield 392, 3) := dk_180 1 136 (dk_at dksX0_reel_1 15 rfl rfl)
theorem dX0_reel_42 : decode cX0_reel 42 = .ok (.if_icmp .ge 84, 3) := dk_162 0 84 (dk_at dksX0_reel_1 18 rfl rfl)
theorem dX0_reel_45 : decode cX0_reel 45 = .ok (.aload_n 0, 1) := dk_42 (dk_at dksX0_reel_1 21 rfl rfl)
theorem dX0_reel_46 : decode cX0_reel 46 = .ok (.getfield 188, 3) := dk_180 0 188 (dk_at dksX0_reel_2 0 rfl rfl)
theorem dX0_reel_49 : decode cX0_reel 49 = .ok (.bipush 12, 2) := dk_16 12 (dk_at dksX0_reel_2 3 rfl rfl)
theorem dX0_reel_51 : decode cX0_reel 51 = .ok (.iload 5, 2) := dk_21 5 (dk_at dksX0_reel_2 5 rfl rfl)
theorem dX0_reel_53 : decode cX0_reel 53 = .ok (.imul, 1) := dk_104 (dk_at dksX0_reel_2 7 rfl rfl)
theorem dX0_reel_54 : decode cX0_reel 54 = .ok (.iload 7, 2) := dk_21 7 (dk_at dksX0_reel_2 8 rfl rfl)
theorem dX0_reel_56 : decode cX0_reel 56 = .ok (.iadd, 1) := dk_96 (dk_at dksX0_reel_2 10 rfl rfl)
theorem dX0_reel_57 : decode cX0_reel 57 = .ok (.iload 5, 2) := dk_21 5 (dk_at dksX0_reel_2 11 rfl rfl)
theorem dX0_reel_59 : decode cX0_reel 59 = .ok (.iload_n 2, 1) := dk_28 (dk_at dksX0_reel_2 13 rfl rfl)
theorem dX0_reel_60 : decode cX0_reel 60 = .ok (.iconst (-1), 1) := dk_2 (dk_at dksX0_reel_2 14 rfl rfl)
theorem dX0_reel_61 : decode cX0_reel 61 = .ok (.ixor, 1) := dk_130 (dk_at dksX0_reel_2 15 rfl rfl)
theorem dX0_reel_62 : decode cX0_reel 62 = .ok (.iand, 1) := dk_126 (dk_at dksX0_reel_2 16 rfl rfl)
theorem dX0_reel_63 : decode cX0_reel 63 = .ok (.ifCond .ne 28, 3) := dk_154 0 28 (dk_at dksX0_reel_2 17 rfl rfl)
theorem dX0_reel_66 : decode cX0_reel 66 = .ok (.iload 5, 2) := dk_21 5 (dk_at dksX0_reel_2 20 rfl rfl)
theorem dX0_reel_68 : decode cX0_reel 68 = .ok (.iload 7, 2) := dk_21 7 (dk_at dksX0_reel_2 22 rfl rfl)
theorem dX0_reel_70 : decode cX0_reel 70 = .ok (.invokestatic 514, 3) := dk_184 2 2 (dk_at dksX0_reel_3 0 rfl rfl)
theorem dX0_reel_73 : decode cX0_reel 73 = .ok (.ifCond .eq 18, 3) := dk_153 0 18 (dk_at dksX0_reel_3 3 rfl rfl)
theorem dX0_reel_76 : decode cX0_reel 76 = .ok (.aload_n 0, 1) := dk_42 (dk_at dksX0_reel_3 6 rfl rfl)
theorem dX0_reel_77 : decode cX0_reel 77 = .ok (.iload 5, 2) := dk_21 5 (dk_at dksX0_reel_3 7 rfl rfl)
theorem dX0_reel_79 : decode cX0_reel 79 = .ok (.iload 7, 2) := dk_21 7 (dk_at dksX0_reel_3 9 rfl rfl)
theorem dX0_reel_81 : decode cX0_reel 81 = .ok (.invokevirtual 590, 3) := dk_182 2 78 (dk_at dksX0_reel_3 11 rfl rfl)
theorem dX0_reel_84 : decode cX0_reel 84 = .ok (.ifCond .eq 7, 3) := dk_153 0 7 (dk_at dksX0_reel_3 14 rfl rfl)
theorem dX0_reel_87 : decode cX0_reel 87 = .ok (.iconst 1, 1) := dk_4 (dk_at dksX0_reel_3 17 rfl rfl)
theorem dX0_reel_88 : decode cX0_reel 88 = .ok (.goto 4, 3) := dk_167 0 4 (dk_at dksX0_reel_3 18 rfl rfl)
theorem dX0_reel_91 : decode cX0_reel 91 = .ok (.iconst 0, 1) := dk_3 (dk_at dksX0_reel_3 21 rfl rfl)
theorem dX0_reel_92 : decode cX0_reel 92 = .ok (.iastore, 1) := dk_79 (dk_at dksX0_reel_3 22 rfl rfl)
theorem dX0_reel_93 : decode cX0_reel 93 = .ok (.iload 6, 2) := dk_21 6 (dk_at dksX0_reel_4 0 rfl rfl)
theorem dX0_reel_95 : decode cX0_reel 95 = .ok (.aload_n 0, 1) := dk_42 (dk_at dksX0_reel_4 2 rfl rfl)
theorem dX0_reel_96 : decode cX0_reel 96 = .ok (.getfield 188, 3) := dk_180 0 188 (dk_at dksX0_reel_4 3 rfl rfl)
theorem dX0_reel_99 : decode cX0_reel 99 = .ok (.bipush 12, 2) := dk_16 12 (dk_at dksX0_reel_4 6 rfl rfl)
theorem dX0_reel_101 : decode cX0_reel 101 = .ok (.iload 5, 2) := dk_21 5 (dk_at dksX0_reel_4 8 rfl rfl)
theorem dX0_reel_103 : decode cX0_reel 103 = .ok (.imul, 1) := dk_104 (dk_at dksX0_reel_4 10 rfl rfl)
theorem dX0_reel_104 : decode cX0_reel 104 = .ok (.iload 7, 2) := dk_21 7 (dk_at dksX0_reel_4 11 rfl rfl)
theorem dX0_reel_106 : decode cX0_reel 106 = .ok (.iadd, 1) := dk_96 (dk_at dksX0_reel_4 13 rfl rfl)
theorem dX0_reel_107 : decode cX0_reel 107 = .ok (.iaload, 1) := dk_46 (dk_at dksX0_reel_4 14 rfl rfl)
theorem dX0_reel_108 : decode cX0_reel 108 = .ok (.iconst 1, 1) := dk_4 (dk_at dksX0_reel_4 15 rfl rfl)
theorem dX0_reel_109 : decode cX0_reel 109 = .ok (.if_icmp .ne 7, 3) := dk_160 0 7 (dk_at dksX0_reel_4 16 rfl rfl)
theorem dX0_reel_112 : decode cX0_reel 112 = .ok (.iconst 1, 1) := dk_4 (dk_at dksX0_reel_4 19 rfl rfl)
theorem dX0_reel_113 : decode cX0_reel 113 = .ok (.goto 4, 3) := dk_167 0 4 (dk_at dksX0_reel_4 20 rfl rfl)
theorem dX0_reel_116 : decode cX0_reel 116 = .ok (.iconst 0, 1) := dk_3 (dk_at dksX0_reel_4 23 rfl rfl)
theorem dX0_reel_117 : decode cX0_reel 117 = .ok (.ior, 1) := dk_128 (dk_at dksX0_reel_5 0 rfl rfl)
theorem dX0_reel_118 : decode cX0_reel 118 = .ok (.istore 6, 2) := dk_54 6 (dk_at dksX0_reel_5 1 rfl rfl)
theorem dX0_reel_120 : decode cX0_reel 120 = .ok (.iinc 7 1, 3) := dk_132 7 1 (dk_at dksX0_reel_5 3 rfl rfl)
theorem dX0_reel_123 : decode cX0_reel 123 = .ok (.goto (-87), 3) := dk_167 255 169 (dk_at dksX0_reel_5 6 rfl rfl)
theorem dX0_reel_126 : decode cX0_reel 126 = .ok (.iload 6, 2) := dk_21 6 (dk_at dksX0_reel_5 9 rfl rfl)
theorem dX0_reel_128 : decode cX0_reel 128 = .ok (.ifCond .eq 52, 3) := dk_153 0 52 (dk_at dksX0_reel_5 11 rfl rfl)
theorem dX0_reel_131 : decode cX0_reel 131 = .ok (.iload 5, 2) := dk_21 5 (dk_at dksX0_reel_5 14 rfl rfl)
theorem dX0_reel_133 : decode cX0_reel 133 = .ok (.invokestatic 30, 3) := dk_184 0 30 (dk_at dksX0_reel_5 16 rfl rfl)
theorem dX0_reel_136 : decode cX0_reel 136 = .ok (.iload_n 3, 1) := dk_29 (dk_at dksX0_reel_5 19 rfl rfl)
theorem dX0_reel_137 : decode cX0_reel 137 = .ok (.if_icmp .ge 6, 3) := dk_162 0 6 (dk_at dksX0_reel_5 20 rfl rfl)
theorem dX0_reel_140 : decode cX0_reel 140 = .ok (.goto 40, 3) := dk_167 0 40 (dk_at dksX0_reel_6 0 rfl rfl)
theorem dX0_reel_143 : decode cX0_reel 143 = .ok (.iload 5, 2) := dk_21 5 (dk_at dksX0_reel_6 3 rfl rfl)
theorem dX0_reel_145 : decode cX0_reel 145 = .ok (.invokestatic 30, 3) := dk_184 0 30 (dk_at dksX0_reel_6 5 rfl rfl)
theorem dX0_reel_148 : decode cX0_reel 148 = .ok (.iload_n 3, 1) := dk_29 (dk_at dksX0_reel_6 8 rfl rfl)
theorem dX0_reel_149 : decode cX0_reel 149 = .ok (.if_icmp .le 12, 3) := dk_164 0 12 (dk_at dksX0_reel_6 9 rfl rfl)
theorem dX0_reel_152 : decode cX0_reel 152 = .ok (.aload_n 0, 1) := dk_42 (dk_at dksX0_reel_6 12 rfl rfl)
theorem dX0_reel_153 : decode cX0_reel 153 = .ok (.iload 5, 2) := dk_21 5 (dk_at dksX0_reel_6 13 rfl rfl)
theorem dX0_reel_155 : decode cX0_reel 155 = .ok (.invokevirtual 593, 3) := dk_182 2 81 (dk_at dksX0_reel_6 15 rfl rfl)
theorem dX0_reel_158 : decode cX0_reel 158 = .ok (.goto 14, 3) := dk_167 0 14 (dk_at dksX0_reel_6 18 rfl rfl)
theorem dX0_reel_161 : decode cX0_reel 161 = .ok (.iload 4, 2) := dk_21 4 (dk_at dksX0_reel_6 21 rfl rfl)
theorem dX0_reel_163 : decode cX0_reel 163 = .ok (.aload_n 0, 1) := dk_42 (dk_at dksX0_reel_6 23 rfl rfl)
theorem dX0_reel_164 : decode cX0_reel 164 = .ok (.iload 5, 2) := dk_21 5 (dk_at dksX0_reel_7 0 rfl rfl)
theorem dX0_reel_166 : decode cX0_reel 166 = .ok (.invokevirtual 593, 3) := dk_182 2 81 (dk_at dksX0_reel_7 2 rfl rfl)
theorem dX0_reel_169 : decode cX0_reel 169 = .ok (.invokestatic 7, 3) := dk_184 0 7 (dk_at dksX0_reel_7 5 rfl rfl)
theorem dX0_reel_172 : decode cX0_reel 172 = .ok (.istore 4, 2) := dk_54 4 (dk_at dksX0_reel_7 8 rfl rfl)
theorem dX0_reel_174 : decode cX0_reel 174 = .ok (.iload 5, 2) := dk_21 5 (dk_at dksX0_reel_7 10 rfl rfl)
theorem dX0_reel_176 : decode cX0_reel 176 = .ok (.invokestatic 30, 3) := dk_184 0 30 (dk_at dksX0_reel_7 12 rfl rfl)
theorem dX0_reel_179 : decode cX0_reel 179 = .ok (.istore_n 3, 1) := dk_62 (dk_at dksX0_reel_7 15 rfl rfl)
theorem dX0_reel_180 : decode cX0_reel 180 = .ok (.iinc 5 1, 3) := dk_132 5 1 (dk_at dksX0_reel_7 16 rfl rfl)
theorem dX0_reel_183 : decode cX0_reel 183 = .ok (.goto (-159), 3) := dk_167 255 97 (dk_at dksX0_reel_7 19 rfl rfl)
theorem dX0_reel_186 : decode cX0_reel 186 = .ok (.iload_n 1, 1) := dk_27 (dk_at dksX0_reel_7 22 rfl rfl)
theorem dX0_reel_187 : decode cX0_reel 187 = .ok (.ifCond .ne 7, 3) := dk_154 0 7 (dk_at dksX0_reel_8 0 rfl rfl)
theorem dX0_reel_190 : decode cX0_reel 190 = .ok (.iload_n 3, 1) := dk_29 (dk_at dksX0_reel_8 3 rfl rfl)
theorem dX0_reel_191 : decode cX0_reel 191 = .ok (.goto 5, 3) := dk_167 0 5 (dk_at dksX0_reel_8 4 rfl rfl)
theorem dX0_reel_194 : decode cX0_reel 194 = .ok (.iload 4, 2) := dk_21 4 (dk_at dksX0_reel_8 7 rfl rfl)
theorem dX0_reel_196 : decode cX0_reel 196 = .ok (.ireturn, 1) := dk_172 (dk_at dksX0_reel_8 9 rfl rfl)
abbrev cX0_threaded : ByteArray := prog_1_method_74_code
def yX0_threaded : MethodName := ⟨RX0, "threaded", "()I"⟩
def dkwX0_threaded_0 : List UInt8 := [42, 180, 1, 136, 42, 186, 2, 72, 0, 0, 184, 2, 32, 172]
abbrev dktX0_threaded_0 : List UInt8 := dkwX0_threaded_0 ++ []
theorem dksX0_threaded_0 : cX0_threaded.data.toList.drop 0 = dktX0_threaded_0 := by decide +kernel
theorem dX0_threaded_0 : decode cX0_threaded 0 = .ok (.aload_n 0, 1) := dk_42 (dk_at dksX0_threaded_0 0 rfl rfl)
theorem dX0_threaded_1 : decode cX0_threaded 1 = .ok (.getfield 392, 3) := dk_180 1 136 (dk_at dksX0_threaded_0 1 rfl rfl)
theorem dX0_threaded_4 : decode cX0_threaded 4 = .ok (.aload_n 0, 1) := dk_42 (dk_at dksX0_threaded_0 4 rfl rfl)
theorem dX0_threaded_5 : decode cX0_threaded 5 = .ok (.invokedynamic 584, 5) := by decide +kernel
theorem dX0_threaded_10 : decode cX0_threaded 10 = .ok (.invokestatic 544, 3) := dk_184 2 32 (dk_at dksX0_threaded_0 10 rfl rfl)
theorem dX0_threaded_13 : decode cX0_threaded 13 = .ok (.ireturn, 1) := dk_172 (dk_at dksX0_threaded_0 13 rfl rfl)
abbrev cX0_lambda_threaded_2 : ByteArray := prog_1_method_119_code
def yX0_lambda_threaded_2 : MethodName := ⟨RX0, "lambda$threaded$2", "(I)Z"⟩
def dkwX0_lambda_threaded_2_0 : List UInt8 := [42, 180, 0, 164, 180, 1, 212, 27, 46, 158, 0, 7, 4, 167, 0, 4, 3, 172]
abbrev dktX0_lambda_threaded_2_0 : List UInt8 := dkwX0_lambda_threaded_2_0 ++ []
theorem dksX0_lambda_threaded_2_0 : cX0_lambda_threaded_2.data.toList.drop 0 = dktX0_lambda_threaded_2_0 := by decide +kernel
theorem dX0_lambda_threaded_2_0 : decode cX0_lambda_threaded_2 0 = .ok (.aload_n 0, 1) := dk_42 (dk_at dksX0_lambda_threaded_2_0 0 rfl rfl)
theorem dX0_lambda_threaded_2_1 : decode cX0_lambda_threaded_2 1 = .ok (.getfield 164, 3) := dk_180 0 164 (dk_at dksX0_lambda_threaded_2_0 1 rfl rfl)
theorem dX0_lambda_threaded_2_4 : decode cX0_lambda_threaded_2 4 = .ok (.getfield 468, 3) := dk_180 1 212 (dk_at dksX0_lambda_threaded_2_0 4 rfl rfl)
theorem dX0_lambda_threaded_2_7 : decode cX0_lambda_threaded_2 7 = .ok (.iload_n 1, 1) := dk_27 (dk_at dksX0_lambda_threaded_2_0 7 rfl rfl)
theorem dX0_lambda_threaded_2_8 : decode cX0_lambda_threaded_2 8 = .ok (.iaload, 1) := dk_46 (dk_at dksX0_lambda_threaded_2_0 8 rfl rfl)
theorem dX0_lambda_threaded_2_9 : decode cX0_lambda_threaded_2 9 = .ok (.ifCond .le 7, 3) := dk_158 0 7 (dk_at dksX0_lambda_threaded_2_0 9 rfl rfl)
theorem dX0_lambda_threaded_2_12 : decode cX0_lambda_threaded_2 12 = .ok (.iconst 1, 1) := dk_4 (dk_at dksX0_lambda_threaded_2_0 12 rfl rfl)
theorem dX0_lambda_threaded_2_13 : decode cX0_lambda_threaded_2 13 = .ok (.goto 4, 3) := dk_167 0 4 (dk_at dksX0_lambda_threaded_2_0 13 rfl rfl)
theorem dX0_lambda_threaded_2_16 : decode cX0_lambda_threaded_2 16 = .ok (.iconst 0, 1) := dk_3 (dk_at dksX0_lambda_threaded_2_0 16 rfl rfl)
theorem dX0_lambda_threaded_2_17 : decode cX0_lambda_threaded_2 17 = .ok (.ireturn, 1) := dk_172 (dk_at dksX0_lambda_threaded_2_0 17 rfl rfl)
abbrev cX0_isReeled : ByteArray := prog_1_method_72_code
def yX0_isReeled : MethodName := ⟨RX0, "isReeled", "(II)Z"⟩
def dkwX0_isReeled_2 : List UInt8 := [4, 160, 0, 15, 42, 28, 21, 4, 182, 2, 69, 153, 0, 5, 4, 172, 132, 4, 1, 167, 255, 207, 3, 172]
abbrev dktX0_isReeled_2 : List UInt8 := dkwX0_isReeled_2 ++ []
def dkwX0_isReeled_1 : List UInt8 := [162, 0, 46, 29, 21, 4, 184, 2, 2, 153, 0, 31, 42, 180, 0, 188, 16, 12, 29, 104, 21, 4, 96, 46]
abbrev dktX0_isReeled_1 : List UInt8 := dkwX0_isReeled_1 ++ dktX0_isReeled_2
def dkwX0_isReeled_0 : List UInt8 := [27, 4, 28, 120, 2, 130, 126, 62, 29, 154, 0, 5, 4, 172, 3, 54, 4, 21, 4, 42, 180, 1, 136]
abbrev dktX0_isReeled_0 : List UInt8 := dkwX0_isReeled_0 ++ dktX0_isReeled_1
theorem dksX0_isReeled_0 : cX0_isReeled.data.toList.drop 0 = dktX0_isReeled_0 := by decide +kernel
theorem dksX0_isReeled_1 : cX0_isReeled.data.toList.drop 23 = dktX0_isReeled_1 := dk_seg dksX0_isReeled_0 23 rfl rfl
theorem dksX0_isReeled_2 : cX0_isReeled.data.toList.drop 47 = dktX0_isReeled_2 := dk_seg dksX0_isReeled_1 24 rfl rfl
theorem dX0_isReeled_0 : decode cX0_isReeled 0 = .ok (.iload_n 1, 1) := dk_27 (dk_at dksX0_isReeled_0 0 rfl rfl)
theorem dX0_isReeled_1 : decode cX0_isReeled 1 = .ok (.iconst 1, 1) := dk_4 (dk_at dksX0_isReeled_0 1 rfl rfl)
theorem dX0_isReeled_2 : decode cX0_isReeled 2 = .ok (.iload_n 2, 1) := dk_28 (dk_at dksX0_isReeled_0 2 rfl rfl)
theorem dX0_isReeled_3 : decode cX0_isReeled 3 = .ok (.ishl, 1) := dk_120 (dk_at dksX0_isReeled_0 3 rfl rfl)
theorem dX0_isReeled_4 : decode cX0_isReeled 4 = .ok (.iconst (-1), 1) := dk_2 (dk_at dksX0_isReeled_0 4 rfl rfl)
theorem dX0_isReeled_5 : decode cX0_isReeled 5 = .ok (.ixor, 1) := dk_130 (dk_at dksX0_isReeled_0 5 rfl rfl)
theorem dX0_isReeled_6 : decode cX0_isReeled 6 = .ok (.iand, 1) := dk_126 (dk_at dksX0_isReeled_0 6 rfl rfl)
theorem dX0_isReeled_7 : decode cX0_isReeled 7 = .ok (.istore_n 3, 1) := dk_62 (dk_at dksX0_isReeled_0 7 rfl rfl)
theorem dX0_isReeled_8 : decode cX0_isReeled 8 = .ok (.iload_n 3, 1) := dk_29 (dk_at dksX0_isReeled_0 8 rfl rfl)
theorem dX0_isReeled_9 : decode cX0_isReeled 9 = .ok (.ifCond .ne 5, 3) := dk_154 0 5 (dk_at dksX0_isReeled_0 9 rfl rfl)
theorem dX0_isReeled_12 : decode cX0_isReeled 12 = .ok (.iconst 1, 1) := dk_4 (dk_at dksX0_isReeled_0 12 rfl rfl)
theorem dX0_isReeled_13 : decode cX0_isReeled 13 = .ok (.ireturn, 1) := dk_172 (dk_at dksX0_isReeled_0 13 rfl rfl)
theorem dX0_isReeled_14 : decode cX0_isReeled 14 = .ok (.iconst 0, 1) := dk_3 (dk_at dksX0_isReeled_0 14 rfl rfl)
theorem dX0_isReeled_15 : decode cX0_isReeled 15 = .ok (.istore 4, 2) := dk_54 4 (dk_at dksX0_isReeled_0 15 rfl rfl)
theorem dX0_isReeled_17 : decode cX0_isReeled 17 = .ok (.iload 4, 2) := dk_21 4 (dk_at dksX0_isReeled_0 17 rfl rfl)
theorem dX0_isReeled_19 : decode cX0_isReeled 19 = .ok (.aload_n 0, 1) := dk_42 (dk_at dksX0_isReeled_0 19 rfl rfl)
theorem dX0_isReeled_20 : decode cX0_isReeled 20 = .ok (.getfield 392, 3) := dk_180 1 136 (dk_at dksX0_isReeled_0 20 rfl rfl)
theorem dX0_isReeled_23 : decode cX0_isReeled 23 = .ok (.if_icmp .ge 46, 3) := dk_162 0 46 (dk_at dksX0_isReeled_1 0 rfl rfl)
theorem dX0_isReeled_26 : decode cX0_isReeled 26 = .ok (.iload_n 3, 1) := dk_29 (dk_at dksX0_isReeled_1 3 rfl rfl)
theorem dX0_isReeled_27 : decode cX0_isReeled 27 = .ok (.iload 4, 2) := dk_21 4 (dk_at dksX0_isReeled_1 4 rfl rfl)
theorem dX0_isReeled_29 : decode cX0_isReeled 29 = .ok (.invokestatic 514, 3) := dk_184 2 2 (dk_at dksX0_isReeled_1 6 rfl rfl)
theorem dX0_isReeled_32 : decode cX0_isReeled 32 = .ok (.ifCond .eq 31, 3) := dk_153 0 31 (dk_at dksX0_isReeled_1 9 rfl rfl)
theorem dX0_isReeled_35 : decode cX0_isReeled 35 = .ok (.aload_n 0, 1) := dk_42 (dk_at dksX0_isReeled_1 12 rfl rfl)
theorem dX0_isReeled_36 : decode cX0_isReeled 36 = .ok (.getfield 188, 3) := dk_180 0 188 (dk_at dksX0_isReeled_1 13 rfl rfl)
theorem dX0_isReeled_39 : decode cX0_isReeled 39 = .ok (.bipush 12, 2) := dk_16 12 (dk_at dksX0_isReeled_1 16 rfl rfl)
theorem dX0_isReeled_41 : decode cX0_isReeled 41 = .ok (.iload_n 3, 1) := dk_29 (dk_at dksX0_isReeled_1 18 rfl rfl)
theorem dX0_isReeled_42 : decode cX0_isReeled 42 = .ok (.imul, 1) := dk_104 (dk_at dksX0_isReeled_1 19 rfl rfl)
theorem dX0_isReeled_43 : decode cX0_isReeled 43 = .ok (.iload 4, 2) := dk_21 4 (dk_at dksX0_isReeled_1 20 rfl rfl)
theorem dX0_isReeled_45 : decode cX0_isReeled 45 = .ok (.iadd, 1) := dk_96 (dk_at dksX0_isReeled_1 22 rfl rfl)
theorem dX0_isReeled_46 : decode cX0_isReeled 46 = .ok (.iaload, 1) := dk_46 (dk_at dksX0_isReeled_1 23 rfl rfl)
theorem dX0_isReeled_47 : decode cX0_isReeled 47 = .ok (.iconst 1, 1) := dk_4 (dk_at dksX0_isReeled_2 0 rfl rfl)
theorem dX0_isReeled_48 : decode cX0_isReeled 48 = .ok (.if_icmp .ne 15, 3) := dk_160 0 15 (dk_at dksX0_isReeled_2 1 rfl rfl)
theorem dX0_isReeled_51 : decode cX0_isReeled 51 = .ok (.aload_n 0, 1) := dk_42 (dk_at dksX0_isReeled_2 4 rfl rfl)
theorem dX0_isReeled_52 : decode cX0_isReeled 52 = .ok (.iload_n 2, 1) := dk_28 (dk_at dksX0_isReeled_2 5 rfl rfl)
theorem dX0_isReeled_53 : decode cX0_isReeled 53 = .ok (.iload 4, 2) := dk_21 4 (dk_at dksX0_isReeled_2 6 rfl rfl)
theorem dX0_isReeled_55 : decode cX0_isReeled 55 = .ok (.invokevirtual 581, 3) := dk_182 2 69 (dk_at dksX0_isReeled_2 8 rfl rfl)
theorem dX0_isReeled_58 : decode cX0_isReeled 58 = .ok (.ifCond .eq 5, 3) := dk_153 0 5 (dk_at dksX0_isReeled_2 11 rfl rfl)
theorem dX0_isReeled_61 : decode cX0_isReeled 61 = .ok (.iconst 1, 1) := dk_4 (dk_at dksX0_isReeled_2 14 rfl rfl)
theorem dX0_isReeled_62 : decode cX0_isReeled 62 = .ok (.ireturn, 1) := dk_172 (dk_at dksX0_isReeled_2 15 rfl rfl)
theorem dX0_isReeled_63 : decode cX0_isReeled 63 = .ok (.iinc 4 1, 3) := dk_132 4 1 (dk_at dksX0_isReeled_2 16 rfl rfl)
theorem dX0_isReeled_66 : decode cX0_isReeled 66 = .ok (.goto (-49), 3) := dk_167 255 207 (dk_at dksX0_isReeled_2 19 rfl rfl)
theorem dX0_isReeled_69 : decode cX0_isReeled 69 = .ok (.iconst 0, 1) := dk_3 (dk_at dksX0_isReeled_2 22 rfl rfl)
theorem dX0_isReeled_70 : decode cX0_isReeled 70 = .ok (.ireturn, 1) := dk_172 (dk_at dksX0_isReeled_2 23 rfl rfl)
abbrev cX0_canFollow : ByteArray := prog_1_method_71_code
def yX0_canFollow : MethodName := ⟨RX0, "canFollow", "(II)Z"⟩
def dkwX0_canFollow_0 : List UInt8 := [42, 27, 182, 2, 63, 42, 28, 182, 2, 66, 160, 0, 7, 4, 167, 0, 4, 3, 172]
abbrev dktX0_canFollow_0 : List UInt8 := dkwX0_canFollow_0 ++ []
theorem dksX0_canFollow_0 : cX0_canFollow.data.toList.drop 0 = dktX0_canFollow_0 := by decide +kernel
theorem dX0_canFollow_0 : decode cX0_canFollow 0 = .ok (.aload_n 0, 1) := dk_42 (dk_at dksX0_canFollow_0 0 rfl rfl)
theorem dX0_canFollow_1 : decode cX0_canFollow 1 = .ok (.iload_n 1, 1) := dk_27 (dk_at dksX0_canFollow_0 1 rfl rfl)
theorem dX0_canFollow_2 : decode cX0_canFollow 2 = .ok (.invokevirtual 575, 3) := dk_182 2 63 (dk_at dksX0_canFollow_0 2 rfl rfl)
theorem dX0_canFollow_5 : decode cX0_canFollow 5 = .ok (.aload_n 0, 1) := dk_42 (dk_at dksX0_canFollow_0 5 rfl rfl)
theorem dX0_canFollow_6 : decode cX0_canFollow 6 = .ok (.iload_n 2, 1) := dk_28 (dk_at dksX0_canFollow_0 6 rfl rfl)
theorem dX0_canFollow_7 : decode cX0_canFollow 7 = .ok (.invokevirtual 578, 3) := dk_182 2 66 (dk_at dksX0_canFollow_0 7 rfl rfl)
theorem dX0_canFollow_10 : decode cX0_canFollow 10 = .ok (.if_icmp .ne 7, 3) := dk_160 0 7 (dk_at dksX0_canFollow_0 10 rfl rfl)
theorem dX0_canFollow_13 : decode cX0_canFollow 13 = .ok (.iconst 1, 1) := dk_4 (dk_at dksX0_canFollow_0 13 rfl rfl)
theorem dX0_canFollow_14 : decode cX0_canFollow 14 = .ok (.goto 4, 3) := dk_167 0 4 (dk_at dksX0_canFollow_0 14 rfl rfl)
theorem dX0_canFollow_17 : decode cX0_canFollow 17 = .ok (.iconst 0, 1) := dk_3 (dk_at dksX0_canFollow_0 17 rfl rfl)
theorem dX0_canFollow_18 : decode cX0_canFollow 18 = .ok (.ireturn, 1) := dk_172 (dk_at dksX0_canFollow_0 18 rfl rfl)
abbrev cX0_firstMark : ByteArray := prog_1_method_69_code
def yX0_firstMark : MethodName := ⟨RX0, "firstMark", "(I)I"⟩
def dkwX0_firstMark_0 : List UInt8 := [42, 180, 0, 164, 27, 3, 182, 1, 255, 172]
abbrev dktX0_firstMark_0 : List UInt8 := dkwX0_firstMark_0 ++ []
theorem dksX0_firstMark_0 : cX0_firstMark.data.toList.drop 0 = dktX0_firstMark_0 := by decide +kernel
theorem dX0_firstMark_0 : decode cX0_firstMark 0 = .ok (.aload_n 0, 1) := dk_42 (dk_at dksX0_firstMark_0 0 rfl rfl)
theorem dX0_firstMark_1 : decode cX0_firstMark 1 = .ok (.getfield 164, 3) := dk_180 0 164 (dk_at dksX0_firstMark_0 1 rfl rfl)
theorem dX0_firstMark_4 : decode cX0_firstMark 4 = .ok (.iload_n 1, 1) := dk_27 (dk_at dksX0_firstMark_0 4 rfl rfl)
theorem dX0_firstMark_5 : decode cX0_firstMark 5 = .ok (.iconst 0, 1) := dk_3 (dk_at dksX0_firstMark_0 5 rfl rfl)
theorem dX0_firstMark_6 : decode cX0_firstMark 6 = .ok (.invokevirtual 511, 3) := dk_182 1 255 (dk_at dksX0_firstMark_0 6 rfl rfl)
theorem dX0_firstMark_9 : decode cX0_firstMark 9 = .ok (.ireturn, 1) := dk_172 (dk_at dksX0_firstMark_0 9 rfl rfl)
abbrev cX0_lastMark : ByteArray := prog_1_method_70_code
def yX0_lastMark : MethodName := ⟨RX0, "lastMark", "(I)I"⟩
def dkwX0_lastMark_0 : List UInt8 := [42, 180, 0, 164, 27, 42, 180, 0, 164, 180, 1, 212, 27, 46, 4, 100, 182, 1, 255, 172]
abbrev dktX0_lastMark_0 : List UInt8 := dkwX0_lastMark_0 ++ []
theorem dksX0_lastMark_0 : cX0_lastMark.data.toList.drop 0 = dktX0_lastMark_0 := by decide +kernel
theorem dX0_lastMark_0 : decode cX0_lastMark 0 = .ok (.aload_n 0, 1) := dk_42 (dk_at dksX0_lastMark_0 0 rfl rfl)
theorem dX0_lastMark_1 : decode cX0_lastMark 1 = .ok (.getfield 164, 3) := dk_180 0 164 (dk_at dksX0_lastMark_0 1 rfl rfl)
theorem dX0_lastMark_4 : decode cX0_lastMark 4 = .ok (.iload_n 1, 1) := dk_27 (dk_at dksX0_lastMark_0 4 rfl rfl)
theorem dX0_lastMark_5 : decode cX0_lastMark 5 = .ok (.aload_n 0, 1) := dk_42 (dk_at dksX0_lastMark_0 5 rfl rfl)
theorem dX0_lastMark_6 : decode cX0_lastMark 6 = .ok (.getfield 164, 3) := dk_180 0 164 (dk_at dksX0_lastMark_0 6 rfl rfl)
theorem dX0_lastMark_9 : decode cX0_lastMark 9 = .ok (.getfield 468, 3) := dk_180 1 212 (dk_at dksX0_lastMark_0 9 rfl rfl)
theorem dX0_lastMark_12 : decode cX0_lastMark 12 = .ok (.iload_n 1, 1) := dk_27 (dk_at dksX0_lastMark_0 12 rfl rfl)
theorem dX0_lastMark_13 : decode cX0_lastMark 13 = .ok (.iaload, 1) := dk_46 (dk_at dksX0_lastMark_0 13 rfl rfl)
theorem dX0_lastMark_14 : decode cX0_lastMark 14 = .ok (.iconst 1, 1) := dk_4 (dk_at dksX0_lastMark_0 14 rfl rfl)
theorem dX0_lastMark_15 : decode cX0_lastMark 15 = .ok (.isub, 1) := dk_100 (dk_at dksX0_lastMark_0 15 rfl rfl)
theorem dX0_lastMark_16 : decode cX0_lastMark 16 = .ok (.invokevirtual 511, 3) := dk_182 1 255 (dk_at dksX0_lastMark_0 16 rfl rfl)
theorem dX0_lastMark_19 : decode cX0_lastMark 19 = .ok (.ireturn, 1) := dk_172 (dk_at dksX0_lastMark_0 19 rfl rfl)
abbrev cX0_strengthOf : ByteArray := prog_1_method_73_code
def yX0_strengthOf : MethodName := ⟨RX0, "strengthOf", "(I)I"⟩
def dkwX0_strengthOf_1 : List UInt8 := [180, 0, 164, 180, 1, 206, 29, 46, 167, 0, 4, 3, 96, 61, 132, 3, 1, 167, 255, 221, 28, 172]
abbrev dktX0_strengthOf_1 : List UInt8 := dkwX0_strengthOf_1 ++ []
def dkwX0_strengthOf_0 : List UInt8 := [3, 61, 3, 62, 29, 42, 180, 1, 136, 162, 0, 33, 28, 27, 29, 184, 2, 2, 153, 0, 15, 42]
abbrev dktX0_strengthOf_0 : List UInt8 := dkwX0_strengthOf_0 ++ dktX0_strengthOf_1
theorem dksX0_strengthOf_0 : cX0_strengthOf.data.toList.drop 0 = dktX0_strengthOf_0 := by decide +kernel
theorem dksX0_strengthOf_1 : cX0_strengthOf.data.toList.drop 22 = dktX0_strengthOf_1 := dk_seg dksX0_strengthOf_0 22 rfl rfl
theorem dX0_strengthOf_0 : decode cX0_strengthOf 0 = .ok (.iconst 0, 1) := dk_3 (dk_at dksX0_strengthOf_0 0 rfl rfl)
theorem dX0_strengthOf_1 : decode cX0_strengthOf 1 = .ok (.istore_n 2, 1) := dk_61 (dk_at dksX0_strengthOf_0 1 rfl rfl)
theorem dX0_strengthOf_2 : decode cX0_strengthOf 2 = .ok (.iconst 0, 1) := dk_3 (dk_at dksX0_strengthOf_0 2 rfl rfl)
theorem dX0_strengthOf_3 : decode cX0_strengthOf 3 = .ok (.istore_n 3, 1) := dk_62 (dk_at dksX0_strengthOf_0 3 rfl rfl)
theorem dX0_strengthOf_4 : decode cX0_strengthOf 4 = .ok (.iload_n 3, 1) := dk_29 (dk_at dksX0_strengthOf_0 4 rfl rfl)
theorem dX0_strengthOf_5 : decode cX0_strengthOf 5 = .ok (.aload_n 0, 1) := dk_42 (dk_at dksX0_strengthOf_0 5 rfl rfl)
theorem dX0_strengthOf_6 : decode cX0_strengthOf 6 = .ok (.getfield 392, 3) := dk_180 1 136 (dk_at dksX0_strengthOf_0 6 rfl rfl)
theorem dX0_strengthOf_9 : decode cX0_strengthOf 9 = .ok (.if_icmp .ge 33, 3) := dk_162 0 33 (dk_at dksX0_strengthOf_0 9 rfl rfl)
theorem dX0_strengthOf_12 : decode cX0_strengthOf 12 = .ok (.iload_n 2, 1) := dk_28 (dk_at dksX0_strengthOf_0 12 rfl rfl)
theorem dX0_strengthOf_13 : decode cX0_strengthOf 13 = .ok (.iload_n 1, 1) := dk_27 (dk_at dksX0_strengthOf_0 13 rfl rfl)
theorem dX0_strengthOf_14 : decode cX0_strengthOf 14 = .ok (.iload_n 3, 1) := dk_29 (dk_at dksX0_strengthOf_0 14 rfl rfl)
theorem dX0_strengthOf_15 : decode cX0_strengthOf 15 = .ok (.invokestatic 514, 3) := dk_184 2 2 (dk_at dksX0_strengthOf_0 15 rfl rfl)
theorem dX0_strengthOf_18 : decode cX0_strengthOf 18 = .ok (.ifCond .eq 15, 3) := dk_153 0 15 (dk_at dksX0_strengthOf_0 18 rfl rfl)
theorem dX0_strengthOf_21 : decode cX0_strengthOf 21 = .ok (.aload_n 0, 1) := dk_42 (dk_at dksX0_strengthOf_0 21 rfl rfl)
theorem dX0_strengthOf_22 : decode cX0_strengthOf 22 = .ok (.getfield 164, 3) := dk_180 0 164 (dk_at dksX0_strengthOf_1 0 rfl rfl)
theorem dX0_strengthOf_25 : decode cX0_strengthOf 25 = .ok (.getfield 462, 3) := dk_180 1 206 (dk_at dksX0_strengthOf_1 3 rfl rfl)
theorem dX0_strengthOf_28 : decode cX0_strengthOf 28 = .ok (.iload_n 3, 1) := dk_29 (dk_at dksX0_strengthOf_1 6 rfl rfl)
theorem dX0_strengthOf_29 : decode cX0_strengthOf 29 = .ok (.iaload, 1) := dk_46 (dk_at dksX0_strengthOf_1 7 rfl rfl)
theorem dX0_strengthOf_30 : decode cX0_strengthOf 30 = .ok (.goto 4, 3) := dk_167 0 4 (dk_at dksX0_strengthOf_1 8 rfl rfl)
theorem dX0_strengthOf_33 : decode cX0_strengthOf 33 = .ok (.iconst 0, 1) := dk_3 (dk_at dksX0_strengthOf_1 11 rfl rfl)
theorem dX0_strengthOf_34 : decode cX0_strengthOf 34 = .ok (.iadd, 1) := dk_96 (dk_at dksX0_strengthOf_1 12 rfl rfl)
theorem dX0_strengthOf_35 : decode cX0_strengthOf 35 = .ok (.istore_n 2, 1) := dk_61 (dk_at dksX0_strengthOf_1 13 rfl rfl)
theorem dX0_strengthOf_36 : decode cX0_strengthOf 36 = .ok (.iinc 3 1, 3) := dk_132 3 1 (dk_at dksX0_strengthOf_1 14 rfl rfl)
theorem dX0_strengthOf_39 : decode cX0_strengthOf 39 = .ok (.goto (-35), 3) := dk_167 255 221 (dk_at dksX0_strengthOf_1 17 rfl rfl)
theorem dX0_strengthOf_42 : decode cX0_strengthOf 42 = .ok (.iload_n 2, 1) := dk_28 (dk_at dksX0_strengthOf_1 20 rfl rfl)
theorem dX0_strengthOf_43 : decode cX0_strengthOf 43 = .ok (.ireturn, 1) := dk_172 (dk_at dksX0_strengthOf_1 21 rfl rfl)
abbrev cX0_unlike : ByteArray := prog_1_method_76_code
def yX0_unlike : MethodName := ⟨RX0, "unlike", "(II)I"⟩
def dkwX0_unlike_7 : List UInt8 := [54, 5, 132, 6, 1, 167, 255, 179, 132, 4, 1, 167, 255, 144, 45, 45, 190, 4, 100, 46, 172]
abbrev dktX0_unlike_7 : List UInt8 := dkwX0_unlike_7 ++ []
def dkwX0_unlike_6 : List UInt8 := [21, 6, 21, 8, 21, 7, 45, 21, 6, 4, 100, 46, 184, 0, 1, 4, 96, 184, 0, 1, 79, 21, 7]
abbrev dktX0_unlike_6 : List UInt8 := dkwX0_unlike_6 ++ dktX0_unlike_7
def dkwX0_unlike_5 : List UInt8 := [180, 0, 164, 28, 21, 6, 4, 100, 182, 1, 255, 160, 0, 7, 3, 167, 0, 4, 4, 96, 54, 8, 45]
abbrev dktX0_unlike_5 : List UInt8 := dkwX0_unlike_5 ++ dktX0_unlike_6
def dkwX0_unlike_4 : List UInt8 := [162, 0, 76, 45, 21, 6, 46, 54, 7, 21, 5, 42, 180, 0, 164, 27, 21, 4, 182, 1, 255, 42]
abbrev dktX0_unlike_4 : List UInt8 := dkwX0_unlike_4 ++ dktX0_unlike_5
def dkwX0_unlike_3 : List UInt8 := [162, 0, 104, 45, 3, 46, 54, 5, 45, 3, 21, 4, 4, 96, 79, 4, 54, 6, 21, 6, 45, 190]
abbrev dktX0_unlike_3 : List UInt8 := dkwX0_unlike_3 ++ dktX0_unlike_4
def dkwX0_unlike_2 : List UInt8 := [21, 4, 79, 132, 4, 1, 167, 255, 240, 3, 54, 4, 21, 4, 42, 180, 0, 164, 180, 1, 212, 27, 46]
abbrev dktX0_unlike_2 : List UInt8 := dkwX0_unlike_2 ++ dktX0_unlike_3
def dkwX0_unlike_1 : List UInt8 := [180, 1, 212, 28, 46, 4, 96, 188, 10, 78, 3, 54, 4, 21, 4, 45, 190, 162, 0, 15, 45, 21, 4]
abbrev dktX0_unlike_1 : List UInt8 := dkwX0_unlike_1 ++ dktX0_unlike_2
def dkwX0_unlike_0 : List UInt8 := [42, 27, 182, 1, 221, 153, 0, 11, 42, 28, 182, 1, 221, 154, 0, 5, 2, 172, 42, 180, 0, 164]
abbrev dktX0_unlike_0 : List UInt8 := dkwX0_unlike_0 ++ dktX0_unlike_1
theorem dksX0_unlike_0 : cX0_unlike.data.toList.drop 0 = dktX0_unlike_0 := by decide +kernel
theorem dksX0_unlike_1 : cX0_unlike.data.toList.drop 22 = dktX0_unlike_1 := dk_seg dksX0_unlike_0 22 rfl rfl
theorem dksX0_unlike_2 : cX0_unlike.data.toList.drop 45 = dktX0_unlike_2 := dk_seg dksX0_unlike_1 23 rfl rfl
theorem dksX0_unlike_3 : cX0_unlike.data.toList.drop 68 = dktX0_unlike_3 := dk_seg dksX0_unlike_2 23 rfl rfl
theorem dksX0_unlike_4 : cX0_unlike.data.toList.drop 90 = dktX0_unlike_4 := dk_seg dksX0_unlike_3 22 rfl rfl
theorem dksX0_unlike_5 : cX0_unlike.data.toList.drop 112 = dktX0_unlike_5 := dk_seg dksX0_unlike_4 22 rfl rfl
theorem dksX0_unlike_6 : cX0_unlike.data.toList.drop 135 = dktX0_unlike_6 := dk_seg dksX0_unlike_5 23 rfl rfl
theorem dksX0_unlike_7 : cX0_unlike.data.toList.drop 158 = dktX0_unlike_7 := dk_seg dksX0_unlike_6 23 rfl rfl
theorem dX0_unlike_0 : decode cX0_unlike 0 = .ok (.aload_n 0, 1) := dk_42 (dk_at dksX0_unlike_0 0 rfl rfl)
theorem dX0_unlike_1 : decode cX0_unlike 1 = .ok (.iload_n 1, 1) := dk_27 (dk_at dksX0_unlike_0 1 rfl rfl)
theorem dX0_unlike_2 : decode cX0_unlike 2 = .ok (.invokevirtual 477, 3) := dk_182 1 221 (dk_at dksX0_unlike_0 2 rfl rfl)
theorem dX0_unlike_5 : decode cX0_unlike 5 = .ok (.ifCond .eq 11, 3) := dk_153 0 11 (dk_at dksX0_unlike_0 5 rfl rfl)
theorem dX0_unlike_8 : decode cX0_unlike 8 = .ok (.aload_n 0, 1) := dk_42 (dk_at dksX0_unlike_0 8 rfl rfl)
theorem dX0_unlike_9 : decode cX0_unlike 9 = .ok (.iload_n 2, 1) := dk_28 (dk_at dksX0_unlike_0 9 rfl rfl)
theorem dX0_unlike_10 : decode cX0_unlike 10 = .ok (.invokevirtual 477, 3) := dk_182 1 221 (dk_at dksX0_unlike_0 10 rfl rfl)
theorem dX0_unlike_13 : decode cX0_unlike 13 = .ok (.ifCond .ne 5, 3) := dk_154 0 5 (dk_at dksX0_unlike_0 13 rfl rfl)
theorem dX0_unlike_16 : decode cX0_unlike 16 = .ok (.iconst (-1), 1) := dk_2 (dk_at dksX0_unlike_0 16 rfl rfl)
theorem dX0_unlike_17 : decode cX0_unlike 17 = .ok (.ireturn, 1) := dk_172 (dk_at dksX0_unlike_0 17 rfl rfl)
theorem dX0_unlike_18 : decode cX0_unlike 18 = .ok (.aload_n 0, 1) := dk_42 (dk_at dksX0_unlike_0 18 rfl rfl)
theorem dX0_unlike_19 : decode cX0_unlike 19 = .ok (.getfield 164, 3) := dk_180 0 164 (dk_at dksX0_unlike_0 19 rfl rfl)
theorem dX0_unlike_22 : decode cX0_unlike 22 = .ok (.getfield 468, 3) := dk_180 1 212 (dk_at dksX0_unlike_1 0 rfl rfl)
theorem dX0_unlike_25 : decode cX0_unlike 25 = .ok (.iload_n 2, 1) := dk_28 (dk_at dksX0_unlike_1 3 rfl rfl)
theorem dX0_unlike_26 : decode cX0_unlike 26 = .ok (.iaload, 1) := dk_46 (dk_at dksX0_unlike_1 4 rfl rfl)
theorem dX0_unlike_27 : decode cX0_unlike 27 = .ok (.iconst 1, 1) := dk_4 (dk_at dksX0_unlike_1 5 rfl rfl)
theorem dX0_unlike_28 : decode cX0_unlike 28 = .ok (.iadd, 1) := dk_96 (dk_at dksX0_unlike_1 6 rfl rfl)
theorem dX0_unlike_29 : decode cX0_unlike 29 = .ok (.newarray .int, 2) := dk_188_10 (dk_at dksX0_unlike_1 7 rfl rfl)
theorem dX0_unlike_31 : decode cX0_unlike 31 = .ok (.astore_n 3, 1) := dk_78 (dk_at dksX0_unlike_1 9 rfl rfl)
theorem dX0_unlike_32 : decode cX0_unlike 32 = .ok (.iconst 0, 1) := dk_3 (dk_at dksX0_unlike_1 10 rfl rfl)
theorem dX0_unlike_33 : decode cX0_unlike 33 = .ok (.istore 4, 2) := dk_54 4 (dk_at dksX0_unlike_1 11 rfl rfl)
theorem dX0_unlike_35 : decode cX0_unlike 35 = .ok (.iload 4, 2) := dk_21 4 (dk_at dksX0_unlike_1 13 rfl rfl)
theorem dX0_unlike_37 : decode cX0_unlike 37 = .ok (.aload_n 3, 1) := dk_45 (dk_at dksX0_unlike_1 15 rfl rfl)
theorem dX0_unlike_38 : decode cX0_unlike 38 = .ok (.arraylength, 1) := dk_190 (dk_at dksX0_unlike_1 16 rfl rfl)
theorem dX0_unlike_39 : decode cX0_unlike 39 = .ok (.if_icmp .ge 15, 3) := dk_162 0 15 (dk_at dksX0_unlike_1 17 rfl rfl)
theorem dX0_unlike_42 : decode cX0_unlike 42 = .ok (.aload_n 3, 1) := dk_45 (dk_at dksX0_unlike_1 20 rfl rfl)
theorem dX0_unlike_43 : decode cX0_unlike 43 = .ok (.iload 4, 2) := dk_21 4 (dk_at dksX0_unlike_1 21 rfl rfl)
theorem dX0_unlike_45 : decode cX0_unlike 45 = .ok (.iload 4, 2) := dk_21 4 (dk_at dksX0_unlike_2 0 rfl rfl)
theorem dX0_unlike_47 : decode cX0_unlike 47 = .ok (.iastore, 1) := dk_79 (dk_at dksX0_unlike_2 2 rfl rfl)
theorem dX0_unlike_48 : decode cX0_unlike 48 = .ok (.iinc 4 1, 3) := dk_132 4 1 (dk_at dksX0_unlike_2 3 rfl rfl)
theorem dX0_unlike_51 : decode cX0_unlike 51 = .ok (.goto (-16), 3) := dk_167 255 240 (dk_at dksX0_unlike_2 6 rfl rfl)
theorem dX0_unlike_54 : decode cX0_unlike 54 = .ok (.iconst 0, 1) := dk_3 (dk_at dksX0_unlike_2 9 rfl rfl)
theorem dX0_unlike_55 : decode cX0_unlike 55 = .ok (.istore 4, 2) := dk_54 4 (dk_at dksX0_unlike_2 10 rfl rfl)
theorem dX0_unlike_57 : decode cX0_unlike 57 = .ok (.iload 4, 2) := dk_21 4 (dk_at dksX0_unlike_2 12 rfl rfl)
theorem dX0_unlike_59 : decode cX0_unlike 59 = .ok (.aload_n 0, 1) := dk_42 (dk_at dksX0_unlike_2 14 rfl rfl)
theorem dX0_unlike_60 : decode cX0_unlike 60 = .ok (.getfield 164, 3) := dk_180 0 164 (dk_at dksX0_unlike_2 15 rfl rfl)
theorem dX0_unlike_63 : decode cX0_unlike 63 = .ok (.getfield 468, 3) := dk_180 1 212 (dk_at dksX0_unlike_2 18 rfl rfl)
theorem dX0_unlike_66 : decode cX0_unlike 66 = .ok (.iload_n 1, 1) := dk_27 (dk_at dksX0_unlike_2 21 rfl rfl)
theorem dX0_unlike_67 : decode cX0_unlike 67 = .ok (.iaload, 1) := dk_46 (dk_at dksX0_unlike_2 22 rfl rfl)
theorem dX0_unlike_68 : decode cX0_unlike 68 = .ok (.if_icmp .ge 104, 3) := dk_162 0 104 (dk_at dksX0_unlike_3 0 rfl rfl)
theorem dX0_unlike_71 : decode cX0_unlike 71 = .ok (.aload_n 3, 1) := dk_45 (dk_at dksX0_unlike_3 3 rfl rfl)
theorem dX0_unlike_72 : decode cX0_unlike 72 = .ok (.iconst 0, 1) := dk_3 (dk_at dksX0_unlike_3 4 rfl rfl)
theorem dX0_unlike_73 : decode cX0_unlike 73 = .ok (.iaload, 1) := dk_46 (dk_at dksX0_unlike_3 5 rfl rfl)
theorem dX0_unlike_74 : decode cX0_unlike 74 = .ok (.istore 5, 2) := dk_54 5 (dk_at dksX0_unlike_3 6 rfl rfl)
theorem dX0_unlike_76 : decode cX0_unlike 76 = .ok (.aload_n 3, 1) := dk_45 (dk_at dksX0_unlike_3 8 rfl rfl)
theorem dX0_unlike_77 : decode cX0_unlike 77 = .ok (.iconst 0, 1) := dk_3 (dk_at dksX0_unlike_3 9 rfl rfl)
theorem dX0_unlike_78 : decode cX0_unlike 78 = .ok (.iload 4, 2) := dk_21 4 (dk_at dksX0_unlike_3 10 rfl rfl)
theorem dX0_unlike_80 : decode cX0_unlike 80 = .ok (.iconst 1, 1) := dk_4 (dk_at dksX0_unlike_3 12 rfl rfl)
theorem dX0_unlike_81 : decode cX0_unlike 81 = .ok (.iadd, 1) := dk_96 (dk_at dksX0_unlike_3 13 rfl rfl)
theorem dX0_unlike_82 : decode cX0_unlike 82 = .ok (.iastore, 1) := dk_79 (dk_at dksX0_unlike_3 14 rfl rfl)
theorem dX0_unlike_83 : decode cX0_unlike 83 = .ok (.iconst 1, 1) := dk_4 (dk_at dksX0_unlike_3 15 rfl rfl)
theorem dX0_unlike_84 : decode cX0_unlike 84 = .ok (.istore 6, 2) := dk_54 6 (dk_at dksX0_unlike_3 16 rfl rfl)
theorem dX0_unlike_86 : decode cX0_unlike 86 = .ok (.iload 6, 2) := dk_21 6 (dk_at dksX0_unlike_3 18 rfl rfl)
theorem dX0_unlike_88 : decode cX0_unlike 88 = .ok (.aload_n 3, 1) := dk_45 (dk_at dksX0_unlike_3 20 rfl rfl)
theorem dX0_unlike_89 : decode cX0_unlike 89 = .ok (.arraylength, 1) := dk_190 (dk_at dksX0_unlike_3 21 rfl rfl)
theorem dX0_unlike_90 : decode cX0_unlike 90 = .ok (.if_icmp .ge 76, 3) := dk_162 0 76 (dk_at dksX0_unlike_4 0 rfl rfl)
theorem dX0_unlike_93 : decode cX0_unlike 93 = .ok (.aload_n 3, 1) := dk_45 (dk_at dksX0_unlike_4 3 rfl rfl)
theorem dX0_unlike_94 : decode cX0_unlike 94 = .ok (.iload 6, 2) := dk_21 6 (dk_at dksX0_unlike_4 4 rfl rfl)
theorem dX0_unlike_96 : decode cX0_unlike 96 = .ok (.iaload, 1) := dk_46 (dk_at dksX0_unlike_4 6 rfl rfl)
theorem dX0_unlike_97 : decode cX0_unlike 97 = .ok (.istore 7, 2) := dk_54 7 (dk_at dksX0_unlike_4 7 rfl rfl)
theorem dX0_unlike_99 : decode cX0_unlike 99 = .ok (.iload 5, 2) := dk_21 5 (dk_at dksX0_unlike_4 9 rfl rfl)
theorem dX0_unlike_101 : decode cX0_unlike 101 = .ok (.aload_n 0, 1) := dk_42 (dk_at dksX0_unlike_4 11 rfl rfl)
theorem dX0_unlike_102 : decode cX0_unlike 102 = .ok (.getfield 164, 3) := dk_180 0 164 (dk_at dksX0_unlike_4 12 rfl rfl)
theorem dX0_unlike_105 : decode cX0_unlike 105 = .ok (.iload_n 1, 1) := dk_27 (dk_at dksX0_unlike_4 15 rfl rfl)
theorem dX0_unlike_106 : decode cX0_unlike 106 = .ok (.iload 4, 2) := dk_21 4 (dk_at dksX0_unlike_4 16 rfl rfl)
theorem dX0_unlike_108 : decode cX0_unlike 108 = .ok (.invokevirtual 511, 3) := dk_182 1 255 (dk_at dksX0_unlike_4 18 rfl rfl)
theorem dX0_unlike_111 : decode cX0_unlike 111 = .ok (.aload_n 0, 1) := dk_42 (dk_at dksX0_unlike_4 21 rfl rfl)
theorem dX0_unlike_112 : decode cX0_unlike 112 = .ok (.getfield 164, 3) := dk_180 0 164 (dk_at dksX0_unlike_5 0 rfl rfl)
theorem dX0_unlike_115 : decode cX0_unlike 115 = .ok (.iload_n 2, 1) := dk_28 (dk_at dksX0_unlike_5 3 rfl rfl)
theorem dX0_unlike_116 : decode cX0_unlike 116 = .ok (.iload 6, 2) := dk_21 6 (dk_at dksX0_unlike_5 4 rfl rfl)
theorem dX0_unlike_118 : decode cX0_unlike 118 = .ok (.iconst 1, 1) := dk_4 (dk_at dksX0_unlike_5 6 rfl rfl)
theorem dX0_unlike_119 : decode cX0_unlike 119 = .ok (.isub, 1) := dk_100 (dk_at dksX0_unlike_5 7 rfl rfl)
theorem dX0_unlike_120 : decode cX0_unlike 120 = .ok (.invokevirtual 511, 3) := dk_182 1 255 (dk_at dksX0_unlike_5 8 rfl rfl)
theorem dX0_unlike_123 : decode cX0_unlike 123 = .ok (.if_icmp .ne 7, 3) := dk_160 0 7 (dk_at dksX0_unlike_5 11 rfl rfl)
theorem dX0_unlike_126 : decode cX0_unlike 126 = .ok (.iconst 0, 1) := dk_3 (dk_at dksX0_unlike_5 14 rfl rfl)
theorem dX0_unlike_127 : decode cX0_unlike 127 = .ok (.goto 4, 3) := dk_167 0 4 (dk_at dksX0_unlike_5 15 rfl rfl)
theorem dX0_unlike_130 : decode cX0_unlike 130 = .ok (.iconst 1, 1) := dk_4 (dk_at dksX0_unlike_5 18 rfl rfl)
theorem dX0_unlike_131 : decode cX0_unlike 131 = .ok (.iadd, 1) := dk_96 (dk_at dksX0_unlike_5 19 rfl rfl)
theorem dX0_unlike_132 : decode cX0_unlike 132 = .ok (.istore 8, 2) := dk_54 8 (dk_at dksX0_unlike_5 20 rfl rfl)
theorem dX0_unlike_134 : decode cX0_unlike 134 = .ok (.aload_n 3, 1) := dk_45 (dk_at dksX0_unlike_5 22 rfl rfl)
theorem dX0_unlike_135 : decode cX0_unlike 135 = .ok (.iload 6, 2) := dk_21 6 (dk_at dksX0_unlike_6 0 rfl rfl)
theorem dX0_unlike_137 : decode cX0_unlike 137 = .ok (.iload 8, 2) := dk_21 8 (dk_at dksX0_unlike_6 2 rfl rfl)
theorem dX0_unlike_139 : decode cX0_unlike 139 = .ok (.iload 7, 2) := dk_21 7 (dk_at dksX0_unlike_6 4 rfl rfl)
theorem dX0_unlike_141 : decode cX0_unlike 141 = .ok (.aload_n 3, 1) := dk_45 (dk_at dksX0_unlike_6 6 rfl rfl)
theorem dX0_unlike_142 : decode cX0_unlike 142 = .ok (.iload 6, 2) := dk_21 6 (dk_at dksX0_unlike_6 7 rfl rfl)
theorem dX0_unlike_144 : decode cX0_unlike 144 = .ok (.iconst 1, 1) := dk_4 (dk_at dksX0_unlike_6 9 rfl rfl)
theorem dX0_unlike_145 : decode cX0_unlike 145 = .ok (.isub, 1) := dk_100 (dk_at dksX0_unlike_6 10 rfl rfl)
theorem dX0_unlike_146 : decode cX0_unlike 146 = .ok (.iaload, 1) := dk_46 (dk_at dksX0_unlike_6 11 rfl rfl)
theorem dX0_unlike_147 : decode cX0_unlike 147 = .ok (.invokestatic 1, 3) := dk_184 0 1 (dk_at dksX0_unlike_6 12 rfl rfl)
theorem dX0_unlike_150 : decode cX0_unlike 150 = .ok (.iconst 1, 1) := dk_4 (dk_at dksX0_unlike_6 15 rfl rfl)
theorem dX0_unlike_151 : decode cX0_unlike 151 = .ok (.iadd, 1) := dk_96 (dk_at dksX0_unlike_6 16 rfl rfl)
theorem dX0_unlike_152 : decode cX0_unlike 152 = .ok (.invokestatic 1, 3) := dk_184 0 1 (dk_at dksX0_unlike_6 17 rfl rfl)
theorem dX0_unlike_155 : decode cX0_unlike 155 = .ok (.iastore, 1) := dk_79 (dk_at dksX0_unlike_6 20 rfl rfl)
theorem dX0_unlike_156 : decode cX0_unlike 156 = .ok (.iload 7, 2) := dk_21 7 (dk_at dksX0_unlike_6 21 rfl rfl)
theorem dX0_unlike_158 : decode cX0_unlike 158 = .ok (.istore 5, 2) := dk_54 5 (dk_at dksX0_unlike_7 0 rfl rfl)
theorem dX0_unlike_160 : decode cX0_unlike 160 = .ok (.iinc 6 1, 3) := dk_132 6 1 (dk_at dksX0_unlike_7 2 rfl rfl)
theorem dX0_unlike_163 : decode cX0_unlike 163 = .ok (.goto (-77), 3) := dk_167 255 179 (dk_at dksX0_unlike_7 5 rfl rfl)
theorem dX0_unlike_166 : decode cX0_unlike 166 = .ok (.iinc 4 1, 3) := dk_132 4 1 (dk_at dksX0_unlike_7 8 rfl rfl)
theorem dX0_unlike_169 : decode cX0_unlike 169 = .ok (.goto (-112), 3) := dk_167 255 144 (dk_at dksX0_unlike_7 11 rfl rfl)
theorem dX0_unlike_172 : decode cX0_unlike 172 = .ok (.aload_n 3, 1) := dk_45 (dk_at dksX0_unlike_7 14 rfl rfl)
theorem dX0_unlike_173 : decode cX0_unlike 173 = .ok (.aload_n 3, 1) := dk_45 (dk_at dksX0_unlike_7 15 rfl rfl)
theorem dX0_unlike_174 : decode cX0_unlike 174 = .ok (.arraylength, 1) := dk_190 (dk_at dksX0_unlike_7 16 rfl rfl)
theorem dX0_unlike_175 : decode cX0_unlike 175 = .ok (.iconst 1, 1) := dk_4 (dk_at dksX0_unlike_7 17 rfl rfl)
theorem dX0_unlike_176 : decode cX0_unlike 176 = .ok (.isub, 1) := dk_100 (dk_at dksX0_unlike_7 18 rfl rfl)
theorem dX0_unlike_177 : decode cX0_unlike 177 = .ok (.iaload, 1) := dk_46 (dk_at dksX0_unlike_7 19 rfl rfl)
theorem dX0_unlike_178 : decode cX0_unlike 178 = .ok (.ireturn, 1) := dk_172 (dk_at dksX0_unlike_7 20 rfl rfl)
abbrev cX0_knot : ByteArray := prog_1_method_77_code
def yX0_knot : MethodName := ⟨RX0, "knot", "(II)I"⟩
def dkwX0_knot_3 : List UInt8 := [180, 0, 191, 190, 172]
abbrev dktX0_knot_3 : List UInt8 := dkwX0_knot_3 ++ []
def dkwX0_knot_2 : List UInt8 := [160, 0, 5, 2, 172, 42, 42, 180, 0, 191, 4, 27, 120, 4, 28, 120, 128, 184, 1, 128, 181, 0, 191, 42]
abbrev dktX0_knot_2 : List UInt8 := dkwX0_knot_2 ++ dktX0_knot_3
def dkwX0_knot_1 : List UInt8 := [28, 3, 16, 9, 184, 0, 224, 153, 0, 18, 27, 28, 159, 0, 13, 42, 180, 0, 191, 190, 16, 12]
abbrev dktX0_knot_1 : List UInt8 := dkwX0_knot_1 ++ dktX0_knot_2
def dkwX0_knot_0 : List UInt8 := [27, 2, 160, 0, 12, 42, 3, 188, 10, 181, 0, 191, 3, 172, 27, 3, 16, 9, 184, 0, 224, 153, 0, 28]
abbrev dktX0_knot_0 : List UInt8 := dkwX0_knot_0 ++ dktX0_knot_1
theorem dksX0_knot_0 : cX0_knot.data.toList.drop 0 = dktX0_knot_0 := by decide +kernel
theorem dksX0_knot_1 : cX0_knot.data.toList.drop 24 = dktX0_knot_1 := dk_seg dksX0_knot_0 24 rfl rfl
theorem dksX0_knot_2 : cX0_knot.data.toList.drop 46 = dktX0_knot_2 := dk_seg dksX0_knot_1 22 rfl rfl
theorem dksX0_knot_3 : cX0_knot.data.toList.drop 70 = dktX0_knot_3 := dk_seg dksX0_knot_2 24 rfl rfl
theorem dX0_knot_0 : decode cX0_knot 0 = .ok (.iload_n 1, 1) := dk_27 (dk_at dksX0_knot_0 0 rfl rfl)
theorem dX0_knot_1 : decode cX0_knot 1 = .ok (.iconst (-1), 1) := dk_2 (dk_at dksX0_knot_0 1 rfl rfl)
theorem dX0_knot_2 : decode cX0_knot 2 = .ok (.if_icmp .ne 12, 3) := dk_160 0 12 (dk_at dksX0_knot_0 2 rfl rfl)
theorem dX0_knot_5 : decode cX0_knot 5 = .ok (.aload_n 0, 1) := dk_42 (dk_at dksX0_knot_0 5 rfl rfl)
theorem dX0_knot_6 : decode cX0_knot 6 = .ok (.iconst 0, 1) := dk_3 (dk_at dksX0_knot_0 6 rfl rfl)
theorem dX0_knot_7 : decode cX0_knot 7 = .ok (.newarray .int, 2) := dk_188_10 (dk_at dksX0_knot_0 7 rfl rfl)
theorem dX0_knot_9 : decode cX0_knot 9 = .ok (.putfield 191, 3) := dk_181 0 191 (dk_at dksX0_knot_0 9 rfl rfl)
theorem dX0_knot_12 : decode cX0_knot 12 = .ok (.iconst 0, 1) := dk_3 (dk_at dksX0_knot_0 12 rfl rfl)
theorem dX0_knot_13 : decode cX0_knot 13 = .ok (.ireturn, 1) := dk_172 (dk_at dksX0_knot_0 13 rfl rfl)
theorem dX0_knot_14 : decode cX0_knot 14 = .ok (.iload_n 1, 1) := dk_27 (dk_at dksX0_knot_0 14 rfl rfl)
theorem dX0_knot_15 : decode cX0_knot 15 = .ok (.iconst 0, 1) := dk_3 (dk_at dksX0_knot_0 15 rfl rfl)
theorem dX0_knot_16 : decode cX0_knot 16 = .ok (.bipush 9, 2) := dk_16 9 (dk_at dksX0_knot_0 16 rfl rfl)
theorem dX0_knot_18 : decode cX0_knot 18 = .ok (.invokestatic 224, 3) := dk_184 0 224 (dk_at dksX0_knot_0 18 rfl rfl)
theorem dX0_knot_21 : decode cX0_knot 21 = .ok (.ifCond .eq 28, 3) := dk_153 0 28 (dk_at dksX0_knot_0 21 rfl rfl)
theorem dX0_knot_24 : decode cX0_knot 24 = .ok (.iload_n 2, 1) := dk_28 (dk_at dksX0_knot_1 0 rfl rfl)
theorem dX0_knot_25 : decode cX0_knot 25 = .ok (.iconst 0, 1) := dk_3 (dk_at dksX0_knot_1 1 rfl rfl)
theorem dX0_knot_26 : decode cX0_knot 26 = .ok (.bipush 9, 2) := dk_16 9 (dk_at dksX0_knot_1 2 rfl rfl)
theorem dX0_knot_28 : decode cX0_knot 28 = .ok (.invokestatic 224, 3) := dk_184 0 224 (dk_at dksX0_knot_1 4 rfl rfl)
theorem dX0_knot_31 : decode cX0_knot 31 = .ok (.ifCond .eq 18, 3) := dk_153 0 18 (dk_at dksX0_knot_1 7 rfl rfl)
theorem dX0_knot_34 : decode cX0_knot 34 = .ok (.iload_n 1, 1) := dk_27 (dk_at dksX0_knot_1 10 rfl rfl)
theorem dX0_knot_35 : decode cX0_knot 35 = .ok (.iload_n 2, 1) := dk_28 (dk_at dksX0_knot_1 11 rfl rfl)
theorem dX0_knot_36 : decode cX0_knot 36 = .ok (.if_icmp .eq 13, 3) := dk_159 0 13 (dk_at dksX0_knot_1 12 rfl rfl)
theorem dX0_knot_39 : decode cX0_knot 39 = .ok (.aload_n 0, 1) := dk_42 (dk_at dksX0_knot_1 15 rfl rfl)
theorem dX0_knot_40 : decode cX0_knot 40 = .ok (.getfield 191, 3) := dk_180 0 191 (dk_at dksX0_knot_1 16 rfl rfl)
theorem dX0_knot_43 : decode cX0_knot 43 = .ok (.arraylength, 1) := dk_190 (dk_at dksX0_knot_1 19 rfl rfl)
theorem dX0_knot_44 : decode cX0_knot 44 = .ok (.bipush 12, 2) := dk_16 12 (dk_at dksX0_knot_1 20 rfl rfl)
theorem dX0_knot_46 : decode cX0_knot 46 = .ok (.if_icmp .ne 5, 3) := dk_160 0 5 (dk_at dksX0_knot_2 0 rfl rfl)
theorem dX0_knot_49 : decode cX0_knot 49 = .ok (.iconst (-1), 1) := dk_2 (dk_at dksX0_knot_2 3 rfl rfl)
theorem dX0_knot_50 : decode cX0_knot 50 = .ok (.ireturn, 1) := dk_172 (dk_at dksX0_knot_2 4 rfl rfl)
theorem dX0_knot_51 : decode cX0_knot 51 = .ok (.aload_n 0, 1) := dk_42 (dk_at dksX0_knot_2 5 rfl rfl)
theorem dX0_knot_52 : decode cX0_knot 52 = .ok (.aload_n 0, 1) := dk_42 (dk_at dksX0_knot_2 6 rfl rfl)
theorem dX0_knot_53 : decode cX0_knot 53 = .ok (.getfield 191, 3) := dk_180 0 191 (dk_at dksX0_knot_2 7 rfl rfl)
theorem dX0_knot_56 : decode cX0_knot 56 = .ok (.iconst 1, 1) := dk_4 (dk_at dksX0_knot_2 10 rfl rfl)
theorem dX0_knot_57 : decode cX0_knot 57 = .ok (.iload_n 1, 1) := dk_27 (dk_at dksX0_knot_2 11 rfl rfl)
theorem dX0_knot_58 : decode cX0_knot 58 = .ok (.ishl, 1) := dk_120 (dk_at dksX0_knot_2 12 rfl rfl)
theorem dX0_knot_59 : decode cX0_knot 59 = .ok (.iconst 1, 1) := dk_4 (dk_at dksX0_knot_2 13 rfl rfl)
theorem dX0_knot_60 : decode cX0_knot 60 = .ok (.iload_n 2, 1) := dk_28 (dk_at dksX0_knot_2 14 rfl rfl)
theorem dX0_knot_61 : decode cX0_knot 61 = .ok (.ishl, 1) := dk_120 (dk_at dksX0_knot_2 15 rfl rfl)
theorem dX0_knot_62 : decode cX0_knot 62 = .ok (.ior, 1) := dk_128 (dk_at dksX0_knot_2 16 rfl rfl)
theorem dX0_knot_63 : decode cX0_knot 63 = .ok (.invokestatic 384, 3) := dk_184 1 128 (dk_at dksX0_knot_2 17 rfl rfl)
theorem dX0_knot_66 : decode cX0_knot 66 = .ok (.putfield 191, 3) := dk_181 0 191 (dk_at dksX0_knot_2 20 rfl rfl)
theorem dX0_knot_69 : decode cX0_knot 69 = .ok (.aload_n 0, 1) := dk_42 (dk_at dksX0_knot_2 23 rfl rfl)
theorem dX0_knot_70 : decode cX0_knot 70 = .ok (.getfield 191, 3) := dk_180 0 191 (dk_at dksX0_knot_3 0 rfl rfl)
theorem dX0_knot_73 : decode cX0_knot 73 = .ok (.arraylength, 1) := dk_190 (dk_at dksX0_knot_3 3 rfl rfl)
theorem dX0_knot_74 : decode cX0_knot 74 = .ok (.ireturn, 1) := dk_172 (dk_at dksX0_knot_3 4 rfl rfl)
abbrev cX0_cuts : ByteArray := prog_1_method_79_code
def yX0_cuts : MethodName := ⟨RX0, "cuts", "(I)I"⟩
def dkwX0_cuts_1 : List UInt8 := [154, 0, 10, 28, 184, 0, 30, 167, 0, 4, 28, 172]
abbrev dktX0_cuts_1 : List UInt8 := dkwX0_cuts_1 ++ []
def dkwX0_cuts_0 : List UInt8 := [27, 3, 4, 184, 0, 224, 154, 0, 5, 2, 172, 16, 10, 42, 186, 2, 84, 0, 0, 184, 2, 85, 61, 27]
abbrev dktX0_cuts_0 : List UInt8 := dkwX0_cuts_0 ++ dktX0_cuts_1
theorem dksX0_cuts_0 : cX0_cuts.data.toList.drop 0 = dktX0_cuts_0 := by decide +kernel
theorem dksX0_cuts_1 : cX0_cuts.data.toList.drop 24 = dktX0_cuts_1 := dk_seg dksX0_cuts_0 24 rfl rfl
theorem dX0_cuts_0 : decode cX0_cuts 0 = .ok (.iload_n 1, 1) := dk_27 (dk_at dksX0_cuts_0 0 rfl rfl)
theorem dX0_cuts_1 : decode cX0_cuts 1 = .ok (.iconst 0, 1) := dk_3 (dk_at dksX0_cuts_0 1 rfl rfl)
theorem dX0_cuts_2 : decode cX0_cuts 2 = .ok (.iconst 1, 1) := dk_4 (dk_at dksX0_cuts_0 2 rfl rfl)
theorem dX0_cuts_3 : decode cX0_cuts 3 = .ok (.invokestatic 224, 3) := dk_184 0 224 (dk_at dksX0_cuts_0 3 rfl rfl)
theorem dX0_cuts_6 : decode cX0_cuts 6 = .ok (.ifCond .ne 5, 3) := dk_154 0 5 (dk_at dksX0_cuts_0 6 rfl rfl)
theorem dX0_cuts_9 : decode cX0_cuts 9 = .ok (.iconst (-1), 1) := dk_2 (dk_at dksX0_cuts_0 9 rfl rfl)
theorem dX0_cuts_10 : decode cX0_cuts 10 = .ok (.ireturn, 1) := dk_172 (dk_at dksX0_cuts_0 10 rfl rfl)
theorem dX0_cuts_11 : decode cX0_cuts 11 = .ok (.bipush 10, 2) := dk_16 10 (dk_at dksX0_cuts_0 11 rfl rfl)
theorem dX0_cuts_13 : decode cX0_cuts 13 = .ok (.aload_n 0, 1) := dk_42 (dk_at dksX0_cuts_0 13 rfl rfl)
theorem dX0_cuts_14 : decode cX0_cuts 14 = .ok (.invokedynamic 596, 5) := by decide +kernel
theorem dX0_cuts_19 : decode cX0_cuts 19 = .ok (.invokestatic 597, 3) := dk_184 2 85 (dk_at dksX0_cuts_0 19 rfl rfl)
theorem dX0_cuts_22 : decode cX0_cuts 22 = .ok (.istore_n 2, 1) := dk_61 (dk_at dksX0_cuts_0 22 rfl rfl)
theorem dX0_cuts_23 : decode cX0_cuts 23 = .ok (.iload_n 1, 1) := dk_27 (dk_at dksX0_cuts_0 23 rfl rfl)
theorem dX0_cuts_24 : decode cX0_cuts 24 = .ok (.ifCond .ne 10, 3) := dk_154 0 10 (dk_at dksX0_cuts_1 0 rfl rfl)
theorem dX0_cuts_27 : decode cX0_cuts 27 = .ok (.iload_n 2, 1) := dk_28 (dk_at dksX0_cuts_1 3 rfl rfl)
theorem dX0_cuts_28 : decode cX0_cuts 28 = .ok (.invokestatic 30, 3) := dk_184 0 30 (dk_at dksX0_cuts_1 4 rfl rfl)
theorem dX0_cuts_31 : decode cX0_cuts 31 = .ok (.goto 4, 3) := dk_167 0 4 (dk_at dksX0_cuts_1 7 rfl rfl)
theorem dX0_cuts_34 : decode cX0_cuts 34 = .ok (.iload_n 2, 1) := dk_28 (dk_at dksX0_cuts_1 10 rfl rfl)
theorem dX0_cuts_35 : decode cX0_cuts 35 = .ok (.ireturn, 1) := dk_172 (dk_at dksX0_cuts_1 11 rfl rfl)
abbrev cX0_lambda_cuts_3 : ByteArray := prog_1_method_118_code
def yX0_lambda_cuts_3 : MethodName := ⟨RX0, "lambda$cuts$3", "(I)Z"⟩
def dkwX0_lambda_cuts_3_0 : List UInt8 := [42, 27, 182, 2, 186, 172]
abbrev dktX0_lambda_cuts_3_0 : List UInt8 := dkwX0_lambda_cuts_3_0 ++ []
theorem dksX0_lambda_cuts_3_0 : cX0_lambda_cuts_3.data.toList.drop 0 = dktX0_lambda_cuts_3_0 := by decide +kernel
theorem dX0_lambda_cuts_3_0 : decode cX0_lambda_cuts_3 0 = .ok (.aload_n 0, 1) := dk_42 (dk_at dksX0_lambda_cuts_3_0 0 rfl rfl)
theorem dX0_lambda_cuts_3_1 : decode cX0_lambda_cuts_3 1 = .ok (.iload_n 1, 1) := dk_27 (dk_at dksX0_lambda_cuts_3_0 1 rfl rfl)
theorem dX0_lambda_cuts_3_2 : decode cX0_lambda_cuts_3 2 = .ok (.invokevirtual 698, 3) := dk_182 2 186 (dk_at dksX0_lambda_cuts_3_0 2 rfl rfl)
theorem dX0_lambda_cuts_3_5 : decode cX0_lambda_cuts_3 5 = .ok (.ireturn, 1) := dk_172 (dk_at dksX0_lambda_cuts_3_0 5 rfl rfl)
abbrev cX0_cutsAll : ByteArray := prog_1_method_78_code
def yX0_cutsAll : MethodName := ⟨RX0, "cutsAll", "(I)Z"⟩
def dkwX0_cutsAll_1 : List UInt8 := [132, 2, 1, 167, 255, 231, 4, 172]
abbrev dktX0_cutsAll_1 : List UInt8 := dkwX0_cutsAll_1 ++ []
def dkwX0_cutsAll_0 : List UInt8 := [3, 61, 28, 42, 180, 0, 191, 190, 162, 0, 22, 42, 180, 0, 191, 28, 46, 27, 126, 154, 0, 5, 3, 172]
abbrev dktX0_cutsAll_0 : List UInt8 := dkwX0_cutsAll_0 ++ dktX0_cutsAll_1
theorem dksX0_cutsAll_0 : cX0_cutsAll.data.toList.drop 0 = dktX0_cutsAll_0 := by decide +kernel
theorem dksX0_cutsAll_1 : cX0_cutsAll.data.toList.drop 24 = dktX0_cutsAll_1 := dk_seg dksX0_cutsAll_0 24 rfl rfl
theorem dX0_cutsAll_0 : decode cX0_cutsAll 0 = .ok (.iconst 0, 1) := dk_3 (dk_at dksX0_cutsAll_0 0 rfl rfl)
theorem dX0_cutsAll_1 : decode cX0_cutsAll 1 = .ok (.istore_n 2, 1) := dk_61 (dk_at dksX0_cutsAll_0 1 rfl rfl)
theorem dX0_cutsAll_2 : decode cX0_cutsAll 2 = .ok (.iload_n 2, 1) := dk_28 (dk_at dksX0_cutsAll_0 2 rfl rfl)
theorem dX0_cutsAll_3 : decode cX0_cutsAll 3 = .ok (.aload_n 0, 1) := dk_42 (dk_at dksX0_cutsAll_0 3 rfl rfl)
theorem dX0_cutsAll_4 : decode cX0_cutsAll 4 = .ok (.getfield 191, 3) := dk_180 0 191 (dk_at dksX0_cutsAll_0 4 rfl rfl)
theorem dX0_cutsAll_7 : decode cX0_cutsAll 7 = .ok (.arraylength, 1) := dk_190 (dk_at dksX0_cutsAll_0 7 rfl rfl)
theorem dX0_cutsAll_8 : decode cX0_cutsAll 8 = .ok (.if_icmp .ge 22, 3) := dk_162 0 22 (dk_at dksX0_cutsAll_0 8 rfl rfl)
theorem dX0_cutsAll_11 : decode cX0_cutsAll 11 = .ok (.aload_n 0, 1) := dk_42 (dk_at dksX0_cutsAll_0 11 rfl rfl)
theorem dX0_cutsAll_12 : decode cX0_cutsAll 12 = .ok (.getfield 191, 3) := dk_180 0 191 (dk_at dksX0_cutsAll_0 12 rfl rfl)
theorem dX0_cutsAll_15 : decode cX0_cutsAll 15 = .ok (.iload_n 2, 1) := dk_28 (dk_at dksX0_cutsAll_0 15 rfl rfl)
theorem dX0_cutsAll_16 : decode cX0_cutsAll 16 = .ok (.iaload, 1) := dk_46 (dk_at dksX0_cutsAll_0 16 rfl rfl)
theorem dX0_cutsAll_17 : decode cX0_cutsAll 17 = .ok (.iload_n 1, 1) := dk_27 (dk_at dksX0_cutsAll_0 17 rfl rfl)
theorem dX0_cutsAll_18 : decode cX0_cutsAll 18 = .ok (.iand, 1) := dk_126 (dk_at dksX0_cutsAll_0 18 rfl rfl)
theorem dX0_cutsAll_19 : decode cX0_cutsAll 19 = .ok (.ifCond .ne 5, 3) := dk_154 0 5 (dk_at dksX0_cutsAll_0 19 rfl rfl)
theorem dX0_cutsAll_22 : decode cX0_cutsAll 22 = .ok (.iconst 0, 1) := dk_3 (dk_at dksX0_cutsAll_0 22 rfl rfl)
theorem dX0_cutsAll_23 : decode cX0_cutsAll 23 = .ok (.ireturn, 1) := dk_172 (dk_at dksX0_cutsAll_0 23 rfl rfl)
theorem dX0_cutsAll_24 : decode cX0_cutsAll 24 = .ok (.iinc 2 1, 3) := dk_132 2 1 (dk_at dksX0_cutsAll_1 0 rfl rfl)
theorem dX0_cutsAll_27 : decode cX0_cutsAll 27 = .ok (.goto (-25), 3) := dk_167 255 231 (dk_at dksX0_cutsAll_1 3 rfl rfl)
theorem dX0_cutsAll_30 : decode cX0_cutsAll 30 = .ok (.iconst 1, 1) := dk_4 (dk_at dksX0_cutsAll_1 6 rfl rfl)
theorem dX0_cutsAll_31 : decode cX0_cutsAll 31 = .ok (.ireturn, 1) := dk_172 (dk_at dksX0_cutsAll_1 7 rfl rfl)
abbrev cX0_fewest : ByteArray := prog_1_method_7_code
def yX0_fewest : MethodName := ⟨RX0, "fewest", "(ILSilkClerks$Condition;)I"⟩
def dkwX0_fewest_2 : List UInt8 := [167, 255, 214, 28, 172]
abbrev dktX0_fewest_2 : List UInt8 := dkwX0_fewest_2 ++ []
def dkwX0_fewest_1 : List UInt8 := [162, 0, 17, 43, 29, 185, 0, 16, 2, 0, 153, 0, 7, 29, 167, 0, 4, 28, 61, 132, 3, 1]
abbrev dktX0_fewest_1 : List UInt8 := dkwX0_fewest_1 ++ dktX0_fewest_2
def dkwX0_fewest_0 : List UInt8 := [2, 61, 3, 62, 29, 4, 26, 120, 162, 0, 41, 28, 2, 159, 0, 14, 29, 184, 0, 30, 28, 184, 0, 30]
abbrev dktX0_fewest_0 : List UInt8 := dkwX0_fewest_0 ++ dktX0_fewest_1
theorem dksX0_fewest_0 : cX0_fewest.data.toList.drop 0 = dktX0_fewest_0 := by decide +kernel
theorem dksX0_fewest_1 : cX0_fewest.data.toList.drop 24 = dktX0_fewest_1 := dk_seg dksX0_fewest_0 24 rfl rfl
theorem dksX0_fewest_2 : cX0_fewest.data.toList.drop 46 = dktX0_fewest_2 := dk_seg dksX0_fewest_1 22 rfl rfl
theorem dX0_fewest_0 : decode cX0_fewest 0 = .ok (.iconst (-1), 1) := dk_2 (dk_at dksX0_fewest_0 0 rfl rfl)
theorem dX0_fewest_1 : decode cX0_fewest 1 = .ok (.istore_n 2, 1) := dk_61 (dk_at dksX0_fewest_0 1 rfl rfl)
theorem dX0_fewest_2 : decode cX0_fewest 2 = .ok (.iconst 0, 1) := dk_3 (dk_at dksX0_fewest_0 2 rfl rfl)
theorem dX0_fewest_3 : decode cX0_fewest 3 = .ok (.istore_n 3, 1) := dk_62 (dk_at dksX0_fewest_0 3 rfl rfl)
theorem dX0_fewest_4 : decode cX0_fewest 4 = .ok (.iload_n 3, 1) := dk_29 (dk_at dksX0_fewest_0 4 rfl rfl)
theorem dX0_fewest_5 : decode cX0_fewest 5 = .ok (.iconst 1, 1) := dk_4 (dk_at dksX0_fewest_0 5 rfl rfl)
theorem dX0_fewest_6 : decode cX0_fewest 6 = .ok (.iload_n 0, 1) := dk_26 (dk_at dksX0_fewest_0 6 rfl rfl)
theorem dX0_fewest_7 : decode cX0_fewest 7 = .ok (.ishl, 1) := dk_120 (dk_at dksX0_fewest_0 7 rfl rfl)
theorem dX0_fewest_8 : decode cX0_fewest 8 = .ok (.if_icmp .ge 41, 3) := dk_162 0 41 (dk_at dksX0_fewest_0 8 rfl rfl)
theorem dX0_fewest_11 : decode cX0_fewest 11 = .ok (.iload_n 2, 1) := dk_28 (dk_at dksX0_fewest_0 11 rfl rfl)
theorem dX0_fewest_12 : decode cX0_fewest 12 = .ok (.iconst (-1), 1) := dk_2 (dk_at dksX0_fewest_0 12 rfl rfl)
theorem dX0_fewest_13 : decode cX0_fewest 13 = .ok (.if_icmp .eq 14, 3) := dk_159 0 14 (dk_at dksX0_fewest_0 13 rfl rfl)
theorem dX0_fewest_16 : decode cX0_fewest 16 = .ok (.iload_n 3, 1) := dk_29 (dk_at dksX0_fewest_0 16 rfl rfl)
theorem dX0_fewest_17 : decode cX0_fewest 17 = .ok (.invokestatic 30, 3) := dk_184 0 30 (dk_at dksX0_fewest_0 17 rfl rfl)
theorem dX0_fewest_20 : decode cX0_fewest 20 = .ok (.iload_n 2, 1) := dk_28 (dk_at dksX0_fewest_0 20 rfl rfl)
theorem dX0_fewest_21 : decode cX0_fewest 21 = .ok (.invokestatic 30, 3) := dk_184 0 30 (dk_at dksX0_fewest_0 21 rfl rfl)
theorem dX0_fewest_24 : decode cX0_fewest 24 = .ok (.if_icmp .ge 17, 3) := dk_162 0 17 (dk_at dksX0_fewest_1 0 rfl rfl)
theorem dX0_fewest_27 : decode cX0_fewest 27 = .ok (.aload_n 1, 1) := dk_43 (dk_at dksX0_fewest_1 3 rfl rfl)
theorem dX0_fewest_28 : decode cX0_fewest 28 = .ok (.iload_n 3, 1) := dk_29 (dk_at dksX0_fewest_1 4 rfl rfl)
theorem dX0_fewest_29 : decode cX0_fewest 29 = .ok (.invokeinterface 16 2, 5) := by decide +kernel
theorem dX0_fewest_34 : decode cX0_fewest 34 = .ok (.ifCond .eq 7, 3) := dk_153 0 7 (dk_at dksX0_fewest_1 10 rfl rfl)
theorem dX0_fewest_37 : decode cX0_fewest 37 = .ok (.iload_n 3, 1) := dk_29 (dk_at dksX0_fewest_1 13 rfl rfl)
theorem dX0_fewest_38 : decode cX0_fewest 38 = .ok (.goto 4, 3) := dk_167 0 4 (dk_at dksX0_fewest_1 14 rfl rfl)
theorem dX0_fewest_41 : decode cX0_fewest 41 = .ok (.iload_n 2, 1) := dk_28 (dk_at dksX0_fewest_1 17 rfl rfl)
theorem dX0_fewest_42 : decode cX0_fewest 42 = .ok (.istore_n 2, 1) := dk_61 (dk_at dksX0_fewest_1 18 rfl rfl)
theorem dX0_fewest_43 : decode cX0_fewest 43 = .ok (.iinc 3 1, 3) := dk_132 3 1 (dk_at dksX0_fewest_1 19 rfl rfl)
theorem dX0_fewest_46 : decode cX0_fewest 46 = .ok (.goto (-42), 3) := dk_167 255 214 (dk_at dksX0_fewest_2 0 rfl rfl)
theorem dX0_fewest_49 : decode cX0_fewest 49 = .ok (.iload_n 2, 1) := dk_28 (dk_at dksX0_fewest_2 3 rfl rfl)
theorem dX0_fewest_50 : decode cX0_fewest 50 = .ok (.ireturn, 1) := dk_172 (dk_at dksX0_fewest_2 4 rfl rfl)
abbrev cX0_keeps : ByteArray := prog_1_method_81_code
def yX0_keeps : MethodName := ⟨RX0, "keeps", "(II)I"⟩
def dkwX0_keeps_4 : List UInt8 := [154, 0, 8, 21, 4, 167, 0, 4, 29, 172]
abbrev dktX0_keeps_4 : List UInt8 := dkwX0_keeps_4 ++ []
def dkwX0_keeps_3 : List UInt8 := [182, 2, 88, 27, 164, 0, 6, 167, 0, 10, 21, 5, 62, 21, 6, 54, 4, 132, 5, 1, 167, 255, 198, 28]
abbrev dktX0_keeps_3 : List UInt8 := dkwX0_keeps_3 ++ dktX0_keeps_4
def dkwX0_keeps_2 : List UInt8 := [180, 0, 197, 182, 2, 88, 54, 6, 21, 6, 21, 4, 164, 0, 27, 42, 21, 5, 42, 180, 0, 202]
abbrev dktX0_keeps_2 : List UInt8 := dkwX0_keeps_2 ++ dktX0_keeps_3
def dkwX0_keeps_1 : List UInt8 := [3, 54, 4, 4, 54, 5, 21, 5, 4, 42, 180, 0, 144, 190, 120, 162, 0, 52, 42, 21, 5, 42]
abbrev dktX0_keeps_1 : List UInt8 := dkwX0_keeps_1 ++ dktX0_keeps_2
def dkwX0_keeps_0 : List UInt8 := [27, 4, 17, 0, 200, 184, 0, 224, 153, 0, 12, 28, 3, 4, 184, 0, 224, 154, 0, 5, 2, 172, 3, 62]
abbrev dktX0_keeps_0 : List UInt8 := dkwX0_keeps_0 ++ dktX0_keeps_1
theorem dksX0_keeps_0 : cX0_keeps.data.toList.drop 0 = dktX0_keeps_0 := by decide +kernel
theorem dksX0_keeps_1 : cX0_keeps.data.toList.drop 24 = dktX0_keeps_1 := dk_seg dksX0_keeps_0 24 rfl rfl
theorem dksX0_keeps_2 : cX0_keeps.data.toList.drop 46 = dktX0_keeps_2 := dk_seg dksX0_keeps_1 22 rfl rfl
theorem dksX0_keeps_3 : cX0_keeps.data.toList.drop 68 = dktX0_keeps_3 := dk_seg dksX0_keeps_2 22 rfl rfl
theorem dksX0_keeps_4 : cX0_keeps.data.toList.drop 92 = dktX0_keeps_4 := dk_seg dksX0_keeps_3 24 rfl rfl
theorem dX0_keeps_0 : decode cX0_keeps 0 = .ok (.iload_n 1, 1) := dk_27 (dk_at dksX0_keeps_0 0 rfl rfl)
theorem dX0_keeps_1 : decode cX0_keeps 1 = .ok (.iconst 1, 1) := dk_4 (dk_at dksX0_keeps_0 1 rfl rfl)
theorem dX0_keeps_2 : decode cX0_keeps 2 = .ok (.sipush 200, 3) := dk_17 0 200 (dk_at dksX0_keeps_0 2 rfl rfl)
theorem dX0_keeps_5 : decode cX0_keeps 5 = .ok (.invokestatic 224, 3) := dk_184 0 224 (dk_at dksX0_keeps_0 5 rfl rfl)
theorem dX0_keeps_8 : decode cX0_keeps 8 = .ok (.ifCond .eq 12, 3) := dk_153 0 12 (dk_at dksX0_keeps_0 8 rfl rfl)
theorem dX0_keeps_11 : decode cX0_keeps 11 = .ok (.iload_n 2, 1) := dk_28 (dk_at dksX0_keeps_0 11 rfl rfl)
theorem dX0_keeps_12 : decode cX0_keeps 12 = .ok (.iconst 0, 1) := dk_3 (dk_at dksX0_keeps_0 12 rfl rfl)
theorem dX0_keeps_13 : decode cX0_keeps 13 = .ok (.iconst 1, 1) := dk_4 (dk_at dksX0_keeps_0 13 rfl rfl)
theorem dX0_keeps_14 : decode cX0_keeps 14 = .ok (.invokestatic 224, 3) := dk_184 0 224 (dk_at dksX0_keeps_0 14 rfl rfl)
theorem dX0_keeps_17 : decode cX0_keeps 17 = .ok (.ifCond .ne 5, 3) := dk_154 0 5 (dk_at dksX0_keeps_0 17 rfl rfl)
theorem dX0_keeps_20 : decode cX0_keeps 20 = .ok (.iconst (-1), 1) := dk_2 (dk_at dksX0_keeps_0 20 rfl rfl)
theorem dX0_keeps_21 : decode cX0_keeps 21 = .ok (.ireturn, 1) := dk_172 (dk_at dksX0_keeps_0 21 rfl rfl)
theorem dX0_keeps_22 : decode cX0_keeps 22 = .ok (.iconst 0, 1) := dk_3 (dk_at dksX0_keeps_0 22 rfl rfl)
theorem dX0_keeps_23 : decode cX0_keeps 23 = .ok (.istore_n 3, 1) := dk_62 (dk_at dksX0_keeps_0 23 rfl rfl)
theorem dX0_keeps_24 : decode cX0_keeps 24 = .ok (.iconst 0, 1) := dk_3 (dk_at dksX0_keeps_1 0 rfl rfl)
theorem dX0_keeps_25 : decode cX0_keeps 25 = .ok (.istore 4, 2) := dk_54 4 (dk_at dksX0_keeps_1 1 rfl rfl)
theorem dX0_keeps_27 : decode cX0_keeps 27 = .ok (.iconst 1, 1) := dk_4 (dk_at dksX0_keeps_1 3 rfl rfl)
theorem dX0_keeps_28 : decode cX0_keeps 28 = .ok (.istore 5, 2) := dk_54 5 (dk_at dksX0_keeps_1 4 rfl rfl)
theorem dX0_keeps_30 : decode cX0_keeps 30 = .ok (.iload 5, 2) := dk_21 5 (dk_at dksX0_keeps_1 6 rfl rfl)
theorem dX0_keeps_32 : decode cX0_keeps 32 = .ok (.iconst 1, 1) := dk_4 (dk_at dksX0_keeps_1 8 rfl rfl)
theorem dX0_keeps_33 : decode cX0_keeps 33 = .ok (.aload_n 0, 1) := dk_42 (dk_at dksX0_keeps_1 9 rfl rfl)
theorem dX0_keeps_34 : decode cX0_keeps 34 = .ok (.getfield 144, 3) := dk_180 0 144 (dk_at dksX0_keeps_1 10 rfl rfl)
theorem dX0_keeps_37 : decode cX0_keeps 37 = .ok (.arraylength, 1) := dk_190 (dk_at dksX0_keeps_1 13 rfl rfl)
theorem dX0_keeps_38 : decode cX0_keeps 38 = .ok (.ishl, 1) := dk_120 (dk_at dksX0_keeps_1 14 rfl rfl)
theorem dX0_keeps_39 : decode cX0_keeps 39 = .ok (.if_icmp .ge 52, 3) := dk_162 0 52 (dk_at dksX0_keeps_1 15 rfl rfl)
theorem dX0_keeps_42 : decode cX0_keeps 42 = .ok (.aload_n 0, 1) := dk_42 (dk_at dksX0_keeps_1 18 rfl rfl)
theorem dX0_keeps_43 : decode cX0_keeps 43 = .ok (.iload 5, 2) := dk_21 5 (dk_at dksX0_keeps_1 19 rfl rfl)
theorem dX0_keeps_45 : decode cX0_keeps 45 = .ok (.aload_n 0, 1) := dk_42 (dk_at dksX0_keeps_1 21 rfl rfl)
theorem dX0_keeps_46 : decode cX0_keeps 46 = .ok (.getfield 197, 3) := dk_180 0 197 (dk_at dksX0_keeps_2 0 rfl rfl)
theorem dX0_keeps_49 : decode cX0_keeps 49 = .ok (.invokevirtual 600, 3) := dk_182 2 88 (dk_at dksX0_keeps_2 3 rfl rfl)
theorem dX0_keeps_52 : decode cX0_keeps 52 = .ok (.istore 6, 2) := dk_54 6 (dk_at dksX0_keeps_2 6 rfl rfl)
theorem dX0_keeps_54 : decode cX0_keeps 54 = .ok (.iload 6, 2) := dk_21 6 (dk_at dksX0_keeps_2 8 rfl rfl)
theorem dX0_keeps_56 : decode cX0_keeps 56 = .ok (.iload 4, 2) := dk_21 4 (dk_at dksX0_keeps_2 10 rfl rfl)
theorem dX0_keeps_58 : decode cX0_keeps 58 = .ok (.if_icmp .le 27, 3) := dk_164 0 27 (dk_at dksX0_keeps_2 12 rfl rfl)
theorem dX0_keeps_61 : decode cX0_keeps 61 = .ok (.aload_n 0, 1) := dk_42 (dk_at dksX0_keeps_2 15 rfl rfl)
theorem dX0_keeps_62 : decode cX0_keeps 62 = .ok (.iload 5, 2) := dk_21 5 (dk_at dksX0_keeps_2 16 rfl rfl)
theorem dX0_keeps_64 : decode cX0_keeps 64 = .ok (.aload_n 0, 1) := dk_42 (dk_at dksX0_keeps_2 18 rfl rfl)
theorem dX0_keeps_65 : decode cX0_keeps 65 = .ok (.getfield 202, 3) := dk_180 0 202 (dk_at dksX0_keeps_2 19 rfl rfl)
theorem dX0_keeps_68 : decode cX0_keeps 68 = .ok (.invokevirtual 600, 3) := dk_182 2 88 (dk_at dksX0_keeps_3 0 rfl rfl)
theorem dX0_keeps_71 : decode cX0_keeps 71 = .ok (.iload_n 1, 1) := dk_27 (dk_at dksX0_keeps_3 3 rfl rfl)
theorem dX0_keeps_72 : decode cX0_keeps 72 = .ok (.if_icmp .le 6, 3) := dk_164 0 6 (dk_at dksX0_keeps_3 4 rfl rfl)
theorem dX0_keeps_75 : decode cX0_keeps 75 = .ok (.goto 10, 3) := dk_167 0 10 (dk_at dksX0_keeps_3 7 rfl rfl)
theorem dX0_keeps_78 : decode cX0_keeps 78 = .ok (.iload 5, 2) := dk_21 5 (dk_at dksX0_keeps_3 10 rfl rfl)
theorem dX0_keeps_80 : decode cX0_keeps 80 = .ok (.istore_n 3, 1) := dk_62 (dk_at dksX0_keeps_3 12 rfl rfl)
theorem dX0_keeps_81 : decode cX0_keeps 81 = .ok (.iload 6, 2) := dk_21 6 (dk_at dksX0_keeps_3 13 rfl rfl)
theorem dX0_keeps_83 : decode cX0_keeps 83 = .ok (.istore 4, 2) := dk_54 4 (dk_at dksX0_keeps_3 15 rfl rfl)
theorem dX0_keeps_85 : decode cX0_keeps 85 = .ok (.iinc 5 1, 3) := dk_132 5 1 (dk_at dksX0_keeps_3 17 rfl rfl)
theorem dX0_keeps_88 : decode cX0_keeps 88 = .ok (.goto (-58), 3) := dk_167 255 198 (dk_at dksX0_keeps_3 20 rfl rfl)
theorem dX0_keeps_91 : decode cX0_keeps 91 = .ok (.iload_n 2, 1) := dk_28 (dk_at dksX0_keeps_3 23 rfl rfl)
theorem dX0_keeps_92 : decode cX0_keeps 92 = .ok (.ifCond .ne 8, 3) := dk_154 0 8 (dk_at dksX0_keeps_4 0 rfl rfl)
theorem dX0_keeps_95 : decode cX0_keeps 95 = .ok (.iload 4, 2) := dk_21 4 (dk_at dksX0_keeps_4 3 rfl rfl)
theorem dX0_keeps_97 : decode cX0_keeps 97 = .ok (.goto 4, 3) := dk_167 0 4 (dk_at dksX0_keeps_4 5 rfl rfl)
theorem dX0_keeps_100 : decode cX0_keeps 100 = .ok (.iload_n 3, 1) := dk_29 (dk_at dksX0_keeps_4 8 rfl rfl)
theorem dX0_keeps_101 : decode cX0_keeps 101 = .ok (.ireturn, 1) := dk_172 (dk_at dksX0_keeps_4 9 rfl rfl)
abbrev cX0_sumOf : ByteArray := prog_1_method_80_code
def yX0_sumOf : MethodName := ⟨RX0, "sumOf", "(ILSilkClerks$Measure;)I"⟩
def dkwX0_sumOf_2 : List UInt8 := [172]
abbrev dktX0_sumOf_2 : List UInt8 := dkwX0_sumOf_2 ++ []
def dkwX0_sumOf_1 : List UInt8 := [153, 0, 14, 44, 21, 4, 185, 0, 24, 2, 0, 167, 0, 4, 3, 96, 62, 132, 4, 1, 167, 255, 219, 29]
abbrev dktX0_sumOf_1 : List UInt8 := dkwX0_sumOf_1 ++ dktX0_sumOf_2
def dkwX0_sumOf_0 : List UInt8 := [3, 62, 3, 54, 4, 21, 4, 42, 180, 0, 144, 190, 162, 0, 33, 29, 27, 21, 4, 184, 2, 2]
abbrev dktX0_sumOf_0 : List UInt8 := dkwX0_sumOf_0 ++ dktX0_sumOf_1
theorem dksX0_sumOf_0 : cX0_sumOf.data.toList.drop 0 = dktX0_sumOf_0 := by decide +kernel
theorem dksX0_sumOf_1 : cX0_sumOf.data.toList.drop 22 = dktX0_sumOf_1 := dk_seg dksX0_sumOf_0 22 rfl rfl
theorem dksX0_sumOf_2 : cX0_sumOf.data.toList.drop 46 = dktX0_sumOf_2 := dk_seg dksX0_sumOf_1 24 rfl rfl
theorem dX0_sumOf_0 : decode cX0_sumOf 0 = .ok (.iconst 0, 1) := dk_3 (dk_at dksX0_sumOf_0 0 rfl rfl)
theorem dX0_sumOf_1 : decode cX0_sumOf 1 = .ok (.istore_n 3, 1) := dk_62 (dk_at dksX0_sumOf_0 1 rfl rfl)
theorem dX0_sumOf_2 : decode cX0_sumOf 2 = .ok (.iconst 0, 1) := dk_3 (dk_at dksX0_sumOf_0 2 rfl rfl)
theorem dX0_sumOf_3 : decode cX0_sumOf 3 = .ok (.istore 4, 2) := dk_54 4 (dk_at dksX0_sumOf_0 3 rfl rfl)
theorem dX0_sumOf_5 : decode cX0_sumOf 5 = .ok (.iload 4, 2) := dk_21 4 (dk_at dksX0_sumOf_0 5 rfl rfl)
theorem dX0_sumOf_7 : decode cX0_sumOf 7 = .ok (.aload_n 0, 1) := dk_42 (dk_at dksX0_sumOf_0 7 rfl rfl)
theorem dX0_sumOf_8 : decode cX0_sumOf 8 = .ok (.getfield 144, 3) := dk_180 0 144 (dk_at dksX0_sumOf_0 8 rfl rfl)
theorem dX0_sumOf_11 : decode cX0_sumOf 11 = .ok (.arraylength, 1) := dk_190 (dk_at dksX0_sumOf_0 11 rfl rfl)
theorem dX0_sumOf_12 : decode cX0_sumOf 12 = .ok (.if_icmp .ge 33, 3) := dk_162 0 33 (dk_at dksX0_sumOf_0 12 rfl rfl)
theorem dX0_sumOf_15 : decode cX0_sumOf 15 = .ok (.iload_n 3, 1) := dk_29 (dk_at dksX0_sumOf_0 15 rfl rfl)
theorem dX0_sumOf_16 : decode cX0_sumOf 16 = .ok (.iload_n 1, 1) := dk_27 (dk_at dksX0_sumOf_0 16 rfl rfl)
theorem dX0_sumOf_17 : decode cX0_sumOf 17 = .ok (.iload 4, 2) := dk_21 4 (dk_at dksX0_sumOf_0 17 rfl rfl)
theorem dX0_sumOf_19 : decode cX0_sumOf 19 = .ok (.invokestatic 514, 3) := dk_184 2 2 (dk_at dksX0_sumOf_0 19 rfl rfl)
theorem dX0_sumOf_22 : decode cX0_sumOf 22 = .ok (.ifCond .eq 14, 3) := dk_153 0 14 (dk_at dksX0_sumOf_1 0 rfl rfl)
theorem dX0_sumOf_25 : decode cX0_sumOf 25 = .ok (.aload_n 2, 1) := dk_44 (dk_at dksX0_sumOf_1 3 rfl rfl)
theorem dX0_sumOf_26 : decode cX0_sumOf 26 = .ok (.iload 4, 2) := dk_21 4 (dk_at dksX0_sumOf_1 4 rfl rfl)
theorem dX0_sumOf_28 : decode cX0_sumOf 28 = .ok (.invokeinterface 24 2, 5) := by decide +kernel
theorem dX0_sumOf_33 : decode cX0_sumOf 33 = .ok (.goto 4, 3) := dk_167 0 4 (dk_at dksX0_sumOf_1 11 rfl rfl)
theorem dX0_sumOf_36 : decode cX0_sumOf 36 = .ok (.iconst 0, 1) := dk_3 (dk_at dksX0_sumOf_1 14 rfl rfl)
theorem dX0_sumOf_37 : decode cX0_sumOf 37 = .ok (.iadd, 1) := dk_96 (dk_at dksX0_sumOf_1 15 rfl rfl)
theorem dX0_sumOf_38 : decode cX0_sumOf 38 = .ok (.istore_n 3, 1) := dk_62 (dk_at dksX0_sumOf_1 16 rfl rfl)
theorem dX0_sumOf_39 : decode cX0_sumOf 39 = .ok (.iinc 4 1, 3) := dk_132 4 1 (dk_at dksX0_sumOf_1 17 rfl rfl)
theorem dX0_sumOf_42 : decode cX0_sumOf 42 = .ok (.goto (-37), 3) := dk_167 255 219 (dk_at dksX0_sumOf_1 20 rfl rfl)
theorem dX0_sumOf_45 : decode cX0_sumOf 45 = .ok (.iload_n 3, 1) := dk_29 (dk_at dksX0_sumOf_1 23 rfl rfl)
theorem dX0_sumOf_46 : decode cX0_sumOf 46 = .ok (.ireturn, 1) := dk_172 (dk_at dksX0_sumOf_2 0 rfl rfl)
abbrev cX0_trays : ByteArray := prog_1_method_85_code
def yX0_trays : MethodName := ⟨RX0, "trays", "(I)I"⟩
def dkwX0_trays_0 : List UInt8 := [42, 27, 182, 1, 228, 153, 0, 11, 42, 27, 182, 2, 98, 167, 0, 4, 2, 172]
abbrev dktX0_trays_0 : List UInt8 := dkwX0_trays_0 ++ []
theorem dksX0_trays_0 : cX0_trays.data.toList.drop 0 = dktX0_trays_0 := by decide +kernel
theorem dX0_trays_0 : decode cX0_trays 0 = .ok (.aload_n 0, 1) := dk_42 (dk_at dksX0_trays_0 0 rfl rfl)
theorem dX0_trays_1 : decode cX0_trays 1 = .ok (.iload_n 1, 1) := dk_27 (dk_at dksX0_trays_0 1 rfl rfl)
theorem dX0_trays_2 : decode cX0_trays 2 = .ok (.invokevirtual 484, 3) := dk_182 1 228 (dk_at dksX0_trays_0 2 rfl rfl)
theorem dX0_trays_5 : decode cX0_trays 5 = .ok (.ifCond .eq 11, 3) := dk_153 0 11 (dk_at dksX0_trays_0 5 rfl rfl)
theorem dX0_trays_8 : decode cX0_trays 8 = .ok (.aload_n 0, 1) := dk_42 (dk_at dksX0_trays_0 8 rfl rfl)
theorem dX0_trays_9 : decode cX0_trays 9 = .ok (.iload_n 1, 1) := dk_27 (dk_at dksX0_trays_0 9 rfl rfl)
theorem dX0_trays_10 : decode cX0_trays 10 = .ok (.invokevirtual 610, 3) := dk_182 2 98 (dk_at dksX0_trays_0 10 rfl rfl)
theorem dX0_trays_13 : decode cX0_trays 13 = .ok (.goto 4, 3) := dk_167 0 4 (dk_at dksX0_trays_0 13 rfl rfl)
theorem dX0_trays_16 : decode cX0_trays 16 = .ok (.iconst (-1), 1) := dk_2 (dk_at dksX0_trays_0 16 rfl rfl)
theorem dX0_trays_17 : decode cX0_trays 17 = .ok (.ireturn, 1) := dk_172 (dk_at dksX0_trays_0 17 rfl rfl)
abbrev cX0_traysOf : ByteArray := prog_1_method_84_code
def yX0_traysOf : MethodName := ⟨RX0, "traysOf", "(I)I"⟩
def dkwX0_traysOf_2 : List UInt8 := [128, 61, 132, 3, 1, 167, 255, 207, 28, 172]
abbrev dktX0_traysOf_2 : List UInt8 := dkwX0_traysOf_2 ++ []
def dkwX0_traysOf_1 : List UInt8 := [154, 0, 23, 42, 27, 29, 182, 2, 95, 153, 0, 14, 4, 42, 180, 0, 157, 29, 46, 120, 167, 0, 4, 3]
abbrev dktX0_traysOf_1 : List UInt8 := dkwX0_traysOf_1 ++ dktX0_traysOf_2
def dkwX0_traysOf_0 : List UInt8 := [3, 61, 3, 62, 29, 42, 180, 1, 136, 162, 0, 47, 28, 42, 180, 0, 164, 180, 1, 218, 29, 184, 2, 2]
abbrev dktX0_traysOf_0 : List UInt8 := dkwX0_traysOf_0 ++ dktX0_traysOf_1
theorem dksX0_traysOf_0 : cX0_traysOf.data.toList.drop 0 = dktX0_traysOf_0 := by decide +kernel
theorem dksX0_traysOf_1 : cX0_traysOf.data.toList.drop 24 = dktX0_traysOf_1 := dk_seg dksX0_traysOf_0 24 rfl rfl
theorem dksX0_traysOf_2 : cX0_traysOf.data.toList.drop 48 = dktX0_traysOf_2 := dk_seg dksX0_traysOf_1 24 rfl rfl
theorem dX0_traysOf_0 : decode cX0_traysOf 0 = .ok (.iconst 0, 1) := dk_3 (dk_at dksX0_traysOf_0 0 rfl rfl)
theorem dX0_traysOf_1 : decode cX0_traysOf 1 = .ok (.istore_n 2, 1) := dk_61 (dk_at dksX0_traysOf_0 1 rfl rfl)
theorem dX0_traysOf_2 : decode cX0_traysOf 2 = .ok (.iconst 0, 1) := dk_3 (dk_at dksX0_traysOf_0 2 rfl rfl)
theorem dX0_traysOf_3 : decode cX0_traysOf 3 = .ok (.istore_n 3, 1) := dk_62 (dk_at dksX0_traysOf_0 3 rfl rfl)
theorem dX0_traysOf_4 : decode cX0_traysOf 4 = .ok (.iload_n 3, 1) := dk_29 (dk_at dksX0_traysOf_0 4 rfl rfl)
theorem dX0_traysOf_5 : decode cX0_traysOf 5 = .ok (.aload_n 0, 1) := dk_42 (dk_at dksX0_traysOf_0 5 rfl rfl)
theorem dX0_traysOf_6 : decode cX0_traysOf 6 = .ok (.getfield 392, 3) := dk_180 1 136 (dk_at dksX0_traysOf_0 6 rfl rfl)
theorem dX0_traysOf_9 : decode cX0_traysOf 9 = .ok (.if_icmp .ge 47, 3) := dk_162 0 47 (dk_at dksX0_traysOf_0 9 rfl rfl)
theorem dX0_traysOf_12 : decode cX0_traysOf 12 = .ok (.iload_n 2, 1) := dk_28 (dk_at dksX0_traysOf_0 12 rfl rfl)
theorem dX0_traysOf_13 : decode cX0_traysOf 13 = .ok (.aload_n 0, 1) := dk_42 (dk_at dksX0_traysOf_0 13 rfl rfl)
theorem dX0_traysOf_14 : decode cX0_traysOf 14 = .ok (.getfield 164, 3) := dk_180 0 164 (dk_at dksX0_traysOf_0 14 rfl rfl)
theorem dX0_traysOf_17 : decode cX0_traysOf 17 = .ok (.getfield 474, 3) := dk_180 1 218 (dk_at dksX0_traysOf_0 17 rfl rfl)
theorem dX0_traysOf_20 : decode cX0_traysOf 20 = .ok (.iload_n 3, 1) := dk_29 (dk_at dksX0_traysOf_0 20 rfl rfl)
theorem dX0_traysOf_21 : decode cX0_traysOf 21 = .ok (.invokestatic 514, 3) := dk_184 2 2 (dk_at dksX0_traysOf_0 21 rfl rfl)
theorem dX0_traysOf_24 : decode cX0_traysOf 24 = .ok (.ifCond .ne 23, 3) := dk_154 0 23 (dk_at dksX0_traysOf_1 0 rfl rfl)
theorem dX0_traysOf_27 : decode cX0_traysOf 27 = .ok (.aload_n 0, 1) := dk_42 (dk_at dksX0_traysOf_1 3 rfl rfl)
theorem dX0_traysOf_28 : decode cX0_traysOf 28 = .ok (.iload_n 1, 1) := dk_27 (dk_at dksX0_traysOf_1 4 rfl rfl)
theorem dX0_traysOf_29 : decode cX0_traysOf 29 = .ok (.iload_n 3, 1) := dk_29 (dk_at dksX0_traysOf_1 5 rfl rfl)
theorem dX0_traysOf_30 : decode cX0_traysOf 30 = .ok (.invokevirtual 607, 3) := dk_182 2 95 (dk_at dksX0_traysOf_1 6 rfl rfl)
theorem dX0_traysOf_33 : decode cX0_traysOf 33 = .ok (.ifCond .eq 14, 3) := dk_153 0 14 (dk_at dksX0_traysOf_1 9 rfl rfl)
theorem dX0_traysOf_36 : decode cX0_traysOf 36 = .ok (.iconst 1, 1) := dk_4 (dk_at dksX0_traysOf_1 12 rfl rfl)
theorem dX0_traysOf_37 : decode cX0_traysOf 37 = .ok (.aload_n 0, 1) := dk_42 (dk_at dksX0_traysOf_1 13 rfl rfl)
theorem dX0_traysOf_38 : decode cX0_traysOf 38 = .ok (.getfield 157, 3) := dk_180 0 157 (dk_at dksX0_traysOf_1 14 rfl rfl)
theorem dX0_traysOf_41 : decode cX0_traysOf 41 = .ok (.iload_n 3, 1) := dk_29 (dk_at dksX0_traysOf_1 17 rfl rfl)
theorem dX0_traysOf_42 : decode cX0_traysOf 42 = .ok (.iaload, 1) := dk_46 (dk_at dksX0_traysOf_1 18 rfl rfl)
theorem dX0_traysOf_43 : decode cX0_traysOf 43 = .ok (.ishl, 1) := dk_120 (dk_at dksX0_traysOf_1 19 rfl rfl)
theorem dX0_traysOf_44 : decode cX0_traysOf 44 = .ok (.goto 4, 3) := dk_167 0 4 (dk_at dksX0_traysOf_1 20 rfl rfl)
theorem dX0_traysOf_47 : decode cX0_traysOf 47 = .ok (.iconst 0, 1) := dk_3 (dk_at dksX0_traysOf_1 23 rfl rfl)
theorem dX0_traysOf_48 : decode cX0_traysOf 48 = .ok (.ior, 1) := dk_128 (dk_at dksX0_traysOf_2 0 rfl rfl)
theorem dX0_traysOf_49 : decode cX0_traysOf 49 = .ok (.istore_n 2, 1) := dk_61 (dk_at dksX0_traysOf_2 1 rfl rfl)
theorem dX0_traysOf_50 : decode cX0_traysOf 50 = .ok (.iinc 3 1, 3) := dk_132 3 1 (dk_at dksX0_traysOf_2 2 rfl rfl)
theorem dX0_traysOf_53 : decode cX0_traysOf 53 = .ok (.goto (-49), 3) := dk_167 255 207 (dk_at dksX0_traysOf_2 5 rfl rfl)
theorem dX0_traysOf_56 : decode cX0_traysOf 56 = .ok (.iload_n 2, 1) := dk_28 (dk_at dksX0_traysOf_2 8 rfl rfl)
theorem dX0_traysOf_57 : decode cX0_traysOf 57 = .ok (.ireturn, 1) := dk_172 (dk_at dksX0_traysOf_2 9 rfl rfl)
abbrev cX0_stands : ByteArray := prog_1_method_83_code
def yX0_stands : MethodName := ⟨RX0, "stands", "(II)Z"⟩
def dkwX0_stands_2 : List UInt8 := [132, 4, 1, 167, 255, 220, 3, 172]
abbrev dktX0_stands_2 : List UInt8 := dkwX0_stands_2 ++ []
def dkwX0_stands_1 : List UInt8 := [180, 1, 212, 28, 46, 163, 0, 25, 42, 28, 21, 4, 45, 3, 182, 2, 91, 45, 190, 160, 0, 5, 4, 172]
abbrev dktX0_stands_1 : List UInt8 := dkwX0_stands_1 ++ dktX0_stands_2
def dkwX0_stands_0 : List UInt8 := [42, 180, 0, 144, 27, 50, 182, 1, 184, 78, 3, 54, 4, 21, 4, 45, 190, 96, 42, 180, 0, 164]
abbrev dktX0_stands_0 : List UInt8 := dkwX0_stands_0 ++ dktX0_stands_1
theorem dksX0_stands_0 : cX0_stands.data.toList.drop 0 = dktX0_stands_0 := by decide +kernel
theorem dksX0_stands_1 : cX0_stands.data.toList.drop 22 = dktX0_stands_1 := dk_seg dksX0_stands_0 22 rfl rfl
theorem dksX0_stands_2 : cX0_stands.data.toList.drop 46 = dktX0_stands_2 := dk_seg dksX0_stands_1 24 rfl rfl
theorem dX0_stands_0 : decode cX0_stands 0 = .ok (.aload_n 0, 1) := dk_42 (dk_at dksX0_stands_0 0 rfl rfl)
theorem dX0_stands_1 : decode cX0_stands 1 = .ok (.getfield 144, 3) := dk_180 0 144 (dk_at dksX0_stands_0 1 rfl rfl)
theorem dX0_stands_4 : decode cX0_stands 4 = .ok (.iload_n 1, 1) := dk_27 (dk_at dksX0_stands_0 4 rfl rfl)
theorem dX0_stands_5 : decode cX0_stands 5 = .ok (.aaload, 1) := dk_50 (dk_at dksX0_stands_0 5 rfl rfl)
theorem dX0_stands_6 : decode cX0_stands 6 = .ok (.invokevirtual 440, 3) := dk_182 1 184 (dk_at dksX0_stands_0 6 rfl rfl)
theorem dX0_stands_9 : decode cX0_stands 9 = .ok (.astore_n 3, 1) := dk_78 (dk_at dksX0_stands_0 9 rfl rfl)
theorem dX0_stands_10 : decode cX0_stands 10 = .ok (.iconst 0, 1) := dk_3 (dk_at dksX0_stands_0 10 rfl rfl)
theorem dX0_stands_11 : decode cX0_stands 11 = .ok (.istore 4, 2) := dk_54 4 (dk_at dksX0_stands_0 11 rfl rfl)
theorem dX0_stands_13 : decode cX0_stands 13 = .ok (.iload 4, 2) := dk_21 4 (dk_at dksX0_stands_0 13 rfl rfl)
theorem dX0_stands_15 : decode cX0_stands 15 = .ok (.aload_n 3, 1) := dk_45 (dk_at dksX0_stands_0 15 rfl rfl)
theorem dX0_stands_16 : decode cX0_stands 16 = .ok (.arraylength, 1) := dk_190 (dk_at dksX0_stands_0 16 rfl rfl)
theorem dX0_stands_17 : decode cX0_stands 17 = .ok (.iadd, 1) := dk_96 (dk_at dksX0_stands_0 17 rfl rfl)
theorem dX0_stands_18 : decode cX0_stands 18 = .ok (.aload_n 0, 1) := dk_42 (dk_at dksX0_stands_0 18 rfl rfl)
theorem dX0_stands_19 : decode cX0_stands 19 = .ok (.getfield 164, 3) := dk_180 0 164 (dk_at dksX0_stands_0 19 rfl rfl)
theorem dX0_stands_22 : decode cX0_stands 22 = .ok (.getfield 468, 3) := dk_180 1 212 (dk_at dksX0_stands_1 0 rfl rfl)
theorem dX0_stands_25 : decode cX0_stands 25 = .ok (.iload_n 2, 1) := dk_28 (dk_at dksX0_stands_1 3 rfl rfl)
theorem dX0_stands_26 : decode cX0_stands 26 = .ok (.iaload, 1) := dk_46 (dk_at dksX0_stands_1 4 rfl rfl)
theorem dX0_stands_27 : decode cX0_stands 27 = .ok (.if_icmp .gt 25, 3) := dk_163 0 25 (dk_at dksX0_stands_1 5 rfl rfl)
theorem dX0_stands_30 : decode cX0_stands 30 = .ok (.aload_n 0, 1) := dk_42 (dk_at dksX0_stands_1 8 rfl rfl)
theorem dX0_stands_31 : decode cX0_stands 31 = .ok (.iload_n 2, 1) := dk_28 (dk_at dksX0_stands_1 9 rfl rfl)
theorem dX0_stands_32 : decode cX0_stands 32 = .ok (.iload 4, 2) := dk_21 4 (dk_at dksX0_stands_1 10 rfl rfl)
theorem dX0_stands_34 : decode cX0_stands 34 = .ok (.aload_n 3, 1) := dk_45 (dk_at dksX0_stands_1 12 rfl rfl)
theorem dX0_stands_35 : decode cX0_stands 35 = .ok (.iconst 0, 1) := dk_3 (dk_at dksX0_stands_1 13 rfl rfl)
theorem dX0_stands_36 : decode cX0_stands 36 = .ok (.invokevirtual 603, 3) := dk_182 2 91 (dk_at dksX0_stands_1 14 rfl rfl)
theorem dX0_stands_39 : decode cX0_stands 39 = .ok (.aload_n 3, 1) := dk_45 (dk_at dksX0_stands_1 17 rfl rfl)
theorem dX0_stands_40 : decode cX0_stands 40 = .ok (.arraylength, 1) := dk_190 (dk_at dksX0_stands_1 18 rfl rfl)
theorem dX0_stands_41 : decode cX0_stands 41 = .ok (.if_icmp .ne 5, 3) := dk_160 0 5 (dk_at dksX0_stands_1 19 rfl rfl)
theorem dX0_stands_44 : decode cX0_stands 44 = .ok (.iconst 1, 1) := dk_4 (dk_at dksX0_stands_1 22 rfl rfl)
theorem dX0_stands_45 : decode cX0_stands 45 = .ok (.ireturn, 1) := dk_172 (dk_at dksX0_stands_1 23 rfl rfl)
theorem dX0_stands_46 : decode cX0_stands 46 = .ok (.iinc 4 1, 3) := dk_132 4 1 (dk_at dksX0_stands_2 0 rfl rfl)
theorem dX0_stands_49 : decode cX0_stands 49 = .ok (.goto (-36), 3) := dk_167 255 220 (dk_at dksX0_stands_2 3 rfl rfl)
theorem dX0_stands_52 : decode cX0_stands 52 = .ok (.iconst 0, 1) := dk_3 (dk_at dksX0_stands_2 6 rfl rfl)
theorem dX0_stands_53 : decode cX0_stands 53 = .ok (.ireturn, 1) := dk_172 (dk_at dksX0_stands_2 7 rfl rfl)
abbrev cX0_alikeFrom : ByteArray := prog_1_method_82_code
def yX0_alikeFrom : MethodName := ⟨RX0, "alikeFrom", "(II[II)I"⟩
def dkwX0_alikeFrom_2 : List UInt8 := [160, 0, 9, 132, 5, 1, 167, 255, 205, 21, 5, 172]
abbrev dktX0_alikeFrom_2 : List UInt8 := dkwX0_alikeFrom_2 ++ []
def dkwX0_alikeFrom_1 : List UInt8 := [45, 190, 162, 0, 31, 42, 180, 0, 164, 27, 28, 21, 5, 96, 182, 1, 255, 45, 21, 4, 21, 5, 96, 46]
abbrev dktX0_alikeFrom_1 : List UInt8 := dkwX0_alikeFrom_1 ++ dktX0_alikeFrom_2
def dkwX0_alikeFrom_0 : List UInt8 := [3, 54, 5, 28, 21, 5, 96, 42, 180, 0, 164, 180, 1, 212, 27, 46, 162, 0, 41, 21, 4, 21, 5, 96]
abbrev dktX0_alikeFrom_0 : List UInt8 := dkwX0_alikeFrom_0 ++ dktX0_alikeFrom_1
theorem dksX0_alikeFrom_0 : cX0_alikeFrom.data.toList.drop 0 = dktX0_alikeFrom_0 := by decide +kernel
theorem dksX0_alikeFrom_1 : cX0_alikeFrom.data.toList.drop 24 = dktX0_alikeFrom_1 := dk_seg dksX0_alikeFrom_0 24 rfl rfl
theorem dksX0_alikeFrom_2 : cX0_alikeFrom.data.toList.drop 48 = dktX0_alikeFrom_2 := dk_seg dksX0_alikeFrom_1 24 rfl rfl
theorem dX0_alikeFrom_0 : decode cX0_alikeFrom 0 = .ok (.iconst 0, 1) := dk_3 (dk_at dksX0_alikeFrom_0 0 rfl rfl)
theorem dX0_alikeFrom_1 : decode cX0_alikeFrom 1 = .ok (.istore 5, 2) := dk_54 5 (dk_at dksX0_alikeFrom_0 1 rfl rfl)
theorem dX0_alikeFrom_3 : decode cX0_alikeFrom 3 = .ok (.iload_n 2, 1) := dk_28 (dk_at dksX0_alikeFrom_0 3 rfl rfl)
theorem dX0_alikeFrom_4 : decode cX0_alikeFrom 4 = .ok (.iload 5, 2) := dk_21 5 (dk_at dksX0_alikeFrom_0 4 rfl rfl)
theorem dX0_alikeFrom_6 : decode cX0_alikeFrom 6 = .ok (.iadd, 1) := dk_96 (dk_at dksX0_alikeFrom_0 6 rfl rfl)
theorem dX0_alikeFrom_7 : decode cX0_alikeFrom 7 = .ok (.aload_n 0, 1) := dk_42 (dk_at dksX0_alikeFrom_0 7 rfl rfl)
theorem dX0_alikeFrom_8 : decode cX0_alikeFrom 8 = .ok (.getfield 164, 3) := dk_180 0 164 (dk_at dksX0_alikeFrom_0 8 rfl rfl)
theorem dX0_alikeFrom_11 : decode cX0_alikeFrom 11 = .ok (.getfield 468, 3) := dk_180 1 212 (dk_at dksX0_alikeFrom_0 11 rfl rfl)
theorem dX0_alikeFrom_14 : decode cX0_alikeFrom 14 = .ok (.iload_n 1, 1) := dk_27 (dk_at dksX0_alikeFrom_0 14 rfl rfl)
theorem dX0_alikeFrom_15 : decode cX0_alikeFrom 15 = .ok (.iaload, 1) := dk_46 (dk_at dksX0_alikeFrom_0 15 rfl rfl)
theorem dX0_alikeFrom_16 : decode cX0_alikeFrom 16 = .ok (.if_icmp .ge 41, 3) := dk_162 0 41 (dk_at dksX0_alikeFrom_0 16 rfl rfl)
theorem dX0_alikeFrom_19 : decode cX0_alikeFrom 19 = .ok (.iload 4, 2) := dk_21 4 (dk_at dksX0_alikeFrom_0 19 rfl rfl)
theorem dX0_alikeFrom_21 : decode cX0_alikeFrom 21 = .ok (.iload 5, 2) := dk_21 5 (dk_at dksX0_alikeFrom_0 21 rfl rfl)
theorem dX0_alikeFrom_23 : decode cX0_alikeFrom 23 = .ok (.iadd, 1) := dk_96 (dk_at dksX0_alikeFrom_0 23 rfl rfl)
theorem dX0_alikeFrom_24 : decode cX0_alikeFrom 24 = .ok (.aload_n 3, 1) := dk_45 (dk_at dksX0_alikeFrom_1 0 rfl rfl)
theorem dX0_alikeFrom_25 : decode cX0_alikeFrom 25 = .ok (.arraylength, 1) := dk_190 (dk_at dksX0_alikeFrom_1 1 rfl rfl)
theorem dX0_alikeFrom_26 : decode cX0_alikeFrom 26 = .ok (.if_icmp .ge 31, 3) := dk_162 0 31 (dk_at dksX0_alikeFrom_1 2 rfl rfl)
theorem dX0_alikeFrom_29 : decode cX0_alikeFrom 29 = .ok (.aload_n 0, 1) := dk_42 (dk_at dksX0_alikeFrom_1 5 rfl rfl)
theorem dX0_alikeFrom_30 : decode cX0_alikeFrom 30 = .ok (.getfield 164, 3) := dk_180 0 164 (dk_at dksX0_alikeFrom_1 6 rfl rfl)
theorem dX0_alikeFrom_33 : decode cX0_alikeFrom 33 = .ok (.iload_n 1, 1) := dk_27 (dk_at dksX0_alikeFrom_1 9 rfl rfl)
theorem dX0_alikeFrom_34 : decode cX0_alikeFrom 34 = .ok (.iload_n 2, 1) := dk_28 (dk_at dksX0_alikeFrom_1 10 rfl rfl)
theorem dX0_alikeFrom_35 : decode cX0_alikeFrom 35 = .ok (.iload 5, 2) := dk_21 5 (dk_at dksX0_alikeFrom_1 11 rfl rfl)
theorem dX0_alikeFrom_37 : decode cX0_alikeFrom 37 = .ok (.iadd, 1) := dk_96 (dk_at dksX0_alikeFrom_1 13 rfl rfl)
theorem dX0_alikeFrom_38 : decode cX0_alikeFrom 38 = .ok (.invokevirtual 511, 3) := dk_182 1 255 (dk_at dksX0_alikeFrom_1 14 rfl rfl)
theorem dX0_alikeFrom_41 : decode cX0_alikeFrom 41 = .ok (.aload_n 3, 1) := dk_45 (dk_at dksX0_alikeFrom_1 17 rfl rfl)
theorem dX0_alikeFrom_42 : decode cX0_alikeFrom 42 = .ok (.iload 4, 2) := dk_21 4 (dk_at dksX0_alikeFrom_1 18 rfl rfl)
theorem dX0_alikeFrom_44 : decode cX0_alikeFrom 44 = .ok (.iload 5, 2) := dk_21 5 (dk_at dksX0_alikeFrom_1 20 rfl rfl)
theorem dX0_alikeFrom_46 : decode cX0_alikeFrom 46 = .ok (.iadd, 1) := dk_96 (dk_at dksX0_alikeFrom_1 22 rfl rfl)
theorem dX0_alikeFrom_47 : decode cX0_alikeFrom 47 = .ok (.iaload, 1) := dk_46 (dk_at dksX0_alikeFrom_1 23 rfl rfl)
theorem dX0_alikeFrom_48 : decode cX0_alikeFrom 48 = .ok (.if_icmp .ne 9, 3) := dk_160 0 9 (dk_at dksX0_alikeFrom_2 0 rfl rfl)
theorem dX0_alikeFrom_51 : decode cX0_alikeFrom 51 = .ok (.iinc 5 1, 3) := dk_132 5 1 (dk_at dksX0_alikeFrom_2 3 rfl rfl)
theorem dX0_alikeFrom_54 : decode cX0_alikeFrom 54 = .ok (.goto (-51), 3) := dk_167 255 205 (dk_at dksX0_alikeFrom_2 6 rfl rfl)
theorem dX0_alikeFrom_57 : decode cX0_alikeFrom 57 = .ok (.iload 5, 2) := dk_21 5 (dk_at dksX0_alikeFrom_2 9 rfl rfl)
theorem dX0_alikeFrom_59 : decode cX0_alikeFrom 59 = .ok (.ireturn, 1) := dk_172 (dk_at dksX0_alikeFrom_2 11 rfl rfl)
abbrev cX0_answered : ByteArray := prog_1_method_87_code
def yX0_answered : MethodName := ⟨RX0, "answered", "(I)I"⟩
def dkwX0_answered_3 : List UInt8 := [184, 2, 85, 54, 4, 27, 4, 160, 0, 11, 21, 4, 184, 0, 30, 167, 0, 5, 21, 4, 172]
abbrev dktX0_answered_3 : List UInt8 := dkwX0_answered_3 ++ []
def dkwX0_answered_2 : List UInt8 := [44, 182, 2, 101, 62, 27, 154, 0, 8, 29, 184, 0, 30, 172, 7, 42, 44, 29, 186, 2, 105, 0, 0]
abbrev dktX0_answered_2 : List UInt8 := dkwX0_answered_2 ++ dktX0_answered_3
def dkwX0_answered_1 : List UInt8 := [180, 0, 144, 190, 162, 0, 17, 44, 29, 42, 29, 182, 2, 98, 79, 132, 3, 1, 167, 255, 236, 42, 16, 15]
abbrev dktX0_answered_1 : List UInt8 := dkwX0_answered_1 ++ dktX0_answered_2
def dkwX0_answered_0 : List UInt8 := [27, 3, 5, 184, 0, 224, 154, 0, 5, 2, 172, 42, 180, 0, 144, 190, 188, 10, 77, 3, 62, 29, 42]
abbrev dktX0_answered_0 : List UInt8 := dkwX0_answered_0 ++ dktX0_answered_1
theorem dksX0_answered_0 : cX0_answered.data.toList.drop 0 = dktX0_answered_0 := by decide +kernel
theorem dksX0_answered_1 : cX0_answered.data.toList.drop 23 = dktX0_answered_1 := dk_seg dksX0_answered_0 23 rfl rfl
theorem dksX0_answered_2 : cX0_answered.data.toList.drop 47 = dktX0_answered_2 := dk_seg dksX0_answered_1 24 rfl rfl
theorem dksX0_answered_3 : cX0_answered.data.toList.drop 70 = dktX0_answered_3 := dk_seg dksX0_answered_2 23 rfl rfl
theorem dX0_answered_0 : decode cX0_answered 0 = .ok (.iload_n 1, 1) := dk_27 (dk_at dksX0_answered_0 0 rfl rfl)
theorem dX0_answered_1 : decode cX0_answered 1 = .ok (.iconst 0, 1) := dk_3 (dk_at dksX0_answered_0 1 rfl rfl)
theorem dX0_answered_2 : decode cX0_answered 2 = .ok (.iconst 2, 1) := dk_5 (dk_at dksX0_answered_0 2 rfl rfl)
theorem dX0_answered_3 : decode cX0_answered 3 = .ok (.invokestatic 224, 3) := dk_184 0 224 (dk_at dksX0_answered_0 3 rfl rfl)
theorem dX0_answered_6 : decode cX0_answered 6 = .ok (.ifCond .ne 5, 3) := dk_154 0 5 (dk_at dksX0_answered_0 6 rfl rfl)
theorem dX0_answered_9 : decode cX0_answered 9 = .ok (.iconst (-1), 1) := dk_2 (dk_at dksX0_answered_0 9 rfl rfl)
theorem dX0_answered_10 : decode cX0_answered 10 = .ok (.ireturn, 1) := dk_172 (dk_at dksX0_answered_0 10 rfl rfl)
theorem dX0_answered_11 : decode cX0_answered 11 = .ok (.aload_n 0, 1) := dk_42 (dk_at dksX0_answered_0 11 rfl rfl)
theorem dX0_answered_12 : decode cX0_answered 12 = .ok (.getfield 144, 3) := dk_180 0 144 (dk_at dksX0_answered_0 12 rfl rfl)
theorem dX0_answered_15 : decode cX0_answered 15 = .ok (.arraylength, 1) := dk_190 (dk_at dksX0_answered_0 15 rfl rfl)
theorem dX0_answered_16 : decode cX0_answered 16 = .ok (.newarray .int, 2) := dk_188_10 (dk_at dksX0_answered_0 16 rfl rfl)
theorem dX0_answered_18 : decode cX0_answered 18 = .ok (.astore_n 2, 1) := dk_77 (dk_at dksX0_answered_0 18 rfl rfl)
theorem dX0_answered_19 : decode cX0_answered 19 = .ok (.iconst 0, 1) := dk_3 (dk_at dksX0_answered_0 19 rfl rfl)
theorem dX0_answered_20 : decode cX0_answered 20 = .ok (.istore_n 3, 1) := dk_62 (dk_at dksX0_answered_0 20 rfl rfl)
theorem dX0_answered_21 : decode cX0_answered 21 = .ok (.iload_n 3, 1) := dk_29 (dk_at dksX0_answered_0 21 rfl rfl)
theorem dX0_answered_22 : decode cX0_answered 22 = .ok (.aload_n 0, 1) := dk_42 (dk_at dksX0_answered_0 22 rfl rfl)
theorem dX0_answered_23 : decode cX0_answered 23 = .ok (.getfield 144, 3) := dk_180 0 144 (dk_at dksX0_answered_1 0 rfl rfl)
theorem dX0_answered_26 : decode cX0_answered 26 = .ok (.arraylength, 1) := dk_190 (dk_at dksX0_answered_1 3 rfl rfl)
theorem dX0_answered_27 : decode cX0_answered 27 = .ok (.if_icmp .ge 17, 3) := dk_162 0 17 (dk_at dksX0_answered_1 4 rfl rfl)
theorem dX0_answered_30 : decode cX0_answered 30 = .ok (.aload_n 2, 1) := dk_44 (dk_at dksX0_answered_1 7 rfl rfl)
theorem dX0_answered_31 : decode cX0_answered 31 = .ok (.iload_n 3, 1) := dk_29 (dk_at dksX0_answered_1 8 rfl rfl)
theorem dX0_answered_32 : decode cX0_answered 32 = .ok (.aload_n 0, 1) := dk_42 (dk_at dksX0_answered_1 9 rfl rfl)
theorem dX0_answered_33 : decode cX0_answered 33 = .ok (.iload_n 3, 1) := dk_29 (dk_at dksX0_answered_1 10 rfl rfl)
theorem dX0_answered_34 : decode cX0_answered 34 = .ok (.invokevirtual 610, 3) := dk_182 2 98 (dk_at dksX0_answered_1 11 rfl rfl)
theorem dX0_answered_37 : decode cX0_answered 37 = .ok (.iastore, 1) := dk_79 (dk_at dksX0_answered_1 14 rfl rfl)
theorem dX0_answered_38 : decode cX0_answered 38 = .ok (.iinc 3 1, 3) := dk_132 3 1 (dk_at dksX0_answered_1 15 rfl rfl)
theorem dX0_answered_41 : decode cX0_answered 41 = .ok (.goto (-20), 3) := dk_167 255 236 (dk_at dksX0_answered_1 18 rfl rfl)
theorem dX0_answered_44 : decode cX0_answered 44 = .ok (.aload_n 0, 1) := dk_42 (dk_at dksX0_answered_1 21 rfl rfl)
theorem dX0_answered_45 : decode cX0_answered 45 = .ok (.bipush 15, 2) := dk_16 15 (dk_at dksX0_answered_1 22 rfl rfl)
theorem dX0_answered_47 : decode cX0_answered 47 = .ok (.aload_n 2, 1) := dk_44 (dk_at dksX0_answered_2 0 rfl rfl)
theorem dX0_answered_48 : decode cX0_answered 48 = .ok (.invokevirtual 613, 3) := dk_182 2 101 (dk_at dksX0_answered_2 1 rfl rfl)
theorem dX0_answered_51 : decode cX0_answered 51 = .ok (.istore_n 3, 1) := dk_62 (dk_at dksX0_answered_2 4 rfl rfl)
theorem dX0_answered_52 : decode cX0_answered 52 = .ok (.iload_n 1, 1) := dk_27 (dk_at dksX0_answered_2 5 rfl rfl)
theorem dX0_answered_53 : decode cX0_answered 53 = .ok (.ifCond .ne 8, 3) := dk_154 0 8 (dk_at dksX0_answered_2 6 rfl rfl)
theorem dX0_answered_56 : decode cX0_answered 56 = .ok (.iload_n 3, 1) := dk_29 (dk_at dksX0_answered_2 9 rfl rfl)
theorem dX0_answered_57 : decode cX0_answered 57 = .ok (.invokestatic 30, 3) := dk_184 0 30 (dk_at dksX0_answered_2 10 rfl rfl)
theorem dX0_answered_60 : decode cX0_answered 60 = .ok (.ireturn, 1) := dk_172 (dk_at dksX0_answered_2 13 rfl rfl)
theorem dX0_answered_61 : decode cX0_answered 61 = .ok (.iconst 4, 1) := dk_7 (dk_at dksX0_answered_2 14 rfl rfl)
theorem dX0_answered_62 : decode cX0_answered 62 = .ok (.aload_n 0, 1) := dk_42 (dk_at dksX0_answered_2 15 rfl rfl)
theorem dX0_answered_63 : decode cX0_answered 63 = .ok (.aload_n 2, 1) := dk_44 (dk_at dksX0_answered_2 16 rfl rfl)
theorem dX0_answered_64 : decode cX0_answered 64 = .ok (.iload_n 3, 1) := dk_29 (dk_at dksX0_answered_2 17 rfl rfl)
theorem dX0_answered_65 : decode cX0_answered 65 = .ok (.invokedynamic 617, 5) := by decide +kernel
theorem dX0_answered_70 : decode cX0_answered 70 = .ok (.invokestatic 597, 3) := dk_184 2 85 (dk_at dksX0_answered_3 0 rfl rfl)
theorem dX0_answered_73 : decode cX0_answered 73 = .ok (.istore 4, 2) := dk_54 4 (dk_at dksX0_answered_3 3 rfl rfl)
theorem dX0_answered_75 : decode cX0_answered 75 = .ok (.iload_n 1, 1) := dk_27 (dk_at dksX0_answered_3 5 rfl rfl)
theorem dX0_answered_76 : decode cX0_answered 76 = .ok (.iconst 1, 1) := dk_4 (dk_at dksX0_answered_3 6 rfl rfl)
theorem dX0_answered_77 : decode cX0_answered 77 = .ok (.if_icmp .ne 11, 3) := dk_160 0 11 (dk_at dksX0_answered_3 7 rfl rfl)
theorem dX0_answered_80 : decode cX0_answered 80 = .ok (.iload 4, 2) := dk_21 4 (dk_at dksX0_answered_3 10 rfl rfl)
theorem dX0_answered_82 : decode cX0_answered 82 = .ok (.invokestatic 30, 3) := dk_184 0 30 (dk_at dksX0_answered_3 12 rfl rfl)
theorem dX0_answered_85 : decode cX0_answered 85 = .ok (.goto 5, 3) := dk_167 0 5 (dk_at dksX0_answered_3 15 rfl rfl)
theorem dX0_answered_88 : decode cX0_answered 88 = .ok (.iload 4, 2) := dk_21 4 (dk_at dksX0_answered_3 18 rfl rfl)
theorem dX0_answered_90 : decode cX0_answered 90 = .ok (.ireturn, 1) := dk_172 (dk_at dksX0_answered_3 20 rfl rfl)
abbrev cX0_answeredBy : ByteArray := prog_1_method_86_code
def yX0_answeredBy : MethodName := ⟨RX0, "answeredBy", "(I[I)I"⟩
def dkwX0_answeredBy_3 : List UInt8 := [167, 255, 189, 29, 172]
abbrev dktX0_answeredBy_3 : List UInt8 := dkwX0_answeredBy_3 ++ []
def dkwX0_answeredBy_2 : List UInt8 := [27, 126, 153, 0, 10, 4, 21, 4, 120, 167, 0, 4, 3, 128, 62, 132, 5, 1, 167, 255, 208, 132, 4, 1]
abbrev dktX0_answeredBy_2 : List UInt8 := dkwX0_answeredBy_2 ++ dktX0_answeredBy_3
def dkwX0_answeredBy_1 : List UInt8 := [190, 162, 0, 44, 29, 42, 180, 0, 154, 21, 4, 46, 21, 5, 184, 2, 2, 153, 0, 19, 44, 21, 5, 46]
abbrev dktX0_answeredBy_1 : List UInt8 := dkwX0_answeredBy_1 ++ dktX0_answeredBy_2
def dkwX0_answeredBy_0 : List UInt8 := [3, 62, 3, 54, 4, 21, 4, 42, 180, 0, 154, 190, 162, 0, 63, 3, 54, 5, 21, 5, 42, 180, 0, 144]
abbrev dktX0_answeredBy_0 : List UInt8 := dkwX0_answeredBy_0 ++ dktX0_answeredBy_1
theorem dksX0_answeredBy_0 : cX0_answeredBy.data.toList.drop 0 = dktX0_answeredBy_0 := by decide +kernel
theorem dksX0_answeredBy_1 : cX0_answeredBy.data.toList.drop 24 = dktX0_answeredBy_1 := dk_seg dksX0_answeredBy_0 24 rfl rfl
theorem dksX0_answeredBy_2 : cX0_answeredBy.data.toList.drop 48 = dktX0_answeredBy_2 := dk_seg dksX0_answeredBy_1 24 rfl rfl
theorem dksX0_answeredBy_3 : cX0_answeredBy.data.toList.drop 72 = dktX0_answeredBy_3 := dk_seg dksX0_answeredBy_2 24 rfl rfl
theorem dX0_answeredBy_0 : decode cX0_answeredBy 0 = .ok (.iconst 0, 1) := dk_3 (dk_at dksX0_answeredBy_0 0 rfl rfl)
theorem dX0_answeredBy_1 : decode cX0_answeredBy 1 = .ok (.istore_n 3, 1) := dk_62 (dk_at dksX0_answeredBy_0 1 rfl rfl)
theorem dX0_answeredBy_2 : decode cX0_answeredBy 2 = .ok (.iconst 0, 1) := dk_3 (dk_at dksX0_answeredBy_0 2 rfl rfl)
theorem dX0_answeredBy_3 : decode cX0_answeredBy 3 = .ok (.istore 4, 2) := dk_54 4 (dk_at dksX0_answeredBy_0 3 rfl rfl)
theorem dX0_answeredBy_5 : decode cX0_answeredBy 5 = .ok (.iload 4, 2) := dk_21 4 (dk_at dksX0_answeredBy_0 5 rfl rfl)
theorem dX0_answeredBy_7 : decode cX0_answeredBy 7 = .ok (.aload_n 0, 1) := dk_42 (dk_at dksX0_answeredBy_0 7 rfl rfl)
theorem dX0_answeredBy_8 : decode cX0_answeredBy 8 = .ok (.getfield 154, 3) := dk_180 0 154 (dk_at dksX0_answeredBy_0 8 rfl rfl)
theorem dX0_answeredBy_11 : decode cX0_answeredBy 11 = .ok (.arraylength, 1) := dk_190 (dk_at dksX0_answeredBy_0 11 rfl rfl)
theorem dX0_answeredBy_12 : decode cX0_answeredBy 12 = .ok (.if_icmp .ge 63, 3) := dk_162 0 63 (dk_at dksX0_answeredBy_0 12 rfl rfl)
theorem dX0_answeredBy_15 : decode cX0_answeredBy 15 = .ok (.iconst 0, 1) := dk_3 (dk_at dksX0_answeredBy_0 15 rfl rfl)
theorem dX0_answeredBy_16 : decode cX0_answeredBy 16 = .ok (.istore 5, 2) := dk_54 5 (dk_at dksX0_answeredBy_0 16 rfl rfl)
theorem dX0_answeredBy_18 : decode cX0_answeredBy 18 = .ok (.iload 5, 2) := dk_21 5 (dk_at dksX0_answeredBy_0 18 rfl rfl)
theorem dX0_answeredBy_20 : decode cX0_answeredBy 20 = .ok (.aload_n 0, 1) := dk_42 (dk_at dksX0_answeredBy_0 20 rfl rfl)
theorem dX0_answeredBy_21 : decode cX0_answeredBy 21 = .ok (.getfield 144, 3) := dk_180 0 144 (dk_at dksX0_answeredBy_0 21 rfl rfl)
theorem dX0_answeredBy_24 : decode cX0_answeredBy 24 = .ok (.arraylength, 1) := dk_190 (dk_at dksX0_answeredBy_1 0 rfl rfl)
theorem dX0_answeredBy_25 : decode cX0_answeredBy 25 = .ok (.if_icmp .ge 44, 3) := dk_162 0 44 (dk_at dksX0_answeredBy_1 1 rfl rfl)
theorem dX0_answeredBy_28 : decode cX0_answeredBy 28 = .ok (.iload_n 3, 1) := dk_29 (dk_at dksX0_answeredBy_1 4 rfl rfl)
theorem dX0_answeredBy_29 : decode cX0_answeredBy 29 = .ok (.aload_n 0, 1) := dk_42 (dk_at dksX0_answeredBy_1 5 rfl rfl)
theorem dX0_answeredBy_30 : decode cX0_answeredBy 30 = .ok (.getfield 154, 3) := dk_180 0 154 (dk_at dksX0_answeredBy_1 6 rfl rfl)
theorem dX0_answeredBy_33 : decode cX0_answeredBy 33 = .ok (.iload 4, 2) := dk_21 4 (dk_at dksX0_answeredBy_1 9 rfl rfl)
theorem dX0_answeredBy_35 : decode cX0_answeredBy 35 = .ok (.iaload, 1) := dk_46 (dk_at dksX0_answeredBy_1 11 rfl rfl)
theorem dX0_answeredBy_36 : decode cX0_answeredBy 36 = .ok (.iload 5, 2) := dk_21 5 (dk_at dksX0_answeredBy_1 12 rfl rfl)
theorem dX0_answeredBy_38 : decode cX0_answeredBy 38 = .ok (.invokestatic 514, 3) := dk_184 2 2 (dk_at dksX0_answeredBy_1 14 rfl rfl)
theorem dX0_answeredBy_41 : decode cX0_answeredBy 41 = .ok (.ifCond .eq 19, 3) := dk_153 0 19 (dk_at dksX0_answeredBy_1 17 rfl rfl)
theorem dX0_answeredBy_44 : decode cX0_answeredBy 44 = .ok (.aload_n 2, 1) := dk_44 (dk_at dksX0_answeredBy_1 20 rfl rfl)
theorem dX0_answeredBy_45 : decode cX0_answeredBy 45 = .ok (.iload 5, 2) := dk_21 5 (dk_at dksX0_answeredBy_1 21 rfl rfl)
theorem dX0_answeredBy_47 : decode cX0_answeredBy 47 = .ok (.iaload, 1) := dk_46 (dk_at dksX0_answeredBy_1 23 rfl rfl)
theorem dX0_answeredBy_48 : decode cX0_answeredBy 48 = .ok (.iload_n 1, 1) := dk_27 (dk_at dksX0_answeredBy_2 0 rfl rfl)
theorem dX0_answeredBy_49 : decode cX0_answeredBy 49 = .ok (.iand, 1) := dk_126 (dk_at dksX0_answeredBy_2 1 rfl rfl)
theorem dX0_answeredBy_50 : decode cX0_answeredBy 50 = .ok (.ifCond .eq 10, 3) := dk_153 0 10 (dk_at dksX0_answeredBy_2 2 rfl rfl)
theorem dX0_answeredBy_53 : decode cX0_answeredBy 53 = .ok (.iconst 1, 1) := dk_4 (dk_at dksX0_answeredBy_2 5 rfl rfl)
theorem dX0_answeredBy_54 : decode cX0_answeredBy 54 = .ok (.iload 4, 2) := dk_21 4 (dk_at dksX0_answeredBy_2 6 rfl rfl)
theorem dX0_answeredBy_56 : decode cX0_answeredBy 56 = .ok (.ishl, 1) := dk_120 (dk_at dksX0_answeredBy_2 8 rfl rfl)
theorem dX0_answeredBy_57 : decode cX0_answeredBy 57 = .ok (.goto 4, 3) := dk_167 0 4 (dk_at dksX0_answeredBy_2 9 rfl rfl)
theorem dX0_answeredBy_60 : decode cX0_answeredBy 60 = .ok (.iconst 0, 1) := dk_3 (dk_at dksX0_answeredBy_2 12 rfl rfl)
theorem dX0_answeredBy_61 : decode cX0_answeredBy 61 = .ok (.ior, 1) := dk_128 (dk_at dksX0_answeredBy_2 13 rfl rfl)
theorem dX0_answeredBy_62 : decode cX0_answeredBy 62 = .ok (.istore_n 3, 1) := dk_62 (dk_at dksX0_answeredBy_2 14 rfl rfl)
theorem dX0_answeredBy_63 : decode cX0_answeredBy 63 = .ok (.iinc 5 1, 3) := dk_132 5 1 (dk_at dksX0_answeredBy_2 15 rfl rfl)
theorem dX0_answeredBy_66 : decode cX0_answeredBy 66 = .ok (.goto (-48), 3) := dk_167 255 208 (dk_at dksX0_answeredBy_2 18 rfl rfl)
theorem dX0_answeredBy_69 : decode cX0_answeredBy 69 = .ok (.iinc 4 1, 3) := dk_132 4 1 (dk_at dksX0_answeredBy_2 21 rfl rfl)
theorem dX0_answeredBy_72 : decode cX0_answeredBy 72 = .ok (.goto (-67), 3) := dk_167 255 189 (dk_at dksX0_answeredBy_3 0 rfl rfl)
theorem dX0_answeredBy_75 : decode cX0_answeredBy 75 = .ok (.iload_n 3, 1) := dk_29 (dk_at dksX0_answeredBy_3 3 rfl rfl)
theorem dX0_answeredBy_76 : decode cX0_answeredBy 76 = .ok (.ireturn, 1) := dk_172 (dk_at dksX0_answeredBy_3 4 rfl rfl)
abbrev cX0_lambda_answered_6 : ByteArray := prog_1_method_115_code
def yX0_lambda_answered_6 : MethodName := ⟨RX0, "lambda$answered$6", "([III)Z"⟩
def dkwX0_lambda_answered_6_0 : List UInt8 := [42, 29, 43, 182, 2, 101, 28, 160, 0, 7, 4, 167, 0, 4, 3, 172]
abbrev dktX0_lambda_answered_6_0 : List UInt8 := dkwX0_lambda_answered_6_0 ++ []
theorem dksX0_lambda_answered_6_0 : cX0_lambda_answered_6.data.toList.drop 0 = dktX0_lambda_answered_6_0 := by decide +kernel
theorem dX0_lambda_answered_6_0 : decode cX0_lambda_answered_6 0 = .ok (.aload_n 0, 1) := dk_42 (dk_at dksX0_lambda_answered_6_0 0 rfl rfl)
theorem dX0_lambda_answered_6_1 : decode cX0_lambda_answered_6 1 = .ok (.iload_n 3, 1) := dk_29 (dk_at dksX0_lambda_answered_6_0 1 rfl rfl)
theorem dX0_lambda_answered_6_2 : decode cX0_lambda_answered_6 2 = .ok (.aload_n 1, 1) := dk_43 (dk_at dksX0_lambda_answered_6_0 2 rfl rfl)
theorem dX0_lambda_answered_6_3 : decode cX0_lambda_answered_6 3 = .ok (.invokevirtual 613, 3) := dk_182 2 101 (dk_at dksX0_lambda_answered_6_0 3 rfl rfl)
theorem dX0_lambda_answered_6_6 : decode cX0_lambda_answered_6 6 = .ok (.iload_n 2, 1) := dk_28 (dk_at dksX0_lambda_answered_6_0 6 rfl rfl)
theorem dX0_lambda_answered_6_7 : decode cX0_lambda_answered_6 7 = .ok (.if_icmp .ne 7, 3) := dk_160 0 7 (dk_at dksX0_lambda_answered_6_0 7 rfl rfl)
theorem dX0_lambda_answered_6_10 : decode cX0_lambda_answered_6 10 = .ok (.iconst 1, 1) := dk_4 (dk_at dksX0_lambda_answered_6_0 10 rfl rfl)
theorem dX0_lambda_answered_6_11 : decode cX0_lambda_answered_6 11 = .ok (.goto 4, 3) := dk_167 0 4 (dk_at dksX0_lambda_answered_6_0 11 rfl rfl)
theorem dX0_lambda_answered_6_14 : decode cX0_lambda_answered_6 14 = .ok (.iconst 0, 1) := dk_3 (dk_at dksX0_lambda_answered_6_0 14 rfl rfl)
theorem dX0_lambda_answered_6_15 : decode cX0_lambda_answered_6 15 = .ok (.ireturn, 1) := dk_172 (dk_at dksX0_lambda_answered_6_0 15 rfl rfl)
abbrev cX0_gaps : ByteArray := prog_1_method_88_code
def yX0_gaps : MethodName := ⟨RX0, "gaps", "(I)I"⟩
def dkwX0_gaps_1 : List UInt8 := [184, 2, 32, 172]
abbrev dktX0_gaps_1 : List UInt8 := dkwX0_gaps_1 ++ []
def dkwX0_gaps_0 : List UInt8 := [27, 3, 4, 184, 0, 224, 154, 0, 5, 2, 172, 42, 180, 0, 144, 190, 42, 27, 186, 2, 108, 0, 0]
abbrev dktX0_gaps_0 : List UInt8 := dkwX0_gaps_0 ++ dktX0_gaps_1
theorem dksX0_gaps_0 : cX0_gaps.data.toList.drop 0 = dktX0_gaps_0 := by decide +kernel
theorem dksX0_gaps_1 : cX0_gaps.data.toList.drop 23 = dktX0_gaps_1 := dk_seg dksX0_gaps_0 23 rfl rfl
theorem dX0_gaps_0 : decode cX0_gaps 0 = .ok (.iload_n 1, 1) := dk_27 (dk_at dksX0_gaps_0 0 rfl rfl)
theorem dX0_gaps_1 : decode cX0_gaps 1 = .ok (.iconst 0, 1) := dk_3 (dk_at dksX0_gaps_0 1 rfl rfl)
theorem dX0_gaps_2 : decode cX0_gaps 2 = .ok (.iconst 1, 1) := dk_4 (dk_at dksX0_gaps_0 2 rfl rfl)
theorem dX0_gaps_3 : decode cX0_gaps 3 = .ok (.invokestatic 224, 3) := dk_184 0 224 (dk_at dksX0_gaps_0 3 rfl rfl)
theorem dX0_gaps_6 : decode cX0_gaps 6 = .ok (.ifCond .ne 5, 3) := dk_154 0 5 (dk_at dksX0_gaps_0 6 rfl rfl)
theorem dX0_gaps_9 : decode cX0_gaps 9 = .ok (.iconst (-1), 1) := dk_2 (dk_at dksX0_gaps_0 9 rfl rfl)
theorem dX0_gaps_10 : decode cX0_gaps 10 = .ok (.ireturn, 1) := dk_172 (dk_at dksX0_gaps_0 10 rfl rfl)
theorem dX0_gaps_11 : decode cX0_gaps 11 = .ok (.aload_n 0, 1) := dk_42 (dk_at dksX0_gaps_0 11 rfl rfl)
theorem dX0_gaps_12 : decode cX0_gaps 12 = .ok (.getfield 144, 3) := dk_180 0 144 (dk_at dksX0_gaps_0 12 rfl rfl)
theorem dX0_gaps_15 : decode cX0_gaps 15 = .ok (.arraylength, 1) := dk_190 (dk_at dksX0_gaps_0 15 rfl rfl)
theorem dX0_gaps_16 : decode cX0_gaps 16 = .ok (.aload_n 0, 1) := dk_42 (dk_at dksX0_gaps_0 16 rfl rfl)
theorem dX0_gaps_17 : decode cX0_gaps 17 = .ok (.iload_n 1, 1) := dk_27 (dk_at dksX0_gaps_0 17 rfl rfl)
theorem dX0_gaps_18 : decode cX0_gaps 18 = .ok (.invokedynamic 620, 5) := by decide +kernel
theorem dX0_gaps_23 : decode cX0_gaps 23 = .ok (.invokestatic 544, 3) := dk_184 2 32 (dk_at dksX0_gaps_1 0 rfl rfl)
theorem dX0_gaps_26 : decode cX0_gaps 26 = .ok (.ireturn, 1) := dk_172 (dk_at dksX0_gaps_1 3 rfl rfl)
abbrev cX0_lambda_gaps_7 : ByteArray := prog_1_method_114_code
def yX0_lambda_gaps_7 : MethodName := ⟨RX0, "lambda$gaps$7", "(II)Z"⟩
def dkwX0_lambda_gaps_7_1 : List UInt8 := [182, 2, 98, 184, 0, 30, 4, 164, 0, 7, 4, 167, 0, 4, 3, 172]
abbrev dktX0_lambda_gaps_7_1 : List UInt8 := dkwX0_lambda_gaps_7_1 ++ []
def dkwX0_lambda_gaps_7_0 : List UInt8 := [27, 154, 0, 19, 42, 28, 182, 2, 98, 154, 0, 7, 4, 167, 0, 24, 3, 167, 0, 20, 42, 28]
abbrev dktX0_lambda_gaps_7_0 : List UInt8 := dkwX0_lambda_gaps_7_0 ++ dktX0_lambda_gaps_7_1
theorem dksX0_lambda_gaps_7_0 : cX0_lambda_gaps_7.data.toList.drop 0 = dktX0_lambda_gaps_7_0 := by decide +kernel
theorem dksX0_lambda_gaps_7_1 : cX0_lambda_gaps_7.data.toList.drop 22 = dktX0_lambda_gaps_7_1 := dk_seg dksX0_lambda_gaps_7_0 22 rfl rfl
theorem dX0_lambda_gaps_7_0 : decode cX0_lambda_gaps_7 0 = .ok (.iload_n 1, 1) := dk_27 (dk_at dksX0_lambda_gaps_7_0 0 rfl rfl)
theorem dX0_lambda_gaps_7_1 : decode cX0_lambda_gaps_7 1 = .ok (.ifCond .ne 19, 3) := dk_154 0 19 (dk_at dksX0_lambda_gaps_7_0 1 rfl rfl)
theorem dX0_lambda_gaps_7_4 : decode cX0_lambda_gaps_7 4 = .ok (.aload_n 0, 1) := dk_42 (dk_at dksX0_lambda_gaps_7_0 4 rfl rfl)
theorem dX0_lambda_gaps_7_5 : decode cX0_lambda_gaps_7 5 = .ok (.iload_n 2, 1) := dk_28 (dk_at dksX0_lambda_gaps_7_0 5 rfl rfl)
theorem dX0_lambda_gaps_7_6 : decode cX0_lambda_gaps_7 6 = .ok (.invokevirtual 610, 3) := dk_182 2 98 (dk_at dksX0_lambda_gaps_7_0 6 rfl rfl)
theorem dX0_lambda_gaps_7_9 : decode cX0_lambda_gaps_7 9 = .ok (.ifCond .ne 7, 3) := dk_154 0 7 (dk_at dksX0_lambda_gaps_7_0 9 rfl rfl)
theorem dX0_lambda_gaps_7_12 : decode cX0_lambda_gaps_7 12 = .ok (.iconst 1, 1) := dk_4 (dk_at dksX0_lambda_gaps_7_0 12 rfl rfl)
theorem dX0_lambda_gaps_7_13 : decode cX0_lambda_gaps_7 13 = .ok (.goto 24, 3) := dk_167 0 24 (dk_at dksX0_lambda_gaps_7_0 13 rfl rfl)
theorem dX0_lambda_gaps_7_16 : decode cX0_lambda_gaps_7 16 = .ok (.iconst 0, 1) := dk_3 (dk_at dksX0_lambda_gaps_7_0 16 rfl rfl)
theorem dX0_lambda_gaps_7_17 : decode cX0_lambda_gaps_7 17 = .ok (.goto 20, 3) := dk_167 0 20 (dk_at dksX0_lambda_gaps_7_0 17 rfl rfl)
theorem dX0_lambda_gaps_7_20 : decode cX0_lambda_gaps_7 20 = .ok (.aload_n 0, 1) := dk_42 (dk_at dksX0_lambda_gaps_7_0 20 rfl rfl)
theorem dX0_lambda_gaps_7_21 : decode cX0_lambda_gaps_7 21 = .ok (.iload_n 2, 1) := dk_28 (dk_at dksX0_lambda_gaps_7_0 21 rfl rfl)
theorem dX0_lambda_gaps_7_22 : decode cX0_lambda_gaps_7 22 = .ok (.invokevirtual 610, 3) := dk_182 2 98 (dk_at dksX0_lambda_gaps_7_1 0 rfl rfl)
theorem dX0_lambda_gaps_7_25 : decode cX0_lambda_gaps_7 25 = .ok (.invokestatic 30, 3) := dk_184 0 30 (dk_at dksX0_lambda_gaps_7_1 3 rfl rfl)
theorem dX0_lambda_gaps_7_28 : decode cX0_lambda_gaps_7 28 = .ok (.iconst 1, 1) := dk_4 (dk_at dksX0_lambda_gaps_7_1 6 rfl rfl)
theorem dX0_lambda_gaps_7_29 : decode cX0_lambda_gaps_7 29 = .ok (.if_icmp .le 7, 3) := dk_164 0 7 (dk_at dksX0_lambda_gaps_7_1 7 rfl rfl)
theorem dX0_lambda_gaps_7_32 : decode cX0_lambda_gaps_7 32 = .ok (.iconst 1, 1) := dk_4 (dk_at dksX0_lambda_gaps_7_1 10 rfl rfl)
theorem dX0_lambda_gaps_7_33 : decode cX0_lambda_gaps_7 33 = .ok (.goto 4, 3) := dk_167 0 4 (dk_at dksX0_lambda_gaps_7_1 11 rfl rfl)
theorem dX0_lambda_gaps_7_36 : decode cX0_lambda_gaps_7 36 = .ok (.iconst 0, 1) := dk_3 (dk_at dksX0_lambda_gaps_7_1 14 rfl rfl)
theorem dX0_lambda_gaps_7_37 : decode cX0_lambda_gaps_7 37 = .ok (.ireturn, 1) := dk_172 (dk_at dksX0_lambda_gaps_7_1 15 rfl rfl)
abbrev cX0_scarf : ByteArray := prog_1_method_89_code
def yX0_scarf : MethodName := ⟨RX0, "scarf", "(I)I"⟩
def dkwX0_scarf_2 : List UInt8 := [42, 180, 0, 205, 190, 172]
abbrev dktX0_scarf_2 : List UInt8 := dkwX0_scarf_2 ++ []
def dkwX0_scarf_1 : List UInt8 := [42, 180, 0, 205, 190, 16, 16, 160, 0, 5, 2, 172, 42, 42, 180, 0, 205, 27, 184, 1, 128, 181, 0, 205]
abbrev dktX0_scarf_1 : List UInt8 := dkwX0_scarf_1 ++ dktX0_scarf_2
def dkwX0_scarf_0 : List UInt8 := [27, 2, 160, 0, 12, 42, 3, 188, 10, 181, 0, 205, 3, 172, 27, 3, 16, 7, 184, 0, 224, 153, 0, 13]
abbrev dktX0_scarf_0 : List UInt8 := dkwX0_scarf_0 ++ dktX0_scarf_1
theorem dksX0_scarf_0 : cX0_scarf.data.toList.drop 0 = dktX0_scarf_0 := by decide +kernel
theorem dksX0_scarf_1 : cX0_scarf.data.toList.drop 24 = dktX0_scarf_1 := dk_seg dksX0_scarf_0 24 rfl rfl
theorem dksX0_scarf_2 : cX0_scarf.data.toList.drop 48 = dktX0_scarf_2 := dk_seg dksX0_scarf_1 24 rfl rfl
theorem dX0_scarf_0 : decode cX0_scarf 0 = .ok (.iload_n 1, 1) := dk_27 (dk_at dksX0_scarf_0 0 rfl rfl)
theorem dX0_scarf_1 : decode cX0_scarf 1 = .ok (.iconst (-1), 1) := dk_2 (dk_at dksX0_scarf_0 1 rfl rfl)
theorem dX0_scarf_2 : decode cX0_scarf 2 = .ok (.if_icmp .ne 12, 3) := dk_160 0 12 (dk_at dksX0_scarf_0 2 rfl rfl)
theorem dX0_scarf_5 : decode cX0_scarf 5 = .ok (.aload_n 0, 1) := dk_42 (dk_at dksX0_scarf_0 5 rfl rfl)
theorem dX0_scarf_6 : decode cX0_scarf 6 = .ok (.iconst 0, 1) := dk_3 (dk_at dksX0_scarf_0 6 rfl rfl)
theorem dX0_scarf_7 : decode cX0_scarf 7 = .ok (.newarray .int, 2) := dk_188_10 (dk_at dksX0_scarf_0 7 rfl rfl)
theorem dX0_scarf_9 : decode cX0_scarf 9 = .ok (.putfield 205, 3) := dk_181 0 205 (dk_at dksX0_scarf_0 9 rfl rfl)
theorem dX0_scarf_12 : decode cX0_scarf 12 = .ok (.iconst 0, 1) := dk_3 (dk_at dksX0_scarf_0 12 rfl rfl)
theorem dX0_scarf_13 : decode cX0_scarf 13 = .ok (.ireturn, 1) := dk_172 (dk_at dksX0_scarf_0 13 rfl rfl)
theorem dX0_scarf_14 : decode cX0_scarf 14 = .ok (.iload_n 1, 1) := dk_27 (dk_at dksX0_scarf_0 14 rfl rfl)
theorem dX0_scarf_15 : decode cX0_scarf 15 = .ok (.iconst 0, 1) := dk_3 (dk_at dksX0_scarf_0 15 rfl rfl)
theorem dX0_scarf_16 : decode cX0_scarf 16 = .ok (.bipush 7, 2) := dk_16 7 (dk_at dksX0_scarf_0 16 rfl rfl)
theorem dX0_scarf_18 : decode cX0_scarf 18 = .ok (.invokestatic 224, 3) := dk_184 0 224 (dk_at dksX0_scarf_0 18 rfl rfl)
theorem dX0_scarf_21 : decode cX0_scarf 21 = .ok (.ifCond .eq 13, 3) := dk_153 0 13 (dk_at dksX0_scarf_0 21 rfl rfl)
theorem dX0_scarf_24 : decode cX0_scarf 24 = .ok (.aload_n 0, 1) := dk_42 (dk_at dksX0_scarf_1 0 rfl rfl)
theorem dX0_scarf_25 : decode cX0_scarf 25 = .ok (.getfield 205, 3) := dk_180 0 205 (dk_at dksX0_scarf_1 1 rfl rfl)
theorem dX0_scarf_28 : decode cX0_scarf 28 = .ok (.arraylength, 1) := dk_190 (dk_at dksX0_scarf_1 4 rfl rfl)
theorem dX0_scarf_29 : decode cX0_scarf 29 = .ok (.bipush 16, 2) := dk_16 16 (dk_at dksX0_scarf_1 5 rfl rfl)
theorem dX0_scarf_31 : decode cX0_scarf 31 = .ok (.if_icmp .ne 5, 3) := dk_160 0 5 (dk_at dksX0_scarf_1 7 rfl rfl)
theorem dX0_scarf_34 : decode cX0_scarf 34 = .ok (.iconst (-1), 1) := dk_2 (dk_at dksX0_scarf_1 10 rfl rfl)
theorem dX0_scarf_35 : decode cX0_scarf 35 = .ok (.ireturn, 1) := dk_172 (dk_at dksX0_scarf_1 11 rfl rfl)
theorem dX0_scarf_36 : decode cX0_scarf 36 = .ok (.aload_n 0, 1) := dk_42 (dk_at dksX0_scarf_1 12 rfl rfl)
theorem dX0_scarf_37 : decode cX0_scarf 37 = .ok (.aload_n 0, 1) := dk_42 (dk_at dksX0_scarf_1 13 rfl rfl)
theorem dX0_scarf_38 : decode cX0_scarf 38 = .ok (.getfield 205, 3) := dk_180 0 205 (dk_at dksX0_scarf_1 14 rfl rfl)
theorem dX0_scarf_41 : decode cX0_scarf 41 = .ok (.iload_n 1, 1) := dk_27 (dk_at dksX0_scarf_1 17 rfl rfl)
theorem dX0_scarf_42 : decode cX0_scarf 42 = .ok (.invokestatic 384, 3) := dk_184 1 128 (dk_at dksX0_scarf_1 18 rfl rfl)
theorem dX0_scarf_45 : decode cX0_scarf 45 = .ok (.putfield 205, 3) := dk_181 0 205 (dk_at dksX0_scarf_1 21 rfl rfl)
theorem dX0_scarf_48 : decode cX0_scarf 48 = .ok (.aload_n 0, 1) := dk_42 (dk_at dksX0_scarf_2 0 rfl rfl)
theorem dX0_scarf_49 : decode cX0_scarf 49 = .ok (.getfield 205, 3) := dk_180 0 205 (dk_at dksX0_scarf_2 1 rfl rfl)
theorem dX0_scarf_52 : decode cX0_scarf 52 = .ok (.arraylength, 1) := dk_190 (dk_at dksX0_scarf_2 4 rfl rfl)
theorem dX0_scarf_53 : decode cX0_scarf 53 = .ok (.ireturn, 1) := dk_172 (dk_at dksX0_scarf_2 5 rfl rfl)
abbrev cX0_whose : ByteArray := prog_1_method_92_code
def yX0_whose : MethodName := ⟨RX0, "whose", "(I)I"⟩
def dkwX0_whose_3 : List UInt8 := [28, 182, 2, 115, 172]
abbrev dktX0_whose_3 : List UInt8 := dkwX0_whose_3 ++ []
def dkwX0_whose_2 : List UInt8 := [160, 0, 15, 29, 154, 0, 7, 2, 167, 0, 20, 28, 167, 0, 16, 29, 154, 0, 7, 3, 167, 0, 8, 42]
abbrev dktX0_whose_2 : List UInt8 := dkwX0_whose_2 ++ dktX0_whose_3
def dkwX0_whose_1 : List UInt8 := [61, 28, 2, 160, 0, 7, 3, 167, 0, 8, 42, 28, 182, 2, 112, 62, 27, 154, 0, 5, 29, 172, 27, 4]
abbrev dktX0_whose_1 : List UInt8 := dkwX0_whose_1 ++ dktX0_whose_2
def dkwX0_whose_0 : List UInt8 := [27, 3, 5, 184, 0, 224, 154, 0, 5, 2, 172, 42, 180, 1, 136, 42, 186, 2, 111, 0, 0, 184, 2, 59]
abbrev dktX0_whose_0 : List UInt8 := dkwX0_whose_0 ++ dktX0_whose_1
theorem dksX0_whose_0 : cX0_whose.data.toList.drop 0 = dktX0_whose_0 := by decide +kernel
theorem dksX0_whose_1 : cX0_whose.data.toList.drop 24 = dktX0_whose_1 := dk_seg dksX0_whose_0 24 rfl rfl
theorem dksX0_whose_2 : cX0_whose.data.toList.drop 48 = dktX0_whose_2 := dk_seg dksX0_whose_1 24 rfl rfl
theorem dksX0_whose_3 : cX0_whose.data.toList.drop 72 = dktX0_whose_3 := dk_seg dksX0_whose_2 24 rfl rfl
theorem dX0_whose_0 : decode cX0_whose 0 = .ok (.iload_n 1, 1) := dk_27 (dk_at dksX0_whose_0 0 rfl rfl)
theorem dX0_whose_1 : decode cX0_whose 1 = .ok (.iconst 0, 1) := dk_3 (dk_at dksX0_whose_0 1 rfl rfl)
theorem dX0_whose_2 : decode cX0_whose 2 = .ok (.iconst 2, 1) := dk_5 (dk_at dksX0_whose_0 2 rfl rfl)
theorem dX0_whose_3 : decode cX0_whose 3 = .ok (.invokestatic 224, 3) := dk_184 0 224 (dk_at dksX0_whose_0 3 rfl rfl)
theorem dX0_whose_6 : decode cX0_whose 6 = .ok (.ifCond .ne 5, 3) := dk_154 0 5 (dk_at dksX0_whose_0 6 rfl rfl)
theorem dX0_whose_9 : decode cX0_whose 9 = .ok (.iconst (-1), 1) := dk_2 (dk_at dksX0_whose_0 9 rfl rfl)
theorem dX0_whose_10 : decode cX0_whose 10 = .ok (.ireturn, 1) := dk_172 (dk_at dksX0_whose_0 10 rfl rfl)
theorem dX0_whose_11 : decode cX0_whose 11 = .ok (.aload_n 0, 1) := dk_42 (dk_at dksX0_whose_0 11 rfl rfl)
theorem dX0_whose_12 : decode cX0_whose 12 = .ok (.getfield 392, 3) := dk_180 1 136 (dk_at dksX0_whose_0 12 rfl rfl)
theorem dX0_whose_15 : decode cX0_whose 15 = .ok (.aload_n 0, 1) := dk_42 (dk_at dksX0_whose_0 15 rfl rfl)
theorem dX0_whose_16 : decode cX0_whose 16 = .ok (.invokedynamic 623, 5) := by decide +kernel
theorem dX0_whose_21 : decode cX0_whose 21 = .ok (.invokestatic 571, 3) := dk_184 2 59 (dk_at dksX0_whose_0 21 rfl rfl)
theorem dX0_whose_24 : decode cX0_whose 24 = .ok (.istore_n 2, 1) := dk_61 (dk_at dksX0_whose_1 0 rfl rfl)
theorem dX0_whose_25 : decode cX0_whose 25 = .ok (.iload_n 2, 1) := dk_28 (dk_at dksX0_whose_1 1 rfl rfl)
theorem dX0_whose_26 : decode cX0_whose 26 = .ok (.iconst (-1), 1) := dk_2 (dk_at dksX0_whose_1 2 rfl rfl)
theorem dX0_whose_27 : decode cX0_whose 27 = .ok (.if_icmp .ne 7, 3) := dk_160 0 7 (dk_at dksX0_whose_1 3 rfl rfl)
theorem dX0_whose_30 : decode cX0_whose 30 = .ok (.iconst 0, 1) := dk_3 (dk_at dksX0_whose_1 6 rfl rfl)
theorem dX0_whose_31 : decode cX0_whose 31 = .ok (.goto 8, 3) := dk_167 0 8 (dk_at dksX0_whose_1 7 rfl rfl)
theorem dX0_whose_34 : decode cX0_whose 34 = .ok (.aload_n 0, 1) := dk_42 (dk_at dksX0_whose_1 10 rfl rfl)
theorem dX0_whose_35 : decode cX0_whose 35 = .ok (.iload_n 2, 1) := dk_28 (dk_at dksX0_whose_1 11 rfl rfl)
theorem dX0_whose_36 : decode cX0_whose 36 = .ok (.invokevirtual 624, 3) := dk_182 2 112 (dk_at dksX0_whose_1 12 rfl rfl)
theorem dX0_whose_39 : decode cX0_whose 39 = .ok (.istore_n 3, 1) := dk_62 (dk_at dksX0_whose_1 15 rfl rfl)
theorem dX0_whose_40 : decode cX0_whose 40 = .ok (.iload_n 1, 1) := dk_27 (dk_at dksX0_whose_1 16 rfl rfl)
theorem dX0_whose_41 : decode cX0_whose 41 = .ok (.ifCond .ne 5, 3) := dk_154 0 5 (dk_at dksX0_whose_1 17 rfl rfl)
theorem dX0_whose_44 : decode cX0_whose 44 = .ok (.iload_n 3, 1) := dk_29 (dk_at dksX0_whose_1 20 rfl rfl)
theorem dX0_whose_45 : decode cX0_whose 45 = .ok (.ireturn, 1) := dk_172 (dk_at dksX0_whose_1 21 rfl rfl)
theorem dX0_whose_46 : decode cX0_whose 46 = .ok (.iload_n 1, 1) := dk_27 (dk_at dksX0_whose_1 22 rfl rfl)
theorem dX0_whose_47 : decode cX0_whose 47 = .ok (.iconst 1, 1) := dk_4 (dk_at dksX0_whose_1 23 rfl rfl)
theorem dX0_whose_48 : decode cX0_whose 48 = .ok (.if_icmp .ne 15, 3) := dk_160 0 15 (dk_at dksX0_whose_2 0 rfl rfl)
theorem dX0_whose_51 : decode cX0_whose 51 = .ok (.iload_n 3, 1) := dk_29 (dk_at dksX0_whose_2 3 rfl rfl)
theorem dX0_whose_52 : decode cX0_whose 52 = .ok (.ifCond .ne 7, 3) := dk_154 0 7 (dk_at dksX0_whose_2 4 rfl rfl)
theorem dX0_whose_55 : decode cX0_whose 55 = .ok (.iconst (-1), 1) := dk_2 (dk_at dksX0_whose_2 7 rfl rfl)
theorem dX0_whose_56 : decode cX0_whose 56 = .ok (.goto 20, 3) := dk_167 0 20 (dk_at dksX0_whose_2 8 rfl rfl)
theorem dX0_whose_59 : decode cX0_whose 59 = .ok (.iload_n 2, 1) := dk_28 (dk_at dksX0_whose_2 11 rfl rfl)
theorem dX0_whose_60 : decode cX0_whose 60 = .ok (.goto 16, 3) := dk_167 0 16 (dk_at dksX0_whose_2 12 rfl rfl)
theorem dX0_whose_63 : decode cX0_whose 63 = .ok (.iload_n 3, 1) := dk_29 (dk_at dksX0_whose_2 15 rfl rfl)
theorem dX0_whose_64 : decode cX0_whose 64 = .ok (.ifCond .ne 7, 3) := dk_154 0 7 (dk_at dksX0_whose_2 16 rfl rfl)
theorem dX0_whose_67 : decode cX0_whose 67 = .ok (.iconst 0, 1) := dk_3 (dk_at dksX0_whose_2 19 rfl rfl)
theorem dX0_whose_68 : decode cX0_whose 68 = .ok (.goto 8, 3) := dk_167 0 8 (dk_at dksX0_whose_2 20 rfl rfl)
theorem dX0_whose_71 : decode cX0_whose 71 = .ok (.aload_n 0, 1) := dk_42 (dk_at dksX0_whose_2 23 rfl rfl)
theorem dX0_whose_72 : decode cX0_whose 72 = .ok (.iload_n 2, 1) := dk_28 (dk_at dksX0_whose_3 0 rfl rfl)
theorem dX0_whose_73 : decode cX0_whose 73 = .ok (.invokevirtual 627, 3) := dk_182 2 115 (dk_at dksX0_whose_3 1 rfl rfl)
theorem dX0_whose_76 : decode cX0_whose 76 = .ok (.ireturn, 1) := dk_172 (dk_at dksX0_whose_3 4 rfl rfl)
abbrev cX0_lambda_whose_8 : ByteArray := prog_1_method_113_code
def yX0_lambda_whose_8 : MethodName := ⟨RX0, "lambda$whose$8", "(I)I"⟩
def dkwX0_lambda_whose_8_0 : List UInt8 := [42, 27, 182, 2, 112, 116, 172]
abbrev dktX0_lambda_whose_8_0 : List UInt8 := dkwX0_lambda_whose_8_0 ++ []
theorem dksX0_lambda_whose_8_0 : cX0_lambda_whose_8.data.toList.drop 0 = dktX0_lambda_whose_8_0 := by decide +kernel
theorem dX0_lambda_whose_8_0 : decode cX0_lambda_whose_8 0 = .ok (.aload_n 0, 1) := dk_42 (dk_at dksX0_lambda_whose_8_0 0 rfl rfl)
theorem dX0_lambda_whose_8_1 : decode cX0_lambda_whose_8 1 = .ok (.iload_n 1, 1) := dk_27 (dk_at dksX0_lambda_whose_8_0 1 rfl rfl)
theorem dX0_lambda_whose_8_2 : decode cX0_lambda_whose_8 2 = .ok (.invokevirtual 624, 3) := dk_182 2 112 (dk_at dksX0_lambda_whose_8_0 2 rfl rfl)
theorem dX0_lambda_whose_8_5 : decode cX0_lambda_whose_8 5 = .ok (.ineg, 1) := dk_116 (dk_at dksX0_lambda_whose_8_0 5 rfl rfl)
theorem dX0_lambda_whose_8_6 : decode cX0_lambda_whose_8 6 = .ok (.ireturn, 1) := dk_172 (dk_at dksX0_lambda_whose_8_0 6 rfl rfl)
abbrev cX0_longestIn : ByteArray := prog_1_method_90_code
def yX0_longestIn : MethodName := ⟨RX0, "longestIn", "(I)I"⟩
def dkwX0_longestIn_2 : List UInt8 := [132, 4, 1, 167, 255, 226, 132, 3, 1, 167, 255, 204, 28, 172]
abbrev dktX0_longestIn_2 : List UInt8 := dkwX0_longestIn_2 ++ []
def dkwX0_longestIn_1 : List UInt8 := [180, 0, 205, 190, 162, 0, 26, 28, 42, 27, 29, 42, 180, 0, 205, 21, 4, 182, 2, 91, 184, 0, 7, 61]
abbrev dktX0_longestIn_1 : List UInt8 := dkwX0_longestIn_1 ++ dktX0_longestIn_2
def dkwX0_longestIn_0 : List UInt8 := [3, 61, 3, 62, 29, 42, 180, 0, 164, 180, 1, 212, 27, 46, 162, 0, 45, 3, 54, 4, 21, 4, 42]
abbrev dktX0_longestIn_0 : List UInt8 := dkwX0_longestIn_0 ++ dktX0_longestIn_1
theorem dksX0_longestIn_0 : cX0_longestIn.data.toList.drop 0 = dktX0_longestIn_0 := by decide +kernel
theorem dksX0_longestIn_1 : cX0_longestIn.data.toList.drop 23 = dktX0_longestIn_1 := dk_seg dksX0_longestIn_0 23 rfl rfl
theorem dksX0_longestIn_2 : cX0_longestIn.data.toList.drop 47 = dktX0_longestIn_2 := dk_seg dksX0_longestIn_1 24 rfl rfl
theorem dX0_longestIn_0 : decode cX0_longestIn 0 = .ok (.iconst 0, 1) := dk_3 (dk_at dksX0_longestIn_0 0 rfl rfl)
theorem dX0_longestIn_1 : decode cX0_longestIn 1 = .ok (.istore_n 2, 1) := dk_61 (dk_at dksX0_longestIn_0 1 rfl rfl)
theorem dX0_longestIn_2 : decode cX0_longestIn 2 = .ok (.iconst 0, 1) := dk_3 (dk_at dksX0_longestIn_0 2 rfl rfl)
theorem dX0_longestIn_3 : decode cX0_longestIn 3 = .ok (.istore_n 3, 1) := dk_62 (dk_at dksX0_longestIn_0 3 rfl rfl)
theorem dX0_longestIn_4 : decode cX0_longestIn 4 = .ok (.iload_n 3, 1) := dk_29 (dk_at dksX0_longestIn_0 4 rfl rfl)
theorem dX0_longestIn_5 : decode cX0_longestIn 5 = .ok (.aload_n 0, 1) := dk_42 (dk_at dksX0_longestIn_0 5 rfl rfl)
theorem dX0_longestIn_6 : decode cX0_longestIn 6 = .ok (.getfield 164, 3) := dk_180 0 164 (dk_at dksX0_longestIn_0 6 rfl rfl)
theorem dX0_longestIn_9 : decode cX0_longestIn 9 = .ok (.getfield 468, 3) := dk_180 1 212 (dk_at dksX0_longestIn_0 9 rfl rfl)
theorem dX0_longestIn_12 : decode cX0_longestIn 12 = .ok (.iload_n 1, 1) := dk_27 (dk_at dksX0_longestIn_0 12 rfl rfl)
theorem dX0_longestIn_13 : decode cX0_longestIn 13 = .ok (.iaload, 1) := dk_46 (dk_at dksX0_longestIn_0 13 rfl rfl)
theorem dX0_longestIn_14 : decode cX0_longestIn 14 = .ok (.if_icmp .ge 45, 3) := dk_162 0 45 (dk_at dksX0_longestIn_0 14 rfl rfl)
theorem dX0_longestIn_17 : decode cX0_longestIn 17 = .ok (.iconst 0, 1) := dk_3 (dk_at dksX0_longestIn_0 17 rfl rfl)
theorem dX0_longestIn_18 : decode cX0_longestIn 18 = .ok (.istore 4, 2) := dk_54 4 (dk_at dksX0_longestIn_0 18 rfl rfl)
theorem dX0_longestIn_20 : decode cX0_longestIn 20 = .ok (.iload 4, 2) := dk_21 4 (dk_at dksX0_longestIn_0 20 rfl rfl)
theorem dX0_longestIn_22 : decode cX0_longestIn 22 = .ok (.aload_n 0, 1) := dk_42 (dk_at dksX0_longestIn_0 22 rfl rfl)
theorem dX0_longestIn_23 : decode cX0_longestIn 23 = .ok (.getfield 205, 3) := dk_180 0 205 (dk_at dksX0_longestIn_1 0 rfl rfl)
theorem dX0_longestIn_26 : decode cX0_longestIn 26 = .ok (.arraylength, 1) := dk_190 (dk_at dksX0_longestIn_1 3 rfl rfl)
theorem dX0_longestIn_27 : decode cX0_longestIn 27 = .ok (.if_icmp .ge 26, 3) := dk_162 0 26 (dk_at dksX0_longestIn_1 4 rfl rfl)
theorem dX0_longestIn_30 : decode cX0_longestIn 30 = .ok (.iload_n 2, 1) := dk_28 (dk_at dksX0_longestIn_1 7 rfl rfl)
theorem dX0_longestIn_31 : decode cX0_longestIn 31 = .ok (.aload_n 0, 1) := dk_42 (dk_at dksX0_longestIn_1 8 rfl rfl)
theorem dX0_longestIn_32 : decode cX0_longestIn 32 = .ok (.iload_n 1, 1) := dk_27 (dk_at dksX0_longestIn_1 9 rfl rfl)
theorem dX0_longestIn_33 : decode cX0_longestIn 33 = .ok (.iload_n 3, 1) := dk_29 (dk_at dksX0_longestIn_1 10 rfl rfl)
theorem dX0_longestIn_34 : decode cX0_longestIn 34 = .ok (.aload_n 0, 1) := dk_42 (dk_at dksX0_longestIn_1 11 rfl rfl)
theorem dX0_longestIn_35 : decode cX0_longestIn 35 = .ok (.getfield 205, 3) := dk_180 0 205 (dk_at dksX0_longestIn_1 12 rfl rfl)
theorem dX0_longestIn_38 : decode cX0_longestIn 38 = .ok (.iload 4, 2) := dk_21 4 (dk_at dksX0_longestIn_1 15 rfl rfl)
theorem dX0_longestIn_40 : decode cX0_longestIn 40 = .ok (.invokevirtual 603, 3) := dk_182 2 91 (dk_at dksX0_longestIn_1 17 rfl rfl)
theorem dX0_longestIn_43 : decode cX0_longestIn 43 = .ok (.invokestatic 7, 3) := dk_184 0 7 (dk_at dksX0_longestIn_1 20 rfl rfl)
theorem dX0_longestIn_46 : decode cX0_longestIn 46 = .ok (.istore_n 2, 1) := dk_61 (dk_at dksX0_longestIn_1 23 rfl rfl)
theorem dX0_longestIn_47 : decode cX0_longestIn 47 = .ok (.iinc 4 1, 3) := dk_132 4 1 (dk_at dksX0_longestIn_2 0 rfl rfl)
theorem dX0_longestIn_50 : decode cX0_longestIn 50 = .ok (.goto (-30), 3) := dk_167 255 226 (dk_at dksX0_longestIn_2 3 rfl rfl)
theorem dX0_longestIn_53 : decode cX0_longestIn 53 = .ok (.iinc 3 1, 3) := dk_132 3 1 (dk_at dksX0_longestIn_2 6 rfl rfl)
theorem dX0_longestIn_56 : decode cX0_longestIn 56 = .ok (.goto (-52), 3) := dk_167 255 204 (dk_at dksX0_longestIn_2 9 rfl rfl)
theorem dX0_longestIn_59 : decode cX0_longestIn 59 = .ok (.iload_n 2, 1) := dk_28 (dk_at dksX0_longestIn_2 12 rfl rfl)
theorem dX0_longestIn_60 : decode cX0_longestIn 60 = .ok (.ireturn, 1) := dk_172 (dk_at dksX0_longestIn_2 13 rfl rfl)
abbrev cX0_foundIn : ByteArray := prog_1_method_91_code
def yX0_foundIn : MethodName := ⟨RX0, "foundIn", "(I)I"⟩
def dkwX0_foundIn_4 : List UInt8 := [132, 5, 1, 167, 255, 193, 132, 3, 1, 167, 255, 168, 44, 42, 180, 0, 205, 190, 46, 172]
abbrev dktX0_foundIn_4 : List UInt8 := dkwX0_foundIn_4 ++ []
def dkwX0_foundIn_3 : List UInt8 := [21, 4, 4, 96, 167, 0, 14, 21, 6, 44, 21, 5, 4, 100, 46, 184, 0, 7, 79, 21, 6, 54, 4]
abbrev dktX0_foundIn_3 : List UInt8 := dkwX0_foundIn_3 ++ dktX0_foundIn_4
def dkwX0_foundIn_2 : List UInt8 := [21, 5, 42, 180, 0, 205, 21, 5, 4, 100, 46, 42, 180, 0, 164, 27, 29, 182, 1, 255, 160, 0, 10]
abbrev dktX0_foundIn_2 : List UInt8 := dkwX0_foundIn_2 ++ dktX0_foundIn_3
def dkwX0_foundIn_1 : List UInt8 := [162, 0, 81, 3, 54, 4, 4, 54, 5, 21, 5, 44, 190, 162, 0, 62, 44, 21, 5, 46, 54, 6, 44]
abbrev dktX0_foundIn_1 : List UInt8 := dkwX0_foundIn_1 ++ dktX0_foundIn_2
def dkwX0_foundIn_0 : List UInt8 := [42, 180, 0, 205, 190, 4, 96, 188, 10, 77, 3, 62, 29, 42, 180, 0, 164, 180, 1, 212, 27, 46]
abbrev dktX0_foundIn_0 : List UInt8 := dkwX0_foundIn_0 ++ dktX0_foundIn_1
theorem dksX0_foundIn_0 : cX0_foundIn.data.toList.drop 0 = dktX0_foundIn_0 := by decide +kernel
theorem dksX0_foundIn_1 : cX0_foundIn.data.toList.drop 22 = dktX0_foundIn_1 := dk_seg dksX0_foundIn_0 22 rfl rfl
theorem dksX0_foundIn_2 : cX0_foundIn.data.toList.drop 45 = dktX0_foundIn_2 := dk_seg dksX0_foundIn_1 23 rfl rfl
theorem dksX0_foundIn_3 : cX0_foundIn.data.toList.drop 68 = dktX0_foundIn_3 := dk_seg dksX0_foundIn_2 23 rfl rfl
theorem dksX0_foundIn_4 : cX0_foundIn.data.toList.drop 91 = dktX0_foundIn_4 := dk_seg dksX0_foundIn_3 23 rfl rfl
theorem dX0_foundIn_0 : decode cX0_foundIn 0 = .ok (.aload_n 0, 1) := dk_42 (dk_at dksX0_foundIn_0 0 rfl rfl)
theorem dX0_foundIn_1 : decode cX0_foundIn 1 = .ok (.getfield 205, 3) := dk_180 0 205 (dk_at dksX0_foundIn_0 1 rfl rfl)
theorem dX0_foundIn_4 : decode cX0_foundIn 4 = .ok (.arraylength, 1) := dk_190 (dk_at dksX0_foundIn_0 4 rfl rfl)
theorem dX0_foundIn_5 : decode cX0_foundIn 5 = .ok (.iconst 1, 1) := dk_4 (dk_at dksX0_foundIn_0 5 rfl rfl)
theorem dX0_foundIn_6 : decode cX0_foundIn 6 = .ok (.iadd, 1) := dk_96 (dk_at dksX0_foundIn_0 6 rfl rfl)
theorem dX0_foundIn_7 : decode cX0_foundIn 7 = .ok (.newarray .int, 2) := dk_188_10 (dk_at dksX0_foundIn_0 7 rfl rfl)
theorem dX0_foundIn_9 : decode cX0_foundIn 9 = .ok (.astore_n 2, 1) := dk_77 (dk_at dksX0_foundIn_0 9 rfl rfl)
theorem dX0_foundIn_10 : decode cX0_foundIn 10 = .ok (.iconst 0, 1) := dk_3 (dk_at dksX0_foundIn_0 10 rfl rfl)
theorem dX0_foundIn_11 : decode cX0_foundIn 11 = .ok (.istore_n 3, 1) := dk_62 (dk_at dksX0_foundIn_0 11 rfl rfl)
theorem dX0_foundIn_12 : decode cX0_foundIn 12 = .ok (.iload_n 3, 1) := dk_29 (dk_at dksX0_foundIn_0 12 rfl rfl)
theorem dX0_foundIn_13 : decode cX0_foundIn 13 = .ok (.aload_n 0, 1) := dk_42 (dk_at dksX0_foundIn_0 13 rfl rfl)
theorem dX0_foundIn_14 : decode cX0_foundIn 14 = .ok (.getfield 164, 3) := dk_180 0 164 (dk_at dksX0_foundIn_0 14 rfl rfl)
theorem dX0_foundIn_17 : decode cX0_foundIn 17 = .ok (.getfield 468, 3) := dk_180 1 212 (dk_at dksX0_foundIn_0 17 rfl rfl)
theorem dX0_foundIn_20 : decode cX0_foundIn 20 = .ok (.iload_n 1, 1) := dk_27 (dk_at dksX0_foundIn_0 20 rfl rfl)
theorem dX0_foundIn_21 : decode cX0_foundIn 21 = .ok (.iaload, 1) := dk_46 (dk_at dksX0_foundIn_0 21 rfl rfl)
theorem dX0_foundIn_22 : decode cX0_foundIn 22 = .ok (.if_icmp .ge 81, 3) := dk_162 0 81 (dk_at dksX0_foundIn_1 0 rfl rfl)
theorem dX0_foundIn_25 : decode cX0_foundIn 25 = .ok (.iconst 0, 1) := dk_3 (dk_at dksX0_foundIn_1 3 rfl rfl)
theorem dX0_foundIn_26 : decode cX0_foundIn 26 = .ok (.istore 4, 2) := dk_54 4 (dk_at dksX0_foundIn_1 4 rfl rfl)
theorem dX0_foundIn_28 : decode cX0_foundIn 28 = .ok (.iconst 1, 1) := dk_4 (dk_at dksX0_foundIn_1 6 rfl rfl)
theorem dX0_foundIn_29 : decode cX0_foundIn 29 = .ok (.istore 5, 2) := dk_54 5 (dk_at dksX0_foundIn_1 7 rfl rfl)
theorem dX0_foundIn_31 : decode cX0_foundIn 31 = .ok (.iload 5, 2) := dk_21 5 (dk_at dksX0_foundIn_1 9 rfl rfl)
theorem dX0_foundIn_33 : decode cX0_foundIn 33 = .ok (.aload_n 2, 1) := dk_44 (dk_at dksX0_foundIn_1 11 rfl rfl)
theorem dX0_foundIn_34 : decode cX0_foundIn 34 = .ok (.arraylength, 1) := dk_190 (dk_at dksX0_foundIn_1 12 rfl rfl)
theorem dX0_foundIn_35 : decode cX0_foundIn 35 = .ok (.if_icmp .ge 62, 3) := dk_162 0 62 (dk_at dksX0_foundIn_1 13 rfl rfl)
theorem dX0_foundIn_38 : decode cX0_foundIn 38 = .ok (.aload_n 2, 1) := dk_44 (dk_at dksX0_foundIn_1 16 rfl rfl)
theorem dX0_foundIn_39 : decode cX0_foundIn 39 = .ok (.iload 5, 2) := dk_21 5 (dk_at dksX0_foundIn_1 17 rfl rfl)
theorem dX0_foundIn_41 : decode cX0_foundIn 41 = .ok (.iaload, 1) := dk_46 (dk_at dksX0_foundIn_1 19 rfl rfl)
theorem dX0_foundIn_42 : decode cX0_foundIn 42 = .ok (.istore 6, 2) := dk_54 6 (dk_at dksX0_foundIn_1 20 rfl rfl)
theorem dX0_foundIn_44 : decode cX0_foundIn 44 = .ok (.aload_n 2, 1) := dk_44 (dk_at dksX0_foundIn_1 22 rfl rfl)
theorem dX0_foundIn_45 : decode cX0_foundIn 45 = .ok (.iload 5, 2) := dk_21 5 (dk_at dksX0_foundIn_2 0 rfl rfl)
theorem dX0_foundIn_47 : decode cX0_foundIn 47 = .ok (.aload_n 0, 1) := dk_42 (dk_at dksX0_foundIn_2 2 rfl rfl)
theorem dX0_foundIn_48 : decode cX0_foundIn 48 = .ok (.getfield 205, 3) := dk_180 0 205 (dk_at dksX0_foundIn_2 3 rfl rfl)
theorem dX0_foundIn_51 : decode cX0_foundIn 51 = .ok (.iload 5, 2) := dk_21 5 (dk_at dksX0_foundIn_2 6 rfl rfl)
theorem dX0_foundIn_53 : decode cX0_foundIn 53 = .ok (.iconst 1, 1) := dk_4 (dk_at dksX0_foundIn_2 8 rfl rfl)
theorem dX0_foundIn_54 : decode cX0_foundIn 54 = .ok (.isub, 1) := dk_100 (dk_at dksX0_foundIn_2 9 rfl rfl)
theorem dX0_foundIn_55 : decode cX0_foundIn 55 = .ok (.iaload, 1) := dk_46 (dk_at dksX0_foundIn_2 10 rfl rfl)
theorem dX0_foundIn_56 : decode cX0_foundIn 56 = .ok (.aload_n 0, 1) := dk_42 (dk_at dksX0_foundIn_2 11 rfl rfl)
theorem dX0_foundIn_57 : decode cX0_foundIn 57 = .ok (.getfield 164, 3) := dk_180 0 164 (dk_at dksX0_foundIn_2 12 rfl rfl)
theorem dX0_foundIn_60 : decode cX0_foundIn 60 = .ok (.iload_n 1, 1) := dk_27 (dk_at dksX0_foundIn_2 15 rfl rfl)
theorem dX0_foundIn_61 : decode cX0_foundIn 61 = .ok (.iload_n 3, 1) := dk_29 (dk_at dksX0_foundIn_2 16 rfl rfl)
theorem dX0_foundIn_62 : decode cX0_foundIn 62 = .ok (.invokevirtual 511, 3) := dk_182 1 255 (dk_at dksX0_foundIn_2 17 rfl rfl)
theorem dX0_foundIn_65 : decode cX0_foundIn 65 = .ok (.if_icmp .ne 10, 3) := dk_160 0 10 (dk_at dksX0_foundIn_2 20 rfl rfl)
theorem dX0_foundIn_68 : decode cX0_foundIn 68 = .ok (.iload 4, 2) := dk_21 4 (dk_at dksX0_foundIn_3 0 rfl rfl)
theorem dX0_foundIn_70 : decode cX0_foundIn 70 = .ok (.iconst 1, 1) := dk_4 (dk_at dksX0_foundIn_3 2 rfl rfl)
theorem dX0_foundIn_71 : decode cX0_foundIn 71 = .ok (.iadd, 1) := dk_96 (dk_at dksX0_foundIn_3 3 rfl rfl)
theorem dX0_foundIn_72 : decode cX0_foundIn 72 = .ok (.goto 14, 3) := dk_167 0 14 (dk_at dksX0_foundIn_3 4 rfl rfl)
theorem dX0_foundIn_75 : decode cX0_foundIn 75 = .ok (.iload 6, 2) := dk_21 6 (dk_at dksX0_foundIn_3 7 rfl rfl)
theorem dX0_foundIn_77 : decode cX0_foundIn 77 = .ok (.aload_n 2, 1) := dk_44 (dk_at dksX0_foundIn_3 9 rfl rfl)
theorem dX0_foundIn_78 : decode cX0_foundIn 78 = .ok (.iload 5, 2) := dk_21 5 (dk_at dksX0_foundIn_3 10 rfl rfl)
theorem dX0_foundIn_80 : decode cX0_foundIn 80 = .ok (.iconst 1, 1) := dk_4 (dk_at dksX0_foundIn_3 12 rfl rfl)
theorem dX0_foundIn_81 : decode cX0_foundIn 81 = .ok (.isub, 1) := dk_100 (dk_at dksX0_foundIn_3 13 rfl rfl)
theorem dX0_foundIn_82 : decode cX0_foundIn 82 = .ok (.iaload, 1) := dk_46 (dk_at dksX0_foundIn_3 14 rfl rfl)
theorem dX0_foundIn_83 : decode cX0_foundIn 83 = .ok (.invokestatic 7, 3) := dk_184 0 7 (dk_at dksX0_foundIn_3 15 rfl rfl)
theorem dX0_foundIn_86 : decode cX0_foundIn 86 = .ok (.iastore, 1) := dk_79 (dk_at dksX0_foundIn_3 18 rfl rfl)
theorem dX0_foundIn_87 : decode cX0_foundIn 87 = .ok (.iload 6, 2) := dk_21 6 (dk_at dksX0_foundIn_3 19 rfl rfl)
theorem dX0_foundIn_89 : decode cX0_foundIn 89 = .ok (.istore 4, 2) := dk_54 4 (dk_at dksX0_foundIn_3 21 rfl rfl)
theorem dX0_foundIn_91 : decode cX0_foundIn 91 = .ok (.iinc 5 1, 3) := dk_132 5 1 (dk_at dksX0_foundIn_4 0 rfl rfl)
theorem dX0_foundIn_94 : decode cX0_foundIn 94 = .ok (.goto (-63), 3) := dk_167 255 193 (dk_at dksX0_foundIn_4 3 rfl rfl)
theorem dX0_foundIn_97 : decode cX0_foundIn 97 = .ok (.iinc 3 1, 3) := dk_132 3 1 (dk_at dksX0_foundIn_4 6 rfl rfl)
theorem dX0_foundIn_100 : decode cX0_foundIn 100 = .ok (.goto (-88), 3) := dk_167 255 168 (dk_at dksX0_foundIn_4 9 rfl rfl)
theorem dX0_foundIn_103 : decode cX0_foundIn 103 = .ok (.aload_n 2, 1) := dk_44 (dk_at dksX0_foundIn_4 12 rfl rfl)
theorem dX0_foundIn_104 : decode cX0_foundIn 104 = .ok (.aload_n 0, 1) := dk_42 (dk_at dksX0_foundIn_4 13 rfl rfl)
theorem dX0_foundIn_105 : decode cX0_foundIn 105 = .ok (.getfield 205, 3) := dk_180 0 205 (dk_at dksX0_foundIn_4 14 rfl rfl)
theorem dX0_foundIn_108 : decode cX0_foundIn 108 = .ok (.arraylength, 1) := dk_190 (dk_at dksX0_foundIn_4 17 rfl rfl)
theorem dX0_foundIn_109 : decode cX0_foundIn 109 = .ok (.iaload, 1) := dk_46 (dk_at dksX0_foundIn_4 18 rfl rfl)
theorem dX0_foundIn_110 : decode cX0_foundIn 110 = .ok (.ireturn, 1) := dk_172 (dk_at dksX0_foundIn_4 19 rfl rfl)
abbrev cX0_forged : ByteArray := prog_1_method_94_code
def yX0_forged : MethodName := ⟨RX0, "forged", "(III)I"⟩
def dkwX0_forged_3 : List UInt8 := [167, 255, 229, 21, 4, 172]
abbrev dktX0_forged_3 : List UInt8 := dkwX0_forged_3 ++ []
def dkwX0_forged_2 : List UInt8 := [162, 0, 27, 21, 4, 21, 5, 28, 162, 0, 7, 4, 167, 0, 4, 3, 184, 2, 121, 54, 4, 132, 5, 1]
abbrev dktX0_forged_2 : List UInt8 := dkwX0_forged_2 ++ dktX0_forged_3
def dkwX0_forged_1 : List UInt8 := [16, 40, 184, 0, 224, 154, 0, 5, 2, 172, 17, 3, 232, 27, 104, 54, 4, 3, 54, 5, 21, 5, 29]
abbrev dktX0_forged_1 : List UInt8 := dkwX0_forged_1 ++ dktX0_forged_2
def dkwX0_forged_0 : List UInt8 := [27, 3, 17, 3, 232, 184, 0, 224, 153, 0, 23, 28, 3, 16, 20, 184, 0, 224, 153, 0, 13, 29, 28]
abbrev dktX0_forged_0 : List UInt8 := dkwX0_forged_0 ++ dktX0_forged_1
theorem dksX0_forged_0 : cX0_forged.data.toList.drop 0 = dktX0_forged_0 := by decide +kernel
theorem dksX0_forged_1 : cX0_forged.data.toList.drop 23 = dktX0_forged_1 := dk_seg dksX0_forged_0 23 rfl rfl
theorem dksX0_forged_2 : cX0_forged.data.toList.drop 46 = dktX0_forged_2 := dk_seg dksX0_forged_1 23 rfl rfl
theorem dksX0_forged_3 : cX0_forged.data.toList.drop 70 = dktX0_forged_3 := dk_seg dksX0_forged_2 24 rfl rfl
theorem dX0_forged_0 : decode cX0_forged 0 = .ok (.iload_n 1, 1) := dk_27 (dk_at dksX0_forged_0 0 rfl rfl)
theorem dX0_forged_1 : decode cX0_forged 1 = .ok (.iconst 0, 1) := dk_3 (dk_at dksX0_forged_0 1 rfl rfl)
theorem dX0_forged_2 : decode cX0_forged 2 = .ok (.sipush 1000, 3) := dk_17 3 232 (dk_at dksX0_forged_0 2 rfl rfl)
theorem dX0_forged_5 : decode cX0_forged 5 = .ok (.invokestatic 224, 3) := dk_184 0 224 (dk_at dksX0_forged_0 5 rfl rfl)
theorem dX0_forged_8 : decode cX0_forged 8 = .ok (.ifCond .eq 23, 3) := dk_153 0 23 (dk_at dksX0_forged_0 8 rfl rfl)
theorem dX0_forged_11 : decode cX0_forged 11 = .ok (.iload_n 2, 1) := dk_28 (dk_at dksX0_forged_0 11 rfl rfl)
theorem dX0_forged_12 : decode cX0_forged 12 = .ok (.iconst 0, 1) := dk_3 (dk_at dksX0_forged_0 12 rfl rfl)
theorem dX0_forged_13 : decode cX0_forged 13 = .ok (.bipush 20, 2) := dk_16 20 (dk_at dksX0_forged_0 13 rfl rfl)
theorem dX0_forged_15 : decode cX0_forged 15 = .ok (.invokestatic 224, 3) := dk_184 0 224 (dk_at dksX0_forged_0 15 rfl rfl)
theorem dX0_forged_18 : decode cX0_forged 18 = .ok (.ifCond .eq 13, 3) := dk_153 0 13 (dk_at dksX0_forged_0 18 rfl rfl)
theorem dX0_forged_21 : decode cX0_forged 21 = .ok (.iload_n 3, 1) := dk_29 (dk_at dksX0_forged_0 21 rfl rfl)
theorem dX0_forged_22 : decode cX0_forged 22 = .ok (.iload_n 2, 1) := dk_28 (dk_at dksX0_forged_0 22 rfl rfl)
theorem dX0_forged_23 : decode cX0_forged 23 = .ok (.bipush 40, 2) := dk_16 40 (dk_at dksX0_forged_1 0 rfl rfl)
theorem dX0_forged_25 : decode cX0_forged 25 = .ok (.invokestatic 224, 3) := dk_184 0 224 (dk_at dksX0_forged_1 2 rfl rfl)
theorem dX0_forged_28 : decode cX0_forged 28 = .ok (.ifCond .ne 5, 3) := dk_154 0 5 (dk_at dksX0_forged_1 5 rfl rfl)
theorem dX0_forged_31 : decode cX0_forged 31 = .ok (.iconst (-1), 1) := dk_2 (dk_at dksX0_forged_1 8 rfl rfl)
theorem dX0_forged_32 : decode cX0_forged 32 = .ok (.ireturn, 1) := dk_172 (dk_at dksX0_forged_1 9 rfl rfl)
theorem dX0_forged_33 : decode cX0_forged 33 = .ok (.sipush 1000, 3) := dk_17 3 232 (dk_at dksX0_forged_1 10 rfl rfl)
theorem dX0_forged_36 : decode cX0_forged 36 = .ok (.iload_n 1, 1) := dk_27 (dk_at dksX0_forged_1 13 rfl rfl)
theorem dX0_forged_37 : decode cX0_forged 37 = .ok (.imul, 1) := dk_104 (dk_at dksX0_forged_1 14 rfl rfl)
theorem dX0_forged_38 : decode cX0_forged 38 = .ok (.istore 4, 2) := dk_54 4 (dk_at dksX0_forged_1 15 rfl rfl)
theorem dX0_forged_40 : decode cX0_forged 40 = .ok (.iconst 0, 1) := dk_3 (dk_at dksX0_forged_1 17 rfl rfl)
theorem dX0_forged_41 : decode cX0_forged 41 = .ok (.istore 5, 2) := dk_54 5 (dk_at dksX0_forged_1 18 rfl rfl)
theorem dX0_forged_43 : decode cX0_forged 43 = .ok (.iload 5, 2) := dk_21 5 (dk_at dksX0_forged_1 20 rfl rfl)
theorem dX0_forged_45 : decode cX0_forged 45 = .ok (.iload_n 3, 1) := dk_29 (dk_at dksX0_forged_1 22 rfl rfl)
theorem dX0_forged_46 : decode cX0_forged 46 = .ok (.if_icmp .ge 27, 3) := dk_162 0 27 (dk_at dksX0_forged_2 0 rfl rfl)
theorem dX0_forged_49 : decode cX0_forged 49 = .ok (.iload 4, 2) := dk_21 4 (dk_at dksX0_forged_2 3 rfl rfl)
theorem dX0_forged_51 : decode cX0_forged 51 = .ok (.iload 5, 2) := dk_21 5 (dk_at dksX0_forged_2 5 rfl rfl)
theorem dX0_forged_53 : decode cX0_forged 53 = .ok (.iload_n 2, 1) := dk_28 (dk_at dksX0_forged_2 7 rfl rfl)
theorem dX0_forged_54 : decode cX0_forged 54 = .ok (.if_icmp .ge 7, 3) := dk_162 0 7 (dk_at dksX0_forged_2 8 rfl rfl)
theorem dX0_forged_57 : decode cX0_forged 57 = .ok (.iconst 1, 1) := dk_4 (dk_at dksX0_forged_2 11 rfl rfl)
theorem dX0_forged_58 : decode cX0_forged 58 = .ok (.goto 4, 3) := dk_167 0 4 (dk_at dksX0_forged_2 12 rfl rfl)
theorem dX0_forged_61 : decode cX0_forged 61 = .ok (.iconst 0, 1) := dk_3 (dk_at dksX0_forged_2 15 rfl rfl)
theorem dX0_forged_62 : decode cX0_forged 62 = .ok (.invokestatic 633, 3) := dk_184 2 121 (dk_at dksX0_forged_2 16 rfl rfl)
theorem dX0_forged_65 : decode cX0_forged 65 = .ok (.istore 4, 2) := dk_54 4 (dk_at dksX0_forged_2 19 rfl rfl)
theorem dX0_forged_67 : decode cX0_forged 67 = .ok (.iinc 5 1, 3) := dk_132 5 1 (dk_at dksX0_forged_2 21 rfl rfl)
theorem dX0_forged_70 : decode cX0_forged 70 = .ok (.goto (-27), 3) := dk_167 255 229 (dk_at dksX0_forged_3 0 rfl rfl)
theorem dX0_forged_73 : decode cX0_forged 73 = .ok (.iload 4, 2) := dk_21 4 (dk_at dksX0_forged_3 3 rfl rfl)
theorem dX0_forged_75 : decode cX0_forged 75 = .ok (.ireturn, 1) := dk_172 (dk_at dksX0_forged_3 5 rfl rfl)
abbrev cX0_forgedBy : ByteArray := prog_1_method_93_code
def yX0_forgedBy : MethodName := ⟨RX0, "forgedBy", "(IZ)I"⟩
def dkwX0_forgedBy_2 : List UInt8 := [97, 109, 136, 172]
abbrev dktX0_forgedBy_2 : List UInt8 := dkwX0_forgedBy_2 ++ []
def dkwX0_forgedBy_1 : List UInt8 := [27, 153, 0, 8, 16, 25, 167, 0, 6, 17, 3, 207, 133, 105, 55, 4, 20, 2, 119, 32, 105, 32, 22, 4]
abbrev dktX0_forgedBy_1 : List UInt8 := dkwX0_forgedBy_1 ++ dktX0_forgedBy_2
def dkwX0_forgedBy_0 : List UInt8 := [26, 133, 27, 153, 0, 9, 17, 1, 44, 167, 0, 6, 17, 2, 188, 133, 105, 65, 19, 2, 118, 26, 100, 133]
abbrev dktX0_forgedBy_0 : List UInt8 := dkwX0_forgedBy_0 ++ dktX0_forgedBy_1
theorem dksX0_forgedBy_0 : cX0_forgedBy.data.toList.drop 0 = dktX0_forgedBy_0 := by decide +kernel
theorem dksX0_forgedBy_1 : cX0_forgedBy.data.toList.drop 24 = dktX0_forgedBy_1 := dk_seg dksX0_forgedBy_0 24 rfl rfl
theorem dksX0_forgedBy_2 : cX0_forgedBy.data.toList.drop 48 = dktX0_forgedBy_2 := dk_seg dksX0_forgedBy_1 24 rfl rfl
theorem dX0_forgedBy_0 : decode cX0_forgedBy 0 = .ok (.iload_n 0, 1) := dk_26 (dk_at dksX0_forgedBy_0 0 rfl rfl)
theorem dX0_forgedBy_1 : decode cX0_forgedBy 1 = .ok (.i2l, 1) := dk_133 (dk_at dksX0_forgedBy_0 1 rfl rfl)
theorem dX0_forgedBy_2 : decode cX0_forgedBy 2 = .ok (.iload_n 1, 1) := dk_27 (dk_at dksX0_forgedBy_0 2 rfl rfl)
theorem dX0_forgedBy_3 : decode cX0_forgedBy 3 = .ok (.ifCond .eq 9, 3) := dk_153 0 9 (dk_at dksX0_forgedBy_0 3 rfl rfl)
theorem dX0_forgedBy_6 : decode cX0_forgedBy 6 = .ok (.sipush 300, 3) := dk_17 1 44 (dk_at dksX0_forgedBy_0 6 rfl rfl)
theorem dX0_forgedBy_9 : decode cX0_forgedBy 9 = .ok (.goto 6, 3) := dk_167 0 6 (dk_at dksX0_forgedBy_0 9 rfl rfl)
theorem dX0_forgedBy_12 : decode cX0_forgedBy 12 = .ok (.sipush 700, 3) := dk_17 2 188 (dk_at dksX0_forgedBy_0 12 rfl rfl)
theorem dX0_forgedBy_15 : decode cX0_forgedBy 15 = .ok (.i2l, 1) := dk_133 (dk_at dksX0_forgedBy_0 15 rfl rfl)
theorem dX0_forgedBy_16 : decode cX0_forgedBy 16 = .ok (.lmul, 1) := dk_105 (dk_at dksX0_forgedBy_0 16 rfl rfl)
theorem dX0_forgedBy_17 : decode cX0_forgedBy 17 = .ok (.lstore_n 2, 1) := dk_65 (dk_at dksX0_forgedBy_0 17 rfl rfl)
theorem dX0_forgedBy_18 : decode cX0_forgedBy 18 = .ok (.ldc_w 630, 3) := dk_19 2 118 (dk_at dksX0_forgedBy_0 18 rfl rfl)
theorem dX0_forgedBy_21 : decode cX0_forgedBy 21 = .ok (.iload_n 0, 1) := dk_26 (dk_at dksX0_forgedBy_0 21 rfl rfl)
theorem dX0_forgedBy_22 : decode cX0_forgedBy 22 = .ok (.isub, 1) := dk_100 (dk_at dksX0_forgedBy_0 22 rfl rfl)
theorem dX0_forgedBy_23 : decode cX0_forgedBy 23 = .ok (.i2l, 1) := dk_133 (dk_at dksX0_forgedBy_0 23 rfl rfl)
theorem dX0_forgedBy_24 : decode cX0_forgedBy 24 = .ok (.iload_n 1, 1) := dk_27 (dk_at dksX0_forgedBy_1 0 rfl rfl)
theorem dX0_forgedBy_25 : decode cX0_forgedBy 25 = .ok (.ifCond .eq 8, 3) := dk_153 0 8 (dk_at dksX0_forgedBy_1 1 rfl rfl)
theorem dX0_forgedBy_28 : decode cX0_forgedBy 28 = .ok (.bipush 25, 2) := dk_16 25 (dk_at dksX0_forgedBy_1 4 rfl rfl)
theorem dX0_forgedBy_30 : decode cX0_forgedBy 30 = .ok (.goto 6, 3) := dk_167 0 6 (dk_at dksX0_forgedBy_1 6 rfl rfl)
theorem dX0_forgedBy_33 : decode cX0_forgedBy 33 = .ok (.sipush 975, 3) := dk_17 3 207 (dk_at dksX0_forgedBy_1 9 rfl rfl)
theorem dX0_forgedBy_36 : decode cX0_forgedBy 36 = .ok (.i2l, 1) := dk_133 (dk_at dksX0_forgedBy_1 12 rfl rfl)
theorem dX0_forgedBy_37 : decode cX0_forgedBy 37 = .ok (.lmul, 1) := dk_105 (dk_at dksX0_forgedBy_1 13 rfl rfl)
theorem dX0_forgedBy_38 : decode cX0_forgedBy 38 = .ok (.lstore 4, 2) := dk_55 4 (dk_at dksX0_forgedBy_1 14 rfl rfl)
theorem dX0_forgedBy_40 : decode cX0_forgedBy 40 = .ok (.ldc2_w 631, 3) := dk_20 2 119 (dk_at dksX0_forgedBy_1 16 rfl rfl)
theorem dX0_forgedBy_43 : decode cX0_forgedBy 43 = .ok (.lload_n 2, 1) := dk_32 (dk_at dksX0_forgedBy_1 19 rfl rfl)
theorem dX0_forgedBy_44 : decode cX0_forgedBy 44 = .ok (.lmul, 1) := dk_105 (dk_at dksX0_forgedBy_1 20 rfl rfl)
theorem dX0_forgedBy_45 : decode cX0_forgedBy 45 = .ok (.lload_n 2, 1) := dk_32 (dk_at dksX0_forgedBy_1 21 rfl rfl)
theorem dX0_forgedBy_46 : decode cX0_forgedBy 46 = .ok (.lload 4, 2) := dk_22 4 (dk_at dksX0_forgedBy_1 22 rfl rfl)
theorem dX0_forgedBy_48 : decode cX0_forgedBy 48 = .ok (.ladd, 1) := dk_97 (dk_at dksX0_forgedBy_2 0 rfl rfl)
theorem dX0_forgedBy_49 : decode cX0_forgedBy 49 = .ok (.ldiv, 1) := dk_109 (dk_at dksX0_forgedBy_2 1 rfl rfl)
theorem dX0_forgedBy_50 : decode cX0_forgedBy 50 = .ok (.l2i, 1) := dk_136 (dk_at dksX0_forgedBy_2 2 rfl rfl)
theorem dX0_forgedBy_51 : decode cX0_forgedBy 51 = .ok (.ireturn, 1) := dk_172 (dk_at dksX0_forgedBy_2 3 rfl rfl)
abbrev cX0_own : ByteArray := prog_1_method_95_code
def yX0_own : MethodName := ⟨RX0, "own", "(II)I"⟩
def dkwX0_own_2 : List UInt8 := [16, 10, 27, 104, 28, 96, 184, 1, 128, 181, 0, 208, 42, 180, 0, 208, 190, 172]
abbrev dktX0_own_2 : List UInt8 := dkwX0_own_2 ++ []
def dkwX0_own_1 : List UInt8 := [182, 1, 228, 153, 0, 13, 42, 180, 0, 208, 190, 16, 16, 160, 0, 5, 2, 172, 42, 42, 180, 0, 208]
abbrev dktX0_own_1 : List UInt8 := dkwX0_own_1 ++ dktX0_own_2
def dkwX0_own_0 : List UInt8 := [27, 2, 160, 0, 12, 42, 3, 188, 10, 181, 0, 208, 3, 172, 42, 27, 182, 1, 221, 153, 0, 21, 42, 28]
abbrev dktX0_own_0 : List UInt8 := dkwX0_own_0 ++ dktX0_own_1
theorem dksX0_own_0 : cX0_own.data.toList.drop 0 = dktX0_own_0 := by decide +kernel
theorem dksX0_own_1 : cX0_own.data.toList.drop 24 = dktX0_own_1 := dk_seg dksX0_own_0 24 rfl rfl
theorem dksX0_own_2 : cX0_own.data.toList.drop 47 = dktX0_own_2 := dk_seg dksX0_own_1 23 rfl rfl
theorem dX0_own_0 : decode cX0_own 0 = .ok (.iload_n 1, 1) := dk_27 (dk_at dksX0_own_0 0 rfl rfl)
theorem dX0_own_1 : decode cX0_own 1 = .ok (.iconst (-1), 1) := dk_2 (dk_at dksX0_own_0 1 rfl rfl)
theorem dX0_own_2 : decode cX0_own 2 = .ok (.if_icmp .ne 12, 3) := dk_160 0 12 (dk_at dksX0_own_0 2 rfl rfl)
theorem dX0_own_5 : decode cX0_own 5 = .ok (.aload_n 0, 1) := dk_42 (dk_at dksX0_own_0 5 rfl rfl)
theorem dX0_own_6 : decode cX0_own 6 = .ok (.iconst 0, 1) := dk_3 (dk_at dksX0_own_0 6 rfl rfl)
theorem dX0_own_7 : decode cX0_own 7 = .ok (.newarray .int, 2) := dk_188_10 (dk_at dksX0_own_0 7 rfl rfl)
theorem dX0_own_9 : decode cX0_own 9 = .ok (.putfield 208, 3) := dk_181 0 208 (dk_at dksX0_own_0 9 rfl rfl)
theorem dX0_own_12 : decode cX0_own 12 = .ok (.iconst 0, 1) := dk_3 (dk_at dksX0_own_0 12 rfl rfl)
theorem dX0_own_13 : decode cX0_own 13 = .ok (.ireturn, 1) := dk_172 (dk_at dksX0_own_0 13 rfl rfl)
theorem dX0_own_14 : decode cX0_own 14 = .ok (.aload_n 0, 1) := dk_42 (dk_at dksX0_own_0 14 rfl rfl)
theorem dX0_own_15 : decode cX0_own 15 = .ok (.iload_n 1, 1) := dk_27 (dk_at dksX0_own_0 15 rfl rfl)
theorem dX0_own_16 : decode cX0_own 16 = .ok (.invokevirtual 477, 3) := dk_182 1 221 (dk_at dksX0_own_0 16 rfl rfl)
theorem dX0_own_19 : decode cX0_own 19 = .ok (.ifCond .eq 21, 3) := dk_153 0 21 (dk_at dksX0_own_0 19 rfl rfl)
theorem dX0_own_22 : decode cX0_own 22 = .ok (.aload_n 0, 1) := dk_42 (dk_at dksX0_own_0 22 rfl rfl)
theorem dX0_own_23 : decode cX0_own 23 = .ok (.iload_n 2, 1) := dk_28 (dk_at dksX0_own_0 23 rfl rfl)
theorem dX0_own_24 : decode cX0_own 24 = .ok (.invokevirtual 484, 3) := dk_182 1 228 (dk_at dksX0_own_1 0 rfl rfl)
theorem dX0_own_27 : decode cX0_own 27 = .ok (.ifCond .eq 13, 3) := dk_153 0 13 (dk_at dksX0_own_1 3 rfl rfl)
theorem dX0_own_30 : decode cX0_own 30 = .ok (.aload_n 0, 1) := dk_42 (dk_at dksX0_own_1 6 rfl rfl)
theorem dX0_own_31 : decode cX0_own 31 = .ok (.getfield 208, 3) := dk_180 0 208 (dk_at dksX0_own_1 7 rfl rfl)
theorem dX0_own_34 : decode cX0_own 34 = .ok (.arraylength, 1) := dk_190 (dk_at dksX0_own_1 10 rfl rfl)
theorem dX0_own_35 : decode cX0_own 35 = .ok (.bipush 16, 2) := dk_16 16 (dk_at dksX0_own_1 11 rfl rfl)
theorem dX0_own_37 : decode cX0_own 37 = .ok (.if_icmp .ne 5, 3) := dk_160 0 5 (dk_at dksX0_own_1 13 rfl rfl)
theorem dX0_own_40 : decode cX0_own 40 = .ok (.iconst (-1), 1) := dk_2 (dk_at dksX0_own_1 16 rfl rfl)
theorem dX0_own_41 : decode cX0_own 41 = .ok (.ireturn, 1) := dk_172 (dk_at dksX0_own_1 17 rfl rfl)
theorem dX0_own_42 : decode cX0_own 42 = .ok (.aload_n 0, 1) := dk_42 (dk_at dksX0_own_1 18 rfl rfl)
theorem dX0_own_43 : decode cX0_own 43 = .ok (.aload_n 0, 1) := dk_42 (dk_at dksX0_own_1 19 rfl rfl)
theorem dX0_own_44 : decode cX0_own 44 = .ok (.getfield 208, 3) := dk_180 0 208 (dk_at dksX0_own_1 20 rfl rfl)
theorem dX0_own_47 : decode cX0_own 47 = .ok (.bipush 10, 2) := dk_16 10 (dk_at dksX0_own_2 0 rfl rfl)
theorem dX0_own_49 : decode cX0_own 49 = .ok (.iload_n 1, 1) := dk_27 (dk_at dksX0_own_2 2 rfl rfl)
theorem dX0_own_50 : decode cX0_own 50 = .ok (.imul, 1) := dk_104 (dk_at dksX0_own_2 3 rfl rfl)
theorem dX0_own_51 : decode cX0_own 51 = .ok (.iload_n 2, 1) := dk_28 (dk_at dksX0_own_2 4 rfl rfl)
theorem dX0_own_52 : decode cX0_own 52 = .ok (.iadd, 1) := dk_96 (dk_at dksX0_own_2 5 rfl rfl)
theorem dX0_own_53 : decode cX0_own 53 = .ok (.invokestatic 384, 3) := dk_184 1 128 (dk_at dksX0_own_2 6 rfl rfl)
theorem dX0_own_56 : decode cX0_own 56 = .ok (.putfield 208, 3) := dk_181 0 208 (dk_at dksX0_own_2 9 rfl rfl)
theorem dX0_own_59 : decode cX0_own 59 = .ok (.aload_n 0, 1) := dk_42 (dk_at dksX0_own_2 12 rfl rfl)
theorem dX0_own_60 : decode cX0_own 60 = .ok (.getfield 208, 3) := dk_180 0 208 (dk_at dksX0_own_2 13 rfl rfl)
theorem dX0_own_63 : decode cX0_own 63 = .ok (.arraylength, 1) := dk_190 (dk_at dksX0_own_2 16 rfl rfl)
theorem dX0_own_64 : decode cX0_own 64 = .ok (.ireturn, 1) := dk_172 (dk_at dksX0_own_2 17 rfl rfl)
abbrev cX0_feedings : ByteArray := prog_1_method_97_code
def yX0_feedings : MethodName := ⟨RX0, "feedings", "()I"⟩
def dkwX0_feedings_5 : List UInt8 := [167, 255, 156, 43, 43, 190, 4, 100, 46, 172]
abbrev dktX0_feedings_5 : List UInt8 := dkwX0_feedings_5 ++ []
def dkwX0_feedings_4 : List UInt8 := [167, 255, 204, 43, 29, 22, 4, 20, 2, 128, 113, 136, 79, 132, 3, 255, 167, 255, 175, 132, 2, 1]
abbrev dktX0_feedings_4 : List UInt8 := dkwX0_feedings_4 ++ dktX0_feedings_5
def dkwX0_feedings_3 : List UInt8 := [153, 0, 17, 43, 29, 4, 21, 6, 120, 2, 130, 126, 46, 133, 167, 0, 4, 9, 97, 55, 4, 132, 6, 1]
abbrev dktX0_feedings_3 : List UInt8 := dkwX0_feedings_3 ++ dktX0_feedings_4
def dkwX0_feedings_2 : List UInt8 := [190, 162, 0, 48, 22, 4, 29, 21, 6, 184, 2, 2, 153, 0, 27, 42, 28, 21, 6, 182, 2, 125]
abbrev dktX0_feedings_2 : List UInt8 := dkwX0_feedings_2 ++ dktX0_feedings_3
def dkwX0_feedings_1 : List UInt8 := [43, 190, 4, 100, 62, 29, 158, 0, 83, 43, 29, 46, 133, 55, 4, 3, 54, 6, 21, 6, 42, 180, 0, 144]
abbrev dktX0_feedings_1 : List UInt8 := dkwX0_feedings_1 ++ dktX0_feedings_2
def dkwX0_feedings_0 : List UInt8 := [4, 42, 180, 0, 144, 190, 120, 188, 10, 76, 43, 3, 4, 79, 3, 61, 28, 42, 180, 1, 136, 162, 0, 98]
abbrev dktX0_feedings_0 : List UInt8 := dkwX0_feedings_0 ++ dktX0_feedings_1
theorem dksX0_feedings_0 : cX0_feedings.data.toList.drop 0 = dktX0_feedings_0 := by decide +kernel
theorem dksX0_feedings_1 : cX0_feedings.data.toList.drop 24 = dktX0_feedings_1 := dk_seg dksX0_feedings_0 24 rfl rfl
theorem dksX0_feedings_2 : cX0_feedings.data.toList.drop 48 = dktX0_feedings_2 := dk_seg dksX0_feedings_1 24 rfl rfl
theorem dksX0_feedings_3 : cX0_feedings.data.toList.drop 70 = dktX0_feedings_3 := dk_seg dksX0_feedings_2 22 rfl rfl
theorem dksX0_feedings_4 : cX0_feedings.data.toList.drop 94 = dktX0_feedings_4 := dk_seg dksX0_feedings_3 24 rfl rfl
theorem dksX0_feedings_5 : cX0_feedings.data.toList.drop 116 = dktX0_feedings_5 := dk_seg dksX0_feedings_4 22 rfl rfl
theorem dX0_feedings_0 : decode cX0_feedings 0 = .ok (.iconst 1, 1) := dk_4 (dk_at dksX0_feedings_0 0 rfl rfl)
theorem dX0_feedings_1 : decode cX0_feedings 1 = .ok (.aload_n 0, 1) := dk_42 (dk_at dksX0_feedings_0 1 rfl rfl)
theorem dX0_feedings_2 : decode cX0_feedings 2 = .ok (.getfield 144, 3) := dk_180 0 144 (dk_at dksX0_feedings_0 2 rfl rfl)
theorem dX0_feedings_5 : decode cX0_feedings 5 = .ok (.arraylength, 1) := dk_190 (dk_at dksX0_feedings_0 5 rfl rfl)
theorem dX0_feedings_6 : decode cX0_feedings 6 = .ok (.ishl, 1) := dk_120 (dk_at dksX0_feedings_0 6 rfl rfl)
theorem dX0_feedings_7 : decode cX0_feedings 7 = .ok (.newarray .int, 2) := dk_188_10 (dk_at dksX0_feedings_0 7 rfl rfl)
theorem dX0_feedings_9 : decode cX0_feedings 9 = .ok (.astore_n 1, 1) := dk_76 (dk_at dksX0_feedings_0 9 rfl rfl)
theorem dX0_feedings_10 : decode cX0_feedings 10 = .ok (.aload_n 1, 1) := dk_43 (dk_at dksX0_feedings_0 10 rfl rfl)
theorem dX0_feedings_11 : decode cX0_feedings 11 = .ok (.iconst 0, 1) := dk_3 (dk_at dksX0_feedings_0 11 rfl rfl)
theorem dX0_feedings_12 : decode cX0_feedings 12 = .ok (.iconst 1, 1) := dk_4 (dk_at dksX0_feedings_0 12 rfl rfl)
theorem dX0_feedings_13 : decode cX0_feedings 13 = .ok (.iastore, 1) := dk_79 (dk_at dksX0_feedings_0 13 rfl rfl)
theorem dX0_feedings_14 : decode cX0_feedings 14 = .ok (.iconst 0, 1) := dk_3 (dk_at dksX0_feedings_0 14 rfl rfl)
theorem dX0_feedings_15 : decode cX0_feedings 15 = .ok (.istore_n 2, 1) := dk_61 (dk_at dksX0_feedings_0 15 rfl rfl)
theorem dX0_feedings_16 : decode cX0_feedings 16 = .ok (.iload_n 2, 1) := dk_28 (dk_at dksX0_feedings_0 16 rfl rfl)
theorem dX0_feedings_17 : decode cX0_feedings 17 = .ok (.aload_n 0, 1) := dk_42 (dk_at dksX0_feedings_0 17 rfl rfl)
theorem dX0_feedings_18 : decode cX0_feedings 18 = .ok (.getfield 392, 3) := dk_180 1 136 (dk_at dksX0_feedings_0 18 rfl rfl)
theorem dX0_feedings_21 : decode cX0_feedings 21 = .ok (.if_icmp .ge 98, 3) := dk_162 0 98 (dk_at dksX0_feedings_0 21 rfl rfl)
theorem dX0_feedings_24 : decode cX0_feedings 24 = .ok (.aload_n 1, 1) := dk_43 (dk_at dksX0_feedings_1 0 rfl rfl)
theorem dX0_feedings_25 : decode cX0_feedings 25 = .ok (.arraylength, 1) := dk_190 (dk_at dksX0_feedings_1 1 rfl rfl)
theorem dX0_feedings_26 : decode cX0_feedings 26 = .ok (.iconst 1, 1) := dk_4 (dk_at dksX0_feedings_1 2 rfl rfl)
theorem dX0_feedings_27 : decode cX0_feedings 27 = .ok (.isub, 1) := dk_100 (dk_at dksX0_feedings_1 3 rfl rfl)
theorem dX0_feedings_28 : decode cX0_feedings 28 = .ok (.istore_n 3, 1) := dk_62 (dk_at dksX0_feedings_1 4 rfl rfl)
theorem dX0_feedings_29 : decode cX0_feedings 29 = .ok (.iload_n 3, 1) := dk_29 (dk_at dksX0_feedings_1 5 rfl rfl)
theorem dX0_feedings_30 : decode cX0_feedings 30 = .ok (.ifCond .le 83, 3) := dk_158 0 83 (dk_at dksX0_feedings_1 6 rfl rfl)
theorem dX0_feedings_33 : decode cX0_feedings 33 = .ok (.aload_n 1, 1) := dk_43 (dk_at dksX0_feedings_1 9 rfl rfl)
theorem dX0_feedings_34 : decode cX0_feedings 34 = .ok (.iload_n 3, 1) := dk_29 (dk_at dksX0_feedings_1 10 rfl rfl)
theorem dX0_feedings_35 : decode cX0_feedings 35 = .ok (.iaload, 1) := dk_46 (dk_at dksX0_feedings_1 11 rfl rfl)
theorem dX0_feedings_36 : decode cX0_feedings 36 = .ok (.i2l, 1) := dk_133 (dk_at dksX0_feedings_1 12 rfl rfl)
theorem dX0_feedings_37 : decode cX0_feedings 37 = .ok (.lstore 4, 2) := dk_55 4 (dk_at dksX0_feedings_1 13 rfl rfl)
theorem dX0_feedings_39 : decode cX0_feedings 39 = .ok (.iconst 0, 1) := dk_3 (dk_at dksX0_feedings_1 15 rfl rfl)
theorem dX0_feedings_40 : decode cX0_feedings 40 = .ok (.istore 6, 2) := dk_54 6 (dk_at dksX0_feedings_1 16 rfl rfl)
theorem dX0_feedings_42 : decode cX0_feedings 42 = .ok (.iload 6, 2) := dk_21 6 (dk_at dksX0_feedings_1 18 rfl rfl)
theorem dX0_feedings_44 : decode cX0_feedings 44 = .ok (.aload_n 0, 1) := dk_42 (dk_at dksX0_feedings_1 20 rfl rfl)
theorem dX0_feedings_45 : decode cX0_feedings 45 = .ok (.getfield 144, 3) := dk_180 0 144 (dk_at dksX0_feedings_1 21 rfl rfl)
theorem dX0_feedings_48 : decode cX0_feedings 48 = .ok (.arraylength, 1) := dk_190 (dk_at dksX0_feedings_2 0 rfl rfl)
theorem dX0_feedings_49 : decode cX0_feedings 49 = .ok (.if_icmp .ge 48, 3) := dk_162 0 48 (dk_at dksX0_feedings_2 1 rfl rfl)
theorem dX0_feedings_52 : decode cX0_feedings 52 = .ok (.lload 4, 2) := dk_22 4 (dk_at dksX0_feedings_2 4 rfl rfl)
theorem dX0_feedings_54 : decode cX0_feedings 54 = .ok (.iload_n 3, 1) := dk_29 (dk_at dksX0_feedings_2 6 rfl rfl)
theorem dX0_feedings_55 : decode cX0_feedings 55 = .ok (.iload 6, 2) := dk_21 6 (dk_at dksX0_feedings_2 7 rfl rfl)
theorem dX0_feedings_57 : decode cX0_feedings 57 = .ok (.invokestatic 514, 3) := dk_184 2 2 (dk_at dksX0_feedings_2 9 rfl rfl)
theorem dX0_feedings_60 : decode cX0_feedings 60 = .ok (.ifCond .eq 27, 3) := dk_153 0 27 (dk_at dksX0_feedings_2 12 rfl rfl)
theorem dX0_feedings_63 : decode cX0_feedings 63 = .ok (.aload_n 0, 1) := dk_42 (dk_at dksX0_feedings_2 15 rfl rfl)
theorem dX0_feedings_64 : decode cX0_feedings 64 = .ok (.iload_n 2, 1) := dk_28 (dk_at dksX0_feedings_2 16 rfl rfl)
theorem dX0_feedings_65 : decode cX0_feedings 65 = .ok (.iload 6, 2) := dk_21 6 (dk_at dksX0_feedings_2 17 rfl rfl)
theorem dX0_feedings_67 : decode cX0_feedings 67 = .ok (.invokevirtual 637, 3) := dk_182 2 125 (dk_at dksX0_feedings_2 19 rfl rfl)
theorem dX0_feedings_70 : decode cX0_feedings 70 = .ok (.ifCond .eq 17, 3) := dk_153 0 17 (dk_at dksX0_feedings_3 0 rfl rfl)
theorem dX0_feedings_73 : decode cX0_feedings 73 = .ok (.aload_n 1, 1) := dk_43 (dk_at dksX0_feedings_3 3 rfl rfl)
theorem dX0_feedings_74 : decode cX0_feedings 74 = .ok (.iload_n 3, 1) := dk_29 (dk_at dksX0_feedings_3 4 rfl rfl)
theorem dX0_feedings_75 : decode cX0_feedings 75 = .ok (.iconst 1, 1) := dk_4 (dk_at dksX0_feedings_3 5 rfl rfl)
theorem dX0_feedings_76 : decode cX0_feedings 76 = .ok (.iload 6, 2) := dk_21 6 (dk_at dksX0_feedings_3 6 rfl rfl)
theorem dX0_feedings_78 : decode cX0_feedings 78 = .ok (.ishl, 1) := dk_120 (dk_at dksX0_feedings_3 8 rfl rfl)
theorem dX0_feedings_79 : decode cX0_feedings 79 = .ok (.iconst (-1), 1) := dk_2 (dk_at dksX0_feedings_3 9 rfl rfl)
theorem dX0_feedings_80 : decode cX0_feedings 80 = .ok (.ixor, 1) := dk_130 (dk_at dksX0_feedings_3 10 rfl rfl)
theorem dX0_feedings_81 : decode cX0_feedings 81 = .ok (.iand, 1) := dk_126 (dk_at dksX0_feedings_3 11 rfl rfl)
theorem dX0_feedings_82 : decode cX0_feedings 82 = .ok (.iaload, 1) := dk_46 (dk_at dksX0_feedings_3 12 rfl rfl)
theorem dX0_feedings_83 : decode cX0_feedings 83 = .ok (.i2l, 1) := dk_133 (dk_at dksX0_feedings_3 13 rfl rfl)
theorem dX0_feedings_84 : decode cX0_feedings 84 = .ok (.goto 4, 3) := dk_167 0 4 (dk_at dksX0_feedings_3 14 rfl rfl)
theorem dX0_feedings_87 : decode cX0_feedings 87 = .ok (.lconst 0, 1) := dk_9 (dk_at dksX0_feedings_3 17 rfl rfl)
theorem dX0_feedings_88 : decode cX0_feedings 88 = .ok (.ladd, 1) := dk_97 (dk_at dksX0_feedings_3 18 rfl rfl)
theorem dX0_feedings_89 : decode cX0_feedings 89 = .ok (.lstore 4, 2) := dk_55 4 (dk_at dksX0_feedings_3 19 rfl rfl)
theorem dX0_feedings_91 : decode cX0_feedings 91 = .ok (.iinc 6 1, 3) := dk_132 6 1 (dk_at dksX0_feedings_3 21 rfl rfl)
theorem dX0_feedings_94 : decode cX0_feedings 94 = .ok (.goto (-52), 3) := dk_167 255 204 (dk_at dksX0_feedings_4 0 rfl rfl)
theorem dX0_feedings_97 : decode cX0_feedings 97 = .ok (.aload_n 1, 1) := dk_43 (dk_at dksX0_feedings_4 3 rfl rfl)
theorem dX0_feedings_98 : decode cX0_feedings 98 = .ok (.iload_n 3, 1) := dk_29 (dk_at dksX0_feedings_4 4 rfl rfl)
theorem dX0_feedings_99 : decode cX0_feedings 99 = .ok (.lload 4, 2) := dk_22 4 (dk_at dksX0_feedings_4 5 rfl rfl)
theorem dX0_feedings_101 : decode cX0_feedings 101 = .ok (.ldc2_w 640, 3) := dk_20 2 128 (dk_at dksX0_feedings_4 7 rfl rfl)
theorem dX0_feedings_104 : decode cX0_feedings 104 = .ok (.lrem, 1) := dk_113 (dk_at dksX0_feedings_4 10 rfl rfl)
theorem dX0_feedings_105 : decode cX0_feedings 105 = .ok (.l2i, 1) := dk_136 (dk_at dksX0_feedings_4 11 rfl rfl)
theorem dX0_feedings_106 : decode cX0_feedings 106 = .ok (.iastore, 1) := dk_79 (dk_at dksX0_feedings_4 12 rfl rfl)
theorem dX0_feedings_107 : decode cX0_feedings 107 = .ok (.iinc 3 (-1), 3) := dk_132 3 255 (dk_at dksX0_feedings_4 13 rfl rfl)
theorem dX0_feedings_110 : decode cX0_feedings 110 = .ok (.goto (-81), 3) := dk_167 255 175 (dk_at dksX0_feedings_4 16 rfl rfl)
theorem dX0_feedings_113 : decode cX0_feedings 113 = .ok (.iinc 2 1, 3) := dk_132 2 1 (dk_at dksX0_feedings_4 19 rfl rfl)
theorem dX0_feedings_116 : decode cX0_feedings 116 = .ok (.goto (-100), 3) := dk_167 255 156 (dk_at dksX0_feedings_5 0 rfl rfl)
theorem dX0_feedings_119 : decode cX0_feedings 119 = .ok (.aload_n 1, 1) := dk_43 (dk_at dksX0_feedings_5 3 rfl rfl)
theorem dX0_feedings_120 : decode cX0_feedings 120 = .ok (.aload_n 1, 1) := dk_43 (dk_at dksX0_feedings_5 4 rfl rfl)
theorem dX0_feedings_121 : decode cX0_feedings 121 = .ok (.arraylength, 1) := dk_190 (dk_at dksX0_feedings_5 5 rfl rfl)
theorem dX0_feedings_122 : decode cX0_feedings 122 = .ok (.iconst 1, 1) := dk_4 (dk_at dksX0_feedings_5 6 rfl rfl)
theorem dX0_feedings_123 : decode cX0_feedings 123 = .ok (.isub, 1) := dk_100 (dk_at dksX0_feedings_5 7 rfl rfl)
theorem dX0_feedings_124 : decode cX0_feedings 124 = .ok (.iaload, 1) := dk_46 (dk_at dksX0_feedings_5 8 rfl rfl)
theorem dX0_feedings_125 : decode cX0_feedings 125 = .ok (.ireturn, 1) := dk_172 (dk_at dksX0_feedings_5 9 rfl rfl)
abbrev cX0_mayHave : ByteArray := prog_1_method_96_code
def yX0_mayHave : MethodName := ⟨RX0, "mayHave", "(II)Z"⟩
def dkwX0_mayHave_1 : List UInt8 := [160, 0, 5, 3, 172, 132, 3, 1, 167, 255, 227, 4, 172]
abbrev dktX0_mayHave_1 : List UInt8 := dkwX0_mayHave_1 ++ []
def dkwX0_mayHave_0 : List UInt8 := [3, 62, 29, 42, 180, 0, 208, 190, 162, 0, 26, 42, 180, 0, 208, 29, 46, 16, 10, 27, 104, 28, 96]
abbrev dktX0_mayHave_0 : List UInt8 := dkwX0_mayHave_0 ++ dktX0_mayHave_1
theorem dksX0_mayHave_0 : cX0_mayHave.data.toList.drop 0 = dktX0_mayHave_0 := by decide +kernel
theorem dksX0_mayHave_1 : cX0_mayHave.data.toList.drop 23 = dktX0_mayHave_1 := dk_seg dksX0_mayHave_0 23 rfl rfl
theorem dX0_mayHave_0 : decode cX0_mayHave 0 = .ok (.iconst 0, 1) := dk_3 (dk_at dksX0_mayHave_0 0 rfl rfl)
theorem dX0_mayHave_1 : decode cX0_mayHave 1 = .ok (.istore_n 3, 1) := dk_62 (dk_at dksX0_mayHave_0 1 rfl rfl)
theorem dX0_mayHave_2 : decode cX0_mayHave 2 = .ok (.iload_n 3, 1) := dk_29 (dk_at dksX0_mayHave_0 2 rfl rfl)
theorem dX0_mayHave_3 : decode cX0_mayHave 3 = .ok (.aload_n 0, 1) := dk_42 (dk_at dksX0_mayHave_0 3 rfl rfl)
theorem dX0_mayHave_4 : decode cX0_mayHave 4 = .ok (.getfield 208, 3) := dk_180 0 208 (dk_at dksX0_mayHave_0 4 rfl rfl)
theorem dX0_mayHave_7 : decode cX0_mayHave 7 = .ok (.arraylength, 1) := dk_190 (dk_at dksX0_mayHave_0 7 rfl rfl)
theorem dX0_mayHave_8 : decode cX0_mayHave 8 = .ok (.if_icmp .ge 26, 3) := dk_162 0 26 (dk_at dksX0_mayHave_0 8 rfl rfl)
theorem dX0_mayHave_11 : decode cX0_mayHave 11 = .ok (.aload_n 0, 1) := dk_42 (dk_at dksX0_mayHave_0 11 rfl rfl)
theorem dX0_mayHave_12 : decode cX0_mayHave 12 = .ok (.getfield 208, 3) := dk_180 0 208 (dk_at dksX0_mayHave_0 12 rfl rfl)
theorem dX0_mayHave_15 : decode cX0_mayHave 15 = .ok (.iload_n 3, 1) := dk_29 (dk_at dksX0_mayHave_0 15 rfl rfl)
theorem dX0_mayHave_16 : decode cX0_mayHave 16 = .ok (.iaload, 1) := dk_46 (dk_at dksX0_mayHave_0 16 rfl rfl)
theorem dX0_mayHave_17 : decode cX0_mayHave 17 = .ok (.bipush 10, 2) := dk_16 10 (dk_at dksX0_mayHave_0 17 rfl rfl)
theorem dX0_mayHave_19 : decode cX0_mayHave 19 = .ok (.iload_n 1, 1) := dk_27 (dk_at dksX0_mayHave_0 19 rfl rfl)
theorem dX0_mayHave_20 : decode cX0_mayHave 20 = .ok (.imul, 1) := dk_104 (dk_at dksX0_mayHave_0 20 rfl rfl)
theorem dX0_mayHave_21 : decode cX0_mayHave 21 = .ok (.iload_n 2, 1) := dk_28 (dk_at dksX0_mayHave_0 21 rfl rfl)
theorem dX0_mayHave_22 : decode cX0_mayHave 22 = .ok (.iadd, 1) := dk_96 (dk_at dksX0_mayHave_0 22 rfl rfl)
theorem dX0_mayHave_23 : decode cX0_mayHave 23 = .ok (.if_icmp .ne 5, 3) := dk_160 0 5 (dk_at dksX0_mayHave_1 0 rfl rfl)
theorem dX0_mayHave_26 : decode cX0_mayHave 26 = .ok (.iconst 0, 1) := dk_3 (dk_at dksX0_mayHave_1 3 rfl rfl)
theorem dX0_mayHave_27 : decode cX0_mayHave 27 = .ok (.ireturn, 1) := dk_172 (dk_at dksX0_mayHave_1 4 rfl rfl)
theorem dX0_mayHave_28 : decode cX0_mayHave 28 = .ok (.iinc 3 1, 3) := dk_132 3 1 (dk_at dksX0_mayHave_1 5 rfl rfl)
theorem dX0_mayHave_31 : decode cX0_mayHave 31 = .ok (.goto (-29), 3) := dk_167 255 227 (dk_at dksX0_mayHave_1 8 rfl rfl)
theorem dX0_mayHave_34 : decode cX0_mayHave 34 = .ok (.iconst 1, 1) := dk_4 (dk_at dksX0_mayHave_1 11 rfl rfl)
theorem dX0_mayHave_35 : decode cX0_mayHave 35 = .ok (.ireturn, 1) := dk_172 (dk_at dksX0_mayHave_1 12 rfl rfl)
abbrev cX0_dyes : ByteArray := prog_1_method_99_code
def yX0_dyes : MethodName := ⟨RX0, "dyes", "(I)I"⟩
def dkwX0_dyes_3 : List UInt8 := [167, 0, 4, 3, 96, 61, 132, 4, 1, 167, 255, 208, 132, 3, 1, 167, 255, 188, 28, 172]
abbrev dktX0_dyes_3 : List UInt8 := dkwX0_dyes_3 ++ []
def dkwX0_dyes_2 : List UInt8 := [29, 50, 182, 1, 184, 42, 180, 0, 144, 21, 4, 50, 182, 1, 184, 27, 182, 2, 130, 153, 0, 7, 4]
abbrev dktX0_dyes_2 : List UInt8 := dkwX0_dyes_2 ++ dktX0_dyes_3
def dkwX0_dyes_1 : List UInt8 := [162, 0, 65, 29, 4, 96, 54, 4, 21, 4, 42, 180, 0, 144, 190, 162, 0, 44, 28, 42, 42, 180, 0, 144]
abbrev dktX0_dyes_1 : List UInt8 := dkwX0_dyes_1 ++ dktX0_dyes_2
def dkwX0_dyes_0 : List UInt8 := [27, 3, 17, 0, 255, 184, 0, 224, 154, 0, 5, 2, 172, 3, 61, 3, 62, 29, 42, 180, 0, 144, 190]
abbrev dktX0_dyes_0 : List UInt8 := dkwX0_dyes_0 ++ dktX0_dyes_1
theorem dksX0_dyes_0 : cX0_dyes.data.toList.drop 0 = dktX0_dyes_0 := by decide +kernel
theorem dksX0_dyes_1 : cX0_dyes.data.toList.drop 23 = dktX0_dyes_1 := dk_seg dksX0_dyes_0 23 rfl rfl
theorem dksX0_dyes_2 : cX0_dyes.data.toList.drop 47 = dktX0_dyes_2 := dk_seg dksX0_dyes_1 24 rfl rfl
theorem dksX0_dyes_3 : cX0_dyes.data.toList.drop 70 = dktX0_dyes_3 := dk_seg dksX0_dyes_2 23 rfl rfl
theorem dX0_dyes_0 : decode cX0_dyes 0 = .ok (.iload_n 1, 1) := dk_27 (dk_at dksX0_dyes_0 0 rfl rfl)
theorem dX0_dyes_1 : decode cX0_dyes 1 = .ok (.iconst 0, 1) := dk_3 (dk_at dksX0_dyes_0 1 rfl rfl)
theorem dX0_dyes_2 : decode cX0_dyes 2 = .ok (.sipush 255, 3) := dk_17 0 255 (dk_at dksX0_dyes_0 2 rfl rfl)
theorem dX0_dyes_5 : decode cX0_dyes 5 = .ok (.invokestatic 224, 3) := dk_184 0 224 (dk_at dksX0_dyes_0 5 rfl rfl)
theorem dX0_dyes_8 : decode cX0_dyes 8 = .ok (.ifCond .ne 5, 3) := dk_154 0 5 (dk_at dksX0_dyes_0 8 rfl rfl)
theorem dX0_dyes_11 : decode cX0_dyes 11 = .ok (.iconst (-1), 1) := dk_2 (dk_at dksX0_dyes_0 11 rfl rfl)
theorem dX0_dyes_12 : decode cX0_dyes 12 = .ok (.ireturn, 1) := dk_172 (dk_at dksX0_dyes_0 12 rfl rfl)
theorem dX0_dyes_13 : decode cX0_dyes 13 = .ok (.iconst 0, 1) := dk_3 (dk_at dksX0_dyes_0 13 rfl rfl)
theorem dX0_dyes_14 : decode cX0_dyes 14 = .ok (.istore_n 2, 1) := dk_61 (dk_at dksX0_dyes_0 14 rfl rfl)
theorem dX0_dyes_15 : decode cX0_dyes 15 = .ok (.iconst 0, 1) := dk_3 (dk_at dksX0_dyes_0 15 rfl rfl)
theorem dX0_dyes_16 : decode cX0_dyes 16 = .ok (.istore_n 3, 1) := dk_62 (dk_at dksX0_dyes_0 16 rfl rfl)
theorem dX0_dyes_17 : decode cX0_dyes 17 = .ok (.iload_n 3, 1) := dk_29 (dk_at dksX0_dyes_0 17 rfl rfl)
theorem dX0_dyes_18 : decode cX0_dyes 18 = .ok (.aload_n 0, 1) := dk_42 (dk_at dksX0_dyes_0 18 rfl rfl)
theorem dX0_dyes_19 : decode cX0_dyes 19 = .ok (.getfield 144, 3) := dk_180 0 144 (dk_at dksX0_dyes_0 19 rfl rfl)
theorem dX0_dyes_22 : decode cX0_dyes 22 = .ok (.arraylength, 1) := dk_190 (dk_at dksX0_dyes_0 22 rfl rfl)
theorem dX0_dyes_23 : decode cX0_dyes 23 = .ok (.if_icmp .ge 65, 3) := dk_162 0 65 (dk_at dksX0_dyes_1 0 rfl rfl)
theorem dX0_dyes_26 : decode cX0_dyes 26 = .ok (.iload_n 3, 1) := dk_29 (dk_at dksX0_dyes_1 3 rfl rfl)
theorem dX0_dyes_27 : decode cX0_dyes 27 = .ok (.iconst 1, 1) := dk_4 (dk_at dksX0_dyes_1 4 rfl rfl)
theorem dX0_dyes_28 : decode cX0_dyes 28 = .ok (.iadd, 1) := dk_96 (dk_at dksX0_dyes_1 5 rfl rfl)
theorem dX0_dyes_29 : decode cX0_dyes 29 = .ok (.istore 4, 2) := dk_54 4 (dk_at dksX0_dyes_1 6 rfl rfl)
theorem dX0_dyes_31 : decode cX0_dyes 31 = .ok (.iload 4, 2) := dk_21 4 (dk_at dksX0_dyes_1 8 rfl rfl)
theorem dX0_dyes_33 : decode cX0_dyes 33 = .ok (.aload_n 0, 1) := dk_42 (dk_at dksX0_dyes_1 10 rfl rfl)
theorem dX0_dyes_34 : decode cX0_dyes 34 = .ok (.getfield 144, 3) := dk_180 0 144 (dk_at dksX0_dyes_1 11 rfl rfl)
theorem dX0_dyes_37 : decode cX0_dyes 37 = .ok (.arraylength, 1) := dk_190 (dk_at dksX0_dyes_1 14 rfl rfl)
theorem dX0_dyes_38 : decode cX0_dyes 38 = .ok (.if_icmp .ge 44, 3) := dk_162 0 44 (dk_at dksX0_dyes_1 15 rfl rfl)
theorem dX0_dyes_41 : decode cX0_dyes 41 = .ok (.iload_n 2, 1) := dk_28 (dk_at dksX0_dyes_1 18 rfl rfl)
theorem dX0_dyes_42 : decode cX0_dyes 42 = .ok (.aload_n 0, 1) := dk_42 (dk_at dksX0_dyes_1 19 rfl rfl)
theorem dX0_dyes_43 : decode cX0_dyes 43 = .ok (.aload_n 0, 1) := dk_42 (dk_at dksX0_dyes_1 20 rfl rfl)
theorem dX0_dyes_44 : decode cX0_dyes 44 = .ok (.getfield 144, 3) := dk_180 0 144 (dk_at dksX0_dyes_1 21 rfl rfl)
theorem dX0_dyes_47 : decode cX0_dyes 47 = .ok (.iload_n 3, 1) := dk_29 (dk_at dksX0_dyes_2 0 rfl rfl)
theorem dX0_dyes_48 : decode cX0_dyes 48 = .ok (.aaload, 1) := dk_50 (dk_at dksX0_dyes_2 1 rfl rfl)
theorem dX0_dyes_49 : decode cX0_dyes 49 = .ok (.invokevirtual 440, 3) := dk_182 1 184 (dk_at dksX0_dyes_2 2 rfl rfl)
theorem dX0_dyes_52 : decode cX0_dyes 52 = .ok (.aload_n 0, 1) := dk_42 (dk_at dksX0_dyes_2 5 rfl rfl)
theorem dX0_dyes_53 : decode cX0_dyes 53 = .ok (.getfield 144, 3) := dk_180 0 144 (dk_at dksX0_dyes_2 6 rfl rfl)
theorem dX0_dyes_56 : decode cX0_dyes 56 = .ok (.iload 4, 2) := dk_21 4 (dk_at dksX0_dyes_2 9 rfl rfl)
theorem dX0_dyes_58 : decode cX0_dyes 58 = .ok (.aaload, 1) := dk_50 (dk_at dksX0_dyes_2 11 rfl rfl)
theorem dX0_dyes_59 : decode cX0_dyes 59 = .ok (.invokevirtual 440, 3) := dk_182 1 184 (dk_at dksX0_dyes_2 12 rfl rfl)
theorem dX0_dyes_62 : decode cX0_dyes 62 = .ok (.iload_n 1, 1) := dk_27 (dk_at dksX0_dyes_2 15 rfl rfl)
theorem dX0_dyes_63 : decode cX0_dyes 63 = .ok (.invokevirtual 642, 3) := dk_182 2 130 (dk_at dksX0_dyes_2 16 rfl rfl)
theorem dX0_dyes_66 : decode cX0_dyes 66 = .ok (.ifCond .eq 7, 3) := dk_153 0 7 (dk_at dksX0_dyes_2 19 rfl rfl)
theorem dX0_dyes_69 : decode cX0_dyes 69 = .ok (.iconst 1, 1) := dk_4 (dk_at dksX0_dyes_2 22 rfl rfl)
theorem dX0_dyes_70 : decode cX0_dyes 70 = .ok (.goto 4, 3) := dk_167 0 4 (dk_at dksX0_dyes_3 0 rfl rfl)
theorem dX0_dyes_73 : decode cX0_dyes 73 = .ok (.iconst 0, 1) := dk_3 (dk_at dksX0_dyes_3 3 rfl rfl)
theorem dX0_dyes_74 : decode cX0_dyes 74 = .ok (.iadd, 1) := dk_96 (dk_at dksX0_dyes_3 4 rfl rfl)
theorem dX0_dyes_75 : decode cX0_dyes 75 = .ok (.istore_n 2, 1) := dk_61 (dk_at dksX0_dyes_3 5 rfl rfl)
theorem dX0_dyes_76 : decode cX0_dyes 76 = .ok (.iinc 4 1, 3) := dk_132 4 1 (dk_at dksX0_dyes_3 6 rfl rfl)
theorem dX0_dyes_79 : decode cX0_dyes 79 = .ok (.goto (-48), 3) := dk_167 255 208 (dk_at dksX0_dyes_3 9 rfl rfl)
theorem dX0_dyes_82 : decode cX0_dyes 82 = .ok (.iinc 3 1, 3) := dk_132 3 1 (dk_at dksX0_dyes_3 12 rfl rfl)
theorem dX0_dyes_85 : decode cX0_dyes 85 = .ok (.goto (-68), 3) := dk_167 255 188 (dk_at dksX0_dyes_3 15 rfl rfl)
theorem dX0_dyes_88 : decode cX0_dyes 88 = .ok (.iload_n 2, 1) := dk_28 (dk_at dksX0_dyes_3 18 rfl rfl)
theorem dX0_dyes_89 : decode cX0_dyes 89 = .ok (.ireturn, 1) := dk_172 (dk_at dksX0_dyes_3 19 rfl rfl)
abbrev cX0_isAlikeDyed : ByteArray := prog_1_method_98_code
def yX0_isAlikeDyed : MethodName := ⟨RX0, "isAlikeDyed", "([I[II)Z"⟩
def dkwX0_isAlikeDyed_2 : List UInt8 := [184, 2, 2, 154, 0, 5, 3, 172, 132, 4, 1, 167, 255, 211, 4, 172]
abbrev dktX0_isAlikeDyed_2 : List UInt8 := dkwX0_isAlikeDyed_2 ++ []
def dkwX0_isAlikeDyed_1 : List UInt8 := [21, 4, 46, 159, 0, 27, 29, 43, 21, 4, 46, 184, 2, 2, 153, 0, 14, 29, 44, 21, 4, 46]
abbrev dktX0_isAlikeDyed_1 : List UInt8 := dkwX0_isAlikeDyed_1 ++ dktX0_isAlikeDyed_2
def dkwX0_isAlikeDyed_0 : List UInt8 := [43, 190, 44, 190, 159, 0, 5, 3, 172, 3, 54, 4, 21, 4, 43, 190, 162, 0, 44, 43, 21, 4, 46, 44]
abbrev dktX0_isAlikeDyed_0 : List UInt8 := dkwX0_isAlikeDyed_0 ++ dktX0_isAlikeDyed_1
theorem dksX0_isAlikeDyed_0 : cX0_isAlikeDyed.data.toList.drop 0 = dktX0_isAlikeDyed_0 := by decide +kernel
theorem dksX0_isAlikeDyed_1 : cX0_isAlikeDyed.data.toList.drop 24 = dktX0_isAlikeDyed_1 := dk_seg dksX0_isAlikeDyed_0 24 rfl rfl
theorem dksX0_isAlikeDyed_2 : cX0_isAlikeDyed.data.toList.drop 46 = dktX0_isAlikeDyed_2 := dk_seg dksX0_isAlikeDyed_1 22 rfl rfl
theorem dX0_isAlikeDyed_0 : decode cX0_isAlikeDyed 0 = .ok (.aload_n 1, 1) := dk_43 (dk_at dksX0_isAlikeDyed_0 0 rfl rfl)
theorem dX0_isAlikeDyed_1 : decode cX0_isAlikeDyed 1 = .ok (.arraylength, 1) := dk_190 (dk_at dksX0_isAlikeDyed_0 1 rfl rfl)
theorem dX0_isAlikeDyed_2 : decode cX0_isAlikeDyed 2 = .ok (.aload_n 2, 1) := dk_44 (dk_at dksX0_isAlikeDyed_0 2 rfl rfl)
theorem dX0_isAlikeDyed_3 : decode cX0_isAlikeDyed 3 = .ok (.arraylength, 1) := dk_190 (dk_at dksX0_isAlikeDyed_0 3 rfl rfl)
theorem dX0_isAlikeDyed_4 : decode cX0_isAlikeDyed 4 = .ok (.if_icmp .eq 5, 3) := dk_159 0 5 (dk_at dksX0_isAlikeDyed_0 4 rfl rfl)
theorem dX0_isAlikeDyed_7 : decode cX0_isAlikeDyed 7 = .ok (.iconst 0, 1) := dk_3 (dk_at dksX0_isAlikeDyed_0 7 rfl rfl)
theorem dX0_isAlikeDyed_8 : decode cX0_isAlikeDyed 8 = .ok (.ireturn, 1) := dk_172 (dk_at dksX0_isAlikeDyed_0 8 rfl rfl)
theorem dX0_isAlikeDyed_9 : decode cX0_isAlikeDyed 9 = .ok (.iconst 0, 1) := dk_3 (dk_at dksX0_isAlikeDyed_0 9 rfl rfl)
theorem dX0_isAlikeDyed_10 : decode cX0_isAlikeDyed 10 = .ok (.istore 4, 2) := dk_54 4 (dk_at dksX0_isAlikeDyed_0 10 rfl rfl)
theorem dX0_isAlikeDyed_12 : decode cX0_isAlikeDyed 12 = .ok (.iload 4, 2) := dk_21 4 (dk_at dksX0_isAlikeDyed_0 12 rfl rfl)
theorem dX0_isAlikeDyed_14 : decode cX0_isAlikeDyed 14 = .ok (.aload_n 1, 1) := dk_43 (dk_at dksX0_isAlikeDyed_0 14 rfl rfl)
theorem dX0_isAlikeDyed_15 : decode cX0_isAlikeDyed 15 = .ok (.arraylength, 1) := dk_190 (dk_at dksX0_isAlikeDyed_0 15 rfl rfl)
theorem dX0_isAlikeDyed_16 : decode cX0_isAlikeDyed 16 = .ok (.if_icmp .ge 44, 3) := dk_162 0 44 (dk_at dksX0_isAlikeDyed_0 16 rfl rfl)
theorem dX0_isAlikeDyed_19 : decode cX0_isAlikeDyed 19 = .ok (.aload_n 1, 1) := dk_43 (dk_at dksX0_isAlikeDyed_0 19 rfl rfl)
theorem dX0_isAlikeDyed_20 : decode cX0_isAlikeDyed 20 = .ok (.iload 4, 2) := dk_21 4 (dk_at dksX0_isAlikeDyed_0 20 rfl rfl)
theorem dX0_isAlikeDyed_22 : decode cX0_isAlikeDyed 22 = .ok (.iaload, 1) := dk_46 (dk_at dksX0_isAlikeDyed_0 22 rfl rfl)
theorem dX0_isAlikeDyed_23 : decode cX0_isAlikeDyed 23 = .ok (.aload_n 2, 1) := dk_44 (dk_at dksX0_isAlikeDyed_0 23 rfl rfl)
theorem dX0_isAlikeDyed_24 : decode cX0_isAlikeDyed 24 = .ok (.iload 4, 2) := dk_21 4 (dk_at dksX0_isAlikeDyed_1 0 rfl rfl)
theorem dX0_isAlikeDyed_26 : decode cX0_isAlikeDyed 26 = .ok (.iaload, 1) := dk_46 (dk_at dksX0_isAlikeDyed_1 2 rfl rfl)
theorem dX0_isAlikeDyed_27 : decode cX0_isAlikeDyed 27 = .ok (.if_icmp .eq 27, 3) := dk_159 0 27 (dk_at dksX0_isAlikeDyed_1 3 rfl rfl)
theorem dX0_isAlikeDyed_30 : decode cX0_isAlikeDyed 30 = .ok (.iload_n 3, 1) := dk_29 (dk_at dksX0_isAlikeDyed_1 6 rfl rfl)
theorem dX0_isAlikeDyed_31 : decode cX0_isAlikeDyed 31 = .ok (.aload_n 1, 1) := dk_43 (dk_at dksX0_isAlikeDyed_1 7 rfl rfl)
theorem dX0_isAlikeDyed_32 : decode cX0_isAlikeDyed 32 = .ok (.iload 4, 2) := dk_21 4 (dk_at dksX0_isAlikeDyed_1 8 rfl rfl)
theorem dX0_isAlikeDyed_34 : decode cX0_isAlikeDyed 34 = .ok (.iaload, 1) := dk_46 (dk_at dksX0_isAlikeDyed_1 10 rfl rfl)
theorem dX0_isAlikeDyed_35 : decode cX0_isAlikeDyed 35 = .ok (.invokestatic 514, 3) := dk_184 2 2 (dk_at dksX0_isAlikeDyed_1 11 rfl rfl)
theorem dX0_isAlikeDyed_38 : decode cX0_isAlikeDyed 38 = .ok (.ifCond .eq 14, 3) := dk_153 0 14 (dk_at dksX0_isAlikeDyed_1 14 rfl rfl)
theorem dX0_isAlikeDyed_41 : decode cX0_isAlikeDyed 41 = .ok (.iload_n 3, 1) := dk_29 (dk_at dksX0_isAlikeDyed_1 17 rfl rfl)
theorem dX0_isAlikeDyed_42 : decode cX0_isAlikeDyed 42 = .ok (.aload_n 2, 1) := dk_44 (dk_at dksX0_isAlikeDyed_1 18 rfl rfl)
theorem dX0_isAlikeDyed_43 : decode cX0_isAlikeDyed 43 = .ok (.iload 4, 2) := dk_21 4 (dk_at dksX0_isAlikeDyed_1 19 rfl rfl)
theorem dX0_isAlikeDyed_45 : decode cX0_isAlikeDyed 45 = .ok (.iaload, 1) := dk_46 (dk_at dksX0_isAlikeDyed_1 21 rfl rfl)
theorem dX0_isAlikeDyed_46 : decode cX0_isAlikeDyed 46 = .ok (.invokestatic 514, 3) := dk_184 2 2 (dk_at dksX0_isAlikeDyed_2 0 rfl rfl)
theorem dX0_isAlikeDyed_49 : decode cX0_isAlikeDyed 49 = .ok (.ifCond .ne 5, 3) := dk_154 0 5 (dk_at dksX0_isAlikeDyed_2 3 rfl rfl)
theorem dX0_isAlikeDyed_52 : decode cX0_isAlikeDyed 52 = .ok (.iconst 0, 1) := dk_3 (dk_at dksX0_isAlikeDyed_2 6 rfl rfl)
theorem dX0_isAlikeDyed_53 : decode cX0_isAlikeDyed 53 = .ok (.ireturn, 1) := dk_172 (dk_at dksX0_isAlikeDyed_2 7 rfl rfl)
theorem dX0_isAlikeDyed_54 : decode cX0_isAlikeDyed 54 = .ok (.iinc 4 1, 3) := dk_132 4 1 (dk_at dksX0_isAlikeDyed_2 8 rfl rfl)
theorem dX0_isAlikeDyed_57 : decode cX0_isAlikeDyed 57 = .ok (.goto (-45), 3) := dk_167 255 211 (dk_at dksX0_isAlikeDyed_2 11 rfl rfl)
theorem dX0_isAlikeDyed_60 : decode cX0_isAlikeDyed 60 = .ok (.iconst 1, 1) := dk_4 (dk_at dksX0_isAlikeDyed_2 14 rfl rfl)
theorem dX0_isAlikeDyed_61 : decode cX0_isAlikeDyed 61 = .ok (.ireturn, 1) := dk_172 (dk_at dksX0_isAlikeDyed_2 15 rfl rfl)
abbrev cX0_tally : ByteArray := prog_1_method_100_code
def yX0_tally : MethodName := ⟨RX0, "tally", "(I)I"⟩
def dkwX0_tally_4 : List UInt8 := [44, 29, 46, 154, 0, 7, 2, 167, 0, 4, 29, 172]
abbrev dktX0_tally_4 : List UInt8 := dkwX0_tally_4 ++ []
def dkwX0_tally_3 : List UInt8 := [167, 255, 206, 27, 2, 159, 0, 7, 44, 27, 46, 172, 16, 8, 44, 186, 2, 134, 0, 0, 184, 2, 59, 62]
abbrev dktX0_tally_3 : List UInt8 := dkwX0_tally_3 ++ dktX0_tally_4
def dkwX0_tally_2 : List UInt8 := [180, 0, 164, 29, 21, 4, 182, 1, 255, 92, 46, 4, 96, 79, 132, 4, 1, 167, 255, 223, 132, 3, 1]
abbrev dktX0_tally_2 : List UInt8 := dkwX0_tally_2 ++ dktX0_tally_3
def dkwX0_tally_1 : List UInt8 := [162, 0, 48, 3, 54, 4, 21, 4, 42, 180, 0, 164, 180, 1, 212, 29, 46, 162, 0, 25, 44, 42]
abbrev dktX0_tally_1 : List UInt8 := dkwX0_tally_1 ++ dktX0_tally_2
def dkwX0_tally_0 : List UInt8 := [27, 2, 16, 7, 184, 0, 224, 154, 0, 5, 2, 172, 16, 8, 188, 10, 77, 3, 62, 29, 42, 180, 1, 136]
abbrev dktX0_tally_0 : List UInt8 := dkwX0_tally_0 ++ dktX0_tally_1
theorem dksX0_tally_0 : cX0_tally.data.toList.drop 0 = dktX0_tally_0 := by decide +kernel
theorem dksX0_tally_1 : cX0_tally.data.toList.drop 24 = dktX0_tally_1 := dk_seg dksX0_tally_0 24 rfl rfl
theorem dksX0_tally_2 : cX0_tally.data.toList.drop 46 = dktX0_tally_2 := dk_seg dksX0_tally_1 22 rfl rfl
theorem dksX0_tally_3 : cX0_tally.data.toList.drop 69 = dktX0_tally_3 := dk_seg dksX0_tally_2 23 rfl rfl
theorem dksX0_tally_4 : cX0_tally.data.toList.drop 93 = dktX0_tally_4 := dk_seg dksX0_tally_3 24 rfl rfl
theorem dX0_tally_0 : decode cX0_tally 0 = .ok (.iload_n 1, 1) := dk_27 (dk_at dksX0_tally_0 0 rfl rfl)
theorem dX0_tally_1 : decode cX0_tally 1 = .ok (.iconst (-1), 1) := dk_2 (dk_at dksX0_tally_0 1 rfl rfl)
theorem dX0_tally_2 : decode cX0_tally 2 = .ok (.bipush 7, 2) := dk_16 7 (dk_at dksX0_tally_0 2 rfl rfl)
theorem dX0_tally_4 : decode cX0_tally 4 = .ok (.invokestatic 224, 3) := dk_184 0 224 (dk_at dksX0_tally_0 4 rfl rfl)
theorem dX0_tally_7 : decode cX0_tally 7 = .ok (.ifCond .ne 5, 3) := dk_154 0 5 (dk_at dksX0_tally_0 7 rfl rfl)
theorem dX0_tally_10 : decode cX0_tally 10 = .ok (.iconst (-1), 1) := dk_2 (dk_at dksX0_tally_0 10 rfl rfl)
theorem dX0_tally_11 : decode cX0_tally 11 = .ok (.ireturn, 1) := dk_172 (dk_at dksX0_tally_0 11 rfl rfl)
theorem dX0_tally_12 : decode cX0_tally 12 = .ok (.bipush 8, 2) := dk_16 8 (dk_at dksX0_tally_0 12 rfl rfl)
theorem dX0_tally_14 : decode cX0_tally 14 = .ok (.newarray .int, 2) := dk_188_10 (dk_at dksX0_tally_0 14 rfl rfl)
theorem dX0_tally_16 : decode cX0_tally 16 = .ok (.astore_n 2, 1) := dk_77 (dk_at dksX0_tally_0 16 rfl rfl)
theorem dX0_tally_17 : decode cX0_tally 17 = .ok (.iconst 0, 1) := dk_3 (dk_at dksX0_tally_0 17 rfl rfl)
theorem dX0_tally_18 : decode cX0_tally 18 = .ok (.istore_n 3, 1) := dk_62 (dk_at dksX0_tally_0 18 rfl rfl)
theorem dX0_tally_19 : decode cX0_tally 19 = .ok (.iload_n 3, 1) := dk_29 (dk_at dksX0_tally_0 19 rfl rfl)
theorem dX0_tally_20 : decode cX0_tally 20 = .ok (.aload_n 0, 1) := dk_42 (dk_at dksX0_tally_0 20 rfl rfl)
theorem dX0_tally_21 : decode cX0_tally 21 = .ok (.getfield 392, 3) := dk_180 1 136 (dk_at dksX0_tally_0 21 rfl rfl)
theorem dX0_tally_24 : decode cX0_tally 24 = .ok (.if_icmp .ge 48, 3) := dk_162 0 48 (dk_at dksX0_tally_1 0 rfl rfl)
theorem dX0_tally_27 : decode cX0_tally 27 = .ok (.iconst 0, 1) := dk_3 (dk_at dksX0_tally_1 3 rfl rfl)
theorem dX0_tally_28 : decode cX0_tally 28 = .ok (.istore 4, 2) := dk_54 4 (dk_at dksX0_tally_1 4 rfl rfl)
theorem dX0_tally_30 : decode cX0_tally 30 = .ok (.iload 4, 2) := dk_21 4 (dk_at dksX0_tally_1 6 rfl rfl)
theorem dX0_tally_32 : decode cX0_tally 32 = .ok (.aload_n 0, 1) := dk_42 (dk_at dksX0_tally_1 8 rfl rfl)
theorem dX0_tally_33 : decode cX0_tally 33 = .ok (.getfield 164, 3) := dk_180 0 164 (dk_at dksX0_tally_1 9 rfl rfl)
theorem dX0_tally_36 : decode cX0_tally 36 = .ok (.getfield 468, 3) := dk_180 1 212 (dk_at dksX0_tally_1 12 rfl rfl)
theorem dX0_tally_39 : decode cX0_tally 39 = .ok (.iload_n 3, 1) := dk_29 (dk_at dksX0_tally_1 15 rfl rfl)
theorem dX0_tally_40 : decode cX0_tally 40 = .ok (.iaload, 1) := dk_46 (dk_at dksX0_tally_1 16 rfl rfl)
theorem dX0_tally_41 : decode cX0_tally 41 = .ok (.if_icmp .ge 25, 3) := dk_162 0 25 (dk_at dksX0_tally_1 17 rfl rfl)
theorem dX0_tally_44 : decode cX0_tally 44 = .ok (.aload_n 2, 1) := dk_44 (dk_at dksX0_tally_1 20 rfl rfl)
theorem dX0_tally_45 : decode cX0_tally 45 = .ok (.aload_n 0, 1) := dk_42 (dk_at dksX0_tally_1 21 rfl rfl)
theorem dX0_tally_46 : decode cX0_tally 46 = .ok (.getfield 164, 3) := dk_180 0 164 (dk_at dksX0_tally_2 0 rfl rfl)
theorem dX0_tally_49 : decode cX0_tally 49 = .ok (.iload_n 3, 1) := dk_29 (dk_at dksX0_tally_2 3 rfl rfl)
theorem dX0_tally_50 : decode cX0_tally 50 = .ok (.iload 4, 2) := dk_21 4 (dk_at dksX0_tally_2 4 rfl rfl)
theorem dX0_tally_52 : decode cX0_tally 52 = .ok (.invokevirtual 511, 3) := dk_182 1 255 (dk_at dksX0_tally_2 6 rfl rfl)
theorem dX0_tally_55 : decode cX0_tally 55 = .ok (.dup2, 1) := dk_92 (dk_at dksX0_tally_2 9 rfl rfl)
theorem dX0_tally_56 : decode cX0_tally 56 = .ok (.iaload, 1) := dk_46 (dk_at dksX0_tally_2 10 rfl rfl)
theorem dX0_tally_57 : decode cX0_tally 57 = .ok (.iconst 1, 1) := dk_4 (dk_at dksX0_tally_2 11 rfl rfl)
theorem dX0_tally_58 : decode cX0_tally 58 = .ok (.iadd, 1) := dk_96 (dk_at dksX0_tally_2 12 rfl rfl)
theorem dX0_tally_59 : decode cX0_tally 59 = .ok (.iastore, 1) := dk_79 (dk_at dksX0_tally_2 13 rfl rfl)
theorem dX0_tally_60 : decode cX0_tally 60 = .ok (.iinc 4 1, 3) := dk_132 4 1 (dk_at dksX0_tally_2 14 rfl rfl)
theorem dX0_tally_63 : decode cX0_tally 63 = .ok (.goto (-33), 3) := dk_167 255 223 (dk_at dksX0_tally_2 17 rfl rfl)
theorem dX0_tally_66 : decode cX0_tally 66 = .ok (.iinc 3 1, 3) := dk_132 3 1 (dk_at dksX0_tally_2 20 rfl rfl)
theorem dX0_tally_69 : decode cX0_tally 69 = .ok (.goto (-50), 3) := dk_167 255 206 (dk_at dksX0_tally_3 0 rfl rfl)
theorem dX0_tally_72 : decode cX0_tally 72 = .ok (.iload_n 1, 1) := dk_27 (dk_at dksX0_tally_3 3 rfl rfl)
theorem dX0_tally_73 : decode cX0_tally 73 = .ok (.iconst (-1), 1) := dk_2 (dk_at dksX0_tally_3 4 rfl rfl)
theorem dX0_tally_74 : decode cX0_tally 74 = .ok (.if_icmp .eq 7, 3) := dk_159 0 7 (dk_at dksX0_tally_3 5 rfl rfl)
theorem dX0_tally_77 : decode cX0_tally 77 = .ok (.aload_n 2, 1) := dk_44 (dk_at dksX0_tally_3 8 rfl rfl)
theorem dX0_tally_78 : decode cX0_tally 78 = .ok (.iload_n 1, 1) := dk_27 (dk_at dksX0_tally_3 9 rfl rfl)
theorem dX0_tally_79 : decode cX0_tally 79 = .ok (.iaload, 1) := dk_46 (dk_at dksX0_tally_3 10 rfl rfl)
theorem dX0_tally_80 : decode cX0_tally 80 = .ok (.ireturn, 1) := dk_172 (dk_at dksX0_tally_3 11 rfl rfl)
theorem dX0_tally_81 : decode cX0_tally 81 = .ok (.bipush 8, 2) := dk_16 8 (dk_at dksX0_tally_3 12 rfl rfl)
theorem dX0_tally_83 : decode cX0_tally 83 = .ok (.aload_n 2, 1) := dk_44 (dk_at dksX0_tally_3 14 rfl rfl)
theorem dX0_tally_84 : decode cX0_tally 84 = .ok (.invokedynamic 646, 5) := by decide +kernel
theorem dX0_tally_89 : decode cX0_tally 89 = .ok (.invokestatic 571, 3) := dk_184 2 59 (dk_at dksX0_tally_3 20 rfl rfl)
theorem dX0_tally_92 : decode cX0_tally 92 = .ok (.istore_n 3, 1) := dk_62 (dk_at dksX0_tally_3 23 rfl rfl)
theorem dX0_tally_93 : decode cX0_tally 93 = .ok (.aload_n 2, 1) := dk_44 (dk_at dksX0_tally_4 0 rfl rfl)
theorem dX0_tally_94 : decode cX0_tally 94 = .ok (.iload_n 3, 1) := dk_29 (dk_at dksX0_tally_4 1 rfl rfl)
theorem dX0_tally_95 : decode cX0_tally 95 = .ok (.iaload, 1) := dk_46 (dk_at dksX0_tally_4 2 rfl rfl)
theorem dX0_tally_96 : decode cX0_tally 96 = .ok (.ifCond .ne 7, 3) := dk_154 0 7 (dk_at dksX0_tally_4 3 rfl rfl)
theorem dX0_tally_99 : decode cX0_tally 99 = .ok (.iconst (-1), 1) := dk_2 (dk_at dksX0_tally_4 6 rfl rfl)
theorem dX0_tally_100 : decode cX0_tally 100 = .ok (.goto 4, 3) := dk_167 0 4 (dk_at dksX0_tally_4 7 rfl rfl)
theorem dX0_tally_103 : decode cX0_tally 103 = .ok (.iload_n 3, 1) := dk_29 (dk_at dksX0_tally_4 10 rfl rfl)
theorem dX0_tally_104 : decode cX0_tally 104 = .ok (.ireturn, 1) := dk_172 (dk_at dksX0_tally_4 11 rfl rfl)
abbrev cX0_lambda_tally_9 : ByteArray := prog_1_method_112_code
def yX0_lambda_tally_9 : MethodName := ⟨RX0, "lambda$tally$9", "([II)I"⟩
def dkwX0_lambda_tally_9_0 : List UInt8 := [42, 27, 46, 116, 172]
abbrev dktX0_lambda_tally_9_0 : List UInt8 := dkwX0_lambda_tally_9_0 ++ []
theorem dksX0_lambda_tally_9_0 : cX0_lambda_tally_9.data.toList.drop 0 = dktX0_lambda_tally_9_0 := by decide +kernel
theorem dX0_lambda_tally_9_0 : decode cX0_lambda_tally_9 0 = .ok (.aload_n 0, 1) := dk_42 (dk_at dksX0_lambda_tally_9_0 0 rfl rfl)
theorem dX0_lambda_tally_9_1 : decode cX0_lambda_tally_9 1 = .ok (.iload_n 1, 1) := dk_27 (dk_at dksX0_lambda_tally_9_0 1 rfl rfl)
theorem dX0_lambda_tally_9_2 : decode cX0_lambda_tally_9 2 = .ok (.iaload, 1) := dk_46 (dk_at dksX0_lambda_tally_9_0 2 rfl rfl)
theorem dX0_lambda_tally_9_3 : decode cX0_lambda_tally_9 3 = .ok (.ineg, 1) := dk_116 (dk_at dksX0_lambda_tally_9_0 3 rfl rfl)
theorem dX0_lambda_tally_9_4 : decode cX0_lambda_tally_9 4 = .ok (.ireturn, 1) := dk_172 (dk_at dksX0_lambda_tally_9_0 4 rfl rfl)
abbrev cX0_splice : ByteArray := prog_1_method_102_code
def yX0_splice : MethodName := ⟨RX0, "splice", "(II)I"⟩
def dkwX0_splice_2 : List UInt8 := [29, 182, 2, 137, 154, 0, 9, 132, 3, 255, 167, 255, 243, 29, 172]
abbrev dktX0_splice_2 : List UInt8 := dkwX0_splice_2 ++ []
def dkwX0_splice_1 : List UInt8 := [180, 0, 164, 180, 1, 212, 27, 46, 42, 180, 0, 164, 180, 1, 212, 28, 46, 184, 0, 1, 62, 42, 27, 28]
abbrev dktX0_splice_1 : List UInt8 := dkwX0_splice_1 ++ dktX0_splice_2
def dkwX0_splice_0 : List UInt8 := [42, 27, 182, 1, 221, 153, 0, 16, 42, 28, 182, 1, 221, 153, 0, 8, 27, 28, 160, 0, 5, 2, 172, 42]
abbrev dktX0_splice_0 : List UInt8 := dkwX0_splice_0 ++ dktX0_splice_1
theorem dksX0_splice_0 : cX0_splice.data.toList.drop 0 = dktX0_splice_0 := by decide +kernel
theorem dksX0_splice_1 : cX0_splice.data.toList.drop 24 = dktX0_splice_1 := dk_seg dksX0_splice_0 24 rfl rfl
theorem dksX0_splice_2 : cX0_splice.data.toList.drop 48 = dktX0_splice_2 := dk_seg dksX0_splice_1 24 rfl rfl
theorem dX0_splice_0 : decode cX0_splice 0 = .ok (.aload_n 0, 1) := dk_42 (dk_at dksX0_splice_0 0 rfl rfl)
theorem dX0_splice_1 : decode cX0_splice 1 = .ok (.iload_n 1, 1) := dk_27 (dk_at dksX0_splice_0 1 rfl rfl)
theorem dX0_splice_2 : decode cX0_splice 2 = .ok (.invokevirtual 477, 3) := dk_182 1 221 (dk_at dksX0_splice_0 2 rfl rfl)
theorem dX0_splice_5 : decode cX0_splice 5 = .ok (.ifCond .eq 16, 3) := dk_153 0 16 (dk_at dksX0_splice_0 5 rfl rfl)
theorem dX0_splice_8 : decode cX0_splice 8 = .ok (.aload_n 0, 1) := dk_42 (dk_at dksX0_splice_0 8 rfl rfl)
theorem dX0_splice_9 : decode cX0_splice 9 = .ok (.iload_n 2, 1) := dk_28 (dk_at dksX0_splice_0 9 rfl rfl)
theorem dX0_splice_10 : decode cX0_splice 10 = .ok (.invokevirtual 477, 3) := dk_182 1 221 (dk_at dksX0_splice_0 10 rfl rfl)
theorem dX0_splice_13 : decode cX0_splice 13 = .ok (.ifCond .eq 8, 3) := dk_153 0 8 (dk_at dksX0_splice_0 13 rfl rfl)
theorem dX0_splice_16 : decode cX0_splice 16 = .ok (.iload_n 1, 1) := dk_27 (dk_at dksX0_splice_0 16 rfl rfl)
theorem dX0_splice_17 : decode cX0_splice 17 = .ok (.iload_n 2, 1) := dk_28 (dk_at dksX0_splice_0 17 rfl rfl)
theorem dX0_splice_18 : decode cX0_splice 18 = .ok (.if_icmp .ne 5, 3) := dk_160 0 5 (dk_at dksX0_splice_0 18 rfl rfl)
theorem dX0_splice_21 : decode cX0_splice 21 = .ok (.iconst (-1), 1) := dk_2 (dk_at dksX0_splice_0 21 rfl rfl)
theorem dX0_splice_22 : decode cX0_splice 22 = .ok (.ireturn, 1) := dk_172 (dk_at dksX0_splice_0 22 rfl rfl)
theorem dX0_splice_23 : decode cX0_splice 23 = .ok (.aload_n 0, 1) := dk_42 (dk_at dksX0_splice_0 23 rfl rfl)
theorem dX0_splice_24 : decode cX0_splice 24 = .ok (.getfield 164, 3) := dk_180 0 164 (dk_at dksX0_splice_1 0 rfl rfl)
theorem dX0_splice_27 : decode cX0_splice 27 = .ok (.getfield 468, 3) := dk_180 1 212 (dk_at dksX0_splice_1 3 rfl rfl)
theorem dX0_splice_30 : decode cX0_splice 30 = .ok (.iload_n 1, 1) := dk_27 (dk_at dksX0_splice_1 6 rfl rfl)
theorem dX0_splice_31 : decode cX0_splice 31 = .ok (.iaload, 1) := dk_46 (dk_at dksX0_splice_1 7 rfl rfl)
theorem dX0_splice_32 : decode cX0_splice 32 = .ok (.aload_n 0, 1) := dk_42 (dk_at dksX0_splice_1 8 rfl rfl)
theorem dX0_splice_33 : decode cX0_splice 33 = .ok (.getfield 164, 3) := dk_180 0 164 (dk_at dksX0_splice_1 9 rfl rfl)
theorem dX0_splice_36 : decode cX0_splice 36 = .ok (.getfield 468, 3) := dk_180 1 212 (dk_at dksX0_splice_1 12 rfl rfl)
theorem dX0_splice_39 : decode cX0_splice 39 = .ok (.iload_n 2, 1) := dk_28 (dk_at dksX0_splice_1 15 rfl rfl)
theorem dX0_splice_40 : decode cX0_splice 40 = .ok (.iaload, 1) := dk_46 (dk_at dksX0_splice_1 16 rfl rfl)
theorem dX0_splice_41 : decode cX0_splice 41 = .ok (.invokestatic 1, 3) := dk_184 0 1 (dk_at dksX0_splice_1 17 rfl rfl)
theorem dX0_splice_44 : decode cX0_splice 44 = .ok (.istore_n 3, 1) := dk_62 (dk_at dksX0_splice_1 20 rfl rfl)
theorem dX0_splice_45 : decode cX0_splice 45 = .ok (.aload_n 0, 1) := dk_42 (dk_at dksX0_splice_1 21 rfl rfl)
theorem dX0_splice_46 : decode cX0_splice 46 = .ok (.iload_n 1, 1) := dk_27 (dk_at dksX0_splice_1 22 rfl rfl)
theorem dX0_splice_47 : decode cX0_splice 47 = .ok (.iload_n 2, 1) := dk_28 (dk_at dksX0_splice_1 23 rfl rfl)
theorem dX0_splice_48 : decode cX0_splice 48 = .ok (.iload_n 3, 1) := dk_29 (dk_at dksX0_splice_2 0 rfl rfl)
theorem dX0_splice_49 : decode cX0_splice 49 = .ok (.invokevirtual 649, 3) := dk_182 2 137 (dk_at dksX0_splice_2 1 rfl rfl)
theorem dX0_splice_52 : decode cX0_splice 52 = .ok (.ifCond .ne 9, 3) := dk_154 0 9 (dk_at dksX0_splice_2 4 rfl rfl)
theorem dX0_splice_55 : decode cX0_splice 55 = .ok (.iinc 3 (-1), 3) := dk_132 3 255 (dk_at dksX0_splice_2 7 rfl rfl)
theorem dX0_splice_58 : decode cX0_splice 58 = .ok (.goto (-13), 3) := dk_167 255 243 (dk_at dksX0_splice_2 10 rfl rfl)
theorem dX0_splice_61 : decode cX0_splice 61 = .ok (.iload_n 3, 1) := dk_29 (dk_at dksX0_splice_2 13 rfl rfl)
theorem dX0_splice_62 : decode cX0_splice 62 = .ok (.ireturn, 1) := dk_172 (dk_at dksX0_splice_2 14 rfl rfl)
abbrev cX0_isSpliced : ByteArray := prog_1_method_101_code
def yX0_isSpliced : MethodName := ⟨RX0, "isSpliced", "(III)Z"⟩
def dkwX0_isSpliced_2 : List UInt8 := [132, 4, 1, 167, 255, 210, 4, 172]
abbrev dktX0_isSpliced_2 : List UInt8 := dkwX0_isSpliced_2 ++ []
def dkwX0_isSpliced_1 : List UInt8 := [100, 21, 4, 96, 182, 1, 255, 42, 180, 0, 164, 28, 21, 4, 182, 1, 255, 159, 0, 5, 3, 172]
abbrev dktX0_isSpliced_1 : List UInt8 := dkwX0_isSpliced_1 ++ dktX0_isSpliced_2
def dkwX0_isSpliced_0 : List UInt8 := [3, 54, 4, 21, 4, 29, 162, 0, 46, 42, 180, 0, 164, 27, 42, 180, 0, 164, 180, 1, 212, 27, 46, 29]
abbrev dktX0_isSpliced_0 : List UInt8 := dkwX0_isSpliced_0 ++ dktX0_isSpliced_1
theorem dksX0_isSpliced_0 : cX0_isSpliced.data.toList.drop 0 = dktX0_isSpliced_0 := by decide +kernel
theorem dksX0_isSpliced_1 : cX0_isSpliced.data.toList.drop 24 = dktX0_isSpliced_1 := dk_seg dksX0_isSpliced_0 24 rfl rfl
theorem dksX0_isSpliced_2 : cX0_isSpliced.data.toList.drop 46 = dktX0_isSpliced_2 := dk_seg dksX0_isSpliced_1 22 rfl rfl
theorem dX0_isSpliced_0 : decode cX0_isSpliced 0 = .ok (.iconst 0, 1) := dk_3 (dk_at dksX0_isSpliced_0 0 rfl rfl)
theorem dX0_isSpliced_1 : decode cX0_isSpliced 1 = .ok (.istore 4, 2) := dk_54 4 (dk_at dksX0_isSpliced_0 1 rfl rfl)
theorem dX0_isSpliced_3 : decode cX0_isSpliced 3 = .ok (.iload 4, 2) := dk_21 4 (dk_at dksX0_isSpliced_0 3 rfl rfl)
theorem dX0_isSpliced_5 : decode cX0_isSpliced 5 = .ok (.iload_n 3, 1) := dk_29 (dk_at dksX0_isSpliced_0 5 rfl rfl)
theorem dX0_isSpliced_6 : decode cX0_isSpliced 6 = .ok (.if_icmp .ge 46, 3) := dk_162 0 46 (dk_at dksX0_isSpliced_0 6 rfl rfl)
theorem dX0_isSpliced_9 : decode cX0_isSpliced 9 = .ok (.aload_n 0, 1) := dk_42 (dk_at dksX0_isSpliced_0 9 rfl rfl)
theorem dX0_isSpliced_10 : decode cX0_isSpliced 10 = .ok (.getfield 164, 3) := dk_180 0 164 (dk_at dksX0_isSpliced_0 10 rfl rfl)
theorem dX0_isSpliced_13 : decode cX0_isSpliced 13 = .ok (.iload_n 1, 1) := dk_27 (dk_at dksX0_isSpliced_0 13 rfl rfl)
theorem dX0_isSpliced_14 : decode cX0_isSpliced 14 = .ok (.aload_n 0, 1) := dk_42 (dk_at dksX0_isSpliced_0 14 rfl rfl)
theorem dX0_isSpliced_15 : decode cX0_isSpliced 15 = .ok (.getfield 164, 3) := dk_180 0 164 (dk_at dksX0_isSpliced_0 15 rfl rfl)
theorem dX0_isSpliced_18 : decode cX0_isSpliced 18 = .ok (.getfield 468, 3) := dk_180 1 212 (dk_at dksX0_isSpliced_0 18 rfl rfl)
theorem dX0_isSpliced_21 : decode cX0_isSpliced 21 = .ok (.iload_n 1, 1) := dk_27 (dk_at dksX0_isSpliced_0 21 rfl rfl)
theorem dX0_isSpliced_22 : decode cX0_isSpliced 22 = .ok (.iaload, 1) := dk_46 (dk_at dksX0_isSpliced_0 22 rfl rfl)
theorem dX0_isSpliced_23 : decode cX0_isSpliced 23 = .ok (.iload_n 3, 1) := dk_29 (dk_at dksX0_isSpliced_0 23 rfl rfl)
theorem dX0_isSpliced_24 : decode cX0_isSpliced 24 = .ok (.isub, 1) := dk_100 (dk_at dksX0_isSpliced_1 0 rfl rfl)
theorem dX0_isSpliced_25 : decode cX0_isSpliced 25 = .ok (.iload 4, 2) := dk_21 4 (dk_at dksX0_isSpliced_1 1 rfl rfl)
theorem dX0_isSpliced_27 : decode cX0_isSpliced 27 = .ok (.iadd, 1) := dk_96 (dk_at dksX0_isSpliced_1 3 rfl rfl)
theorem dX0_isSpliced_28 : decode cX0_isSpliced 28 = .ok (.invokevirtual 511, 3) := dk_182 1 255 (dk_at dksX0_isSpliced_1 4 rfl rfl)
theorem dX0_isSpliced_31 : decode cX0_isSpliced 31 = .ok (.aload_n 0, 1) := dk_42 (dk_at dksX0_isSpliced_1 7 rfl rfl)
theorem dX0_isSpliced_32 : decode cX0_isSpliced 32 = .ok (.getfield 164, 3) := dk_180 0 164 (dk_at dksX0_isSpliced_1 8 rfl rfl)
theorem dX0_isSpliced_35 : decode cX0_isSpliced 35 = .ok (.iload_n 2, 1) := dk_28 (dk_at dksX0_isSpliced_1 11 rfl rfl)
theorem dX0_isSpliced_36 : decode cX0_isSpliced 36 = .ok (.iload 4, 2) := dk_21 4 (dk_at dksX0_isSpliced_1 12 rfl rfl)
theorem dX0_isSpliced_38 : decode cX0_isSpliced 38 = .ok (.invokevirtual 511, 3) := dk_182 1 255 (dk_at dksX0_isSpliced_1 14 rfl rfl)
theorem dX0_isSpliced_41 : decode cX0_isSpliced 41 = .ok (.if_icmp .eq 5, 3) := dk_159 0 5 (dk_at dksX0_isSpliced_1 17 rfl rfl)
theorem dX0_isSpliced_44 : decode cX0_isSpliced 44 = .ok (.iconst 0, 1) := dk_3 (dk_at dksX0_isSpliced_1 20 rfl rfl)
theorem dX0_isSpliced_45 : decode cX0_isSpliced 45 = .ok (.ireturn, 1) := dk_172 (dk_at dksX0_isSpliced_1 21 rfl rfl)
theorem dX0_isSpliced_46 : decode cX0_isSpliced 46 = .ok (.iinc 4 1, 3) := dk_132 4 1 (dk_at dksX0_isSpliced_2 0 rfl rfl)
theorem dX0_isSpliced_49 : decode cX0_isSpliced 49 = .ok (.goto (-46), 3) := dk_167 255 210 (dk_at dksX0_isSpliced_2 3 rfl rfl)
theorem dX0_isSpliced_52 : decode cX0_isSpliced 52 = .ok (.iconst 1, 1) := dk_4 (dk_at dksX0_isSpliced_2 6 rfl rfl)
theorem dX0_isSpliced_53 : decode cX0_isSpliced 53 = .ok (.ireturn, 1) := dk_172 (dk_at dksX0_isSpliced_2 7 rfl rfl)
abbrev cX0_both_2 : ByteArray := prog_1_method_104_code
def yX0_both_2 : MethodName := ⟨RX0, "both", "(II)I"⟩
def dkwX0_both_2_4 : List UInt8 := [172]
abbrev dktX0_both_2_4 : List UInt8 := dkwX0_both_2_4 ++ []
def dkwX0_both_2_3 : List UInt8 := [21, 4, 172, 132, 4, 1, 167, 255, 215, 132, 3, 255, 167, 255, 202, 28, 154, 0, 7, 3, 167, 0, 4, 2]
abbrev dktX0_both_2_3 : List UInt8 := dkwX0_both_2_3 ++ dktX0_both_2_4
def dkwX0_both_2_2 : List UInt8 := [27, 46, 163, 0, 31, 42, 27, 21, 4, 29, 182, 2, 140, 153, 0, 14, 28, 154, 0, 7, 29, 167, 0, 5]
abbrev dktX0_both_2_2 : List UInt8 := dkwX0_both_2_2 ++ dktX0_both_2_3
def dkwX0_both_2_1 : List UInt8 := [180, 1, 212, 27, 46, 62, 29, 158, 0, 56, 3, 54, 4, 21, 4, 29, 96, 42, 180, 0, 164, 180, 1, 212]
abbrev dktX0_both_2_1 : List UInt8 := dkwX0_both_2_1 ++ dktX0_both_2_2
def dkwX0_both_2_0 : List UInt8 := [42, 27, 182, 1, 221, 153, 0, 12, 28, 3, 4, 184, 0, 224, 154, 0, 5, 2, 172, 42, 180, 0, 164]
abbrev dktX0_both_2_0 : List UInt8 := dkwX0_both_2_0 ++ dktX0_both_2_1
theorem dksX0_both_2_0 : cX0_both_2.data.toList.drop 0 = dktX0_both_2_0 := by decide +kernel
theorem dksX0_both_2_1 : cX0_both_2.data.toList.drop 23 = dktX0_both_2_1 := dk_seg dksX0_both_2_0 23 rfl rfl
theorem dksX0_both_2_2 : cX0_both_2.data.toList.drop 47 = dktX0_both_2_2 := dk_seg dksX0_both_2_1 24 rfl rfl
theorem dksX0_both_2_3 : cX0_both_2.data.toList.drop 71 = dktX0_both_2_3 := dk_seg dksX0_both_2_2 24 rfl rfl
theorem dksX0_both_2_4 : cX0_both_2.data.toList.drop 95 = dktX0_both_2_4 := dk_seg dksX0_both_2_3 24 rfl rfl
theorem dX0_both_2_0 : decode cX0_both_2 0 = .ok (.aload_n 0, 1) := dk_42 (dk_at dksX0_both_2_0 0 rfl rfl)
theorem dX0_both_2_1 : decode cX0_both_2 1 = .ok (.iload_n 1, 1) := dk_27 (dk_at dksX0_both_2_0 1 rfl rfl)
theorem dX0_both_2_2 : decode cX0_both_2 2 = .ok (.invokevirtual 477, 3) := dk_182 1 221 (dk_at dksX0_both_2_0 2 rfl rfl)
theorem dX0_both_2_5 : decode cX0_both_2 5 = .ok (.ifCond .eq 12, 3) := dk_153 0 12 (dk_at dksX0_both_2_0 5 rfl rfl)
theorem dX0_both_2_8 : decode cX0_both_2 8 = .ok (.iload_n 2, 1) := dk_28 (dk_at dksX0_both_2_0 8 rfl rfl)
theorem dX0_both_2_9 : decode cX0_both_2 9 = .ok (.iconst 0, 1) := dk_3 (dk_at dksX0_both_2_0 9 rfl rfl)
theorem dX0_both_2_10 : decode cX0_both_2 10 = .ok (.iconst 1, 1) := dk_4 (dk_at dksX0_both_2_0 10 rfl rfl)
theorem dX0_both_2_11 : decode cX0_both_2 11 = .ok (.invokestatic 224, 3) := dk_184 0 224 (dk_at dksX0_both_2_0 11 rfl rfl)
theorem dX0_both_2_14 : decode cX0_both_2 14 = .ok (.ifCond .ne 5, 3) := dk_154 0 5 (dk_at dksX0_both_2_0 14 rfl rfl)
theorem dX0_both_2_17 : decode cX0_both_2 17 = .ok (.iconst (-1), 1) := dk_2 (dk_at dksX0_both_2_0 17 rfl rfl)
theorem dX0_both_2_18 : decode cX0_both_2 18 = .ok (.ireturn, 1) := dk_172 (dk_at dksX0_both_2_0 18 rfl rfl)
theorem dX0_both_2_19 : decode cX0_both_2 19 = .ok (.aload_n 0, 1) := dk_42 (dk_at dksX0_both_2_0 19 rfl rfl)
theorem dX0_both_2_20 : decode cX0_both_2 20 = .ok (.getfield 164, 3) := dk_180 0 164 (dk_at dksX0_both_2_0 20 rfl rfl)
theorem dX0_both_2_23 : decode cX0_both_2 23 = .ok (.getfield 468, 3) := dk_180 1 212 (dk_at dksX0_both_2_1 0 rfl rfl)
theorem dX0_both_2_26 : decode cX0_both_2 26 = .ok (.iload_n 1, 1) := dk_27 (dk_at dksX0_both_2_1 3 rfl rfl)
theorem dX0_both_2_27 : decode cX0_both_2 27 = .ok (.iaload, 1) := dk_46 (dk_at dksX0_both_2_1 4 rfl rfl)
theorem dX0_both_2_28 : decode cX0_both_2 28 = .ok (.istore_n 3, 1) := dk_62 (dk_at dksX0_both_2_1 5 rfl rfl)
theorem dX0_both_2_29 : decode cX0_both_2 29 = .ok (.iload_n 3, 1) := dk_29 (dk_at dksX0_both_2_1 6 rfl rfl)
theorem dX0_both_2_30 : decode cX0_both_2 30 = .ok (.ifCond .le 56, 3) := dk_158 0 56 (dk_at dksX0_both_2_1 7 rfl rfl)
theorem dX0_both_2_33 : decode cX0_both_2 33 = .ok (.iconst 0, 1) := dk_3 (dk_at dksX0_both_2_1 10 rfl rfl)
theorem dX0_both_2_34 : decode cX0_both_2 34 = .ok (.istore 4, 2) := dk_54 4 (dk_at dksX0_both_2_1 11 rfl rfl)
theorem dX0_both_2_36 : decode cX0_both_2 36 = .ok (.iload 4, 2) := dk_21 4 (dk_at dksX0_both_2_1 13 rfl rfl)
theorem dX0_both_2_38 : decode cX0_both_2 38 = .ok (.iload_n 3, 1) := dk_29 (dk_at dksX0_both_2_1 15 rfl rfl)
theorem dX0_both_2_39 : decode cX0_both_2 39 = .ok (.iadd, 1) := dk_96 (dk_at dksX0_both_2_1 16 rfl rfl)
theorem dX0_both_2_40 : decode cX0_both_2 40 = .ok (.aload_n 0, 1) := dk_42 (dk_at dksX0_both_2_1 17 rfl rfl)
theorem dX0_both_2_41 : decode cX0_both_2 41 = .ok (.getfield 164, 3) := dk_180 0 164 (dk_at dksX0_both_2_1 18 rfl rfl)
theorem dX0_both_2_44 : decode cX0_both_2 44 = .ok (.getfield 468, 3) := dk_180 1 212 (dk_at dksX0_both_2_1 21 rfl rfl)
theorem dX0_both_2_47 : decode cX0_both_2 47 = .ok (.iload_n 1, 1) := dk_27 (dk_at dksX0_both_2_2 0 rfl rfl)
theorem dX0_both_2_48 : decode cX0_both_2 48 = .ok (.iaload, 1) := dk_46 (dk_at dksX0_both_2_2 1 rfl rfl)
theorem dX0_both_2_49 : decode cX0_both_2 49 = .ok (.if_icmp .gt 31, 3) := dk_163 0 31 (dk_at dksX0_both_2_2 2 rfl rfl)
theorem dX0_both_2_52 : decode cX0_both_2 52 = .ok (.aload_n 0, 1) := dk_42 (dk_at dksX0_both_2_2 5 rfl rfl)
theorem dX0_both_2_53 : decode cX0_both_2 53 = .ok (.iload_n 1, 1) := dk_27 (dk_at dksX0_both_2_2 6 rfl rfl)
theorem dX0_both_2_54 : decode cX0_both_2 54 = .ok (.iload 4, 2) := dk_21 4 (dk_at dksX0_both_2_2 7 rfl rfl)
theorem dX0_both_2_56 : decode cX0_both_2 56 = .ok (.iload_n 3, 1) := dk_29 (dk_at dksX0_both_2_2 9 rfl rfl)
theorem dX0_both_2_57 : decode cX0_both_2 57 = .ok (.invokevirtual 652, 3) := dk_182 2 140 (dk_at dksX0_both_2_2 10 rfl rfl)
theorem dX0_both_2_60 : decode cX0_both_2 60 = .ok (.ifCond .eq 14, 3) := dk_153 0 14 (dk_at dksX0_both_2_2 13 rfl rfl)
theorem dX0_both_2_63 : decode cX0_both_2 63 = .ok (.iload_n 2, 1) := dk_28 (dk_at dksX0_both_2_2 16 rfl rfl)
theorem dX0_both_2_64 : decode cX0_both_2 64 = .ok (.ifCond .ne 7, 3) := dk_154 0 7 (dk_at dksX0_both_2_2 17 rfl rfl)
theorem dX0_both_2_67 : decode cX0_both_2 67 = .ok (.iload_n 3, 1) := dk_29 (dk_at dksX0_both_2_2 20 rfl rfl)
theorem dX0_both_2_68 : decode cX0_both_2 68 = .ok (.goto 5, 3) := dk_167 0 5 (dk_at dksX0_both_2_2 21 rfl rfl)
theorem dX0_both_2_71 : decode cX0_both_2 71 = .ok (.iload 4, 2) := dk_21 4 (dk_at dksX0_both_2_3 0 rfl rfl)
theorem dX0_both_2_73 : decode cX0_both_2 73 = .ok (.ireturn, 1) := dk_172 (dk_at dksX0_both_2_3 2 rfl rfl)
theorem dX0_both_2_74 : decode cX0_both_2 74 = .ok (.iinc 4 1, 3) := dk_132 4 1 (dk_at dksX0_both_2_3 3 rfl rfl)
theorem dX0_both_2_77 : decode cX0_both_2 77 = .ok (.goto (-41), 3) := dk_167 255 215 (dk_at dksX0_both_2_3 6 rfl rfl)
theorem dX0_both_2_80 : decode cX0_both_2 80 = .ok (.iinc 3 (-1), 3) := dk_132 3 255 (dk_at dksX0_both_2_3 9 rfl rfl)
theorem dX0_both_2_83 : decode cX0_both_2 83 = .ok (.goto (-54), 3) := dk_167 255 202 (dk_at dksX0_both_2_3 12 rfl rfl)
theorem dX0_both_2_86 : decode cX0_both_2 86 = .ok (.iload_n 2, 1) := dk_28 (dk_at dksX0_both_2_3 15 rfl rfl)
theorem dX0_both_2_87 : decode cX0_both_2 87 = .ok (.ifCond .ne 7, 3) := dk_154 0 7 (dk_at dksX0_both_2_3 16 rfl rfl)
theorem dX0_both_2_90 : decode cX0_both_2 90 = .ok (.iconst 0, 1) := dk_3 (dk_at dksX0_both_2_3 19 rfl rfl)
theorem dX0_both_2_91 : decode cX0_both_2 91 = .ok (.goto 4, 3) := dk_167 0 4 (dk_at dksX0_both_2_3 20 rfl rfl)
theorem dX0_both_2_94 : decode cX0_both_2 94 = .ok (.iconst (-1), 1) := dk_2 (dk_at dksX0_both_2_3 23 rfl rfl)
theorem dX0_both_2_95 : decode cX0_both_2 95 = .ok (.ireturn, 1) := dk_172 (dk_at dksX0_both_2_4 0 rfl rfl)
abbrev cX0_isBothWays : ByteArray := prog_1_method_103_code
def yX0_isBothWays : MethodName := ⟨RX0, "isBothWays", "(III)Z"⟩
def dkwX0_isBothWays_2 : List UInt8 := [167, 255, 212, 4, 172]
abbrev dktX0_isBothWays_2 : List UInt8 := dkwX0_isBothWays_2 ++ []
def dkwX0_isBothWays_1 : List UInt8 := [180, 0, 164, 27, 28, 29, 96, 4, 100, 21, 4, 100, 182, 1, 255, 159, 0, 5, 3, 172, 132, 4, 1]
abbrev dktX0_isBothWays_1 : List UInt8 := dkwX0_isBothWays_1 ++ dktX0_isBothWays_2
def dkwX0_isBothWays_0 : List UInt8 := [3, 54, 4, 21, 4, 29, 5, 108, 162, 0, 42, 42, 180, 0, 164, 27, 28, 21, 4, 96, 182, 1, 255, 42]
abbrev dktX0_isBothWays_0 : List UInt8 := dkwX0_isBothWays_0 ++ dktX0_isBothWays_1
theorem dksX0_isBothWays_0 : cX0_isBothWays.data.toList.drop 0 = dktX0_isBothWays_0 := by decide +kernel
theorem dksX0_isBothWays_1 : cX0_isBothWays.data.toList.drop 24 = dktX0_isBothWays_1 := dk_seg dksX0_isBothWays_0 24 rfl rfl
theorem dksX0_isBothWays_2 : cX0_isBothWays.data.toList.drop 47 = dktX0_isBothWays_2 := dk_seg dksX0_isBothWays_1 23 rfl rfl
theorem dX0_isBothWays_0 : decode cX0_isBothWays 0 = .ok (.iconst 0, 1) := dk_3 (dk_at dksX0_isBothWays_0 0 rfl rfl)
theorem dX0_isBothWays_1 : decode cX0_isBothWays 1 = .ok (.istore 4, 2) := dk_54 4 (dk_at dksX0_isBothWays_0 1 rfl rfl)
theorem dX0_isBothWays_3 : decode cX0_isBothWays 3 = .ok (.iload 4, 2) := dk_21 4 (dk_at dksX0_isBothWays_0 3 rfl rfl)
theorem dX0_isBothWays_5 : decode cX0_isBothWays 5 = .ok (.iload_n 3, 1) := dk_29 (dk_at dksX0_isBothWays_0 5 rfl rfl)
theorem dX0_isBothWays_6 : decode cX0_isBothWays 6 = .ok (.iconst 2, 1) := dk_5 (dk_at dksX0_isBothWays_0 6 rfl rfl)
theorem dX0_isBothWays_7 : decode cX0_isBothWays 7 = .ok (.idiv, 1) := dk_108 (dk_at dksX0_isBothWays_0 7 rfl rfl)
theorem dX0_isBothWays_8 : decode cX0_isBothWays 8 = .ok (.if_icmp .ge 42, 3) := dk_162 0 42 (dk_at dksX0_isBothWays_0 8 rfl rfl)
theorem dX0_isBothWays_11 : decode cX0_isBothWays 11 = .ok (.aload_n 0, 1) := dk_42 (dk_at dksX0_isBothWays_0 11 rfl rfl)
theorem dX0_isBothWays_12 : decode cX0_isBothWays 12 = .ok (.getfield 164, 3) := dk_180 0 164 (dk_at dksX0_isBothWays_0 12 rfl rfl)
theorem dX0_isBothWays_15 : decode cX0_isBothWays 15 = .ok (.iload_n 1, 1) := dk_27 (dk_at dksX0_isBothWays_0 15 rfl rfl)
theorem dX0_isBothWays_16 : decode cX0_isBothWays 16 = .ok (.iload_n 2, 1) := dk_28 (dk_at dksX0_isBothWays_0 16 rfl rfl)
theorem dX0_isBothWays_17 : decode cX0_isBothWays 17 = .ok (.iload 4, 2) := dk_21 4 (dk_at dksX0_isBothWays_0 17 rfl rfl)
theorem dX0_isBothWays_19 : decode cX0_isBothWays 19 = .ok (.iadd, 1) := dk_96 (dk_at dksX0_isBothWays_0 19 rfl rfl)
theorem dX0_isBothWays_20 : decode cX0_isBothWays 20 = .ok (.invokevirtual 511, 3) := dk_182 1 255 (dk_at dksX0_isBothWays_0 20 rfl rfl)
theorem dX0_isBothWays_23 : decode cX0_isBothWays 23 = .ok (.aload_n 0, 1) := dk_42 (dk_at dksX0_isBothWays_0 23 rfl rfl)
theorem dX0_isBothWays_24 : decode cX0_isBothWays 24 = .ok (.getfield 164, 3) := dk_180 0 164 (dk_at dksX0_isBothWays_1 0 rfl rfl)
theorem dX0_isBothWays_27 : decode cX0_isBothWays 27 = .ok (.iload_n 1, 1) := dk_27 (dk_at dksX0_isBothWays_1 3 rfl rfl)
theorem dX0_isBothWays_28 : decode cX0_isBothWays 28 = .ok (.iload_n 2, 1) := dk_28 (dk_at dksX0_isBothWays_1 4 rfl rfl)
theorem dX0_isBothWays_29 : decode cX0_isBothWays 29 = .ok (.iload_n 3, 1) := dk_29 (dk_at dksX0_isBothWays_1 5 rfl rfl)
theorem dX0_isBothWays_30 : decode cX0_isBothWays 30 = .ok (.iadd, 1) := dk_96 (dk_at dksX0_isBothWays_1 6 rfl rfl)
theorem dX0_isBothWays_31 : decode cX0_isBothWays 31 = .ok (.iconst 1, 1) := dk_4 (dk_at dksX0_isBothWays_1 7 rfl rfl)
theorem dX0_isBothWays_32 : decode cX0_isBothWays 32 = .ok (.isub, 1) := dk_100 (dk_at dksX0_isBothWays_1 8 rfl rfl)
theorem dX0_isBothWays_33 : decode cX0_isBothWays 33 = .ok (.iload 4, 2) := dk_21 4 (dk_at dksX0_isBothWays_1 9 rfl rfl)
theorem dX0_isBothWays_35 : decode cX0_isBothWays 35 = .ok (.isub, 1) := dk_100 (dk_at dksX0_isBothWays_1 11 rfl rfl)
theorem dX0_isBothWays_36 : decode cX0_isBothWays 36 = .ok (.invokevirtual 511, 3) := dk_182 1 255 (dk_at dksX0_isBothWays_1 12 rfl rfl)
theorem dX0_isBothWays_39 : decode cX0_isBothWays 39 = .ok (.if_icmp .eq 5, 3) := dk_159 0 5 (dk_at dksX0_isBothWays_1 15 rfl rfl)
theorem dX0_isBothWays_42 : decode cX0_isBothWays 42 = .ok (.iconst 0, 1) := dk_3 (dk_at dksX0_isBothWays_1 18 rfl rfl)
theorem dX0_isBothWays_43 : decode cX0_isBothWays 43 = .ok (.ireturn, 1) := dk_172 (dk_at dksX0_isBothWays_1 19 rfl rfl)
theorem dX0_isBothWays_44 : decode cX0_isBothWays 44 = .ok (.iinc 4 1, 3) := dk_132 4 1 (dk_at dksX0_isBothWays_1 20 rfl rfl)
theorem dX0_isBothWays_47 : decode cX0_isBothWays 47 = .ok (.goto (-44), 3) := dk_167 255 212 (dk_at dksX0_isBothWays_2 0 rfl rfl)
theorem dX0_isBothWays_50 : decode cX0_isBothWays 50 = .ok (.iconst 1, 1) := dk_4 (dk_at dksX0_isBothWays_2 3 rfl rfl)
theorem dX0_isBothWays_51 : decode cX0_isBothWays 51 = .ok (.ireturn, 1) := dk_172 (dk_at dksX0_isBothWays_2 4 rfl rfl)
abbrev cX0_pull : ByteArray := prog_1_method_105_code
def yX0_pull : MethodName := ⟨RX0, "pull", "(I)I"⟩
def dkwX0_pull_4 : List UInt8 := [62, 132, 4, 1, 167, 255, 201, 29, 172]
abbrev dktX0_pull_4 : List UInt8 := dkwX0_pull_4 ++ []
def dkwX0_pull_3 : List UInt8 := [180, 1, 206, 21, 4, 46, 42, 180, 0, 164, 180, 1, 206, 29, 46, 162, 0, 8, 21, 4, 167, 0, 4, 29]
abbrev dktX0_pull_3 : List UInt8 := dkwX0_pull_3 ++ dktX0_pull_4
def dkwX0_pull_2 : List UInt8 := [180, 1, 136, 162, 0, 52, 28, 21, 4, 184, 2, 2, 153, 0, 35, 29, 2, 159, 0, 25, 42, 180, 0, 164]
abbrev dktX0_pull_2 : List UInt8 := dkwX0_pull_2 ++ dktX0_pull_3
def dkwX0_pull_1 : List UInt8 := [180, 1, 136, 42, 28, 27, 186, 2, 143, 0, 0, 184, 2, 32, 172, 2, 62, 3, 54, 4, 21, 4, 42]
abbrev dktX0_pull_1 : List UInt8 := dkwX0_pull_1 ++ dktX0_pull_2
def dkwX0_pull_0 : List UInt8 := [27, 2, 17, 3, 231, 184, 0, 224, 154, 0, 5, 2, 172, 42, 182, 2, 75, 61, 27, 2, 159, 0, 19, 42]
abbrev dktX0_pull_0 : List UInt8 := dkwX0_pull_0 ++ dktX0_pull_1
theorem dksX0_pull_0 : cX0_pull.data.toList.drop 0 = dktX0_pull_0 := by decide +kernel
theorem dksX0_pull_1 : cX0_pull.data.toList.drop 24 = dktX0_pull_1 := dk_seg dksX0_pull_0 24 rfl rfl
theorem dksX0_pull_2 : cX0_pull.data.toList.drop 47 = dktX0_pull_2 := dk_seg dksX0_pull_1 23 rfl rfl
theorem dksX0_pull_3 : cX0_pull.data.toList.drop 71 = dktX0_pull_3 := dk_seg dksX0_pull_2 24 rfl rfl
theorem dksX0_pull_4 : cX0_pull.data.toList.drop 95 = dktX0_pull_4 := dk_seg dksX0_pull_3 24 rfl rfl
theorem dX0_pull_0 : decode cX0_pull 0 = .ok (.iload_n 1, 1) := dk_27 (dk_at dksX0_pull_0 0 rfl rfl)
theorem dX0_pull_1 : decode cX0_pull 1 = .ok (.iconst (-1), 1) := dk_2 (dk_at dksX0_pull_0 1 rfl rfl)
theorem dX0_pull_2 : decode cX0_pull 2 = .ok (.sipush 999, 3) := dk_17 3 231 (dk_at dksX0_pull_0 2 rfl rfl)
theorem dX0_pull_5 : decode cX0_pull 5 = .ok (.invokestatic 224, 3) := dk_184 0 224 (dk_at dksX0_pull_0 5 rfl rfl)
theorem dX0_pull_8 : decode cX0_pull 8 = .ok (.ifCond .ne 5, 3) := dk_154 0 5 (dk_at dksX0_pull_0 8 rfl rfl)
theorem dX0_pull_11 : decode cX0_pull 11 = .ok (.iconst (-1), 1) := dk_2 (dk_at dksX0_pull_0 11 rfl rfl)
theorem dX0_pull_12 : decode cX0_pull 12 = .ok (.ireturn, 1) := dk_172 (dk_at dksX0_pull_0 12 rfl rfl)
theorem dX0_pull_13 : decode cX0_pull 13 = .ok (.aload_n 0, 1) := dk_42 (dk_at dksX0_pull_0 13 rfl rfl)
theorem dX0_pull_14 : decode cX0_pull 14 = .ok (.invokevirtual 587, 3) := dk_182 2 75 (dk_at dksX0_pull_0 14 rfl rfl)
theorem dX0_pull_17 : decode cX0_pull 17 = .ok (.istore_n 2, 1) := dk_61 (dk_at dksX0_pull_0 17 rfl rfl)
theorem dX0_pull_18 : decode cX0_pull 18 = .ok (.iload_n 1, 1) := dk_27 (dk_at dksX0_pull_0 18 rfl rfl)
theorem dX0_pull_19 : decode cX0_pull 19 = .ok (.iconst (-1), 1) := dk_2 (dk_at dksX0_pull_0 19 rfl rfl)
theorem dX0_pull_20 : decode cX0_pull 20 = .ok (.if_icmp .eq 19, 3) := dk_159 0 19 (dk_at dksX0_pull_0 20 rfl rfl)
theorem dX0_pull_23 : decode cX0_pull 23 = .ok (.aload_n 0, 1) := dk_42 (dk_at dksX0_pull_0 23 rfl rfl)
theorem dX0_pull_24 : decode cX0_pull 24 = .ok (.getfield 392, 3) := dk_180 1 136 (dk_at dksX0_pull_1 0 rfl rfl)
theorem dX0_pull_27 : decode cX0_pull 27 = .ok (.aload_n 0, 1) := dk_42 (dk_at dksX0_pull_1 3 rfl rfl)
theorem dX0_pull_28 : decode cX0_pull 28 = .ok (.iload_n 2, 1) := dk_28 (dk_at dksX0_pull_1 4 rfl rfl)
theorem dX0_pull_29 : decode cX0_pull 29 = .ok (.iload_n 1, 1) := dk_27 (dk_at dksX0_pull_1 5 rfl rfl)
theorem dX0_pull_30 : decode cX0_pull 30 = .ok (.invokedynamic 655, 5) := by decide +kernel
theorem dX0_pull_35 : decode cX0_pull 35 = .ok (.invokestatic 544, 3) := dk_184 2 32 (dk_at dksX0_pull_1 11 rfl rfl)
theorem dX0_pull_38 : decode cX0_pull 38 = .ok (.ireturn, 1) := dk_172 (dk_at dksX0_pull_1 14 rfl rfl)
theorem dX0_pull_39 : decode cX0_pull 39 = .ok (.iconst (-1), 1) := dk_2 (dk_at dksX0_pull_1 15 rfl rfl)
theorem dX0_pull_40 : decode cX0_pull 40 = .ok (.istore_n 3, 1) := dk_62 (dk_at dksX0_pull_1 16 rfl rfl)
theorem dX0_pull_41 : decode cX0_pull 41 = .ok (.iconst 0, 1) := dk_3 (dk_at dksX0_pull_1 17 rfl rfl)
theorem dX0_pull_42 : decode cX0_pull 42 = .ok (.istore 4, 2) := dk_54 4 (dk_at dksX0_pull_1 18 rfl rfl)
theorem dX0_pull_44 : decode cX0_pull 44 = .ok (.iload 4, 2) := dk_21 4 (dk_at dksX0_pull_1 20 rfl rfl)
theorem dX0_pull_46 : decode cX0_pull 46 = .ok (.aload_n 0, 1) := dk_42 (dk_at dksX0_pull_1 22 rfl rfl)
theorem dX0_pull_47 : decode cX0_pull 47 = .ok (.getfield 392, 3) := dk_180 1 136 (dk_at dksX0_pull_2 0 rfl rfl)
theorem dX0_pull_50 : decode cX0_pull 50 = .ok (.if_icmp .ge 52, 3) := dk_162 0 52 (dk_at dksX0_pull_2 3 rfl rfl)
theorem dX0_pull_53 : decode cX0_pull 53 = .ok (.iload_n 2, 1) := dk_28 (dk_at dksX0_pull_2 6 rfl rfl)
theorem dX0_pull_54 : decode cX0_pull 54 = .ok (.iload 4, 2) := dk_21 4 (dk_at dksX0_pull_2 7 rfl rfl)
theorem dX0_pull_56 : decode cX0_pull 56 = .ok (.invokestatic 514, 3) := dk_184 2 2 (dk_at dksX0_pull_2 9 rfl rfl)
theorem dX0_pull_59 : decode cX0_pull 59 = .ok (.ifCond .eq 35, 3) := dk_153 0 35 (dk_at dksX0_pull_2 12 rfl rfl)
theorem dX0_pull_62 : decode cX0_pull 62 = .ok (.iload_n 3, 1) := dk_29 (dk_at dksX0_pull_2 15 rfl rfl)
theorem dX0_pull_63 : decode cX0_pull 63 = .ok (.iconst (-1), 1) := dk_2 (dk_at dksX0_pull_2 16 rfl rfl)
theorem dX0_pull_64 : decode cX0_pull 64 = .ok (.if_icmp .eq 25, 3) := dk_159 0 25 (dk_at dksX0_pull_2 17 rfl rfl)
theorem dX0_pull_67 : decode cX0_pull 67 = .ok (.aload_n 0, 1) := dk_42 (dk_at dksX0_pull_2 20 rfl rfl)
theorem dX0_pull_68 : decode cX0_pull 68 = .ok (.getfield 164, 3) := dk_180 0 164 (dk_at dksX0_pull_2 21 rfl rfl)
theorem dX0_pull_71 : decode cX0_pull 71 = .ok (.getfield 462, 3) := dk_180 1 206 (dk_at dksX0_pull_3 0 rfl rfl)
theorem dX0_pull_74 : decode cX0_pull 74 = .ok (.iload 4, 2) := dk_21 4 (dk_at dksX0_pull_3 3 rfl rfl)
theorem dX0_pull_76 : decode cX0_pull 76 = .ok (.iaload, 1) := dk_46 (dk_at dksX0_pull_3 5 rfl rfl)
theorem dX0_pull_77 : decode cX0_pull 77 = .ok (.aload_n 0, 1) := dk_42 (dk_at dksX0_pull_3 6 rfl rfl)
theorem dX0_pull_78 : decode cX0_pull 78 = .ok (.getfield 164, 3) := dk_180 0 164 (dk_at dksX0_pull_3 7 rfl rfl)
theorem dX0_pull_81 : decode cX0_pull 81 = .ok (.getfield 462, 3) := dk_180 1 206 (dk_at dksX0_pull_3 10 rfl rfl)
theorem dX0_pull_84 : decode cX0_pull 84 = .ok (.iload_n 3, 1) := dk_29 (dk_at dksX0_pull_3 13 rfl rfl)
theorem dX0_pull_85 : decode cX0_pull 85 = .ok (.iaload, 1) := dk_46 (dk_at dksX0_pull_3 14 rfl rfl)
theorem dX0_pull_86 : decode cX0_pull 86 = .ok (.if_icmp .ge 8, 3) := dk_162 0 8 (dk_at dksX0_pull_3 15 rfl rfl)
theorem dX0_pull_89 : decode cX0_pull 89 = .ok (.iload 4, 2) := dk_21 4 (dk_at dksX0_pull_3 18 rfl rfl)
theorem dX0_pull_91 : decode cX0_pull 91 = .ok (.goto 4, 3) := dk_167 0 4 (dk_at dksX0_pull_3 20 rfl rfl)
theorem dX0_pull_94 : decode cX0_pull 94 = .ok (.iload_n 3, 1) := dk_29 (dk_at dksX0_pull_3 23 rfl rfl)
theorem dX0_pull_95 : decode cX0_pull 95 = .ok (.istore_n 3, 1) := dk_62 (dk_at dksX0_pull_4 0 rfl rfl)
theorem dX0_pull_96 : decode cX0_pull 96 = .ok (.iinc 4 1, 3) := dk_132 4 1 (dk_at dksX0_pull_4 1 rfl rfl)
theorem dX0_pull_99 : decode cX0_pull 99 = .ok (.goto (-55), 3) := dk_167 255 201 (dk_at dksX0_pull_4 4 rfl rfl)
theorem dX0_pull_102 : decode cX0_pull 102 = .ok (.iload_n 3, 1) := dk_29 (dk_at dksX0_pull_4 7 rfl rfl)
theorem dX0_pull_103 : decode cX0_pull 103 = .ok (.ireturn, 1) := dk_172 (dk_at dksX0_pull_4 8 rfl rfl)
abbrev cX0_lambda_pull_10 : ByteArray := prog_1_method_111_code
def yX0_lambda_pull_10 : MethodName := ⟨RX0, "lambda$pull$10", "(III)Z"⟩
def dkwX0_lambda_pull_10_1 : List UInt8 := [167, 0, 4, 3, 172]
abbrev dktX0_lambda_pull_10_1 : List UInt8 := dkwX0_lambda_pull_10_1 ++ []
def dkwX0_lambda_pull_10_0 : List UInt8 := [27, 29, 184, 2, 2, 153, 0, 20, 42, 180, 0, 164, 180, 1, 206, 29, 46, 28, 161, 0, 7, 4]
abbrev dktX0_lambda_pull_10_0 : List UInt8 := dkwX0_lambda_pull_10_0 ++ dktX0_lambda_pull_10_1
theorem dksX0_lambda_pull_10_0 : cX0_lambda_pull_10.data.toList.drop 0 = dktX0_lambda_pull_10_0 := by decide +kernel
theorem dksX0_lambda_pull_10_1 : cX0_lambda_pull_10.data.toList.drop 22 = dktX0_lambda_pull_10_1 := dk_seg dksX0_lambda_pull_10_0 22 rfl rfl
theorem dX0_lambda_pull_10_0 : decode cX0_lambda_pull_10 0 = .ok (.iload_n 1, 1) := dk_27 (dk_at dksX0_lambda_pull_10_0 0 rfl rfl)
theorem dX0_lambda_pull_10_1 : decode cX0_lambda_pull_10 1 = .ok (.iload_n 3, 1) := dk_29 (dk_at dksX0_lambda_pull_10_0 1 rfl rfl)
theorem dX0_lambda_pull_10_2 : decode cX0_lambda_pull_10 2 = .ok (.invokestatic 514, 3) := dk_184 2 2 (dk_at dksX0_lambda_pull_10_0 2 rfl rfl)
theorem dX0_lambda_pull_10_5 : decode cX0_lambda_pull_10 5 = .ok (.ifCond .eq 20, 3) := dk_153 0 20 (dk_at dksX0_lambda_pull_10_0 5 rfl rfl)
theorem dX0_lambda_pull_10_8 : decode cX0_lambda_pull_10 8 = .ok (.aload_n 0, 1) := dk_42 (dk_at dksX0_lambda_pull_10_0 8 rfl rfl)
theorem dX0_lambda_pull_10_9 : decode cX0_lambda_pull_10 9 = .ok (.getfield 164, 3) := dk_180 0 164 (dk_at dksX0_lambda_pull_10_0 9 rfl rfl)
theorem dX0_lambda_pull_10_12 : decode cX0_lambda_pull_10 12 = .ok (.getfield 462, 3) := dk_180 1 206 (dk_at dksX0_lambda_pull_10_0 12 rfl rfl)
theorem dX0_lambda_pull_10_15 : decode cX0_lambda_pull_10 15 = .ok (.iload_n 3, 1) := dk_29 (dk_at dksX0_lambda_pull_10_0 15 rfl rfl)
theorem dX0_lambda_pull_10_16 : decode cX0_lambda_pull_10 16 = .ok (.iaload, 1) := dk_46 (dk_at dksX0_lambda_pull_10_0 16 rfl rfl)
theorem dX0_lambda_pull_10_17 : decode cX0_lambda_pull_10 17 = .ok (.iload_n 2, 1) := dk_28 (dk_at dksX0_lambda_pull_10_0 17 rfl rfl)
theorem dX0_lambda_pull_10_18 : decode cX0_lambda_pull_10 18 = .ok (.if_icmp .lt 7, 3) := dk_161 0 7 (dk_at dksX0_lambda_pull_10_0 18 rfl rfl)
theorem dX0_lambda_pull_10_21 : decode cX0_lambda_pull_10 21 = .ok (.iconst 1, 1) := dk_4 (dk_at dksX0_lambda_pull_10_0 21 rfl rfl)
theorem dX0_lambda_pull_10_22 : decode cX0_lambda_pull_10 22 = .ok (.goto 4, 3) := dk_167 0 4 (dk_at dksX0_lambda_pull_10_1 0 rfl rfl)
theorem dX0_lambda_pull_10_25 : decode cX0_lambda_pull_10 25 = .ok (.iconst 0, 1) := dk_3 (dk_at dksX0_lambda_pull_10_1 3 rfl rfl)
theorem dX0_lambda_pull_10_26 : decode cX0_lambda_pull_10 26 = .ok (.ireturn, 1) := dk_172 (dk_at dksX0_lambda_pull_10_1 4 rfl rfl)
abbrev cX0_game : ByteArray := prog_1_method_106_code
def yX0_game : MethodName := ⟨RX0, "game", "(I)I"⟩
def dkwX0_game_5 : List UInt8 := [21, 4, 172, 132, 4, 1, 167, 255, 191, 132, 3, 1, 167, 255, 173, 2, 172]
abbrev dktX0_game_5 : List UInt8 := dkwX0_game_5 ++ []
def dkwX0_game_4 : List UInt8 := [29, 50, 182, 2, 15, 21, 4, 100, 16, 6, 112, 130, 154, 0, 14, 27, 154, 0, 7, 29, 167, 0, 5]
abbrev dktX0_game_4 : List UInt8 := dkwX0_game_4 ++ dktX0_game_5
def dkwX0_game_3 : List UInt8 := [184, 0, 1, 163, 0, 53, 28, 42, 180, 0, 144, 29, 50, 182, 2, 15, 16, 6, 112, 130, 42, 180, 0, 144]
abbrev dktX0_game_3 : List UInt8 := dkwX0_game_3 ++ dktX0_game_4
def dkwX0_game_2 : List UInt8 := [42, 180, 0, 144, 190, 162, 0, 80, 4, 54, 4, 21, 4, 8, 42, 180, 0, 144, 29, 50, 182, 2, 15]
abbrev dktX0_game_2 : List UInt8 := dkwX0_game_2 ++ dktX0_game_3
def dkwX0_game_1 : List UInt8 := [28, 42, 180, 0, 144, 29, 50, 182, 2, 15, 16, 6, 112, 130, 61, 132, 3, 1, 167, 255, 229, 3, 62, 29]
abbrev dktX0_game_1 : List UInt8 := dkwX0_game_1 ++ dktX0_game_2
def dkwX0_game_0 : List UInt8 := [27, 3, 4, 184, 0, 224, 154, 0, 5, 2, 172, 3, 61, 3, 62, 29, 42, 180, 0, 144, 190, 162, 0, 24]
abbrev dktX0_game_0 : List UInt8 := dkwX0_game_0 ++ dktX0_game_1
theorem dksX0_game_0 : cX0_game.data.toList.drop 0 = dktX0_game_0 := by decide +kernel
theorem dksX0_game_1 : cX0_game.data.toList.drop 24 = dktX0_game_1 := dk_seg dksX0_game_0 24 rfl rfl
theorem dksX0_game_2 : cX0_game.data.toList.drop 48 = dktX0_game_2 := dk_seg dksX0_game_1 24 rfl rfl
theorem dksX0_game_3 : cX0_game.data.toList.drop 71 = dktX0_game_3 := dk_seg dksX0_game_2 23 rfl rfl
theorem dksX0_game_4 : cX0_game.data.toList.drop 95 = dktX0_game_4 := dk_seg dksX0_game_3 24 rfl rfl
theorem dksX0_game_5 : cX0_game.data.toList.drop 118 = dktX0_game_5 := dk_seg dksX0_game_4 23 rfl rfl
theorem dX0_game_0 : decode cX0_game 0 = .ok (.iload_n 1, 1) := dk_27 (dk_at dksX0_game_0 0 rfl rfl)
theorem dX0_game_1 : decode cX0_game 1 = .ok (.iconst 0, 1) := dk_3 (dk_at dksX0_game_0 1 rfl rfl)
theorem dX0_game_2 : decode cX0_game 2 = .ok (.iconst 1, 1) := dk_4 (dk_at dksX0_game_0 2 rfl rfl)
theorem dX0_game_3 : decode cX0_game 3 = .ok (.invokestatic 224, 3) := dk_184 0 224 (dk_at dksX0_game_0 3 rfl rfl)
theorem dX0_game_6 : decode cX0_game 6 = .ok (.ifCond .ne 5, 3) := dk_154 0 5 (dk_at dksX0_game_0 6 rfl rfl)
theorem dX0_game_9 : decode cX0_game 9 = .ok (.iconst (-1), 1) := dk_2 (dk_at dksX0_game_0 9 rfl rfl)
theorem dX0_game_10 : decode cX0_game 10 = .ok (.ireturn, 1) := dk_172 (dk_at dksX0_game_0 10 rfl rfl)
theorem dX0_game_11 : decode cX0_game 11 = .ok (.iconst 0, 1) := dk_3 (dk_at dksX0_game_0 11 rfl rfl)
theorem dX0_game_12 : decode cX0_game 12 = .ok (.istore_n 2, 1) := dk_61 (dk_at dksX0_game_0 12 rfl rfl)
theorem dX0_game_13 : decode cX0_game 13 = .ok (.iconst 0, 1) := dk_3 (dk_at dksX0_game_0 13 rfl rfl)
theorem dX0_game_14 : decode cX0_game 14 = .ok (.istore_n 3, 1) := dk_62 (dk_at dksX0_game_0 14 rfl rfl)
theorem dX0_game_15 : decode cX0_game 15 = .ok (.iload_n 3, 1) := dk_29 (dk_at dksX0_game_0 15 rfl rfl)
theorem dX0_game_16 : decode cX0_game 16 = .ok (.aload_n 0, 1) := dk_42 (dk_at dksX0_game_0 16 rfl rfl)
theorem dX0_game_17 : decode cX0_game 17 = .ok (.getfield 144, 3) := dk_180 0 144 (dk_at dksX0_game_0 17 rfl rfl)
theorem dX0_game_20 : decode cX0_game 20 = .ok (.arraylength, 1) := dk_190 (dk_at dksX0_game_0 20 rfl rfl)
theorem dX0_game_21 : decode cX0_game 21 = .ok (.if_icmp .ge 24, 3) := dk_162 0 24 (dk_at dksX0_game_0 21 rfl rfl)
theorem dX0_game_24 : decode cX0_game 24 = .ok (.iload_n 2, 1) := dk_28 (dk_at dksX0_game_1 0 rfl rfl)
theorem dX0_game_25 : decode cX0_game 25 = .ok (.aload_n 0, 1) := dk_42 (dk_at dksX0_game_1 1 rfl rfl)
theorem dX0_game_26 : decode cX0_game 26 = .ok (.getfield 144, 3) := dk_180 0 144 (dk_at dksX0_game_1 2 rfl rfl)
theorem dX0_game_29 : decode cX0_game 29 = .ok (.iload_n 3, 1) := dk_29 (dk_at dksX0_game_1 5 rfl rfl)
theorem dX0_game_30 : decode cX0_game 30 = .ok (.aaload, 1) := dk_50 (dk_at dksX0_game_1 6 rfl rfl)
theorem dX0_game_31 : decode cX0_game 31 = .ok (.invokevirtual 527, 3) := dk_182 2 15 (dk_at dksX0_game_1 7 rfl rfl)
theorem dX0_game_34 : decode cX0_game 34 = .ok (.bipush 6, 2) := dk_16 6 (dk_at dksX0_game_1 10 rfl rfl)
theorem dX0_game_36 : decode cX0_game 36 = .ok (.irem, 1) := dk_112 (dk_at dksX0_game_1 12 rfl rfl)
theorem dX0_game_37 : decode cX0_game 37 = .ok (.ixor, 1) := dk_130 (dk_at dksX0_game_1 13 rfl rfl)
theorem dX0_game_38 : decode cX0_game 38 = .ok (.istore_n 2, 1) := dk_61 (dk_at dksX0_game_1 14 rfl rfl)
theorem dX0_game_39 : decode cX0_game 39 = .ok (.iinc 3 1, 3) := dk_132 3 1 (dk_at dksX0_game_1 15 rfl rfl)
theorem dX0_game_42 : decode cX0_game 42 = .ok (.goto (-27), 3) := dk_167 255 229 (dk_at dksX0_game_1 18 rfl rfl)
theorem dX0_game_45 : decode cX0_game 45 = .ok (.iconst 0, 1) := dk_3 (dk_at dksX0_game_1 21 rfl rfl)
theorem dX0_game_46 : decode cX0_game 46 = .ok (.istore_n 3, 1) := dk_62 (dk_at dksX0_game_1 22 rfl rfl)
theorem dX0_game_47 : decode cX0_game 47 = .ok (.iload_n 3, 1) := dk_29 (dk_at dksX0_game_1 23 rfl rfl)
theorem dX0_game_48 : decode cX0_game 48 = .ok (.aload_n 0, 1) := dk_42 (dk_at dksX0_game_2 0 rfl rfl)
theorem dX0_game_49 : decode cX0_game 49 = .ok (.getfield 144, 3) := dk_180 0 144 (dk_at dksX0_game_2 1 rfl rfl)
theorem dX0_game_52 : decode cX0_game 52 = .ok (.arraylength, 1) := dk_190 (dk_at dksX0_game_2 4 rfl rfl)
theorem dX0_game_53 : decode cX0_game 53 = .ok (.if_icmp .ge 80, 3) := dk_162 0 80 (dk_at dksX0_game_2 5 rfl rfl)
theorem dX0_game_56 : decode cX0_game 56 = .ok (.iconst 1, 1) := dk_4 (dk_at dksX0_game_2 8 rfl rfl)
theorem dX0_game_57 : decode cX0_game 57 = .ok (.istore 4, 2) := dk_54 4 (dk_at dksX0_game_2 9 rfl rfl)
theorem dX0_game_59 : decode cX0_game 59 = .ok (.iload 4, 2) := dk_21 4 (dk_at dksX0_game_2 11 rfl rfl)
theorem dX0_game_61 : decode cX0_game 61 = .ok (.iconst 5, 1) := dk_8 (dk_at dksX0_game_2 13 rfl rfl)
theorem dX0_game_62 : decode cX0_game 62 = .ok (.aload_n 0, 1) := dk_42 (dk_at dksX0_game_2 14 rfl rfl)
theorem dX0_game_63 : decode cX0_game 63 = .ok (.getfield 144, 3) := dk_180 0 144 (dk_at dksX0_game_2 15 rfl rfl)
theorem dX0_game_66 : decode cX0_game 66 = .ok (.iload_n 3, 1) := dk_29 (dk_at dksX0_game_2 18 rfl rfl)
theorem dX0_game_67 : decode cX0_game 67 = .ok (.aaload, 1) := dk_50 (dk_at dksX0_game_2 19 rfl rfl)
theorem dX0_game_68 : decode cX0_game 68 = .ok (.invokevirtual 527, 3) := dk_182 2 15 (dk_at dksX0_game_2 20 rfl rfl)
theorem dX0_game_71 : decode cX0_game 71 = .ok (.invokestatic 1, 3) := dk_184 0 1 (dk_at dksX0_game_3 0 rfl rfl)
theorem dX0_game_74 : decode cX0_game 74 = .ok (.if_icmp .gt 53, 3) := dk_163 0 53 (dk_at dksX0_game_3 3 rfl rfl)
theorem dX0_game_77 : decode cX0_game 77 = .ok (.iload_n 2, 1) := dk_28 (dk_at dksX0_game_3 6 rfl rfl)
theorem dX0_game_78 : decode cX0_game 78 = .ok (.aload_n 0, 1) := dk_42 (dk_at dksX0_game_3 7 rfl rfl)
theorem dX0_game_79 : decode cX0_game 79 = .ok (.getfield 144, 3) := dk_180 0 144 (dk_at dksX0_game_3 8 rfl rfl)
theorem dX0_game_82 : decode cX0_game 82 = .ok (.iload_n 3, 1) := dk_29 (dk_at dksX0_game_3 11 rfl rfl)
theorem dX0_game_83 : decode cX0_game 83 = .ok (.aaload, 1) := dk_50 (dk_at dksX0_game_3 12 rfl rfl)
theorem dX0_game_84 : decode cX0_game 84 = .ok (.invokevirtual 527, 3) := dk_182 2 15 (dk_at dksX0_game_3 13 rfl rfl)
theorem dX0_game_87 : decode cX0_game 87 = .ok (.bipush 6, 2) := dk_16 6 (dk_at dksX0_game_3 16 rfl rfl)
theorem dX0_game_89 : decode cX0_game 89 = .ok (.irem, 1) := dk_112 (dk_at dksX0_game_3 18 rfl rfl)
theorem dX0_game_90 : decode cX0_game 90 = .ok (.ixor, 1) := dk_130 (dk_at dksX0_game_3 19 rfl rfl)
theorem dX0_game_91 : decode cX0_game 91 = .ok (.aload_n 0, 1) := dk_42 (dk_at dksX0_game_3 20 rfl rfl)
theorem dX0_game_92 : decode cX0_game 92 = .ok (.getfield 144, 3) := dk_180 0 144 (dk_at dksX0_game_3 21 rfl rfl)
theorem dX0_game_95 : decode cX0_game 95 = .ok (.iload_n 3, 1) := dk_29 (dk_at dksX0_game_4 0 rfl rfl)
theorem dX0_game_96 : decode cX0_game 96 = .ok (.aaload, 1) := dk_50 (dk_at dksX0_game_4 1 rfl rfl)
theorem dX0_game_97 : decode cX0_game 97 = .ok (.invokevirtual 527, 3) := dk_182 2 15 (dk_at dksX0_game_4 2 rfl rfl)
theorem dX0_game_100 : decode cX0_game 100 = .ok (.iload 4, 2) := dk_21 4 (dk_at dksX0_game_4 5 rfl rfl)
theorem dX0_game_102 : decode cX0_game 102 = .ok (.isub, 1) := dk_100 (dk_at dksX0_game_4 7 rfl rfl)
theorem dX0_game_103 : decode cX0_game 103 = .ok (.bipush 6, 2) := dk_16 6 (dk_at dksX0_game_4 8 rfl rfl)
theorem dX0_game_105 : decode cX0_game 105 = .ok (.irem, 1) := dk_112 (dk_at dksX0_game_4 10 rfl rfl)
theorem dX0_game_106 : decode cX0_game 106 = .ok (.ixor, 1) := dk_130 (dk_at dksX0_game_4 11 rfl rfl)
theorem dX0_game_107 : decode cX0_game 107 = .ok (.ifCond .ne 14, 3) := dk_154 0 14 (dk_at dksX0_game_4 12 rfl rfl)
theorem dX0_game_110 : decode cX0_game 110 = .ok (.iload_n 1, 1) := dk_27 (dk_at dksX0_game_4 15 rfl rfl)
theorem dX0_game_111 : decode cX0_game 111 = .ok (.ifCond .ne 7, 3) := dk_154 0 7 (dk_at dksX0_game_4 16 rfl rfl)
theorem dX0_game_114 : decode cX0_game 114 = .ok (.iload_n 3, 1) := dk_29 (dk_at dksX0_game_4 19 rfl rfl)
theorem dX0_game_115 : decode cX0_game 115 = .ok (.goto 5, 3) := dk_167 0 5 (dk_at dksX0_game_4 20 rfl rfl)
theorem dX0_game_118 : decode cX0_game 118 = .ok (.iload 4, 2) := dk_21 4 (dk_at dksX0_game_5 0 rfl rfl)
theorem dX0_game_120 : decode cX0_game 120 = .ok (.ireturn, 1) := dk_172 (dk_at dksX0_game_5 2 rfl rfl)
theorem dX0_game_121 : decode cX0_game 121 = .ok (.iinc 4 1, 3) := dk_132 4 1 (dk_at dksX0_game_5 3 rfl rfl)
theorem dX0_game_124 : decode cX0_game 124 = .ok (.goto (-65), 3) := dk_167 255 191 (dk_at dksX0_game_5 6 rfl rfl)
theorem dX0_game_127 : decode cX0_game 127 = .ok (.iinc 3 1, 3) := dk_132 3 1 (dk_at dksX0_game_5 9 rfl rfl)
theorem dX0_game_130 : decode cX0_game 130 = .ok (.goto (-83), 3) := dk_167 255 173 (dk_at dksX0_game_5 12 rfl rfl)
theorem dX0_game_133 : decode cX0_game 133 = .ok (.iconst (-1), 1) := dk_2 (dk_at dksX0_game_5 15 rfl rfl)
theorem dX0_game_134 : decode cX0_game 134 = .ok (.ireturn, 1) := dk_172 (dk_at dksX0_game_5 16 rfl rfl)
abbrev cX0_image : ByteArray := prog_1_method_109_code
def yX0_image : MethodName := ⟨RX0, "image", "(Z)Z"⟩
def dkwX0_image_1 : List UInt8 := [42, 182, 2, 180, 4, 172]
abbrev dktX0_image_1 : List UInt8 := dkwX0_image_1 ++ []
def dkwX0_image_0 : List UInt8 := [27, 154, 0, 12, 42, 180, 2, 174, 199, 0, 5, 3, 172, 27, 153, 0, 10, 42, 182, 2, 177, 167, 0, 7]
abbrev dktX0_image_0 : List UInt8 := dkwX0_image_0 ++ dktX0_image_1
theorem dksX0_image_0 : cX0_image.data.toList.drop 0 = dktX0_image_0 := by decide +kernel
theorem dksX0_image_1 : cX0_image.data.toList.drop 24 = dktX0_image_1 := dk_seg dksX0_image_0 24 rfl rfl
theorem dX0_image_0 : decode cX0_image 0 = .ok (.iload_n 1, 1) := dk_27 (dk_at dksX0_image_0 0 rfl rfl)
theorem dX0_image_1 : decode cX0_image 1 = .ok (.ifCond .ne 12, 3) := dk_154 0 12 (dk_at dksX0_image_0 1 rfl rfl)
theorem dX0_image_4 : decode cX0_image 4 = .ok (.aload_n 0, 1) := dk_42 (dk_at dksX0_image_0 4 rfl rfl)
theorem dX0_image_5 : decode cX0_image 5 = .ok (.getfield 686, 3) := dk_180 2 174 (dk_at dksX0_image_0 5 rfl rfl)
theorem dX0_image_8 : decode cX0_image 8 = .ok (.ifnonnull 5, 3) := dk_199 0 5 (dk_at dksX0_image_0 8 rfl rfl)
theorem dX0_image_11 : decode cX0_image 11 = .ok (.iconst 0, 1) := dk_3 (dk_at dksX0_image_0 11 rfl rfl)
theorem dX0_image_12 : decode cX0_image 12 = .ok (.ireturn, 1) := dk_172 (dk_at dksX0_image_0 12 rfl rfl)
theorem dX0_image_13 : decode cX0_image 13 = .ok (.iload_n 1, 1) := dk_27 (dk_at dksX0_image_0 13 rfl rfl)
theorem dX0_image_14 : decode cX0_image 14 = .ok (.ifCond .eq 10, 3) := dk_153 0 10 (dk_at dksX0_image_0 14 rfl rfl)
theorem dX0_image_17 : decode cX0_image 17 = .ok (.aload_n 0, 1) := dk_42 (dk_at dksX0_image_0 17 rfl rfl)
theorem dX0_image_18 : decode cX0_image 18 = .ok (.invokevirtual 689, 3) := dk_182 2 177 (dk_at dksX0_image_0 18 rfl rfl)
theorem dX0_image_21 : decode cX0_image 21 = .ok (.goto 7, 3) := dk_167 0 7 (dk_at dksX0_image_0 21 rfl rfl)
theorem dX0_image_24 : decode cX0_image 24 = .ok (.aload_n 0, 1) := dk_42 (dk_at dksX0_image_1 0 rfl rfl)
theorem dX0_image_25 : decode cX0_image 25 = .ok (.invokevirtual 692, 3) := dk_182 2 180 (dk_at dksX0_image_1 1 rfl rfl)
theorem dX0_image_28 : decode cX0_image 28 = .ok (.iconst 1, 1) := dk_4 (dk_at dksX0_image_1 4 rfl rfl)
theorem dX0_image_29 : decode cX0_image 29 = .ok (.ireturn, 1) := dk_172 (dk_at dksX0_image_1 5 rfl rfl)
abbrev cX0_takesAll : ByteArray := prog_1_method_107_code
def yX0_takesAll : MethodName := ⟨RX0, "takesAll", "()V"⟩
def dkwX0_takesAll_4 : List UInt8 := [181, 2, 171, 42, 42, 180, 0, 134, 181, 2, 174, 177]
abbrev dktX0_takesAll_4 : List UInt8 := dkwX0_takesAll_4 ++ []
def dkwX0_takesAll_3 : List UInt8 := [181, 2, 162, 42, 42, 180, 0, 191, 181, 2, 165, 42, 42, 180, 0, 205, 181, 2, 168, 42, 42, 180, 0, 208]
abbrev dktX0_takesAll_3 : List UInt8 := dkwX0_takesAll_3 ++ dktX0_takesAll_4
def dkwX0_takesAll_2 : List UInt8 := [181, 2, 153, 42, 42, 180, 0, 150, 181, 2, 156, 42, 42, 180, 0, 183, 181, 2, 159, 42, 42, 180, 0, 154]
abbrev dktX0_takesAll_2 : List UInt8 := dkwX0_takesAll_2 ++ dktX0_takesAll_3
def dkwX0_takesAll_1 : List UInt8 := [180, 0, 171, 42, 180, 0, 164, 182, 1, 192, 42, 42, 180, 1, 136, 181, 2, 150, 42, 42, 180, 0, 144]
abbrev dktX0_takesAll_1 : List UInt8 := dkwX0_takesAll_1 ++ dktX0_takesAll_2
def dkwX0_takesAll_0 : List UInt8 := [42, 180, 0, 157, 42, 180, 0, 211, 184, 2, 146, 42, 180, 0, 174, 42, 180, 0, 214, 184, 2, 146, 42]
abbrev dktX0_takesAll_0 : List UInt8 := dkwX0_takesAll_0 ++ dktX0_takesAll_1
theorem dksX0_takesAll_0 : cX0_takesAll.data.toList.drop 0 = dktX0_takesAll_0 := by decide +kernel
theorem dksX0_takesAll_1 : cX0_takesAll.data.toList.drop 23 = dktX0_takesAll_1 := dk_seg dksX0_takesAll_0 23 rfl rfl
theorem dksX0_takesAll_2 : cX0_takesAll.data.toList.drop 46 = dktX0_takesAll_2 := dk_seg dksX0_takesAll_1 23 rfl rfl
theorem dksX0_takesAll_3 : cX0_takesAll.data.toList.drop 70 = dktX0_takesAll_3 := dk_seg dksX0_takesAll_2 24 rfl rfl
theorem dksX0_takesAll_4 : cX0_takesAll.data.toList.drop 94 = dktX0_takesAll_4 := dk_seg dksX0_takesAll_3 24 rfl rfl
theorem dX0_takesAll_0 : decode cX0_takesAll 0 = .ok (.aload_n 0, 1) := dk_42 (dk_at dksX0_takesAll_0 0 rfl rfl)
theorem dX0_takesAll_1 : decode cX0_takesAll 1 = .ok (.getfield 157, 3) := dk_180 0 157 (dk_at dksX0_takesAll_0 1 rfl rfl)
theorem dX0_takesAll_4 : decode cX0_takesAll 4 = .ok (.aload_n 0, 1) := dk_42 (dk_at dksX0_takesAll_0 4 rfl rfl)
theorem dX0_takesAll_5 : decode cX0_takesAll 5 = .ok (.getfield 211, 3) := dk_180 0 211 (dk_at dksX0_takesAll_0 5 rfl rfl)
theorem dX0_takesAll_8 : decode cX0_takesAll 8 = .ok (.invokestatic 658, 3) := dk_184 2 146 (dk_at dksX0_takesAll_0 8 rfl rfl)
theorem dX0_takesAll_11 : decode cX0_takesAll 11 = .ok (.aload_n 0, 1) := dk_42 (dk_at dksX0_takesAll_0 11 rfl rfl)
theorem dX0_takesAll_12 : decode cX0_takesAll 12 = .ok (.getfield 174, 3) := dk_180 0 174 (dk_at dksX0_takesAll_0 12 rfl rfl)
theorem dX0_takesAll_15 : decode cX0_takesAll 15 = .ok (.aload_n 0, 1) := dk_42 (dk_at dksX0_takesAll_0 15 rfl rfl)
theorem dX0_takesAll_16 : decode cX0_takesAll 16 = .ok (.getfield 214, 3) := dk_180 0 214 (dk_at dksX0_takesAll_0 16 rfl rfl)
theorem dX0_takesAll_19 : decode cX0_takesAll 19 = .ok (.invokestatic 658, 3) := dk_184 2 146 (dk_at dksX0_takesAll_0 19 rfl rfl)
theorem dX0_takesAll_22 : decode cX0_takesAll 22 = .ok (.aload_n 0, 1) := dk_42 (dk_at dksX0_takesAll_0 22 rfl rfl)
theorem dX0_takesAll_23 : decode cX0_takesAll 23 = .ok (.getfield 171, 3) := dk_180 0 171 (dk_at dksX0_takesAll_1 0 rfl rfl)
theorem dX0_takesAll_26 : decode cX0_takesAll 26 = .ok (.aload_n 0, 1) := dk_42 (dk_at dksX0_takesAll_1 3 rfl rfl)
theorem dX0_takesAll_27 : decode cX0_takesAll 27 = .ok (.getfield 164, 3) := dk_180 0 164 (dk_at dksX0_takesAll_1 4 rfl rfl)
theorem dX0_takesAll_30 : decode cX0_takesAll 30 = .ok (.invokevirtual 448, 3) := dk_182 1 192 (dk_at dksX0_takesAll_1 7 rfl rfl)
theorem dX0_takesAll_33 : decode cX0_takesAll 33 = .ok (.aload_n 0, 1) := dk_42 (dk_at dksX0_takesAll_1 10 rfl rfl)
theorem dX0_takesAll_34 : decode cX0_takesAll 34 = .ok (.aload_n 0, 1) := dk_42 (dk_at dksX0_takesAll_1 11 rfl rfl)
theorem dX0_takesAll_35 : decode cX0_takesAll 35 = .ok (.getfield 392, 3) := dk_180 1 136 (dk_at dksX0_takesAll_1 12 rfl rfl)
theorem dX0_takesAll_38 : decode cX0_takesAll 38 = .ok (.putfield 662, 3) := dk_181 2 150 (dk_at dksX0_takesAll_1 15 rfl rfl)
theorem dX0_takesAll_41 : decode cX0_takesAll 41 = .ok (.aload_n 0, 1) := dk_42 (dk_at dksX0_takesAll_1 18 rfl rfl)
theorem dX0_takesAll_42 : decode cX0_takesAll 42 = .ok (.aload_n 0, 1) := dk_42 (dk_at dksX0_takesAll_1 19 rfl rfl)
theorem dX0_takesAll_43 : decode cX0_takesAll 43 = .ok (.getfield 144, 3) := dk_180 0 144 (dk_at dksX0_takesAll_1 20 rfl rfl)
theorem dX0_takesAll_46 : decode cX0_takesAll 46 = .ok (.putfield 665, 3) := dk_181 2 153 (dk_at dksX0_takesAll_2 0 rfl rfl)
theorem dX0_takesAll_49 : decode cX0_takesAll 49 = .ok (.aload_n 0, 1) := dk_42 (dk_at dksX0_takesAll_2 3 rfl rfl)
theorem dX0_takesAll_50 : decode cX0_takesAll 50 = .ok (.aload_n 0, 1) := dk_42 (dk_at dksX0_takesAll_2 4 rfl rfl)
theorem dX0_takesAll_51 : decode cX0_takesAll 51 = .ok (.getfield 150, 3) := dk_180 0 150 (dk_at dksX0_takesAll_2 5 rfl rfl)
theorem dX0_takesAll_54 : decode cX0_takesAll 54 = .ok (.putfield 668, 3) := dk_181 2 156 (dk_at dksX0_takesAll_2 8 rfl rfl)
theorem dX0_takesAll_57 : decode cX0_takesAll 57 = .ok (.aload_n 0, 1) := dk_42 (dk_at dksX0_takesAll_2 11 rfl rfl)
theorem dX0_takesAll_58 : decode cX0_takesAll 58 = .ok (.aload_n 0, 1) := dk_42 (dk_at dksX0_takesAll_2 12 rfl rfl)
theorem dX0_takesAll_59 : decode cX0_takesAll 59 = .ok (.getfield 183, 3) := dk_180 0 183 (dk_at dksX0_takesAll_2 13 rfl rfl)
theorem dX0_takesAll_62 : decode cX0_takesAll 62 = .ok (.putfield 671, 3) := dk_181 2 159 (dk_at dksX0_takesAll_2 16 rfl rfl)
theorem dX0_takesAll_65 : decode cX0_takesAll 65 = .ok (.aload_n 0, 1) := dk_42 (dk_at dksX0_takesAll_2 19 rfl rfl)
theorem dX0_takesAll_66 : decode cX0_takesAll 66 = .ok (.aload_n 0, 1) := dk_42 (dk_at dksX0_takesAll_2 20 rfl rfl)
theorem dX0_takesAll_67 : decode cX0_takesAll 67 = .ok (.getfield 154, 3) := dk_180 0 154 (dk_at dksX0_takesAll_2 21 rfl rfl)
theorem dX0_takesAll_70 : decode cX0_takesAll 70 = .ok (.putfield 674, 3) := dk_181 2 162 (dk_at dksX0_takesAll_3 0 rfl rfl)
theorem dX0_takesAll_73 : decode cX0_takesAll 73 = .ok (.aload_n 0, 1) := dk_42 (dk_at dksX0_takesAll_3 3 rfl rfl)
theorem dX0_takesAll_74 : decode cX0_takesAll 74 = .ok (.aload_n 0, 1) := dk_42 (dk_at dksX0_takesAll_3 4 rfl rfl)
theorem dX0_takesAll_75 : decode cX0_takesAll 75 = .ok (.getfield 191, 3) := dk_180 0 191 (dk_at dksX0_takesAll_3 5 rfl rfl)
theorem dX0_takesAll_78 : decode cX0_takesAll 78 = .ok (.putfield 677, 3) := dk_181 2 165 (dk_at dksX0_takesAll_3 8 rfl rfl)
theorem dX0_takesAll_81 : decode cX0_takesAll 81 = .ok (.aload_n 0, 1) := dk_42 (dk_at dksX0_takesAll_3 11 rfl rfl)
theorem dX0_takesAll_82 : decode cX0_takesAll 82 = .ok (.aload_n 0, 1) := dk_42 (dk_at dksX0_takesAll_3 12 rfl rfl)
theorem dX0_takesAll_83 : decode cX0_takesAll 83 = .ok (.getfield 205, 3) := dk_180 0 205 (dk_at dksX0_takesAll_3 13 rfl rfl)
theorem dX0_takesAll_86 : decode cX0_takesAll 86 = .ok (.putfield 680, 3) := dk_181 2 168 (dk_at dksX0_takesAll_3 16 rfl rfl)
theorem dX0_takesAll_89 : decode cX0_takesAll 89 = .ok (.aload_n 0, 1) := dk_42 (dk_at dksX0_takesAll_3 19 rfl rfl)
theorem dX0_takesAll_90 : decode cX0_takesAll 90 = .ok (.aload_n 0, 1) := dk_42 (dk_at dksX0_takesAll_3 20 rfl rfl)
theorem dX0_takesAll_91 : decode cX0_takesAll 91 = .ok (.getfield 208, 3) := dk_180 0 208 (dk_at dksX0_takesAll_3 21 rfl rfl)
theorem dX0_takesAll_94 : decode cX0_takesAll 94 = .ok (.putfield 683, 3) := dk_181 2 171 (dk_at dksX0_takesAll_4 0 rfl rfl)
theorem dX0_takesAll_97 : decode cX0_takesAll 97 = .ok (.aload_n 0, 1) := dk_42 (dk_at dksX0_takesAll_4 3 rfl rfl)
theorem dX0_takesAll_98 : decode cX0_takesAll 98 = .ok (.aload_n 0, 1) := dk_42 (dk_at dksX0_takesAll_4 4 rfl rfl)
theorem dX0_takesAll_99 : decode cX0_takesAll 99 = .ok (.getfield 134, 3) := dk_180 0 134 (dk_at dksX0_takesAll_4 5 rfl rfl)
theorem dX0_takesAll_102 : decode cX0_takesAll 102 = .ok (.putfield 686, 3) := dk_181 2 174 (dk_at dksX0_takesAll_4 8 rfl rfl)
theorem dX0_takesAll_105 : decode cX0_takesAll 105 = .ok (.return_, 1) := dk_177 (dk_at dksX0_takesAll_4 11 rfl rfl)
abbrev cX0_goesBack : ByteArray := prog_1_method_108_code
def yX0_goesBack : MethodName := ⟨RX0, "goesBack", "()V"⟩
def dkwX0_goesBack_4 : List UInt8 := [181, 0, 208, 42, 42, 180, 2, 174, 181, 0, 134, 42, 3, 181, 1, 152, 177]
abbrev dktX0_goesBack_4 : List UInt8 := dkwX0_goesBack_4 ++ []
def dkwX0_goesBack_3 : List UInt8 := [181, 0, 154, 42, 42, 180, 2, 165, 181, 0, 191, 42, 42, 180, 2, 168, 181, 0, 205, 42, 42, 180, 2, 171]
abbrev dktX0_goesBack_3 : List UInt8 := dkwX0_goesBack_3 ++ dktX0_goesBack_4
def dkwX0_goesBack_2 : List UInt8 := [181, 0, 144, 42, 42, 180, 2, 156, 181, 0, 150, 42, 42, 180, 2, 159, 181, 0, 183, 42, 42, 180, 2, 162]
abbrev dktX0_goesBack_2 : List UInt8 := dkwX0_goesBack_2 ++ dktX0_goesBack_3
def dkwX0_goesBack_1 : List UInt8 := [180, 0, 164, 42, 180, 0, 171, 182, 1, 192, 42, 42, 180, 2, 150, 181, 1, 136, 42, 42, 180, 2, 153]
abbrev dktX0_goesBack_1 : List UInt8 := dkwX0_goesBack_1 ++ dktX0_goesBack_2
def dkwX0_goesBack_0 : List UInt8 := [42, 180, 0, 211, 42, 180, 0, 157, 184, 2, 146, 42, 180, 0, 214, 42, 180, 0, 174, 184, 2, 146, 42]
abbrev dktX0_goesBack_0 : List UInt8 := dkwX0_goesBack_0 ++ dktX0_goesBack_1
theorem dksX0_goesBack_0 : cX0_goesBack.data.toList.drop 0 = dktX0_goesBack_0 := by decide +kernel
theorem dksX0_goesBack_1 : cX0_goesBack.data.toList.drop 23 = dktX0_goesBack_1 := dk_seg dksX0_goesBack_0 23 rfl rfl
theorem dksX0_goesBack_2 : cX0_goesBack.data.toList.drop 46 = dktX0_goesBack_2 := dk_seg dksX0_goesBack_1 23 rfl rfl
theorem dksX0_goesBack_3 : cX0_goesBack.data.toList.drop 70 = dktX0_goesBack_3 := dk_seg dksX0_goesBack_2 24 rfl rfl
theorem dksX0_goesBack_4 : cX0_goesBack.data.toList.drop 94 = dktX0_goesBack_4 := dk_seg dksX0_goesBack_3 24 rfl rfl
theorem dX0_goesBack_0 : decode cX0_goesBack 0 = .ok (.aload_n 0, 1) := dk_42 (dk_at dksX0_goesBack_0 0 rfl rfl)
theorem dX0_goesBack_1 : decode cX0_goesBack 1 = .ok (.getfield 211, 3) := dk_180 0 211 (dk_at dksX0_goesBack_0 1 rfl rfl)
theorem dX0_goesBack_4 : decode cX0_goesBack 4 = .ok (.aload_n 0, 1) := dk_42 (dk_at dksX0_goesBack_0 4 rfl rfl)
theorem dX0_goesBack_5 : decode cX0_goesBack 5 = .ok (.getfield 157, 3) := dk_180 0 157 (dk_at dksX0_goesBack_0 5 rfl rfl)
theorem dX0_goesBack_8 : decode cX0_goesBack 8 = .ok (.invokestatic 658, 3) := dk_184 2 146 (dk_at dksX0_goesBack_0 8 rfl rfl)
theorem dX0_goesBack_11 : decode cX0_goesBack 11 = .ok (.aload_n 0, 1) := dk_42 (dk_at dksX0_goesBack_0 11 rfl rfl)
theorem dX0_goesBack_12 : decode cX0_goesBack 12 = .ok (.getfield 214, 3) := dk_180 0 214 (dk_at dksX0_goesBack_0 12 rfl rfl)
theorem dX0_goesBack_15 : decode cX0_goesBack 15 = .ok (.aload_n 0, 1) := dk_42 (dk_at dksX0_goesBack_0 15 rfl rfl)
theorem dX0_goesBack_16 : decode cX0_goesBack 16 = .ok (.getfield 174, 3) := dk_180 0 174 (dk_at dksX0_goesBack_0 16 rfl rfl)
theorem dX0_goesBack_19 : decode cX0_goesBack 19 = .ok (.invokestatic 658, 3) := dk_184 2 146 (dk_at dksX0_goesBack_0 19 rfl rfl)
theorem dX0_goesBack_22 : decode cX0_goesBack 22 = .ok (.aload_n 0, 1) := dk_42 (dk_at dksX0_goesBack_0 22 rfl rfl)
theorem dX0_goesBack_23 : decode cX0_goesBack 23 = .ok (.getfield 164, 3) := dk_180 0 164 (dk_at dksX0_goesBack_1 0 rfl rfl)
theorem dX0_goesBack_26 : decode cX0_goesBack 26 = .ok (.aload_n 0, 1) := dk_42 (dk_at dksX0_goesBack_1 3 rfl rfl)
theorem dX0_goesBack_27 : decode cX0_goesBack 27 = .ok (.getfield 171, 3) := dk_180 0 171 (dk_at dksX0_goesBack_1 4 rfl rfl)
theorem dX0_goesBack_30 : decode cX0_goesBack 30 = .ok (.invokevirtual 448, 3) := dk_182 1 192 (dk_at dksX0_goesBack_1 7 rfl rfl)
theorem dX0_goesBack_33 : decode cX0_goesBack 33 = .ok (.aload_n 0, 1) := dk_42 (dk_at dksX0_goesBack_1 10 rfl rfl)
theorem dX0_goesBack_34 : decode cX0_goesBack 34 = .ok (.aload_n 0, 1) := dk_42 (dk_at dksX0_goesBack_1 11 rfl rfl)
theorem dX0_goesBack_35 : decode cX0_goesBack 35 = .ok (.getfield 662, 3) := dk_180 2 150 (dk_at dksX0_goesBack_1 12 rfl rfl)
theorem dX0_goesBack_38 : decode cX0_goesBack 38 = .ok (.putfield 392, 3) := dk_181 1 136 (dk_at dksX0_goesBack_1 15 rfl rfl)
theorem dX0_goesBack_41 : decode cX0_goesBack 41 = .ok (.aload_n 0, 1) := dk_42 (dk_at dksX0_goesBack_1 18 rfl rfl)
theorem dX0_goesBack_42 : decode cX0_goesBack 42 = .ok (.aload_n 0, 1) := dk_42 (dk_at dksX0_goesBack_1 19 rfl rfl)
theorem dX0_goesBack_43 : decode cX0_goesBack 43 = .ok (.getfield 665, 3) := dk_180 2 153 (dk_at dksX0_goesBack_1 20 rfl rfl)
theorem dX0_goesBack_46 : decode cX0_goesBack 46 = .ok (.putfield 144, 3) := dk_181 0 144 (dk_at dksX0_goesBack_2 0 rfl rfl)
theorem dX0_goesBack_49 : decode cX0_goesBack 49 = .ok (.aload_n 0, 1) := dk_42 (dk_at dksX0_goesBack_2 3 rfl rfl)
theorem dX0_goesBack_50 : decode cX0_goesBack 50 = .ok (.aload_n 0, 1) := dk_42 (dk_at dksX0_goesBack_2 4 rfl rfl)
theorem dX0_goesBack_51 : decode cX0_goesBack 51 = .ok (.getfield 668, 3) := dk_180 2 156 (dk_at dksX0_goesBack_2 5 rfl rfl)
theorem dX0_goesBack_54 : decode cX0_goesBack 54 = .ok (.putfield 150, 3) := dk_181 0 150 (dk_at dksX0_goesBack_2 8 rfl rfl)
theorem dX0_goesBack_57 : decode cX0_goesBack 57 = .ok (.aload_n 0, 1) := dk_42 (dk_at dksX0_goesBack_2 11 rfl rfl)
theorem dX0_goesBack_58 : decode cX0_goesBack 58 = .ok (.aload_n 0, 1) := dk_42 (dk_at dksX0_goesBack_2 12 rfl rfl)
theorem dX0_goesBack_59 : decode cX0_goesBack 59 = .ok (.getfield 671, 3) := dk_180 2 159 (dk_at dksX0_goesBack_2 13 rfl rfl)
theorem dX0_goesBack_62 : decode cX0_goesBack 62 = .ok (.putfield 183, 3) := dk_181 0 183 (dk_at dksX0_goesBack_2 16 rfl rfl)
theorem dX0_goesBack_65 : decode cX0_goesBack 65 = .ok (.aload_n 0, 1) := dk_42 (dk_at dksX0_goesBack_2 19 rfl rfl)
theorem dX0_goesBack_66 : decode cX0_goesBack 66 = .ok (.aload_n 0, 1) := dk_42 (dk_at dksX0_goesBack_2 20 rfl rfl)
theorem dX0_goesBack_67 : decode cX0_goesBack 67 = .ok (.getfield 674, 3) := dk_180 2 162 (dk_at dksX0_goesBack_2 21 rfl rfl)
theorem dX0_goesBack_70 : decode cX0_goesBack 70 = .ok (.putfield 154, 3) := dk_181 0 154 (dk_at dksX0_goesBack_3 0 rfl rfl)
theorem dX0_goesBack_73 : decode cX0_goesBack 73 = .ok (.aload_n 0, 1) := dk_42 (dk_at dksX0_goesBack_3 3 rfl rfl)
theorem dX0_goesBack_74 : decode cX0_goesBack 74 = .ok (.aload_n 0, 1) := dk_42 (dk_at dksX0_goesBack_3 4 rfl rfl)
theorem dX0_goesBack_75 : decode cX0_goesBack 75 = .ok (.getfield 677, 3) := dk_180 2 165 (dk_at dksX0_goesBack_3 5 rfl rfl)
theorem dX0_goesBack_78 : decode cX0_goesBack 78 = .ok (.putfield 191, 3) := dk_181 0 191 (dk_at dksX0_goesBack_3 8 rfl rfl)
theorem dX0_goesBack_81 : decode cX0_goesBack 81 = .ok (.aload_n 0, 1) := dk_42 (dk_at dksX0_goesBack_3 11 rfl rfl)
theorem dX0_goesBack_82 : decode cX0_goesBack 82 = .ok (.aload_n 0, 1) := dk_42 (dk_at dksX0_goesBack_3 12 rfl rfl)
theorem dX0_goesBack_83 : decode cX0_goesBack 83 = .ok (.getfield 680, 3) := dk_180 2 168 (dk_at dksX0_goesBack_3 13 rfl rfl)
theorem dX0_goesBack_86 : decode cX0_goesBack 86 = .ok (.putfield 205, 3) := dk_181 0 205 (dk_at dksX0_goesBack_3 16 rfl rfl)
theorem dX0_goesBack_89 : decode cX0_goesBack 89 = .ok (.aload_n 0, 1) := dk_42 (dk_at dksX0_goesBack_3 19 rfl rfl)
theorem dX0_goesBack_90 : decode cX0_goesBack 90 = .ok (.aload_n 0, 1) := dk_42 (dk_at dksX0_goesBack_3 20 rfl rfl)
theorem dX0_goesBack_91 : decode cX0_goesBack 91 = .ok (.getfield 683, 3) := dk_180 2 171 (dk_at dksX0_goesBack_3 21 rfl rfl)
theorem dX0_goesBack_94 : decode cX0_goesBack 94 = .ok (.putfield 208, 3) := dk_181 0 208 (dk_at dksX0_goesBack_4 0 rfl rfl)
theorem dX0_goesBack_97 : decode cX0_goesBack 97 = .ok (.aload_n 0, 1) := dk_42 (dk_at dksX0_goesBack_4 3 rfl rfl)
theorem dX0_goesBack_98 : decode cX0_goesBack 98 = .ok (.aload_n 0, 1) := dk_42 (dk_at dksX0_goesBack_4 4 rfl rfl)
theorem dX0_goesBack_99 : decode cX0_goesBack 99 = .ok (.getfield 686, 3) := dk_180 2 174 (dk_at dksX0_goesBack_4 5 rfl rfl)
theorem dX0_goesBack_102 : decode cX0_goesBack 102 = .ok (.putfield 134, 3) := dk_181 0 134 (dk_at dksX0_goesBack_4 8 rfl rfl)
theorem dX0_goesBack_105 : decode cX0_goesBack 105 = .ok (.aload_n 0, 1) := dk_42 (dk_at dksX0_goesBack_4 11 rfl rfl)
theorem dX0_goesBack_106 : decode cX0_goesBack 106 = .ok (.iconst 0, 1) := dk_3 (dk_at dksX0_goesBack_4 12 rfl rfl)
theorem dX0_goesBack_107 : decode cX0_goesBack 107 = .ok (.putfield 408, 3) := dk_181 1 152 (dk_at dksX0_goesBack_4 13 rfl rfl)
theorem dX0_goesBack_110 : decode cX0_goesBack 110 = .ok (.return_, 1) := dk_177 (dk_at dksX0_goesBack_4 16 rfl rfl)
abbrev cX0_look : ByteArray := prog_1_method_110_code
def yX0_look : MethodName := ⟨RX0, "look", "(I)I"⟩
def dkwX0_look_7 : List UInt8 := [42, 180, 1, 152, 172, 16, 254, 172]
abbrev dktX0_look_7 : List UInt8 := dkwX0_look_7 ++ []
def dkwX0_look_6 : List UInt8 := [42, 180, 0, 183, 190, 172, 42, 180, 0, 191, 190, 172, 42, 180, 0, 205, 190, 172, 42, 180, 0, 208, 190, 172]
abbrev dktX0_look_6 : List UInt8 := dkwX0_look_6 ++ dktX0_look_7
def dkwX0_look_5 : List UInt8 := [180, 1, 196, 172, 42, 180, 0, 134, 180, 1, 98, 172, 42, 180, 0, 150, 190, 172, 42, 180, 0, 154, 190, 172]
abbrev dktX0_look_5 : List UInt8 := dkwX0_look_5 ++ dktX0_look_6
def dkwX0_look_4 : List UInt8 := [180, 2, 183, 172, 42, 180, 0, 164, 180, 2, 23, 172, 42, 180, 0, 164, 180, 1, 187, 172, 42, 180, 0, 164]
abbrev dktX0_look_4 : List UInt8 := dkwX0_look_4 ++ dktX0_look_5
def dkwX0_look_3 : List UInt8 := [180, 1, 224, 172, 42, 180, 0, 164, 180, 1, 226, 172, 42, 180, 0, 164, 180, 2, 26, 172, 42, 180, 0, 164]
abbrev dktX0_look_3 : List UInt8 := dkwX0_look_3 ++ dktX0_look_4
def dkwX0_look_2 : List UInt8 := [42, 180, 1, 136, 172, 42, 180, 0, 144, 190, 172, 42, 180, 0, 164, 180, 1, 190, 172, 42, 180, 0, 164]
abbrev dktX0_look_2 : List UInt8 := dkwX0_look_2 ++ dktX0_look_3
def dkwX0_look_1 : List UInt8 := [170, 0, 0, 0, 0, 0, 211, 0, 0, 0, 0, 0, 0, 0, 17, 0, 0, 0, 87, 0, 0, 0, 92, 0, 0, 0, 98, 0, 0, 0, 106, 0, 0, 0, 114, 0, 0, 0, 122, 0, 0, 0, 130, 0, 0, 0, 138, 0, 0, 0, 146, 0, 0, 0, 154, 0, 0, 0, 162, 0, 0, 0, 170, 0, 0, 0, 176, 0, 0, 0, 182, 0, 0, 0, 188, 0, 0, 0, 194, 0, 0, 0, 200, 0, 0, 0, 206]
abbrev dktX0_look_1 : List UInt8 := dkwX0_look_1 ++ dktX0_look_2
def dkwX0_look_0 : List UInt8 := [27]
abbrev dktX0_look_0 : List UInt8 := dkwX0_look_0 ++ dktX0_look_1
theorem dksX0_look_0 : cX0_look.data.toList.drop 0 = dktX0_look_0 := by decide +kernel
theorem dksX0_look_1 : cX0_look.data.toList.drop 1 = dktX0_look_1 := dk_seg dksX0_look_0 1 rfl rfl
theorem dksX0_look_2 : cX0_look.data.toList.drop 88 = dktX0_look_2 := dk_seg dksX0_look_1 87 rfl rfl
theorem dksX0_look_3 : cX0_look.data.toList.drop 111 = dktX0_look_3 := dk_seg dksX0_look_2 23 rfl rfl
theorem dksX0_look_4 : cX0_look.data.toList.drop 135 = dktX0_look_4 := dk_seg dksX0_look_3 24 rfl rfl
theorem dksX0_look_5 : cX0_look.data.toList.drop 159 = dktX0_look_5 := dk_seg dksX0_look_4 24 rfl rfl
theorem dksX0_look_6 : cX0_look.data.toList.drop 183 = dktX0_look_6 := dk_seg dksX0_look_5 24 rfl rfl
theorem dksX0_look_7 : cX0_look.data.toList.drop 207 = dktX0_look_7 := dk_seg dksX0_look_6 24 rfl rfl
theorem dX0_look_0 : decode cX0_look 0 = .ok (.iload_n 1, 1) := dk_27 (dk_at dksX0_look_0 0 rfl rfl)
theorem dX0_look_1 : decode cX0_look 1 = .ok (.tableswitch 211 0 17 #[87, 92, 98, 106, 114, 122, 130, 138, 146, 154, 162, 170, 176, 182, 188, 194, 200, 206], 87) := by decide +kernel
theorem dX0_look_88 : decode cX0_look 88 = .ok (.aload_n 0, 1) := dk_42 (dk_at dksX0_look_2 0 rfl rfl)
theorem dX0_look_89 : decode cX0_look 89 = .ok (.getfield 392, 3) := dk_180 1 136 (dk_at dksX0_look_2 1 rfl rfl)
theorem dX0_look_92 : decode cX0_look 92 = .ok (.ireturn, 1) := dk_172 (dk_at dksX0_look_2 4 rfl rfl)
theorem dX0_look_93 : decode cX0_look 93 = .ok (.aload_n 0, 1) := dk_42 (dk_at dksX0_look_2 5 rfl rfl)
theorem dX0_look_94 : decode cX0_look 94 = .ok (.getfield 144, 3) := dk_180 0 144 (dk_at dksX0_look_2 6 rfl rfl)
theorem dX0_look_97 : decode cX0_look 97 = .ok (.arraylength, 1) := dk_190 (dk_at dksX0_look_2 9 rfl rfl)
theorem dX0_look_98 : decode cX0_look 98 = .ok (.ireturn, 1) := dk_172 (dk_at dksX0_look_2 10 rfl rfl)
theorem dX0_look_99 : decode cX0_look 99 = .ok (.aload_n 0, 1) := dk_42 (dk_at dksX0_look_2 11 rfl rfl)
theorem dX0_look_100 : decode cX0_look 100 = .ok (.getfield 164, 3) := dk_180 0 164 (dk_at dksX0_look_2 12 rfl rfl)
theorem dX0_look_103 : decode cX0_look 103 = .ok (.getfield 446, 3) := dk_180 1 190 (dk_at dksX0_look_2 15 rfl rfl)
theorem dX0_look_106 : decode cX0_look 106 = .ok (.ireturn, 1) := dk_172 (dk_at dksX0_look_2 18 rfl rfl)
theorem dX0_look_107 : decode cX0_look 107 = .ok (.aload_n 0, 1) := dk_42 (dk_at dksX0_look_2 19 rfl rfl)
theorem dX0_look_108 : decode cX0_look 108 = .ok (.getfield 164, 3) := dk_180 0 164 (dk_at dksX0_look_2 20 rfl rfl)
theorem dX0_look_111 : decode cX0_look 111 = .ok (.getfield 480, 3) := dk_180 1 224 (dk_at dksX0_look_3 0 rfl rfl)
theorem dX0_look_114 : decode cX0_look 114 = .ok (.ireturn, 1) := dk_172 (dk_at dksX0_look_3 3 rfl rfl)
theorem dX0_look_115 : decode cX0_look 115 = .ok (.aload_n 0, 1) := dk_42 (dk_at dksX0_look_3 4 rfl rfl)
theorem dX0_look_116 : decode cX0_look 116 = .ok (.getfield 164, 3) := dk_180 0 164 (dk_at dksX0_look_3 5 rfl rfl)
theorem dX0_look_119 : decode cX0_look 119 = .ok (.getfield 482, 3) := dk_180 1 226 (dk_at dksX0_look_3 8 rfl rfl)
theorem dX0_look_122 : decode cX0_look 122 = .ok (.ireturn, 1) := dk_172 (dk_at dksX0_look_3 11 rfl rfl)
theorem dX0_look_123 : decode cX0_look 123 = .ok (.aload_n 0, 1) := dk_42 (dk_at dksX0_look_3 12 rfl rfl)
theorem dX0_look_124 : decode cX0_look 124 = .ok (.getfield 164, 3) := dk_180 0 164 (dk_at dksX0_look_3 13 rfl rfl)
theorem dX0_look_127 : decode cX0_look 127 = .ok (.getfield 538, 3) := dk_180 2 26 (dk_at dksX0_look_3 16 rfl rfl)
theorem dX0_look_130 : decode cX0_look 130 = .ok (.ireturn, 1) := dk_172 (dk_at dksX0_look_3 19 rfl rfl)
theorem dX0_look_131 : decode cX0_look 131 = .ok (.aload_n 0, 1) := dk_42 (dk_at dksX0_look_3 20 rfl rfl)
theorem dX0_look_132 : decode cX0_look 132 = .ok (.getfield 164, 3) := dk_180 0 164 (dk_at dksX0_look_3 21 rfl rfl)
theorem dX0_look_135 : decode cX0_look 135 = .ok (.getfield 695, 3) := dk_180 2 183 (dk_at dksX0_look_4 0 rfl rfl)
theorem dX0_look_138 : decode cX0_look 138 = .ok (.ireturn, 1) := dk_172 (dk_at dksX0_look_4 3 rfl rfl)
theorem dX0_look_139 : decode cX0_look 139 = .ok (.aload_n 0, 1) := dk_42 (dk_at dksX0_look_4 4 rfl rfl)
theorem dX0_look_140 : decode cX0_look 140 = .ok (.getfield 164, 3) := dk_180 0 164 (dk_at dksX0_look_4 5 rfl rfl)
theorem dX0_look_143 : decode cX0_look 143 = .ok (.getfield 535, 3) := dk_180 2 23 (dk_at dksX0_look_4 8 rfl rfl)
theorem dX0_look_146 : decode cX0_look 146 = .ok (.ireturn, 1) := dk_172 (dk_at dksX0_look_4 11 rfl rfl)
theorem dX0_look_147 : decode cX0_look 147 = .ok (.aload_n 0, 1) := dk_42 (dk_at dksX0_look_4 12 rfl rfl)
theorem dX0_look_148 : decode cX0_look 148 = .ok (.getfield 164, 3) := dk_180 0 164 (dk_at dksX0_look_4 13 rfl rfl)
theorem dX0_look_151 : decode cX0_look 151 = .ok (.getfield 443, 3) := dk_180 1 187 (dk_at dksX0_look_4 16 rfl rfl)
theorem dX0_look_154 : decode cX0_look 154 = .ok (.ireturn, 1) := dk_172 (dk_at dksX0_look_4 19 rfl rfl)
theorem dX0_look_155 : decode cX0_look 155 = .ok (.aload_n 0, 1) := dk_42 (dk_at dksX0_look_4 20 rfl rfl)
theorem dX0_look_156 : decode cX0_look 156 = .ok (.getfield 164, 3) := dk_180 0 164 (dk_at dksX0_look_4 21 rfl rfl)
theorem dX0_look_159 : decode cX0_look 159 = .ok (.getfield 452, 3) := dk_180 1 196 (dk_at dksX0_look_5 0 rfl rfl)
theorem dX0_look_162 : decode cX0_look 162 = .ok (.ireturn, 1) := dk_172 (dk_at dksX0_look_5 3 rfl rfl)
theorem dX0_look_163 : decode cX0_look 163 = .ok (.aload_n 0, 1) := dk_42 (dk_at dksX0_look_5 4 rfl rfl)
theorem dX0_look_164 : decode cX0_look 164 = .ok (.getfield 134, 3) := dk_180 0 134 (dk_at dksX0_look_5 5 rfl rfl)
theorem dX0_look_167 : decode cX0_look 167 = .ok (.getfield 354, 3) := dk_180 1 98 (dk_at dksX0_look_5 8 rfl rfl)
theorem dX0_look_170 : decode cX0_look 170 = .ok (.ireturn, 1) := dk_172 (dk_at dksX0_look_5 11 rfl rfl)
theorem dX0_look_171 : decode cX0_look 171 = .ok (.aload_n 0, 1) := dk_42 (dk_at dksX0_look_5 12 rfl rfl)
theorem dX0_look_172 : decode cX0_look 172 = .ok (.getfield 150, 3) := dk_180 0 150 (dk_at dksX0_look_5 13 rfl rfl)
theorem dX0_look_175 : decode cX0_look 175 = .ok (.arraylength, 1) := dk_190 (dk_at dksX0_look_5 16 rfl rfl)
theorem dX0_look_176 : decode cX0_look 176 = .ok (.ireturn, 1) := dk_172 (dk_at dksX0_look_5 17 rfl rfl)
theorem dX0_look_177 : decode cX0_look 177 = .ok (.aload_n 0, 1) := dk_42 (dk_at dksX0_look_5 18 rfl rfl)
theorem dX0_look_178 : decode cX0_look 178 = .ok (.getfield 154, 3) := dk_180 0 154 (dk_at dksX0_look_5 19 rfl rfl)
theorem dX0_look_181 : decode cX0_look 181 = .ok (.arraylength, 1) := dk_190 (dk_at dksX0_look_5 22 rfl rfl)
theorem dX0_look_182 : decode cX0_look 182 = .ok (.ireturn, 1) := dk_172 (dk_at dksX0_look_5 23 rfl rfl)
theorem dX0_look_183 : decode cX0_look 183 = .ok (.aload_n 0, 1) := dk_42 (dk_at dksX0_look_6 0 rfl rfl)
theorem dX0_look_184 : decode cX0_look 184 = .ok (.getfield 183, 3) := dk_180 0 183 (dk_at dksX0_look_6 1 rfl rfl)
theorem dX0_look_187 : decode cX0_look 187 = .ok (.arraylength, 1) := dk_190 (dk_at dksX0_look_6 4 rfl rfl)
theorem dX0_look_188 : decode cX0_look 188 = .ok (.ireturn, 1) := dk_172 (dk_at dksX0_look_6 5 rfl rfl)
theorem dX0_look_189 : decode cX0_look 189 = .ok (.aload_n 0, 1) := dk_42 (dk_at dksX0_look_6 6 rfl rfl)
theorem dX0_look_190 : decode cX0_look 190 = .ok (.getfield 191, 3) := dk_180 0 191 (dk_at dksX0_look_6 7 rfl rfl)
theorem dX0_look_193 : decode cX0_look 193 = .ok (.arraylength, 1) := dk_190 (dk_at dksX0_look_6 10 rfl rfl)
theorem dX0_look_194 : decode cX0_look 194 = .ok (.ireturn, 1) := dk_172 (dk_at dksX0_look_6 11 rfl rfl)
theorem dX0_look_195 : decode cX0_look 195 = .ok (.aload_n 0, 1) := dk_42 (dk_at dksX0_look_6 12 rfl rfl)
theorem dX0_look_196 : decode cX0_look 196 = .ok (.getfield 205, 3) := dk_180 0 205 (dk_at dksX0_look_6 13 rfl rfl)
theorem dX0_look_199 : decode cX0_look 199 = .ok (.arraylength, 1) := dk_190 (dk_at dksX0_look_6 16 rfl rfl)
theorem dX0_look_200 : decode cX0_look 200 = .ok (.ireturn, 1) := dk_172 (dk_at dksX0_look_6 17 rfl rfl)
theorem dX0_look_201 : decode cX0_look 201 = .ok (.aload_n 0, 1) := dk_42 (dk_at dksX0_look_6 18 rfl rfl)
theorem dX0_look_202 : decode cX0_look 202 = .ok (.getfield 208, 3) := dk_180 0 208 (dk_at dksX0_look_6 19 rfl rfl)
theorem dX0_look_205 : decode cX0_look 205 = .ok (.arraylength, 1) := dk_190 (dk_at dksX0_look_6 22 rfl rfl)
theorem dX0_look_206 : decode cX0_look 206 = .ok (.ireturn, 1) := dk_172 (dk_at dksX0_look_6 23 rfl rfl)
theorem dX0_look_207 : decode cX0_look 207 = .ok (.aload_n 0, 1) := dk_42 (dk_at dksX0_look_7 0 rfl rfl)
theorem dX0_look_208 : decode cX0_look 208 = .ok (.getfield 408, 3) := dk_180 1 152 (dk_at dksX0_look_7 1 rfl rfl)
theorem dX0_look_211 : decode cX0_look 211 = .ok (.ireturn, 1) := dk_172 (dk_at dksX0_look_7 4 rfl rfl)
theorem dX0_look_212 : decode cX0_look 212 = .ok (.bipush (-2), 2) := dk_16 254 (dk_at dksX0_look_7 5 rfl rfl)
theorem dX0_look_214 : decode cX0_look 214 = .ok (.ireturn, 1) := dk_172 (dk_at dksX0_look_7 7 rfl rfl)
theorem q155 : (Jvm.Cond.initialized "SilkClerks") ∈ lw_all := lw_g (lw_at lw_m1 1 rfl) rfl
theorem q183 : (Jvm.Cond.instantiable "SilkClerks" (47 : Nat)) ∈ lw_all := lw_g (lw_at lw_m1 29 rfl) rfl
theorem q185 : (Jvm.Cond.instanceMethod ({ cls := "SilkClerks", name := "<init>", desc := "()V" } : Jvm.MethodName)) ∈ lw_all := lw_g (lw_at lw_m1 31 rfl) rfl
theorem q186 : (Jvm.Cond.code ({ cls := "SilkClerks", name := "<init>", desc := "()V" } : Jvm.MethodName) prog_1_method_9_code (1 : Nat) (Option.none : Option Jvm.ClassFile.FieldType)) ∈ lw_all := lw_g (lw_at lw_m1 32 rfl) rfl
theorem q187 : (Jvm.Cond.methodLink "SilkClerks" (41 : Nat) ({ cls := "java/lang/Object", name := "<init>", desc := "()V" } : Jvm.MethodName)) ∈ lw_all := lw_g (lw_at lw_m1 33 rfl) rfl
theorem q190 : (Jvm.Cond.classLink "SilkClerks" (51 : Nat) "[Ljava/lang/String;") ∈ lw_all := lw_g (lw_at lw_m1 36 rfl) rfl
theorem q193 : (Jvm.Cond.classLink "SilkClerks" (53 : Nat) "java/lang/String") ∈ lw_all := lw_g (lw_at lw_m1 39 rfl) rfl
theorem q194 : (Jvm.Cond.stringRef "SilkClerks" (55 : Nat) "fact") ∈ lw_tbl := lw_at lw_m1 40 rfl
theorem q195 : (Jvm.Cond.stringRef "SilkClerks" (57 : Nat) "leaf") ∈ lw_tbl := lw_at lw_m1 41 rfl
theorem q196 : (Jvm.Cond.stringRef "SilkClerks" (59 : Nat) "worth") ∈ lw_tbl := lw_at lw_m1 42 rfl
theorem q197 : (Jvm.Cond.stringRef "SilkClerks" (61 : Nat) "eats") ∈ lw_tbl := lw_at lw_m1 43 rfl
theorem q198 : (Jvm.Cond.stringRef "SilkClerks" (63 : Nat) "slips") ∈ lw_tbl := lw_at lw_m1 44 rfl
theorem q199 : (Jvm.Cond.stringRef "SilkClerks" (65 : Nat) "strong") ∈ lw_tbl := lw_at lw_m1 45 rfl
theorem q200 : (Jvm.Cond.stringRef "SilkClerks" (67 : Nat) "on") ∈ lw_tbl := lw_at lw_m1 46 rfl
theorem q201 : (Jvm.Cond.stringRef "SilkClerks" (69 : Nat) "feed") ∈ lw_tbl := lw_at lw_m1 47 rfl
theorem q202 : (Jvm.Cond.stringRef "SilkClerks" (71 : Nat) "with") ∈ lw_tbl := lw_at lw_m1 48 rfl
theorem q203 : (Jvm.Cond.stringRef "SilkClerks" (73 : Nat) "query") ∈ lw_tbl := lw_at lw_m1 49 rfl
theorem q204 : (Jvm.Cond.stringRef "SilkClerks" (75 : Nat) "by") ∈ lw_tbl := lw_at lw_m1 50 rfl
theorem q205 : (Jvm.Cond.stringRef "SilkClerks" (77 : Nat) "and") ∈ lw_tbl := lw_at lw_m1 51 rfl
theorem q206 : (Jvm.Cond.stringRef "SilkClerks" (83 : Nat) "worm") ∈ lw_tbl := lw_at lw_m1 52 rfl
theorem q207 : (Jvm.Cond.stringRef "SilkClerks" (85 : Nat) "tray") ∈ lw_tbl := lw_at lw_m1 53 rfl
theorem q208 : (Jvm.Cond.stringRef "SilkClerks" (87 : Nat) "lazy") ∈ lw_tbl := lw_at lw_m1 54 rfl
theorem q209 : (Jvm.Cond.stringRef "SilkClerks" (89 : Nat) "eaten") ∈ lw_tbl := lw_at lw_m1 55 rfl
theorem q210 : (Jvm.Cond.stringRef "SilkClerks" (91 : Nat) "long") ∈ lw_tbl := lw_at lw_m1 56 rfl
theorem q211 : (Jvm.Cond.stringRef "SilkClerks" (93 : Nat) "noise") ∈ lw_tbl := lw_at lw_m1 57 rfl
theorem q212 : (Jvm.Cond.stringRef "SilkClerks" (95 : Nat) "leaves") ∈ lw_tbl := lw_at lw_m1 58 rfl
theorem q213 : (Jvm.Cond.stringRef "SilkClerks" (97 : Nat) "mark") ∈ lw_tbl := lw_at lw_m1 59 rfl
theorem q214 : (Jvm.Cond.stringRef "SilkClerks" (99 : Nat) "place") ∈ lw_tbl := lw_at lw_m1 60 rfl
theorem q215 : (Jvm.Cond.stringRef "SilkClerks" (101 : Nat) "day") ∈ lw_tbl := lw_at lw_m1 61 rfl
theorem q216 : (Jvm.Cond.stringRef "SilkClerks" (106 : Nat) "when") ∈ lw_tbl := lw_at lw_m1 62 rfl
theorem q217 : (Jvm.Cond.stringRef "SilkClerks" (108 : Nat) "or") ∈ lw_tbl := lw_at lw_m1 63 rfl
theorem q218 : (Jvm.Cond.stringRef "SilkClerks" (110 : Nat) "not") ∈ lw_tbl := lw_at lw_m1 64 rfl
theorem q219 : (Jvm.Cond.classLink "SilkClerks" (131 : Nat) "SilkClerks$Text") ∈ lw_all := lw_g (lw_at lw_m1 65 rfl) rfl
theorem q221 : (Jvm.Cond.methodLinkNest "SilkClerks" (133 : Nat) ({ cls := "SilkClerks$Text", name := "<init>", desc := "()V" } : Jvm.MethodName) "SilkClerks") ∈ lw_tbl := lw_at lw_m1 67 rfl
theorem q228 : (Jvm.Cond.fieldLink "SilkClerks" (360 : Nat) "SilkClerks$Text" "word" "[I") ∈ lw_all := lw_g (lw_at lw_m1 74 rfl) rfl
theorem q230 : (Jvm.Cond.fieldLink "SilkClerks" (363 : Nat) "SilkClerks$Text" "worth" "[LSilkClerks$Term;") ∈ lw_all := lw_g (lw_at lw_m1 76 rfl) rfl
theorem q232 : (Jvm.Cond.fieldLink "SilkClerks" (366 : Nat) "SilkClerks$Text" "when" "[LSilkClerks$Term;") ∈ lw_all := lw_g (lw_at lw_m1 78 rfl) rfl
theorem q233 : (Jvm.Cond.fieldLink "SilkClerks" (354 : Nat) "SilkClerks$Text" "many" "I") ∈ lw_all := lw_g (lw_at lw_m1 79 rfl) rfl
theorem q245 : (Jvm.Cond.classLink "SilkClerks" (142 : Nat) "SilkClerks$Fact") ∈ lw_all := lw_g (lw_at lw_m1 91 rfl) rfl
theorem q247 : (Jvm.Cond.classLink "SilkClerks" (148 : Nat) "SilkClerks$Meal") ∈ lw_all := lw_g (lw_at lw_m1 93 rfl) rfl
theorem q249 : (Jvm.Cond.classLink "SilkClerks" (159 : Nat) "SilkClerks$Trays") ∈ lw_all := lw_g (lw_at lw_m1 95 rfl) rfl
theorem q251 : (Jvm.Cond.methodLinkNest "SilkClerks" (161 : Nat) ({ cls := "SilkClerks$Trays", name := "<init>", desc := "(LSilkClerks;)V" } : Jvm.MethodName) "SilkClerks") ∈ lw_tbl := lw_at lw_m1 97 rfl
theorem q256 : (Jvm.Cond.fieldLink "SilkClerks" (455 : Nat) "SilkClerks$Trays" "lazy" "[I") ∈ lw_all := lw_g (lw_at lw_m1 102 rfl) rfl
theorem q258 : (Jvm.Cond.fieldLink "SilkClerks" (457 : Nat) "SilkClerks$Trays" "eaten" "[I") ∈ lw_all := lw_g (lw_at lw_m1 104 rfl) rfl
theorem q260 : (Jvm.Cond.fieldLink "SilkClerks" (459 : Nat) "SilkClerks$Trays" "today" "[I") ∈ lw_all := lw_g (lw_at lw_m1 106 rfl) rfl
theorem q262 : (Jvm.Cond.fieldLink "SilkClerks" (462 : Nat) "SilkClerks$Trays" "strength" "[I") ∈ lw_all := lw_g (lw_at lw_m1 108 rfl) rfl
theorem q264 : (Jvm.Cond.fieldLink "SilkClerks" (465 : Nat) "SilkClerks$Trays" "cocoonUp" "[I") ∈ lw_all := lw_g (lw_at lw_m1 110 rfl) rfl
theorem q266 : (Jvm.Cond.fieldLink "SilkClerks" (468 : Nat) "SilkClerks$Trays" "lasting" "[I") ∈ lw_all := lw_g (lw_at lw_m1 112 rfl) rfl
theorem q269 : (Jvm.Cond.fieldLink "SilkClerks" (471 : Nat) "SilkClerks$Trays" "steamed" "I") ∈ lw_all := lw_g (lw_at lw_m1 115 rfl) rfl
theorem q271 : (Jvm.Cond.fieldLink "SilkClerks" (474 : Nat) "SilkClerks$Trays" "flown" "I") ∈ lw_all := lw_g (lw_at lw_m1 117 rfl) rfl
theorem q273 : (Jvm.Cond.fieldLink "SilkClerks" (480 : Nat) "SilkClerks$Trays" "leaves" "I") ∈ lw_all := lw_g (lw_at lw_m1 119 rfl) rfl
theorem q275 : (Jvm.Cond.fieldLink "SilkClerks" (482 : Nat) "SilkClerks$Trays" "noise" "I") ∈ lw_all := lw_g (lw_at lw_m1 121 rfl) rfl
theorem q277 : (Jvm.Cond.fieldLink "SilkClerks" (446 : Nat) "SilkClerks$Trays" "day" "I") ∈ lw_all := lw_g (lw_at lw_m1 123 rfl) rfl
theorem q279 : (Jvm.Cond.fieldLink "SilkClerks" (538 : Nat) "SilkClerks$Trays" "mixed" "I") ∈ lw_all := lw_g (lw_at lw_m1 125 rfl) rfl
theorem q281 : (Jvm.Cond.fieldLink "SilkClerks" (695 : Nat) "SilkClerks$Trays" "slipped" "I") ∈ lw_all := lw_g (lw_at lw_m1 127 rfl) rfl
theorem q283 : (Jvm.Cond.fieldLink "SilkClerks" (535 : Nat) "SilkClerks$Trays" "lost" "I") ∈ lw_all := lw_g (lw_at lw_m1 129 rfl) rfl
theorem q285 : (Jvm.Cond.fieldLink "SilkClerks" (452 : Nat) "SilkClerks$Trays" "state" "I") ∈ lw_all := lw_g (lw_at lw_m1 131 rfl) rfl
theorem q287 : (Jvm.Cond.fieldLink "SilkClerks" (443 : Nat) "SilkClerks$Trays" "bookMany" "I") ∈ lw_all := lw_g (lw_at lw_m1 133 rfl) rfl
theorem q330 : (Jvm.Cond.classLink "SilkClerks" (181 : Nat) "SilkClerks$Read") ∈ lw_all := lw_g (lw_at lw_m1 176 rfl) rfl
theorem q332 : (Jvm.Cond.constant "SilkClerks" (187 : Nat) (49152 : Int32)) ∈ lw_all := lw_g (lw_at lw_m1 178 rfl) rfl
theorem q333 : (Jvm.Cond.privateMethod ({ cls := "SilkClerks", name := "lambda$new$4", desc := "(I)I" } : Jvm.MethodName)) ∈ lw_tbl := lw_at lw_m1 179 rfl
theorem q334 : (Jvm.Cond.instanceMethod ({ cls := "SilkClerks", name := "lambda$new$4", desc := "(I)I" } : Jvm.MethodName)) ∈ lw_all := lw_g (lw_at lw_m1 180 rfl) rfl
theorem q335 : (Jvm.Cond.code ({ cls := "SilkClerks", name := "lambda$new$4", desc := "(I)I" } : Jvm.MethodName) prog_1_method_117_code (2 : Nat) (Option.some Jvm.ClassFile.FieldType.int)) ∈ lw_all := lw_g (lw_at lw_m1 181 rfl) rfl
theorem q336 : (Jvm.Cond.methodLink "SilkClerks" (529 : Nat) ({ cls := "SilkClerks$Fact", name := "worth", desc := "()I" } : Jvm.MethodName)) ∈ lw_all := lw_g (lw_at lw_m1 182 rfl) rfl
theorem q340 : (Jvm.Cond.privateMethod ({ cls := "SilkClerks", name := "lambda$new$5", desc := "(I)I" } : Jvm.MethodName)) ∈ lw_tbl := lw_at lw_m1 186 rfl
theorem q341 : (Jvm.Cond.instanceMethod ({ cls := "SilkClerks", name := "lambda$new$5", desc := "(I)I" } : Jvm.MethodName)) ∈ lw_all := lw_g (lw_at lw_m1 187 rfl) rfl
theorem q342 : (Jvm.Cond.code ({ cls := "SilkClerks", name := "lambda$new$5", desc := "(I)I" } : Jvm.MethodName) prog_1_method_116_code (2 : Nat) (Option.some Jvm.ClassFile.FieldType.int)) ∈ lw_all := lw_g (lw_at lw_m1 188 rfl) rfl
theorem q343 : (Jvm.Cond.methodLink "SilkClerks" (527 : Nat) ({ cls := "SilkClerks$Fact", name := "leaf", desc := "()I" } : Jvm.MethodName)) ∈ lw_all := lw_g (lw_at lw_m1 189 rfl) rfl
theorem q347 : (Jvm.Cond.fieldLink "SilkClerks" (47 : Nat) "SilkClerks" "tape" "[B") ∈ lw_all := lw_g (lw_at lw_m1 193 rfl) rfl
theorem q348 : (Jvm.Cond.fieldLink "SilkClerks" (217 : Nat) "SilkClerks" "taped" "I") ∈ lw_all := lw_g (lw_at lw_m1 194 rfl) rfl
theorem q349 : (Jvm.Cond.fieldLink "SilkClerks" (79 : Nat) "SilkClerks" "firstWords" "[[Ljava/lang/String;") ∈ lw_all := lw_g (lw_at lw_m1 195 rfl) rfl
theorem q350 : (Jvm.Cond.fieldLink "SilkClerks" (103 : Nat) "SilkClerks" "lawAsked" "[Ljava/lang/String;") ∈ lw_all := lw_g (lw_at lw_m1 196 rfl) rfl
theorem q351 : (Jvm.Cond.fieldLink "SilkClerks" (112 : Nat) "SilkClerks" "others" "[Ljava/lang/String;") ∈ lw_all := lw_g (lw_at lw_m1 197 rfl) rfl
theorem q352 : (Jvm.Cond.fieldLink "SilkClerks" (115 : Nat) "SilkClerks" "nothing" "[Ljava/lang/String;") ∈ lw_all := lw_g (lw_at lw_m1 198 rfl) rfl
theorem q353 : (Jvm.Cond.fieldLink "SilkClerks" (118 : Nat) "SilkClerks" "words" "[Ljava/lang/String;") ∈ lw_all := lw_g (lw_at lw_m1 199 rfl) rfl
theorem q354 : (Jvm.Cond.fieldLink "SilkClerks" (121 : Nat) "SilkClerks" "asked" "[Ljava/lang/String;") ∈ lw_all := lw_g (lw_at lw_m1 200 rfl) rfl
theorem q355 : (Jvm.Cond.fieldLink "SilkClerks" (124 : Nat) "SilkClerks" "joins" "[Ljava/lang/String;") ∈ lw_all := lw_g (lw_at lw_m1 201 rfl) rfl
theorem q356 : (Jvm.Cond.fieldLink "SilkClerks" (245 : Nat) "SilkClerks" "token" "LSilkClerks$Token;") ∈ lw_all := lw_g (lw_at lw_m1 202 rfl) rfl
theorem q357 : (Jvm.Cond.fieldLink "SilkClerks" (232 : Nat) "SilkClerks" "spot" "I") ∈ lw_all := lw_g (lw_at lw_m1 203 rfl) rfl
theorem q358 : (Jvm.Cond.fieldLink "SilkClerks" (235 : Nat) "SilkClerks" "from" "I") ∈ lw_all := lw_g (lw_at lw_m1 204 rfl) rfl
theorem q359 : (Jvm.Cond.fieldLink "SilkClerks" (261 : Nat) "SilkClerks" "value" "I") ∈ lw_all := lw_g (lw_at lw_m1 205 rfl) rfl
theorem q360 : (Jvm.Cond.fieldLink "SilkClerks" (324 : Nat) "SilkClerks" "open" "I") ∈ lw_all := lw_g (lw_at lw_m1 206 rfl) rfl
theorem q361 : (Jvm.Cond.fieldLink "SilkClerks" (429 : Nat) "SilkClerks" "faultKind" "I") ∈ lw_all := lw_g (lw_at lw_m1 207 rfl) rfl
theorem q362 : (Jvm.Cond.fieldLink "SilkClerks" (127 : Nat) "SilkClerks" "faultPlace" "I") ∈ lw_all := lw_g (lw_at lw_m1 208 rfl) rfl
theorem q363 : (Jvm.Cond.fieldLink "SilkClerks" (134 : Nat) "SilkClerks" "law" "LSilkClerks$Text;") ∈ lw_all := lw_g (lw_at lw_m1 209 rfl) rfl
theorem q365 : (Jvm.Cond.fieldLink "SilkClerks" (138 : Nat) "SilkClerks" "lawHas" "[I") ∈ lw_all := lw_g (lw_at lw_m1 211 rfl) rfl
theorem q366 : (Jvm.Cond.fieldLink "SilkClerks" (144 : Nat) "SilkClerks" "facts" "[LSilkClerks$Fact;") ∈ lw_all := lw_g (lw_at lw_m1 212 rfl) rfl
theorem q368 : (Jvm.Cond.fieldLink "SilkClerks" (150 : Nat) "SilkClerks" "meals" "[LSilkClerks$Meal;") ∈ lw_all := lw_g (lw_at lw_m1 214 rfl) rfl
theorem q370 : (Jvm.Cond.fieldLink "SilkClerks" (154 : Nat) "SilkClerks" "queries" "[I") ∈ lw_all := lw_g (lw_at lw_m1 216 rfl) rfl
theorem q372 : (Jvm.Cond.fieldLink "SilkClerks" (392 : Nat) "SilkClerks" "worms" "I") ∈ lw_all := lw_g (lw_at lw_m1 218 rfl) rfl
theorem q374 : (Jvm.Cond.fieldLink "SilkClerks" (157 : Nat) "SilkClerks" "tray" "[I") ∈ lw_all := lw_g (lw_at lw_m1 220 rfl) rfl
theorem q375 : (Jvm.Cond.fieldLink "SilkClerks" (164 : Nat) "SilkClerks" "trays" "LSilkClerks$Trays;") ∈ lw_all := lw_g (lw_at lw_m1 221 rfl) rfl
theorem q376 : (Jvm.Cond.fieldLink "SilkClerks" (168 : Nat) "SilkClerks" "thought" "LSilkClerks$Trays;") ∈ lw_all := lw_g (lw_at lw_m1 222 rfl) rfl
theorem q377 : (Jvm.Cond.fieldLink "SilkClerks" (171 : Nat) "SilkClerks" "kept" "LSilkClerks$Trays;") ∈ lw_all := lw_g (lw_at lw_m1 223 rfl) rfl
theorem q378 : (Jvm.Cond.fieldLink "SilkClerks" (174 : Nat) "SilkClerks" "book" "[I") ∈ lw_all := lw_g (lw_at lw_m1 224 rfl) rfl
theorem q379 : (Jvm.Cond.fieldLink "SilkClerks" (177 : Nat) "SilkClerks" "ahead" "[LSilkClerks$Trays;") ∈ lw_all := lw_g (lw_at lw_m1 225 rfl) rfl
theorem q380 : (Jvm.Cond.fieldLink "SilkClerks" (408 : Nat) "SilkClerks" "undoable" "I") ∈ lw_all := lw_g (lw_at lw_m1 226 rfl) rfl
theorem q381 : (Jvm.Cond.fieldLink "SilkClerks" (183 : Nat) "SilkClerks" "reads" "[LSilkClerks$Read;") ∈ lw_all := lw_g (lw_at lw_m1 227 rfl) rfl
theorem q382 : (Jvm.Cond.fieldLink "SilkClerks" (188 : Nat) "SilkClerks" "reeled" "[I") ∈ lw_all := lw_g (lw_at lw_m1 228 rfl) rfl
theorem q383 : (Jvm.Cond.fieldLink "SilkClerks" (191 : Nat) "SilkClerks" "knots" "[I") ∈ lw_all := lw_g (lw_at lw_m1 229 rfl) rfl
theorem q384 : (Jvm.Cond.fieldLink "SilkClerks" (197 : Nat) "SilkClerks" "worthBy" "LSilkClerks$Measure;") ∈ lw_all := lw_g (lw_at lw_m1 230 rfl) rfl
theorem q385 : (Jvm.Cond.fieldLink "SilkClerks" (202 : Nat) "SilkClerks" "leafBy" "LSilkClerks$Measure;") ∈ lw_all := lw_g (lw_at lw_m1 231 rfl) rfl
theorem q386 : (Jvm.Cond.fieldLink "SilkClerks" (205 : Nat) "SilkClerks" "scarf" "[I") ∈ lw_all := lw_g (lw_at lw_m1 232 rfl) rfl
theorem q387 : (Jvm.Cond.fieldLink "SilkClerks" (208 : Nat) "SilkClerks" "owns" "[I") ∈ lw_all := lw_g (lw_at lw_m1 233 rfl) rfl
theorem q388 : (Jvm.Cond.fieldLink "SilkClerks" (211 : Nat) "SilkClerks" "keptTray" "[I") ∈ lw_all := lw_g (lw_at lw_m1 234 rfl) rfl
theorem q389 : (Jvm.Cond.fieldLink "SilkClerks" (214 : Nat) "SilkClerks" "keptBook" "[I") ∈ lw_all := lw_g (lw_at lw_m1 235 rfl) rfl
theorem q390 : (Jvm.Cond.fieldLink "SilkClerks" (662 : Nat) "SilkClerks" "keptWorms" "I") ∈ lw_all := lw_g (lw_at lw_m1 236 rfl) rfl
theorem q391 : (Jvm.Cond.fieldLink "SilkClerks" (665 : Nat) "SilkClerks" "keptFacts" "[LSilkClerks$Fact;") ∈ lw_all := lw_g (lw_at lw_m1 237 rfl) rfl
theorem q392 : (Jvm.Cond.fieldLink "SilkClerks" (668 : Nat) "SilkClerks" "keptMeals" "[LSilkClerks$Meal;") ∈ lw_all := lw_g (lw_at lw_m1 238 rfl) rfl
theorem q393 : (Jvm.Cond.fieldLink "SilkClerks" (671 : Nat) "SilkClerks" "keptReads" "[LSilkClerks$Read;") ∈ lw_all := lw_g (lw_at lw_m1 239 rfl) rfl
theorem q394 : (Jvm.Cond.fieldLink "SilkClerks" (674 : Nat) "SilkClerks" "keptQueries" "[I") ∈ lw_all := lw_g (lw_at lw_m2 0 rfl) rfl
theorem q395 : (Jvm.Cond.fieldLink "SilkClerks" (677 : Nat) "SilkClerks" "keptKnots" "[I") ∈ lw_all := lw_g (lw_at lw_m2 1 rfl) rfl
theorem q396 : (Jvm.Cond.fieldLink "SilkClerks" (680 : Nat) "SilkClerks" "keptScarf" "[I") ∈ lw_all := lw_g (lw_at lw_m2 2 rfl) rfl
theorem q397 : (Jvm.Cond.fieldLink "SilkClerks" (683 : Nat) "SilkClerks" "keptOwns" "[I") ∈ lw_all := lw_g (lw_at lw_m2 3 rfl) rfl
theorem q398 : (Jvm.Cond.fieldLink "SilkClerks" (686 : Nat) "SilkClerks" "keptLaw" "LSilkClerks$Text;") ∈ lw_all := lw_g (lw_at lw_m2 4 rfl) rfl
theorem q399 : (Jvm.Cond.laysFinal "SilkClerks" "SilkClerks" "tape" "[B") ∈ lw_all := lw_g (lw_at lw_m2 5 rfl) rfl
theorem q400 : (Jvm.Cond.soleField "SilkClerks" "tape") ∈ lw_all := lw_g (lw_at lw_m2 6 rfl) rfl
theorem q401 : (Jvm.Cond.lays "SilkClerks" "SilkClerks" "taped" "I") ∈ lw_all := lw_g (lw_at lw_m2 7 rfl) rfl
theorem q402 : (Jvm.Cond.soleField "SilkClerks" "taped") ∈ lw_all := lw_g (lw_at lw_m2 8 rfl) rfl
theorem q403 : (Jvm.Cond.laysFinal "SilkClerks" "SilkClerks" "firstWords" "[[Ljava/lang/String;") ∈ lw_all := lw_g (lw_at lw_m2 9 rfl) rfl
theorem q404 : (Jvm.Cond.soleField "SilkClerks" "firstWords") ∈ lw_all := lw_g (lw_at lw_m2 10 rfl) rfl
theorem q405 : (Jvm.Cond.laysFinal "SilkClerks" "SilkClerks" "lawAsked" "[Ljava/lang/String;") ∈ lw_all := lw_g (lw_at lw_m2 11 rfl) rfl
theorem q406 : (Jvm.Cond.soleField "SilkClerks" "lawAsked") ∈ lw_all := lw_g (lw_at lw_m2 12 rfl) rfl
theorem q407 : (Jvm.Cond.laysFinal "SilkClerks" "SilkClerks" "others" "[Ljava/lang/String;") ∈ lw_all := lw_g (lw_at lw_m2 13 rfl) rfl
theorem q408 : (Jvm.Cond.soleField "SilkClerks" "others") ∈ lw_all := lw_g (lw_at lw_m2 14 rfl) rfl
theorem q409 : (Jvm.Cond.laysFinal "SilkClerks" "SilkClerks" "nothing" "[Ljava/lang/String;") ∈ lw_all := lw_g (lw_at lw_m2 15 rfl) rfl
theorem q410 : (Jvm.Cond.soleField "SilkClerks" "nothing") ∈ lw_all := lw_g (lw_at lw_m2 16 rfl) rfl
theorem q411 : (Jvm.Cond.lays "SilkClerks" "SilkClerks" "words" "[Ljava/lang/String;") ∈ lw_all := lw_g (lw_at lw_m2 17 rfl) rfl
theorem q412 : (Jvm.Cond.soleField "SilkClerks" "words") ∈ lw_all := lw_g (lw_at lw_m2 18 rfl) rfl
theorem q413 : (Jvm.Cond.lays "SilkClerks" "SilkClerks" "asked" "[Ljava/lang/String;") ∈ lw_all := lw_g (lw_at lw_m2 19 rfl) rfl
theorem q414 : (Jvm.Cond.soleField "SilkClerks" "asked") ∈ lw_all := lw_g (lw_at lw_m2 20 rfl) rfl
theorem q415 : (Jvm.Cond.lays "SilkClerks" "SilkClerks" "joins" "[Ljava/lang/String;") ∈ lw_all := lw_g (lw_at lw_m2 21 rfl) rfl
theorem q416 : (Jvm.Cond.soleField "SilkClerks" "joins") ∈ lw_all := lw_g (lw_at lw_m2 22 rfl) rfl
theorem q417 : (Jvm.Cond.lays "SilkClerks" "SilkClerks" "token" "LSilkClerks$Token;") ∈ lw_all := lw_g (lw_at lw_m2 23 rfl) rfl
theorem q418 : (Jvm.Cond.soleField "SilkClerks" "token") ∈ lw_all := lw_g (lw_at lw_m2 24 rfl) rfl
theorem q419 : (Jvm.Cond.lays "SilkClerks" "SilkClerks" "spot" "I") ∈ lw_all := lw_g (lw_at lw_m2 25 rfl) rfl
theorem q420 : (Jvm.Cond.soleField "SilkClerks" "spot") ∈ lw_all := lw_g (lw_at lw_m2 26 rfl) rfl
theorem q421 : (Jvm.Cond.lays "SilkClerks" "SilkClerks" "from" "I") ∈ lw_all := lw_g (lw_at lw_m2 27 rfl) rfl
theorem q422 : (Jvm.Cond.soleField "SilkClerks" "from") ∈ lw_all := lw_g (lw_at lw_m2 28 rfl) rfl
theorem q423 : (Jvm.Cond.lays "SilkClerks" "SilkClerks" "value" "I") ∈ lw_all := lw_g (lw_at lw_m2 29 rfl) rfl
theorem q424 : (Jvm.Cond.soleField "SilkClerks" "value") ∈ lw_all := lw_g (lw_at lw_m2 30 rfl) rfl
theorem q425 : (Jvm.Cond.lays "SilkClerks" "SilkClerks" "open" "I") ∈ lw_all := lw_g (lw_at lw_m2 31 rfl) rfl
theorem q426 : (Jvm.Cond.soleField "SilkClerks" "open") ∈ lw_all := lw_g (lw_at lw_m2 32 rfl) rfl
theorem q427 : (Jvm.Cond.lays "SilkClerks" "SilkClerks" "faultKind" "I") ∈ lw_all := lw_g (lw_at lw_m2 33 rfl) rfl
theorem q428 : (Jvm.Cond.soleField "SilkClerks" "faultKind") ∈ lw_all := lw_g (lw_at lw_m2 34 rfl) rfl
theorem q429 : (Jvm.Cond.lays "SilkClerks" "SilkClerks" "faultPlace" "I") ∈ lw_all := lw_g (lw_at lw_m2 35 rfl) rfl
theorem q430 : (Jvm.Cond.soleField "SilkClerks" "faultPlace") ∈ lw_all := lw_g (lw_at lw_m2 36 rfl) rfl
theorem q431 : (Jvm.Cond.lays "SilkClerks" "SilkClerks" "law" "LSilkClerks$Text;") ∈ lw_all := lw_g (lw_at lw_m2 37 rfl) rfl
theorem q432 : (Jvm.Cond.soleField "SilkClerks" "law") ∈ lw_all := lw_g (lw_at lw_m2 38 rfl) rfl
theorem q433 : (Jvm.Cond.laysFinal "SilkClerks" "SilkClerks" "lawHas" "[I") ∈ lw_all := lw_g (lw_at lw_m2 39 rfl) rfl
theorem q434 : (Jvm.Cond.soleField "SilkClerks" "lawHas") ∈ lw_all := lw_g (lw_at lw_m2 40 rfl) rfl
theorem q435 : (Jvm.Cond.lays "SilkClerks" "SilkClerks" "facts" "[LSilkClerks$Fact;") ∈ lw_all := lw_g (lw_at lw_m2 41 rfl) rfl
theorem q436 : (Jvm.Cond.soleField "SilkClerks" "facts") ∈ lw_all := lw_g (lw_at lw_m2 42 rfl) rfl
theorem q437 : (Jvm.Cond.lays "SilkClerks" "SilkClerks" "meals" "[LSilkClerks$Meal;") ∈ lw_all := lw_g (lw_at lw_m2 43 rfl) rfl
theorem q438 : (Jvm.Cond.soleField "SilkClerks" "meals") ∈ lw_all := lw_g (lw_at lw_m2 44 rfl) rfl
theorem q439 : (Jvm.Cond.lays "SilkClerks" "SilkClerks" "queries" "[I") ∈ lw_all := lw_g (lw_at lw_m2 45 rfl) rfl
theorem q440 : (Jvm.Cond.soleField "SilkClerks" "queries") ∈ lw_all := lw_g (lw_at lw_m2 46 rfl) rfl
theorem q441 : (Jvm.Cond.lays "SilkClerks" "SilkClerks" "worms" "I") ∈ lw_all := lw_g (lw_at lw_m2 47 rfl) rfl
theorem q442 : (Jvm.Cond.soleField "SilkClerks" "worms") ∈ lw_all := lw_g (lw_at lw_m2 48 rfl) rfl
theorem q443 : (Jvm.Cond.laysFinal "SilkClerks" "SilkClerks" "tray" "[I") ∈ lw_all := lw_g (lw_at lw_m2 49 rfl) rfl
theorem q444 : (Jvm.Cond.soleField "SilkClerks" "tray") ∈ lw_all := lw_g (lw_at lw_m2 50 rfl) rfl
theorem q445 : (Jvm.Cond.laysFinal "SilkClerks" "SilkClerks" "trays" "LSilkClerks$Trays;") ∈ lw_all := lw_g (lw_at lw_m2 51 rfl) rfl
theorem q446 : (Jvm.Cond.soleField "SilkClerks" "trays") ∈ lw_all := lw_g (lw_at lw_m2 52 rfl) rfl
theorem q447 : (Jvm.Cond.laysFinal "SilkClerks" "SilkClerks" "thought" "LSilkClerks$Trays;") ∈ lw_all := lw_g (lw_at lw_m2 53 rfl) rfl
theorem q448 : (Jvm.Cond.soleField "SilkClerks" "thought") ∈ lw_all := lw_g (lw_at lw_m2 54 rfl) rfl
theorem q449 : (Jvm.Cond.laysFinal "SilkClerks" "SilkClerks" "kept" "LSilkClerks$Trays;") ∈ lw_all := lw_g (lw_at lw_m2 55 rfl) rfl
theorem q450 : (Jvm.Cond.soleField "SilkClerks" "kept") ∈ lw_all := lw_g (lw_at lw_m2 56 rfl) rfl
theorem q451 : (Jvm.Cond.laysFinal "SilkClerks" "SilkClerks" "book" "[I") ∈ lw_all := lw_g (lw_at lw_m2 57 rfl) rfl
theorem q452 : (Jvm.Cond.soleField "SilkClerks" "book") ∈ lw_all := lw_g (lw_at lw_m2 58 rfl) rfl
theorem q453 : (Jvm.Cond.laysFinal "SilkClerks" "SilkClerks" "ahead" "[LSilkClerks$Trays;") ∈ lw_all := lw_g (lw_at lw_m2 59 rfl) rfl
theorem q454 : (Jvm.Cond.soleField "SilkClerks" "ahead") ∈ lw_all := lw_g (lw_at lw_m2 60 rfl) rfl
theorem q455 : (Jvm.Cond.lays "SilkClerks" "SilkClerks" "undoable" "I") ∈ lw_all := lw_g (lw_at lw_m2 61 rfl) rfl
theorem q456 : (Jvm.Cond.soleField "SilkClerks" "undoable") ∈ lw_all := lw_g (lw_at lw_m2 62 rfl) rfl
theorem q457 : (Jvm.Cond.lays "SilkClerks" "SilkClerks" "reads" "[LSilkClerks$Read;") ∈ lw_all := lw_g (lw_at lw_m2 63 rfl) rfl
theorem q458 : (Jvm.Cond.soleField "SilkClerks" "reads") ∈ lw_all := lw_g (lw_at lw_m2 64 rfl) rfl
theorem q459 : (Jvm.Cond.laysFinal "SilkClerks" "SilkClerks" "reeled" "[I") ∈ lw_all := lw_g (lw_at lw_m2 65 rfl) rfl
theorem q460 : (Jvm.Cond.soleField "SilkClerks" "reeled") ∈ lw_all := lw_g (lw_at lw_m2 66 rfl) rfl
theorem q461 : (Jvm.Cond.lays "SilkClerks" "SilkClerks" "knots" "[I") ∈ lw_all := lw_g (lw_at lw_m2 67 rfl) rfl
theorem q462 : (Jvm.Cond.soleField "SilkClerks" "knots") ∈ lw_all := lw_g (lw_at lw_m2 68 rfl) rfl
theorem q463 : (Jvm.Cond.laysFinal "SilkClerks" "SilkClerks" "worthBy" "LSilkClerks$Measure;") ∈ lw_all := lw_g (lw_at lw_m2 69 rfl) rfl
theorem q464 : (Jvm.Cond.soleField "SilkClerks" "worthBy") ∈ lw_all := lw_g (lw_at lw_m2 70 rfl) rfl
theorem q465 : (Jvm.Cond.laysFinal "SilkClerks" "SilkClerks" "leafBy" "LSilkClerks$Measure;") ∈ lw_all := lw_g (lw_at lw_m2 71 rfl) rfl
theorem q466 : (Jvm.Cond.soleField "SilkClerks" "leafBy") ∈ lw_all := lw_g (lw_at lw_m2 72 rfl) rfl
theorem q467 : (Jvm.Cond.lays "SilkClerks" "SilkClerks" "scarf" "[I") ∈ lw_all := lw_g (lw_at lw_m2 73 rfl) rfl
theorem q468 : (Jvm.Cond.soleField "SilkClerks" "scarf") ∈ lw_all := lw_g (lw_at lw_m2 74 rfl) rfl
theorem q469 : (Jvm.Cond.lays "SilkClerks" "SilkClerks" "owns" "[I") ∈ lw_all := lw_g (lw_at lw_m2 75 rfl) rfl
theorem q470 : (Jvm.Cond.soleField "SilkClerks" "owns") ∈ lw_all := lw_g (lw_at lw_m2 76 rfl) rfl
theorem q471 : (Jvm.Cond.laysFinal "SilkClerks" "SilkClerks" "keptTray" "[I") ∈ lw_all := lw_g (lw_at lw_m2 77 rfl) rfl
theorem q472 : (Jvm.Cond.soleField "SilkClerks" "keptTray") ∈ lw_all := lw_g (lw_at lw_m2 78 rfl) rfl
theorem q473 : (Jvm.Cond.laysFinal "SilkClerks" "SilkClerks" "keptBook" "[I") ∈ lw_all := lw_g (lw_at lw_m2 79 rfl) rfl
theorem q474 : (Jvm.Cond.soleField "SilkClerks" "keptBook") ∈ lw_all := lw_g (lw_at lw_m2 80 rfl) rfl
theorem q475 : (Jvm.Cond.lays "SilkClerks" "SilkClerks" "keptWorms" "I") ∈ lw_all := lw_g (lw_at lw_m2 81 rfl) rfl
theorem q476 : (Jvm.Cond.soleField "SilkClerks" "keptWorms") ∈ lw_all := lw_g (lw_at lw_m2 82 rfl) rfl
theorem q477 : (Jvm.Cond.lays "SilkClerks" "SilkClerks" "keptFacts" "[LSilkClerks$Fact;") ∈ lw_all := lw_g (lw_at lw_m2 83 rfl) rfl
theorem q478 : (Jvm.Cond.soleField "SilkClerks" "keptFacts") ∈ lw_all := lw_g (lw_at lw_m2 84 rfl) rfl
theorem q479 : (Jvm.Cond.lays "SilkClerks" "SilkClerks" "keptMeals" "[LSilkClerks$Meal;") ∈ lw_all := lw_g (lw_at lw_m2 85 rfl) rfl
theorem q480 : (Jvm.Cond.soleField "SilkClerks" "keptMeals") ∈ lw_all := lw_g (lw_at lw_m2 86 rfl) rfl
theorem q481 : (Jvm.Cond.lays "SilkClerks" "SilkClerks" "keptReads" "[LSilkClerks$Read;") ∈ lw_all := lw_g (lw_at lw_m2 87 rfl) rfl
theorem q482 : (Jvm.Cond.soleField "SilkClerks" "keptReads") ∈ lw_all := lw_g (lw_at lw_m2 88 rfl) rfl
theorem q483 : (Jvm.Cond.lays "SilkClerks" "SilkClerks" "keptQueries" "[I") ∈ lw_all := lw_g (lw_at lw_m2 89 rfl) rfl
theorem q484 : (Jvm.Cond.soleField "SilkClerks" "keptQueries") ∈ lw_all := lw_g (lw_at lw_m2 90 rfl) rfl
theorem q485 : (Jvm.Cond.lays "SilkClerks" "SilkClerks" "keptKnots" "[I") ∈ lw_all := lw_g (lw_at lw_m2 91 rfl) rfl
theorem q486 : (Jvm.Cond.soleField "SilkClerks" "keptKnots") ∈ lw_all := lw_g (lw_at lw_m2 92 rfl) rfl
theorem q487 : (Jvm.Cond.lays "SilkClerks" "SilkClerks" "keptScarf" "[I") ∈ lw_all := lw_g (lw_at lw_m2 93 rfl) rfl
theorem q488 : (Jvm.Cond.soleField "SilkClerks" "keptScarf") ∈ lw_all := lw_g (lw_at lw_m2 94 rfl) rfl
theorem q489 : (Jvm.Cond.lays "SilkClerks" "SilkClerks" "keptOwns" "[I") ∈ lw_all := lw_g (lw_at lw_m2 95 rfl) rfl
theorem q490 : (Jvm.Cond.soleField "SilkClerks" "keptOwns") ∈ lw_all := lw_g (lw_at lw_m2 96 rfl) rfl
theorem q491 : (Jvm.Cond.lays "SilkClerks" "SilkClerks" "keptLaw" "LSilkClerks$Text;") ∈ lw_all := lw_g (lw_at lw_m2 97 rfl) rfl
theorem q492 : (Jvm.Cond.soleField "SilkClerks" "keptLaw") ∈ lw_all := lw_g (lw_at lw_m2 98 rfl) rfl
theorem q493 : (Jvm.Cond.superclass "SilkClerks" "java/lang/Object") ∈ lw_all := lw_g (lw_at lw_m2 99 rfl) rfl
theorem q495 : (Jvm.Cond.instanceMethod ({ cls := "SilkClerks", name := "feed", desc := "(IIIII)I" } : Jvm.MethodName)) ∈ lw_all := lw_g (lw_at lw_m2 101 rfl) rfl
theorem q496 : (Jvm.Cond.selects "SilkClerks" ({ cls := "SilkClerks", name := "feed", desc := "(IIIII)I" } : Jvm.MethodName) ({ cls := "SilkClerks", name := "feed", desc := "(IIIII)I" } : Jvm.MethodName)) ∈ lw_all := lw_g (lw_at lw_m2 102 rfl) rfl
theorem q497 : (Jvm.Cond.code ({ cls := "SilkClerks", name := "feed", desc := "(IIIII)I" } : Jvm.MethodName) prog_1_method_11_code (6 : Nat) (Option.some Jvm.ClassFile.FieldType.int)) ∈ lw_all := lw_g (lw_at lw_m2 103 rfl) rfl
theorem q498 : (Jvm.Cond.methodLink "SilkClerks" (220 : Nat) ({ cls := "SilkClerks", name := "puts", desc := "(I)V" } : Jvm.MethodName)) ∈ lw_all := lw_g (lw_at lw_m2 104 rfl) rfl
theorem q499 : (Jvm.Cond.privateMethod ({ cls := "SilkClerks", name := "puts", desc := "(I)V" } : Jvm.MethodName)) ∈ lw_tbl := lw_at lw_m2 105 rfl
theorem q500 : (Jvm.Cond.instanceMethod ({ cls := "SilkClerks", name := "puts", desc := "(I)V" } : Jvm.MethodName)) ∈ lw_all := lw_g (lw_at lw_m2 106 rfl) rfl
theorem q501 : (Jvm.Cond.code ({ cls := "SilkClerks", name := "puts", desc := "(I)V" } : Jvm.MethodName) prog_1_method_10_code (3 : Nat) (Option.none : Option Jvm.ClassFile.FieldType)) ∈ lw_all := lw_g (lw_at lw_m2 107 rfl) rfl
theorem q503 : (Jvm.Cond.instanceMethod ({ cls := "SilkClerks", name := "end", desc := "(I)Z" } : Jvm.MethodName)) ∈ lw_all := lw_g (lw_at lw_m2 109 rfl) rfl
theorem q504 : (Jvm.Cond.selects "SilkClerks" ({ cls := "SilkClerks", name := "end", desc := "(I)Z" } : Jvm.MethodName) ({ cls := "SilkClerks", name := "end", desc := "(I)Z" } : Jvm.MethodName)) ∈ lw_all := lw_g (lw_at lw_m2 110 rfl) rfl
theorem q505 : (Jvm.Cond.code ({ cls := "SilkClerks", name := "end", desc := "(I)Z" } : Jvm.MethodName) prog_1_method_12_code (2 : Nat) (Option.some Jvm.ClassFile.FieldType.boolean)) ∈ lw_all := lw_g (lw_at lw_m2 111 rfl) rfl
theorem q506 : (Jvm.Cond.methodLink "SilkClerks" (224 : Nat) ({ cls := "SilkClerks", name := "isIn", desc := "(III)Z" } : Jvm.MethodName)) ∈ lw_all := lw_g (lw_at lw_m2 112 rfl) rfl
theorem q507 : (Jvm.Cond.static ({ cls := "SilkClerks", name := "isIn", desc := "(III)Z" } : Jvm.MethodName)) ∈ lw_all := lw_g (lw_at lw_m2 113 rfl) rfl
theorem q508 : (Jvm.Cond.code ({ cls := "SilkClerks", name := "isIn", desc := "(III)Z" } : Jvm.MethodName) prog_1_method_1_code (3 : Nat) (Option.some Jvm.ClassFile.FieldType.boolean)) ∈ lw_all := lw_g (lw_at lw_m2 114 rfl) rfl
theorem q510 : (Jvm.Cond.instanceMethod ({ cls := "SilkClerks", name := "text", desc := "(I)I" } : Jvm.MethodName)) ∈ lw_all := lw_g (lw_at lw_m2 116 rfl) rfl
theorem q511 : (Jvm.Cond.selects "SilkClerks" ({ cls := "SilkClerks", name := "text", desc := "(I)I" } : Jvm.MethodName) ({ cls := "SilkClerks", name := "text", desc := "(I)I" } : Jvm.MethodName)) ∈ lw_all := lw_g (lw_at lw_m2 117 rfl) rfl
theorem q512 : (Jvm.Cond.codeWith ({ cls := "SilkClerks", name := "text", desc := "(I)I" } : Jvm.MethodName) prog_1_method_44_code (5 : Nat) (Option.some Jvm.ClassFile.FieldType.int) [((10 : Nat), (29 : Nat), (36 : Nat), (289 : Nat)), ((10 : Nat), (29 : Nat), (62 : Nat), (0 : Nat)), ((36 : Nat), (55 : Nat), (62 : Nat), (0 : Nat)), ((62 : Nat), (64 : Nat), (62 : Nat), (0 : Nat))]) ∈ lw_all := lw_g (lw_at lw_m2 118 rfl) rfl
theorem q513 : (Jvm.Cond.classLink "SilkClerks" (289 : Nat) "SilkClerks$Fault") ∈ lw_all := lw_g (lw_at lw_m2 119 rfl) rfl
theorem q514 : (Jvm.Cond.methodLink "SilkClerks" (432 : Nat) ({ cls := "SilkClerks", name := "readsText", desc := "(I)I" } : Jvm.MethodName)) ∈ lw_all := lw_g (lw_at lw_m2 120 rfl) rfl
theorem q515 : (Jvm.Cond.privateMethod ({ cls := "SilkClerks", name := "readsText", desc := "(I)I" } : Jvm.MethodName)) ∈ lw_tbl := lw_at lw_m2 121 rfl
theorem q516 : (Jvm.Cond.instanceMethod ({ cls := "SilkClerks", name := "readsText", desc := "(I)I" } : Jvm.MethodName)) ∈ lw_all := lw_g (lw_at lw_m2 122 rfl) rfl
theorem q517 : (Jvm.Cond.code ({ cls := "SilkClerks", name := "readsText", desc := "(I)I" } : Jvm.MethodName) prog_1_method_43_code (2 : Nat) (Option.some Jvm.ClassFile.FieldType.int)) ∈ lw_all := lw_g (lw_at lw_m2 123 rfl) rfl
theorem q518 : (Jvm.Cond.methodLink "SilkClerks" (411 : Nat) ({ cls := "SilkClerks", name := "openText", desc := "(I)V" } : Jvm.MethodName)) ∈ lw_all := lw_g (lw_at lw_m2 124 rfl) rfl
theorem q519 : (Jvm.Cond.privateMethod ({ cls := "SilkClerks", name := "openText", desc := "(I)V" } : Jvm.MethodName)) ∈ lw_tbl := lw_at lw_m2 125 rfl
theorem q520 : (Jvm.Cond.instanceMethod ({ cls := "SilkClerks", name := "openText", desc := "(I)V" } : Jvm.MethodName)) ∈ lw_all := lw_g (lw_at lw_m2 126 rfl) rfl
theorem q521 : (Jvm.Cond.code ({ cls := "SilkClerks", name := "openText", desc := "(I)V" } : Jvm.MethodName) prog_1_method_41_code (2 : Nat) (Option.none : Option Jvm.ClassFile.FieldType)) ∈ lw_all := lw_g (lw_at lw_m2 127 rfl) rfl
theorem q522 : (Jvm.Cond.methodLink "SilkClerks" (302 : Nat) ({ cls := "SilkClerks", name := "readNext", desc := "()V" } : Jvm.MethodName)) ∈ lw_all := lw_g (lw_at lw_m2 128 rfl) rfl
theorem q523 : (Jvm.Cond.privateMethod ({ cls := "SilkClerks", name := "readNext", desc := "()V" } : Jvm.MethodName)) ∈ lw_tbl := lw_at lw_m2 129 rfl
theorem q524 : (Jvm.Cond.instanceMethod ({ cls := "SilkClerks", name := "readNext", desc := "()V" } : Jvm.MethodName)) ∈ lw_all := lw_g (lw_at lw_m2 130 rfl) rfl
theorem q525 : (Jvm.Cond.code ({ cls := "SilkClerks", name := "readNext", desc := "()V" } : Jvm.MethodName) prog_1_method_20_code (2 : Nat) (Option.none : Option Jvm.ClassFile.FieldType)) ∈ lw_all := lw_g (lw_at lw_m2 131 rfl) rfl
theorem q526 : (Jvm.Cond.methodLink "SilkClerks" (238 : Nat) ({ cls := "SilkClerks", name := "raw", desc := "(I)I" } : Jvm.MethodName)) ∈ lw_all := lw_g (lw_at lw_m2 132 rfl) rfl
theorem q527 : (Jvm.Cond.privateMethod ({ cls := "SilkClerks", name := "raw", desc := "(I)I" } : Jvm.MethodName)) ∈ lw_tbl := lw_at lw_m2 133 rfl
theorem q528 : (Jvm.Cond.instanceMethod ({ cls := "SilkClerks", name := "raw", desc := "(I)I" } : Jvm.MethodName)) ∈ lw_all := lw_g (lw_at lw_m2 134 rfl) rfl
theorem q529 : (Jvm.Cond.code ({ cls := "SilkClerks", name := "raw", desc := "(I)I" } : Jvm.MethodName) prog_1_method_13_code (2 : Nat) (Option.some Jvm.ClassFile.FieldType.int)) ∈ lw_all := lw_g (lw_at lw_m2 135 rfl) rfl
theorem q530 : (Jvm.Cond.fieldLink "SilkClerks" (264 : Nat) "SilkClerks$Token" "END" "LSilkClerks$Token;") ∈ lw_all := lw_g (lw_at lw_m2 136 rfl) rfl
theorem q532 : (Jvm.Cond.fieldLink "SilkClerks" (267 : Nat) "SilkClerks$Token" "NONE" "LSilkClerks$Token;") ∈ lw_all := lw_g (lw_at lw_m2 138 rfl) rfl
theorem q534 : (Jvm.Cond.methodLink "SilkClerks" (270 : Nat) ({ cls := "SilkClerks", name := "isLetter", desc := "(I)Z" } : Jvm.MethodName)) ∈ lw_all := lw_g (lw_at lw_m2 140 rfl) rfl
theorem q535 : (Jvm.Cond.static ({ cls := "SilkClerks", name := "isLetter", desc := "(I)Z" } : Jvm.MethodName)) ∈ lw_all := lw_g (lw_at lw_m2 141 rfl) rfl
theorem q536 : (Jvm.Cond.code ({ cls := "SilkClerks", name := "isLetter", desc := "(I)Z" } : Jvm.MethodName) prog_1_method_14_code (1 : Nat) (Option.some Jvm.ClassFile.FieldType.boolean)) ∈ lw_all := lw_g (lw_at lw_m2 142 rfl) rfl
theorem q537 : (Jvm.Cond.fieldLink "SilkClerks" (249 : Nat) "SilkClerks$Token" "WORD" "LSilkClerks$Token;") ∈ lw_all := lw_g (lw_at lw_m2 143 rfl) rfl
theorem q539 : (Jvm.Cond.methodLink "SilkClerks" (273 : Nat) ({ cls := "SilkClerks", name := "wordOf", desc := "([Ljava/lang/String;)I" } : Jvm.MethodName)) ∈ lw_all := lw_g (lw_at lw_m2 145 rfl) rfl
theorem q540 : (Jvm.Cond.privateMethod ({ cls := "SilkClerks", name := "wordOf", desc := "([Ljava/lang/String;)I" } : Jvm.MethodName)) ∈ lw_tbl := lw_at lw_m2 146 rfl
theorem q541 : (Jvm.Cond.instanceMethod ({ cls := "SilkClerks", name := "wordOf", desc := "([Ljava/lang/String;)I" } : Jvm.MethodName)) ∈ lw_all := lw_g (lw_at lw_m2 147 rfl) rfl
theorem q542 : (Jvm.Cond.code ({ cls := "SilkClerks", name := "wordOf", desc := "([Ljava/lang/String;)I" } : Jvm.MethodName) prog_1_method_17_code (3 : Nat) (Option.some Jvm.ClassFile.FieldType.int)) ∈ lw_all := lw_g (lw_at lw_m2 148 rfl) rfl
theorem q543 : (Jvm.Cond.methodLink "SilkClerks" (254 : Nat) ({ cls := "SilkClerks", name := "spells", desc := "(Ljava/lang/String;)Z" } : Jvm.MethodName)) ∈ lw_all := lw_g (lw_at lw_m2 149 rfl) rfl
theorem q544 : (Jvm.Cond.privateMethod ({ cls := "SilkClerks", name := "spells", desc := "(Ljava/lang/String;)Z" } : Jvm.MethodName)) ∈ lw_tbl := lw_at lw_m2 150 rfl
theorem q545 : (Jvm.Cond.instanceMethod ({ cls := "SilkClerks", name := "spells", desc := "(Ljava/lang/String;)Z" } : Jvm.MethodName)) ∈ lw_all := lw_g (lw_at lw_m2 151 rfl) rfl
theorem q546 : (Jvm.Cond.code ({ cls := "SilkClerks", name := "spells", desc := "(Ljava/lang/String;)Z" } : Jvm.MethodName) prog_1_method_16_code (3 : Nat) (Option.some Jvm.ClassFile.FieldType.boolean)) ∈ lw_all := lw_g (lw_at lw_m2 152 rfl) rfl
theorem q547 : (Jvm.Cond.methodLink "SilkClerks" (228 : Nat) ({ cls := "java/lang/String", name := "length", desc := "()I" } : Jvm.MethodName)) ∈ lw_all := lw_g (lw_at lw_m2 153 rfl) rfl
theorem q557 : (Jvm.Cond.methodLink "SilkClerks" (241 : Nat) ({ cls := "java/lang/String", name := "charAt", desc := "(I)C" } : Jvm.MethodName)) ∈ lw_all := lw_g (lw_at lw_m2 163 rfl) rfl
theorem q595 : (Jvm.Cond.methodLink "SilkClerks" (277 : Nat) ({ cls := "SilkClerks", name := "isDigit", desc := "(I)Z" } : Jvm.MethodName)) ∈ lw_all := lw_g (lw_at lw_m2 201 rfl) rfl
theorem q596 : (Jvm.Cond.static ({ cls := "SilkClerks", name := "isDigit", desc := "(I)Z" } : Jvm.MethodName)) ∈ lw_all := lw_g (lw_at lw_m2 202 rfl) rfl
theorem q597 : (Jvm.Cond.code ({ cls := "SilkClerks", name := "isDigit", desc := "(I)Z" } : Jvm.MethodName) prog_1_method_15_code (1 : Nat) (Option.some Jvm.ClassFile.FieldType.boolean)) ∈ lw_all := lw_g (lw_at lw_m2 203 rfl) rfl
theorem q598 : (Jvm.Cond.constant "SilkClerks" (280 : Nat) (99999 : Int32)) ∈ lw_all := lw_g (lw_at lw_m2 204 rfl) rfl
theorem q599 : (Jvm.Cond.methodLink "SilkClerks" (1 : Nat) ({ cls := "java/lang/Math", name := "min", desc := "(II)I" } : Jvm.MethodName)) ∈ lw_all := lw_g (lw_at lw_m2 205 rfl) rfl
theorem q602 : (Jvm.Cond.fieldLink "SilkClerks" (281 : Nat) "SilkClerks$Token" "NUMBER" "LSilkClerks$Token;") ∈ lw_all := lw_g (lw_at lw_m2 208 rfl) rfl
theorem q604 : (Jvm.Cond.stringRef "SilkClerks" (284 : Nat) ";+-*/()<=>") ∈ lw_tbl := lw_at lw_m2 210 rfl
theorem q605 : (Jvm.Cond.methodLink "SilkClerks" (286 : Nat) ({ cls := "java/lang/String", name := "indexOf", desc := "(I)I" } : Jvm.MethodName)) ∈ lw_all := lw_g (lw_at lw_m2 211 rfl) rfl
theorem q662 : (Jvm.Cond.fieldLink "SilkClerks" (258 : Nat) "SilkClerks$Token" "SIGN" "LSilkClerks$Token;") ∈ lw_all := lw_g (lw_at lw_m3 28 rfl) rfl
theorem q664 : (Jvm.Cond.methodLink "SilkClerks" (414 : Nat) ({ cls := "SilkClerks", name := "takesFacts", desc := "()I" } : Jvm.MethodName)) ∈ lw_all := lw_g (lw_at lw_m3 30 rfl) rfl
theorem q665 : (Jvm.Cond.privateMethod ({ cls := "SilkClerks", name := "takesFacts", desc := "()I" } : Jvm.MethodName)) ∈ lw_tbl := lw_at lw_m3 31 rfl
theorem q666 : (Jvm.Cond.instanceMethod ({ cls := "SilkClerks", name := "takesFacts", desc := "()I" } : Jvm.MethodName)) ∈ lw_all := lw_g (lw_at lw_m3 32 rfl) rfl
theorem q667 : (Jvm.Cond.code ({ cls := "SilkClerks", name := "takesFacts", desc := "()I" } : Jvm.MethodName) prog_1_method_42_code (1 : Nat) (Option.some Jvm.ClassFile.FieldType.int)) ∈ lw_all := lw_g (lw_at lw_m3 33 rfl) rfl
theorem q668 : (Jvm.Cond.methodLink "SilkClerks" (404 : Nat) ({ cls := "SilkClerks", name := "readsFacts", desc := "()[LSilkClerks$Fact;" } : Jvm.MethodName)) ∈ lw_all := lw_g (lw_at lw_m3 34 rfl) rfl
theorem q669 : (Jvm.Cond.privateMethod ({ cls := "SilkClerks", name := "readsFacts", desc := "()[LSilkClerks$Fact;" } : Jvm.MethodName)) ∈ lw_tbl := lw_at lw_m3 35 rfl
theorem q670 : (Jvm.Cond.instanceMethod ({ cls := "SilkClerks", name := "readsFacts", desc := "()[LSilkClerks$Fact;" } : Jvm.MethodName)) ∈ lw_all := lw_g (lw_at lw_m3 36 rfl) rfl
theorem q671 : (Jvm.Cond.code ({ cls := "SilkClerks", name := "readsFacts", desc := "()[LSilkClerks$Fact;" } : Jvm.MethodName) prog_1_method_36_code (5 : Nat) (Option.some (Jvm.ClassFile.FieldType.array (Jvm.ClassFile.FieldType.object "SilkClerks$Fact")))) ∈ lw_all := lw_g (lw_at lw_m3 37 rfl) rfl
theorem q672 : (Jvm.Cond.methodLink "SilkClerks" (327 : Nat) ({ cls := "SilkClerks", name := "isWord", desc := "(Ljava/lang/String;)Z" } : Jvm.MethodName)) ∈ lw_all := lw_g (lw_at lw_m3 38 rfl) rfl
theorem q673 : (Jvm.Cond.privateMethod ({ cls := "SilkClerks", name := "isWord", desc := "(Ljava/lang/String;)Z" } : Jvm.MethodName)) ∈ lw_tbl := lw_at lw_m3 39 rfl
theorem q674 : (Jvm.Cond.instanceMethod ({ cls := "SilkClerks", name := "isWord", desc := "(Ljava/lang/String;)Z" } : Jvm.MethodName)) ∈ lw_all := lw_g (lw_at lw_m3 40 rfl) rfl
theorem q675 : (Jvm.Cond.code ({ cls := "SilkClerks", name := "isWord", desc := "(Ljava/lang/String;)Z" } : Jvm.MethodName) prog_1_method_18_code (2 : Nat) (Option.some Jvm.ClassFile.FieldType.boolean)) ∈ lw_all := lw_g (lw_at lw_m3 41 rfl) rfl
theorem q676 : (Jvm.Cond.methodLink "SilkClerks" (298 : Nat) ({ cls := "SilkClerks", name := "must", desc := "(Z)V" } : Jvm.MethodName)) ∈ lw_all := lw_g (lw_at lw_m3 42 rfl) rfl
theorem q677 : (Jvm.Cond.privateMethod ({ cls := "SilkClerks", name := "must", desc := "(Z)V" } : Jvm.MethodName)) ∈ lw_tbl := lw_at lw_m3 43 rfl
theorem q678 : (Jvm.Cond.instanceMethod ({ cls := "SilkClerks", name := "must", desc := "(Z)V" } : Jvm.MethodName)) ∈ lw_all := lw_g (lw_at lw_m3 44 rfl) rfl
theorem q679 : (Jvm.Cond.code ({ cls := "SilkClerks", name := "must", desc := "(Z)V" } : Jvm.MethodName) prog_1_method_21_code (2 : Nat) (Option.none : Option Jvm.ClassFile.FieldType)) ∈ lw_all := lw_g (lw_at lw_m3 45 rfl) rfl
theorem q716 : (Jvm.Cond.methodLink "SilkClerks" (291 : Nat) ({ cls := "SilkClerks$Fault", name := "<init>", desc := "(II)V" } : Jvm.MethodName)) ∈ lw_all := lw_g (lw_at lw_m3 82 rfl) rfl
theorem q726 : (Jvm.Cond.fieldLink "SilkClerks" (435 : Nat) "SilkClerks$Fault" "kind" "I") ∈ lw_all := lw_g (lw_at lw_m3 92 rfl) rfl
theorem q728 : (Jvm.Cond.fieldLink "SilkClerks" (438 : Nat) "SilkClerks$Fault" "place" "I") ∈ lw_all := lw_g (lw_at lw_m3 94 rfl) rfl
theorem q746 : (Jvm.Cond.methodLink "SilkClerks" (357 : Nat) ({ cls := "SilkClerks", name := "isRoom", desc := "(II)V" } : Jvm.MethodName)) ∈ lw_all := lw_g (lw_at lw_m3 112 rfl) rfl
theorem q747 : (Jvm.Cond.privateMethod ({ cls := "SilkClerks", name := "isRoom", desc := "(II)V" } : Jvm.MethodName)) ∈ lw_tbl := lw_at lw_m3 113 rfl
theorem q748 : (Jvm.Cond.instanceMethod ({ cls := "SilkClerks", name := "isRoom", desc := "(II)V" } : Jvm.MethodName)) ∈ lw_all := lw_g (lw_at lw_m3 114 rfl) rfl
theorem q749 : (Jvm.Cond.code ({ cls := "SilkClerks", name := "isRoom", desc := "(II)V" } : Jvm.MethodName) prog_1_method_32_code (3 : Nat) (Option.none : Option Jvm.ClassFile.FieldType)) ∈ lw_all := lw_g (lw_at lw_m3 115 rfl) rfl
theorem q750 : (Jvm.Cond.methodLink "SilkClerks" (389 : Nat) ({ cls := "SilkClerks", name := "fact", desc := "()LSilkClerks$Fact;" } : Jvm.MethodName)) ∈ lw_all := lw_g (lw_at lw_m3 116 rfl) rfl
theorem q751 : (Jvm.Cond.privateMethod ({ cls := "SilkClerks", name := "fact", desc := "()LSilkClerks$Fact;" } : Jvm.MethodName)) ∈ lw_tbl := lw_at lw_m3 117 rfl
theorem q752 : (Jvm.Cond.instanceMethod ({ cls := "SilkClerks", name := "fact", desc := "()LSilkClerks$Fact;" } : Jvm.MethodName)) ∈ lw_all := lw_g (lw_at lw_m3 118 rfl) rfl
theorem q753 : (Jvm.Cond.code ({ cls := "SilkClerks", name := "fact", desc := "()LSilkClerks$Fact;" } : Jvm.MethodName) prog_1_method_35_code (3 : Nat) (Option.some (Jvm.ClassFile.FieldType.object "SilkClerks$Fact"))) ∈ lw_all := lw_g (lw_at lw_m3 119 rfl) rfl
theorem q754 : (Jvm.Cond.methodLink "SilkClerks" (380 : Nat) ({ cls := "SilkClerks", name := "told", desc := "(Ljava/lang/String;II)I" } : Jvm.MethodName)) ∈ lw_all := lw_g (lw_at lw_m3 120 rfl) rfl
theorem q755 : (Jvm.Cond.privateMethod ({ cls := "SilkClerks", name := "told", desc := "(Ljava/lang/String;II)I" } : Jvm.MethodName)) ∈ lw_tbl := lw_at lw_m3 121 rfl
theorem q756 : (Jvm.Cond.instanceMethod ({ cls := "SilkClerks", name := "told", desc := "(Ljava/lang/String;II)I" } : Jvm.MethodName)) ∈ lw_all := lw_g (lw_at lw_m3 122 rfl) rfl
theorem q757 : (Jvm.Cond.code ({ cls := "SilkClerks", name := "told", desc := "(Ljava/lang/String;II)I" } : Jvm.MethodName) prog_1_method_34_code (4 : Nat) (Option.some Jvm.ClassFile.FieldType.int)) ∈ lw_all := lw_g (lw_at lw_m3 123 rfl) rfl
theorem q758 : (Jvm.Cond.methodLink "SilkClerks" (377 : Nat) ({ cls := "SilkClerks", name := "number", desc := "(II)I" } : Jvm.MethodName)) ∈ lw_all := lw_g (lw_at lw_m3 124 rfl) rfl
theorem q759 : (Jvm.Cond.privateMethod ({ cls := "SilkClerks", name := "number", desc := "(II)I" } : Jvm.MethodName)) ∈ lw_tbl := lw_at lw_m3 125 rfl
theorem q760 : (Jvm.Cond.instanceMethod ({ cls := "SilkClerks", name := "number", desc := "(II)I" } : Jvm.MethodName)) ∈ lw_all := lw_g (lw_at lw_m3 126 rfl) rfl
theorem q761 : (Jvm.Cond.code ({ cls := "SilkClerks", name := "number", desc := "(II)I" } : Jvm.MethodName) prog_1_method_33_code (4 : Nat) (Option.some Jvm.ClassFile.FieldType.int)) ∈ lw_all := lw_g (lw_at lw_m3 127 rfl) rfl
theorem q762 : (Jvm.Cond.methodLink "SilkClerks" (384 : Nat) ({ cls := "SilkClerks", name := "with", desc := "([II)[I" } : Jvm.MethodName)) ∈ lw_all := lw_g (lw_at lw_m3 128 rfl) rfl
theorem q763 : (Jvm.Cond.static ({ cls := "SilkClerks", name := "with", desc := "([II)[I" } : Jvm.MethodName)) ∈ lw_all := lw_g (lw_at lw_m3 129 rfl) rfl
theorem q764 : (Jvm.Cond.code ({ cls := "SilkClerks", name := "with", desc := "([II)[I" } : Jvm.MethodName) prog_1_method_8_code (3 : Nat) (Option.some (Jvm.ClassFile.FieldType.array Jvm.ClassFile.FieldType.int))) ∈ lw_all := lw_g (lw_at lw_m3 130 rfl) rfl
theorem q765 : (Jvm.Cond.methodLink "SilkClerks" (35 : Nat) ({ cls := "java/util/Arrays", name := "copyOf", desc := "([II)[I" } : Jvm.MethodName)) ∈ lw_all := lw_g (lw_at lw_m3 131 rfl) rfl
theorem q780 : (Jvm.Cond.methodLinkNest "SilkClerks" (386 : Nat) ({ cls := "SilkClerks$Fact", name := "<init>", desc := "([III)V" } : Jvm.MethodName) "SilkClerks") ∈ lw_tbl := lw_at lw_m3 146 rfl
theorem q797 : (Jvm.Cond.methodLink "SilkClerks" (344 : Nat) ({ cls := "SilkClerks", name := "takesSign", desc := "(C)V" } : Jvm.MethodName)) ∈ lw_all := lw_g (lw_at lw_m3 163 rfl) rfl
theorem q798 : (Jvm.Cond.privateMethod ({ cls := "SilkClerks", name := "takesSign", desc := "(C)V" } : Jvm.MethodName)) ∈ lw_tbl := lw_at lw_m3 164 rfl
theorem q799 : (Jvm.Cond.instanceMethod ({ cls := "SilkClerks", name := "takesSign", desc := "(C)V" } : Jvm.MethodName)) ∈ lw_all := lw_g (lw_at lw_m3 165 rfl) rfl
theorem q800 : (Jvm.Cond.code ({ cls := "SilkClerks", name := "takesSign", desc := "(C)V" } : Jvm.MethodName) prog_1_method_22_code (2 : Nat) (Option.none : Option Jvm.ClassFile.FieldType)) ∈ lw_all := lw_g (lw_at lw_m3 166 rfl) rfl
theorem q801 : (Jvm.Cond.methodLink "SilkClerks" (294 : Nat) ({ cls := "SilkClerks", name := "isSign", desc := "(C)Z" } : Jvm.MethodName)) ∈ lw_all := lw_g (lw_at lw_m3 167 rfl) rfl
theorem q802 : (Jvm.Cond.privateMethod ({ cls := "SilkClerks", name := "isSign", desc := "(C)Z" } : Jvm.MethodName)) ∈ lw_tbl := lw_at lw_m3 168 rfl
theorem q803 : (Jvm.Cond.instanceMethod ({ cls := "SilkClerks", name := "isSign", desc := "(C)Z" } : Jvm.MethodName)) ∈ lw_all := lw_g (lw_at lw_m3 169 rfl) rfl
theorem q804 : (Jvm.Cond.code ({ cls := "SilkClerks", name := "isSign", desc := "(C)Z" } : Jvm.MethodName) prog_1_method_19_code (2 : Nat) (Option.some Jvm.ClassFile.FieldType.boolean)) ∈ lw_all := lw_g (lw_at lw_m3 170 rfl) rfl
theorem q805 : (Jvm.Cond.methodLink "SilkClerks" (417 : Nat) ({ cls := "SilkClerks", name := "readsLaw", desc := "()LSilkClerks$Text;" } : Jvm.MethodName)) ∈ lw_all := lw_g (lw_at lw_m3 171 rfl) rfl
theorem q806 : (Jvm.Cond.privateMethod ({ cls := "SilkClerks", name := "readsLaw", desc := "()LSilkClerks$Text;" } : Jvm.MethodName)) ∈ lw_tbl := lw_at lw_m3 172 rfl
theorem q807 : (Jvm.Cond.instanceMethod ({ cls := "SilkClerks", name := "readsLaw", desc := "()LSilkClerks$Text;" } : Jvm.MethodName)) ∈ lw_all := lw_g (lw_at lw_m3 173 rfl) rfl
theorem q808 : (Jvm.Cond.code ({ cls := "SilkClerks", name := "readsLaw", desc := "()LSilkClerks$Text;" } : Jvm.MethodName) prog_1_method_30_code (3 : Nat) (Option.some (Jvm.ClassFile.FieldType.object "SilkClerks$Text"))) ∈ lw_all := lw_g (lw_at lw_m3 174 rfl) rfl
theorem q809 : (Jvm.Cond.methodLink "SilkClerks" (348 : Nat) ({ cls := "SilkClerks", name := "sum", desc := "()LSilkClerks$Term;" } : Jvm.MethodName)) ∈ lw_all := lw_g (lw_at lw_m3 175 rfl) rfl
theorem q810 : (Jvm.Cond.privateMethod ({ cls := "SilkClerks", name := "sum", desc := "()LSilkClerks$Term;" } : Jvm.MethodName)) ∈ lw_tbl := lw_at lw_m3 176 rfl
theorem q811 : (Jvm.Cond.instanceMethod ({ cls := "SilkClerks", name := "sum", desc := "()LSilkClerks$Term;" } : Jvm.MethodName)) ∈ lw_all := lw_g (lw_at lw_m3 177 rfl) rfl
theorem q812 : (Jvm.Cond.code ({ cls := "SilkClerks", name := "sum", desc := "()LSilkClerks$Term;" } : Jvm.MethodName) prog_1_method_25_code (3 : Nat) (Option.some (Jvm.ClassFile.FieldType.object "SilkClerks$Term"))) ∈ lw_all := lw_g (lw_at lw_m3 178 rfl) rfl
theorem q813 : (Jvm.Cond.methodLink "SilkClerks" (321 : Nat) ({ cls := "SilkClerks", name := "product", desc := "()LSilkClerks$Term;" } : Jvm.MethodName)) ∈ lw_all := lw_g (lw_at lw_m3 179 rfl) rfl
theorem q814 : (Jvm.Cond.privateMethod ({ cls := "SilkClerks", name := "product", desc := "()LSilkClerks$Term;" } : Jvm.MethodName)) ∈ lw_tbl := lw_at lw_m3 180 rfl
theorem q815 : (Jvm.Cond.instanceMethod ({ cls := "SilkClerks", name := "product", desc := "()LSilkClerks$Term;" } : Jvm.MethodName)) ∈ lw_all := lw_g (lw_at lw_m3 181 rfl) rfl
theorem q816 : (Jvm.Cond.code ({ cls := "SilkClerks", name := "product", desc := "()LSilkClerks$Term;" } : Jvm.MethodName) prog_1_method_24_code (3 : Nat) (Option.some (Jvm.ClassFile.FieldType.object "SilkClerks$Term"))) ∈ lw_all := lw_g (lw_at lw_m3 182 rfl) rfl
theorem q817 : (Jvm.Cond.methodLink "SilkClerks" (312 : Nat) ({ cls := "SilkClerks", name := "unit", desc := "()LSilkClerks$Term;" } : Jvm.MethodName)) ∈ lw_all := lw_g (lw_at lw_m3 183 rfl) rfl
theorem q818 : (Jvm.Cond.privateMethod ({ cls := "SilkClerks", name := "unit", desc := "()LSilkClerks$Term;" } : Jvm.MethodName)) ∈ lw_tbl := lw_at lw_m3 184 rfl
theorem q819 : (Jvm.Cond.instanceMethod ({ cls := "SilkClerks", name := "unit", desc := "()LSilkClerks$Term;" } : Jvm.MethodName)) ∈ lw_all := lw_g (lw_at lw_m3 185 rfl) rfl
theorem q820 : (Jvm.Cond.code ({ cls := "SilkClerks", name := "unit", desc := "()LSilkClerks$Term;" } : Jvm.MethodName) prog_1_method_23_code (2 : Nat) (Option.some (Jvm.ClassFile.FieldType.object "SilkClerks$Term"))) ∈ lw_all := lw_g (lw_at lw_m3 186 rfl) rfl
theorem q821 : (Jvm.Cond.classLink "SilkClerks" (305 : Nat) "SilkClerks$Number") ∈ lw_all := lw_g (lw_at lw_m3 187 rfl) rfl
theorem q823 : (Jvm.Cond.methodLink "SilkClerks" (307 : Nat) ({ cls := "SilkClerks$Number", name := "<init>", desc := "(I)V" } : Jvm.MethodName)) ∈ lw_all := lw_g (lw_at lw_m3 189 rfl) rfl
theorem q834 : (Jvm.Cond.classLink "SilkClerks" (309 : Nat) "SilkClerks$Word") ∈ lw_all := lw_g (lw_at lw_m3 200 rfl) rfl
theorem q836 : (Jvm.Cond.methodLink "SilkClerks" (311 : Nat) ({ cls := "SilkClerks$Word", name := "<init>", desc := "(I)V" } : Jvm.MethodName)) ∈ lw_all := lw_g (lw_at lw_m3 202 rfl) rfl
theorem q844 : (Jvm.Cond.classLink "SilkClerks" (316 : Nat) "SilkClerks$Two") ∈ lw_all := lw_g (lw_at lw_m3 210 rfl) rfl
theorem q846 : (Jvm.Cond.methodLink "SilkClerks" (318 : Nat) ({ cls := "SilkClerks$Two", name := "<init>", desc := "(CLSilkClerks$Term;LSilkClerks$Term;)V" } : Jvm.MethodName)) ∈ lw_all := lw_g (lw_at lw_m3 212 rfl) rfl
theorem q860 : (Jvm.Cond.methodLink "SilkClerks" (341 : Nat) ({ cls := "SilkClerks", name := "any", desc := "()LSilkClerks$Term;" } : Jvm.MethodName)) ∈ lw_all := lw_g (lw_at lw_m3 226 rfl) rfl
theorem q861 : (Jvm.Cond.privateMethod ({ cls := "SilkClerks", name := "any", desc := "()LSilkClerks$Term;" } : Jvm.MethodName)) ∈ lw_tbl := lw_at lw_m3 227 rfl
theorem q862 : (Jvm.Cond.instanceMethod ({ cls := "SilkClerks", name := "any", desc := "()LSilkClerks$Term;" } : Jvm.MethodName)) ∈ lw_all := lw_g (lw_at lw_m3 228 rfl) rfl
theorem q863 : (Jvm.Cond.code ({ cls := "SilkClerks", name := "any", desc := "()LSilkClerks$Term;" } : Jvm.MethodName) prog_1_method_29_code (2 : Nat) (Option.some (Jvm.ClassFile.FieldType.object "SilkClerks$Term"))) ∈ lw_all := lw_g (lw_at lw_m3 229 rfl) rfl
theorem q864 : (Jvm.Cond.methodLink "SilkClerks" (351 : Nat) ({ cls := "SilkClerks", name := "both", desc := "()LSilkClerks$Term;" } : Jvm.MethodName)) ∈ lw_all := lw_g (lw_at lw_m3 230 rfl) rfl
theorem q865 : (Jvm.Cond.privateMethod ({ cls := "SilkClerks", name := "both", desc := "()LSilkClerks$Term;" } : Jvm.MethodName)) ∈ lw_tbl := lw_at lw_m3 231 rfl
theorem q866 : (Jvm.Cond.instanceMethod ({ cls := "SilkClerks", name := "both", desc := "()LSilkClerks$Term;" } : Jvm.MethodName)) ∈ lw_all := lw_g (lw_at lw_m3 232 rfl) rfl
theorem q867 : (Jvm.Cond.code ({ cls := "SilkClerks", name := "both", desc := "()LSilkClerks$Term;" } : Jvm.MethodName) prog_1_method_28_code (2 : Nat) (Option.some (Jvm.ClassFile.FieldType.object "SilkClerks$Term"))) ∈ lw_all := lw_g (lw_at lw_m3 233 rfl) rfl
theorem q868 : (Jvm.Cond.methodLink "SilkClerks" (333 : Nat) ({ cls := "SilkClerks", name := "oneOf", desc := "()LSilkClerks$Term;" } : Jvm.MethodName)) ∈ lw_all := lw_g (lw_at lw_m3 234 rfl) rfl
theorem q869 : (Jvm.Cond.privateMethod ({ cls := "SilkClerks", name := "oneOf", desc := "()LSilkClerks$Term;" } : Jvm.MethodName)) ∈ lw_tbl := lw_at lw_m3 235 rfl
theorem q870 : (Jvm.Cond.instanceMethod ({ cls := "SilkClerks", name := "oneOf", desc := "()LSilkClerks$Term;" } : Jvm.MethodName)) ∈ lw_all := lw_g (lw_at lw_m3 236 rfl) rfl
theorem q871 : (Jvm.Cond.code ({ cls := "SilkClerks", name := "oneOf", desc := "()LSilkClerks$Term;" } : Jvm.MethodName) prog_1_method_27_code (3 : Nat) (Option.some (Jvm.ClassFile.FieldType.object "SilkClerks$Term"))) ∈ lw_all := lw_g (lw_at lw_m3 237 rfl) rfl
theorem q872 : (Jvm.Cond.methodLink "SilkClerks" (330 : Nat) ({ cls := "SilkClerks", name := "opens", desc := "()V" } : Jvm.MethodName)) ∈ lw_all := lw_g (lw_at lw_m3 238 rfl) rfl
theorem q873 : (Jvm.Cond.privateMethod ({ cls := "SilkClerks", name := "opens", desc := "()V" } : Jvm.MethodName)) ∈ lw_tbl := lw_at lw_m3 239 rfl
theorem q874 : (Jvm.Cond.instanceMethod ({ cls := "SilkClerks", name := "opens", desc := "()V" } : Jvm.MethodName)) ∈ lw_all := lw_g (lw_at lw_m4 0 rfl) rfl
theorem q875 : (Jvm.Cond.code ({ cls := "SilkClerks", name := "opens", desc := "()V" } : Jvm.MethodName) prog_1_method_26_code (1 : Nat) (Option.none : Option Jvm.ClassFile.FieldType)) ∈ lw_all := lw_g (lw_at lw_m4 1 rfl) rfl
theorem q876 : (Jvm.Cond.classLink "SilkClerks" (336 : Nat) "SilkClerks$Not") ∈ lw_all := lw_g (lw_at lw_m4 2 rfl) rfl
theorem q878 : (Jvm.Cond.methodLink "SilkClerks" (338 : Nat) ({ cls := "SilkClerks$Not", name := "<init>", desc := "(LSilkClerks$Term;)V" } : Jvm.MethodName)) ∈ lw_all := lw_g (lw_at lw_m4 4 rfl) rfl
theorem q886 : (Jvm.Cond.methodLink "SilkClerks" (421 : Nat) ({ cls := "SilkClerks", name := "readsQueries", desc := "()[I" } : Jvm.MethodName)) ∈ lw_all := lw_g (lw_at lw_m4 12 rfl) rfl
theorem q887 : (Jvm.Cond.privateMethod ({ cls := "SilkClerks", name := "readsQueries", desc := "()[I" } : Jvm.MethodName)) ∈ lw_tbl := lw_at lw_m4 13 rfl
theorem q888 : (Jvm.Cond.instanceMethod ({ cls := "SilkClerks", name := "readsQueries", desc := "()[I" } : Jvm.MethodName)) ∈ lw_all := lw_g (lw_at lw_m4 14 rfl) rfl
theorem q889 : (Jvm.Cond.code ({ cls := "SilkClerks", name := "readsQueries", desc := "()[I" } : Jvm.MethodName) prog_1_method_40_code (2 : Nat) (Option.some (Jvm.ClassFile.FieldType.array Jvm.ClassFile.FieldType.int))) ∈ lw_all := lw_g (lw_at lw_m4 15 rfl) rfl
theorem q890 : (Jvm.Cond.methodLink "SilkClerks" (402 : Nat) ({ cls := "SilkClerks", name := "query", desc := "()I" } : Jvm.MethodName)) ∈ lw_all := lw_g (lw_at lw_m4 16 rfl) rfl
theorem q891 : (Jvm.Cond.privateMethod ({ cls := "SilkClerks", name := "query", desc := "()I" } : Jvm.MethodName)) ∈ lw_tbl := lw_at lw_m4 17 rfl
theorem q892 : (Jvm.Cond.instanceMethod ({ cls := "SilkClerks", name := "query", desc := "()I" } : Jvm.MethodName)) ∈ lw_all := lw_g (lw_at lw_m4 18 rfl) rfl
theorem q893 : (Jvm.Cond.code ({ cls := "SilkClerks", name := "query", desc := "()I" } : Jvm.MethodName) prog_1_method_39_code (2 : Nat) (Option.some Jvm.ClassFile.FieldType.int)) ∈ lw_all := lw_g (lw_at lw_m4 19 rfl) rfl
theorem q894 : (Jvm.Cond.methodLink "SilkClerks" (425 : Nat) ({ cls := "SilkClerks", name := "readsMulberry", desc := "()[LSilkClerks$Meal;" } : Jvm.MethodName)) ∈ lw_all := lw_g (lw_at lw_m4 20 rfl) rfl
theorem q895 : (Jvm.Cond.privateMethod ({ cls := "SilkClerks", name := "readsMulberry", desc := "()[LSilkClerks$Meal;" } : Jvm.MethodName)) ∈ lw_tbl := lw_at lw_m4 21 rfl
theorem q896 : (Jvm.Cond.instanceMethod ({ cls := "SilkClerks", name := "readsMulberry", desc := "()[LSilkClerks$Meal;" } : Jvm.MethodName)) ∈ lw_all := lw_g (lw_at lw_m4 22 rfl) rfl
theorem q897 : (Jvm.Cond.code ({ cls := "SilkClerks", name := "readsMulberry", desc := "()[LSilkClerks$Meal;" } : Jvm.MethodName) prog_1_method_38_code (5 : Nat) (Option.some (Jvm.ClassFile.FieldType.array (Jvm.ClassFile.FieldType.object "SilkClerks$Meal")))) ∈ lw_all := lw_g (lw_at lw_m4 23 rfl) rfl
theorem q898 : (Jvm.Cond.methodLink "SilkClerks" (398 : Nat) ({ cls := "SilkClerks", name := "meal", desc := "()LSilkClerks$Meal;" } : Jvm.MethodName)) ∈ lw_all := lw_g (lw_at lw_m4 24 rfl) rfl
theorem q899 : (Jvm.Cond.privateMethod ({ cls := "SilkClerks", name := "meal", desc := "()LSilkClerks$Meal;" } : Jvm.MethodName)) ∈ lw_tbl := lw_at lw_m4 25 rfl
theorem q900 : (Jvm.Cond.instanceMethod ({ cls := "SilkClerks", name := "meal", desc := "()LSilkClerks$Meal;" } : Jvm.MethodName)) ∈ lw_all := lw_g (lw_at lw_m4 26 rfl) rfl
theorem q901 : (Jvm.Cond.code ({ cls := "SilkClerks", name := "meal", desc := "()LSilkClerks$Meal;" } : Jvm.MethodName) prog_1_method_37_code (6 : Nat) (Option.some (Jvm.ClassFile.FieldType.object "SilkClerks$Meal"))) ∈ lw_all := lw_g (lw_at lw_m4 27 rfl) rfl
theorem q903 : (Jvm.Cond.methodLinkNest "SilkClerks" (395 : Nat) ({ cls := "SilkClerks$Meal", name := "<init>", desc := "(IIII)V" } : Jvm.MethodName) "SilkClerks") ∈ lw_tbl := lw_at lw_m4 29 rfl
theorem q921 : (Jvm.Cond.instanceMethod ({ cls := "SilkClerks", name := "fault", desc := "(I)I" } : Jvm.MethodName)) ∈ lw_all := lw_g (lw_at lw_m4 47 rfl) rfl
theorem q922 : (Jvm.Cond.selects "SilkClerks" ({ cls := "SilkClerks", name := "fault", desc := "(I)I" } : Jvm.MethodName) ({ cls := "SilkClerks", name := "fault", desc := "(I)I" } : Jvm.MethodName)) ∈ lw_all := lw_g (lw_at lw_m4 48 rfl) rfl
theorem q923 : (Jvm.Cond.code ({ cls := "SilkClerks", name := "fault", desc := "(I)I" } : Jvm.MethodName) prog_1_method_45_code (2 : Nat) (Option.some Jvm.ClassFile.FieldType.int)) ∈ lw_all := lw_g (lw_at lw_m4 49 rfl) rfl
theorem q925 : (Jvm.Cond.instanceMethod ({ cls := "SilkClerks", name := "undo", desc := "()Z" } : Jvm.MethodName)) ∈ lw_all := lw_g (lw_at lw_m4 51 rfl) rfl
theorem q926 : (Jvm.Cond.selects "SilkClerks" ({ cls := "SilkClerks", name := "undo", desc := "()Z" } : Jvm.MethodName) ({ cls := "SilkClerks", name := "undo", desc := "()Z" } : Jvm.MethodName)) ∈ lw_all := lw_g (lw_at lw_m4 52 rfl) rfl
theorem q927 : (Jvm.Cond.code ({ cls := "SilkClerks", name := "undo", desc := "()Z" } : Jvm.MethodName) prog_1_method_49_code (1 : Nat) (Option.some Jvm.ClassFile.FieldType.boolean)) ∈ lw_all := lw_g (lw_at lw_m4 53 rfl) rfl
theorem q928 : (Jvm.Cond.methodLink "SilkClerks" (448 : Nat) ({ cls := "SilkClerks$Trays", name := "become", desc := "(LSilkClerks$Trays;)V" } : Jvm.MethodName)) ∈ lw_all := lw_g (lw_at lw_m4 54 rfl) rfl
theorem q933 : (Jvm.Cond.static ({ cls := "SilkClerks", name := "copies", desc := "([I[I)V" } : Jvm.MethodName)) ∈ lw_all := lw_g (lw_at lw_m4 59 rfl) rfl
theorem q934 : (Jvm.Cond.code ({ cls := "SilkClerks", name := "copies", desc := "([I[I)V" } : Jvm.MethodName) prog_1_method_4_code (2 : Nat) (Option.none : Option Jvm.ClassFile.FieldType)) ∈ lw_all := lw_g (lw_at lw_m4 60 rfl) rfl
theorem q935 : (Jvm.Cond.methodLink "SilkClerks" (10 : Nat) ({ cls := "java/lang/System", name := "arraycopy", desc := "(Ljava/lang/Object;ILjava/lang/Object;II)V" } : Jvm.MethodName)) ∈ lw_all := lw_g (lw_at lw_m4 61 rfl) rfl
theorem q937 : (Jvm.Cond.instanceMethod ({ cls := "SilkClerks", name := "state", desc := "(I)I" } : Jvm.MethodName)) ∈ lw_all := lw_g (lw_at lw_m4 63 rfl) rfl
theorem q938 : (Jvm.Cond.selects "SilkClerks" ({ cls := "SilkClerks", name := "state", desc := "(I)I" } : Jvm.MethodName) ({ cls := "SilkClerks", name := "state", desc := "(I)I" } : Jvm.MethodName)) ∈ lw_all := lw_g (lw_at lw_m4 64 rfl) rfl
theorem q939 : (Jvm.Cond.code ({ cls := "SilkClerks", name := "state", desc := "(I)I" } : Jvm.MethodName) prog_1_method_52_code (3 : Nat) (Option.some Jvm.ClassFile.FieldType.int)) ∈ lw_all := lw_g (lw_at lw_m4 65 rfl) rfl
theorem q941 : (Jvm.Cond.instanceMethod ({ cls := "SilkClerks", name := "worm", desc := "(II)I" } : Jvm.MethodName)) ∈ lw_all := lw_g (lw_at lw_m4 67 rfl) rfl
theorem q942 : (Jvm.Cond.selects "SilkClerks" ({ cls := "SilkClerks", name := "worm", desc := "(II)I" } : Jvm.MethodName) ({ cls := "SilkClerks", name := "worm", desc := "(II)I" } : Jvm.MethodName)) ∈ lw_all := lw_g (lw_at lw_m4 68 rfl) rfl
theorem q943 : (Jvm.Cond.code ({ cls := "SilkClerks", name := "worm", desc := "(II)I" } : Jvm.MethodName) prog_1_method_53_code (4 : Nat) (Option.some Jvm.ClassFile.FieldType.int)) ∈ lw_all := lw_g (lw_at lw_m4 69 rfl) rfl
theorem q945 : (Jvm.Cond.instanceMethod ({ cls := "SilkClerks", name := "set", desc := "(III)Z" } : Jvm.MethodName)) ∈ lw_all := lw_g (lw_at lw_m4 71 rfl) rfl
theorem q946 : (Jvm.Cond.selects "SilkClerks" ({ cls := "SilkClerks", name := "set", desc := "(III)Z" } : Jvm.MethodName) ({ cls := "SilkClerks", name := "set", desc := "(III)Z" } : Jvm.MethodName)) ∈ lw_all := lw_g (lw_at lw_m4 72 rfl) rfl
theorem q947 : (Jvm.Cond.code ({ cls := "SilkClerks", name := "set", desc := "(III)Z" } : Jvm.MethodName) prog_1_method_54_code (4 : Nat) (Option.some Jvm.ClassFile.FieldType.boolean)) ∈ lw_all := lw_g (lw_at lw_m4 73 rfl) rfl
theorem q948 : (Jvm.Cond.methodLink "SilkClerks" (477 : Nat) ({ cls := "SilkClerks", name := "isWorm", desc := "(I)Z" } : Jvm.MethodName)) ∈ lw_all := lw_g (lw_at lw_m4 74 rfl) rfl
theorem q949 : (Jvm.Cond.privateMethod ({ cls := "SilkClerks", name := "isWorm", desc := "(I)Z" } : Jvm.MethodName)) ∈ lw_tbl := lw_at lw_m4 75 rfl
theorem q950 : (Jvm.Cond.instanceMethod ({ cls := "SilkClerks", name := "isWorm", desc := "(I)Z" } : Jvm.MethodName)) ∈ lw_all := lw_g (lw_at lw_m4 76 rfl) rfl
theorem q951 : (Jvm.Cond.code ({ cls := "SilkClerks", name := "isWorm", desc := "(I)Z" } : Jvm.MethodName) prog_1_method_50_code (2 : Nat) (Option.some Jvm.ClassFile.FieldType.boolean)) ∈ lw_all := lw_g (lw_at lw_m4 77 rfl) rfl
theorem q953 : (Jvm.Cond.instanceMethod ({ cls := "SilkClerks", name := "feedOne", desc := "(III)I" } : Jvm.MethodName)) ∈ lw_all := lw_g (lw_at lw_m4 79 rfl) rfl
theorem q954 : (Jvm.Cond.selects "SilkClerks" ({ cls := "SilkClerks", name := "feedOne", desc := "(III)I" } : Jvm.MethodName) ({ cls := "SilkClerks", name := "feedOne", desc := "(III)I" } : Jvm.MethodName)) ∈ lw_all := lw_g (lw_at lw_m4 80 rfl) rfl
theorem q955 : (Jvm.Cond.code ({ cls := "SilkClerks", name := "feedOne", desc := "(III)I" } : Jvm.MethodName) prog_1_method_55_code (4 : Nat) (Option.some Jvm.ClassFile.FieldType.int)) ∈ lw_all := lw_g (lw_at lw_m4 81 rfl) rfl
theorem q956 : (Jvm.Cond.methodLink "SilkClerks" (484 : Nat) ({ cls := "SilkClerks", name := "isFact", desc := "(I)Z" } : Jvm.MethodName)) ∈ lw_all := lw_g (lw_at lw_m4 82 rfl) rfl
theorem q957 : (Jvm.Cond.privateMethod ({ cls := "SilkClerks", name := "isFact", desc := "(I)Z" } : Jvm.MethodName)) ∈ lw_tbl := lw_at lw_m4 83 rfl
theorem q958 : (Jvm.Cond.instanceMethod ({ cls := "SilkClerks", name := "isFact", desc := "(I)Z" } : Jvm.MethodName)) ∈ lw_all := lw_g (lw_at lw_m4 84 rfl) rfl
theorem q959 : (Jvm.Cond.code ({ cls := "SilkClerks", name := "isFact", desc := "(I)Z" } : Jvm.MethodName) prog_1_method_51_code (2 : Nat) (Option.some Jvm.ClassFile.FieldType.boolean)) ∈ lw_all := lw_g (lw_at lw_m4 85 rfl) rfl
theorem q960 : (Jvm.Cond.methodLink "SilkClerks" (487 : Nat) ({ cls := "SilkClerks$Trays", name := "canFeed", desc := "(III)Z" } : Jvm.MethodName)) ∈ lw_all := lw_g (lw_at lw_m4 86 rfl) rfl
theorem q965 : (Jvm.Cond.static ({ cls := "SilkClerks", name := "has", desc := "(II)Z" } : Jvm.MethodName)) ∈ lw_all := lw_g (lw_at lw_m4 91 rfl) rfl
theorem q966 : (Jvm.Cond.code ({ cls := "SilkClerks", name := "has", desc := "(II)Z" } : Jvm.MethodName) prog_1_method_3_code (2 : Nat) (Option.some Jvm.ClassFile.FieldType.boolean)) ∈ lw_all := lw_g (lw_at lw_m4 92 rfl) rfl
theorem q976 : (Jvm.Cond.privateMethod ({ cls := "SilkClerks", name := "tells", desc := "(III)I" } : Jvm.MethodName)) ∈ lw_tbl := lw_at lw_m4 102 rfl
theorem q977 : (Jvm.Cond.instanceMethod ({ cls := "SilkClerks", name := "tells", desc := "(III)I" } : Jvm.MethodName)) ∈ lw_all := lw_g (lw_at lw_m4 103 rfl) rfl
theorem q978 : (Jvm.Cond.code ({ cls := "SilkClerks", name := "tells", desc := "(III)I" } : Jvm.MethodName) prog_1_method_31_code (5 : Nat) (Option.some Jvm.ClassFile.FieldType.int)) ∈ lw_all := lw_g (lw_at lw_m4 104 rfl) rfl
theorem q979 : (Jvm.Cond.methodLink "SilkClerks" (368 : Nat) ({ cls := "SilkClerks$Term", name := "of", desc := "([I)I" } : Jvm.MethodName)) ∈ lw_all := lw_g (lw_at lw_m4 105 rfl) rfl
theorem q996 : (Jvm.Cond.methodLink "SilkClerks" (373 : Nat) ({ cls := "SilkClerks", name := "held", desc := "(III)I" } : Jvm.MethodName)) ∈ lw_all := lw_g (lw_at lw_m4 122 rfl) rfl
theorem q997 : (Jvm.Cond.static ({ cls := "SilkClerks", name := "held", desc := "(III)I" } : Jvm.MethodName)) ∈ lw_all := lw_g (lw_at lw_m4 123 rfl) rfl
theorem q998 : (Jvm.Cond.code ({ cls := "SilkClerks", name := "held", desc := "(III)I" } : Jvm.MethodName) prog_1_method_2_code (3 : Nat) (Option.some Jvm.ClassFile.FieldType.int)) ∈ lw_all := lw_g (lw_at lw_m4 124 rfl) rfl
theorem q999 : (Jvm.Cond.methodLink "SilkClerks" (7 : Nat) ({ cls := "java/lang/Math", name := "max", desc := "(II)I" } : Jvm.MethodName)) ∈ lw_all := lw_g (lw_at lw_m4 125 rfl) rfl
theorem q1005 : (Jvm.Cond.methodLink "SilkClerks" (490 : Nat) ({ cls := "SilkClerks", name := "keepsAhead", desc := "()V" } : Jvm.MethodName)) ∈ lw_all := lw_g (lw_at lw_m4 131 rfl) rfl
theorem q1006 : (Jvm.Cond.privateMethod ({ cls := "SilkClerks", name := "keepsAhead", desc := "()V" } : Jvm.MethodName)) ∈ lw_tbl := lw_at lw_m4 132 rfl
theorem q1007 : (Jvm.Cond.instanceMethod ({ cls := "SilkClerks", name := "keepsAhead", desc := "()V" } : Jvm.MethodName)) ∈ lw_all := lw_g (lw_at lw_m4 133 rfl) rfl
theorem q1008 : (Jvm.Cond.code ({ cls := "SilkClerks", name := "keepsAhead", desc := "()V" } : Jvm.MethodName) prog_1_method_48_code (2 : Nat) (Option.none : Option Jvm.ClassFile.FieldType)) ∈ lw_all := lw_g (lw_at lw_m4 134 rfl) rfl
theorem q1009 : (Jvm.Cond.methodLink "SilkClerks" (493 : Nat) ({ cls := "SilkClerks$Trays", name := "feeds", desc := "(III)I" } : Jvm.MethodName)) ∈ lw_all := lw_g (lw_at lw_m4 135 rfl) rfl
theorem q1014 : (Jvm.Cond.privateMethod ({ cls := "SilkClerks", name := "spunOf", desc := "(II)[I" } : Jvm.MethodName)) ∈ lw_tbl := lw_at lw_m4 140 rfl
theorem q1015 : (Jvm.Cond.instanceMethod ({ cls := "SilkClerks", name := "spunOf", desc := "(II)[I" } : Jvm.MethodName)) ∈ lw_all := lw_g (lw_at lw_m4 141 rfl) rfl
theorem q1016 : (Jvm.Cond.code ({ cls := "SilkClerks", name := "spunOf", desc := "(II)[I" } : Jvm.MethodName) prog_1_method_46_code (8 : Nat) (Option.some (Jvm.ClassFile.FieldType.array Jvm.ClassFile.FieldType.int))) ∈ lw_all := lw_g (lw_at lw_m4 142 rfl) rfl
theorem q1017 : (Jvm.Cond.methodLink "SilkClerks" (440 : Nat) ({ cls := "SilkClerks$Fact", name := "marks", desc := "()[I" } : Jvm.MethodName)) ∈ lw_all := lw_g (lw_at lw_m4 143 rfl) rfl
theorem q1045 : (Jvm.Cond.privateMethod ({ cls := "SilkClerks", name := "writes", desc := "(III)V" } : Jvm.MethodName)) ∈ lw_tbl := lw_at lw_m4 171 rfl
theorem q1046 : (Jvm.Cond.instanceMethod ({ cls := "SilkClerks", name := "writes", desc := "(III)V" } : Jvm.MethodName)) ∈ lw_all := lw_g (lw_at lw_m4 172 rfl) rfl
theorem q1047 : (Jvm.Cond.code ({ cls := "SilkClerks", name := "writes", desc := "(III)V" } : Jvm.MethodName) prog_1_method_47_code (5 : Nat) (Option.none : Option Jvm.ClassFile.FieldType)) ∈ lw_all := lw_g (lw_at lw_m4 173 rfl) rfl
theorem q1053 : (Jvm.Cond.instanceMethod ({ cls := "SilkClerks", name := "cocoon", desc := "(IZ)Z" } : Jvm.MethodName)) ∈ lw_all := lw_g (lw_at lw_m4 179 rfl) rfl
theorem q1054 : (Jvm.Cond.selects "SilkClerks" ({ cls := "SilkClerks", name := "cocoon", desc := "(IZ)Z" } : Jvm.MethodName) ({ cls := "SilkClerks", name := "cocoon", desc := "(IZ)Z" } : Jvm.MethodName)) ∈ lw_all := lw_g (lw_at lw_m4 180 rfl) rfl
theorem q1055 : (Jvm.Cond.code ({ cls := "SilkClerks", name := "cocoon", desc := "(IZ)Z" } : Jvm.MethodName) prog_1_method_56_code (3 : Nat) (Option.some Jvm.ClassFile.FieldType.boolean)) ∈ lw_all := lw_g (lw_at lw_m4 181 rfl) rfl
theorem q1056 : (Jvm.Cond.methodLink "SilkClerks" (496 : Nat) ({ cls := "SilkClerks$Trays", name := "canSteam", desc := "(I)Z" } : Jvm.MethodName)) ∈ lw_all := lw_g (lw_at lw_m4 182 rfl) rfl
theorem q1060 : (Jvm.Cond.methodLink "SilkClerks" (499 : Nat) ({ cls := "SilkClerks$Trays", name := "canHide", desc := "(I)Z" } : Jvm.MethodName)) ∈ lw_all := lw_g (lw_at lw_m4 186 rfl) rfl
theorem q1064 : (Jvm.Cond.methodLink "SilkClerks" (502 : Nat) ({ cls := "SilkClerks$Trays", name := "steams", desc := "(I)V" } : Jvm.MethodName)) ∈ lw_all := lw_g (lw_at lw_m4 190 rfl) rfl
theorem q1068 : (Jvm.Cond.methodLink "SilkClerks" (505 : Nat) ({ cls := "SilkClerks$Trays", name := "hides", desc := "(I)V" } : Jvm.MethodName)) ∈ lw_all := lw_g (lw_at lw_m4 194 rfl) rfl
theorem q1070 : (Jvm.Cond.instanceMethod ({ cls := "SilkClerks", name := "days", desc := "(I)I" } : Jvm.MethodName)) ∈ lw_all := lw_g (lw_at lw_m4 196 rfl) rfl
theorem q1071 : (Jvm.Cond.selects "SilkClerks" ({ cls := "SilkClerks", name := "days", desc := "(I)I" } : Jvm.MethodName) ({ cls := "SilkClerks", name := "days", desc := "(I)I" } : Jvm.MethodName)) ∈ lw_all := lw_g (lw_at lw_m4 197 rfl) rfl
theorem q1072 : (Jvm.Cond.code ({ cls := "SilkClerks", name := "days", desc := "(I)I" } : Jvm.MethodName) prog_1_method_57_code (4 : Nat) (Option.some Jvm.ClassFile.FieldType.int)) ∈ lw_all := lw_g (lw_at lw_m4 198 rfl) rfl
theorem q1073 : (Jvm.Cond.methodLink "SilkClerks" (508 : Nat) ({ cls := "SilkClerks$Trays", name := "goesBy", desc := "()I" } : Jvm.MethodName)) ∈ lw_all := lw_g (lw_at lw_m4 199 rfl) rfl
theorem q1103 : (Jvm.Cond.instanceMethod ({ cls := "SilkClerks", name := "of", desc := "(II)I" } : Jvm.MethodName)) ∈ lw_all := lw_g (lw_at lw_m4 229 rfl) rfl
theorem q1104 : (Jvm.Cond.selects "SilkClerks" ({ cls := "SilkClerks", name := "of", desc := "(II)I" } : Jvm.MethodName) ({ cls := "SilkClerks", name := "of", desc := "(II)I" } : Jvm.MethodName)) ∈ lw_all := lw_g (lw_at lw_m4 230 rfl) rfl
theorem q1105 : (Jvm.Cond.code ({ cls := "SilkClerks", name := "of", desc := "(II)I" } : Jvm.MethodName) prog_1_method_58_code (3 : Nat) (Option.some Jvm.ClassFile.FieldType.int)) ∈ lw_all := lw_g (lw_at lw_m4 231 rfl) rfl
theorem q1106 : (Jvm.Cond.methodLink "SilkClerks" (511 : Nat) ({ cls := "SilkClerks$Trays", name := "markAt", desc := "(II)I" } : Jvm.MethodName)) ∈ lw_all := lw_g (lw_at lw_m4 232 rfl) rfl
theorem q1110 : (Jvm.Cond.methodLink "SilkClerks" (514 : Nat) ({ cls := "SilkClerks", name := "has", desc := "(II)Z" } : Jvm.MethodName)) ∈ lw_all := lw_g (lw_at lw_m4 236 rfl) rfl
theorem q1111 : (Jvm.Cond.methodLink "SilkClerks" (518 : Nat) ({ cls := "SilkClerks$Trays", name := "eatsOf", desc := "(I)I" } : Jvm.MethodName)) ∈ lw_all := lw_g (lw_at lw_m4 237 rfl) rfl
theorem q1112 : (Jvm.Cond.methodLink "SilkClerks" (521 : Nat) ({ cls := "SilkClerks$Trays", name := "strongOf", desc := "(I)I" } : Jvm.MethodName)) ∈ lw_all := lw_g (lw_at lw_m4 238 rfl) rfl
theorem q1113 : (Jvm.Cond.methodLink "SilkClerks" (524 : Nat) ({ cls := "SilkClerks$Trays", name := "slipsOf", desc := "(III)I" } : Jvm.MethodName)) ∈ lw_all := lw_g (lw_at lw_m4 239 rfl) rfl
theorem q1115 : (Jvm.Cond.instanceMethod ({ cls := "SilkClerks", name := "fact", desc := "(II)I" } : Jvm.MethodName)) ∈ lw_all := lw_g (lw_at lw_m5 1 rfl) rfl
theorem q1116 : (Jvm.Cond.selects "SilkClerks" ({ cls := "SilkClerks", name := "fact", desc := "(II)I" } : Jvm.MethodName) ({ cls := "SilkClerks", name := "fact", desc := "(II)I" } : Jvm.MethodName)) ∈ lw_all := lw_g (lw_at lw_m5 2 rfl) rfl
theorem q1117 : (Jvm.Cond.code ({ cls := "SilkClerks", name := "fact", desc := "(II)I" } : Jvm.MethodName) prog_1_method_59_code (3 : Nat) (Option.some Jvm.ClassFile.FieldType.int)) ∈ lw_all := lw_g (lw_at lw_m5 3 rfl) rfl
theorem q1119 : (Jvm.Cond.instanceMethod ({ cls := "SilkClerks", name := "book", desc := "(II)I" } : Jvm.MethodName)) ∈ lw_all := lw_g (lw_at lw_m5 5 rfl) rfl
theorem q1120 : (Jvm.Cond.selects "SilkClerks" ({ cls := "SilkClerks", name := "book", desc := "(II)I" } : Jvm.MethodName) ({ cls := "SilkClerks", name := "book", desc := "(II)I" } : Jvm.MethodName)) ∈ lw_all := lw_g (lw_at lw_m5 6 rfl) rfl
theorem q1121 : (Jvm.Cond.code ({ cls := "SilkClerks", name := "book", desc := "(II)I" } : Jvm.MethodName) prog_1_method_60_code (3 : Nat) (Option.some Jvm.ClassFile.FieldType.int)) ∈ lw_all := lw_g (lw_at lw_m5 7 rfl) rfl
theorem q1123 : (Jvm.Cond.instanceMethod ({ cls := "SilkClerks", name := "goes", desc := "(II)I" } : Jvm.MethodName)) ∈ lw_all := lw_g (lw_at lw_m5 9 rfl) rfl
theorem q1124 : (Jvm.Cond.selects "SilkClerks" ({ cls := "SilkClerks", name := "goes", desc := "(II)I" } : Jvm.MethodName) ({ cls := "SilkClerks", name := "goes", desc := "(II)I" } : Jvm.MethodName)) ∈ lw_all := lw_g (lw_at lw_m5 10 rfl) rfl
theorem q1125 : (Jvm.Cond.code ({ cls := "SilkClerks", name := "goes", desc := "(II)I" } : Jvm.MethodName) prog_1_method_61_code (5 : Nat) (Option.some Jvm.ClassFile.FieldType.int)) ∈ lw_all := lw_g (lw_at lw_m5 11 rfl) rfl
theorem q1126 : (Jvm.Cond.methodLink "SilkClerks" (531 : Nat) ({ cls := "SilkClerks$Trays", name := "thinks", desc := "(LSilkClerks$Trays;)LSilkClerks$Trays;" } : Jvm.MethodName)) ∈ lw_all := lw_g (lw_at lw_m5 12 rfl) rfl
theorem q1131 : (Jvm.Cond.static ({ cls := "SilkClerks", name := "lambda$goes$0", desc := "(LSilkClerks$Trays;I)Z" } : Jvm.MethodName)) ∈ lw_all := lw_g (lw_at lw_m5 17 rfl) rfl
theorem q1132 : (Jvm.Cond.code ({ cls := "SilkClerks", name := "lambda$goes$0", desc := "(LSilkClerks$Trays;I)Z" } : Jvm.MethodName) prog_1_method_121_code (2 : Nat) (Option.some Jvm.ClassFile.FieldType.boolean)) ∈ lw_all := lw_g (lw_at lw_m5 18 rfl) rfl
theorem q1133 : (Jvm.Cond.methodLink "SilkClerks" (544 : Nat) ({ cls := "SilkClerks", name := "setOf", desc := "(ILSilkClerks$Condition;)I" } : Jvm.MethodName)) ∈ lw_all := lw_g (lw_at lw_m5 19 rfl) rfl
theorem q1134 : (Jvm.Cond.static ({ cls := "SilkClerks", name := "setOf", desc := "(ILSilkClerks$Condition;)I" } : Jvm.MethodName)) ∈ lw_all := lw_g (lw_at lw_m5 20 rfl) rfl
theorem q1135 : (Jvm.Cond.code ({ cls := "SilkClerks", name := "setOf", desc := "(ILSilkClerks$Condition;)I" } : Jvm.MethodName) prog_1_method_5_code (4 : Nat) (Option.some Jvm.ClassFile.FieldType.int)) ∈ lw_all := lw_g (lw_at lw_m5 21 rfl) rfl
theorem q1136 : (Jvm.Cond.interfaceEntry "SilkClerks" (16 : Nat)) ∈ lw_tbl := lw_at lw_m5 22 rfl
theorem q1137 : (Jvm.Cond.methodLink "SilkClerks" (16 : Nat) ({ cls := "SilkClerks$Condition", name := "holds", desc := "(I)Z" } : Jvm.MethodName)) ∈ lw_all := lw_g (lw_at lw_m5 23 rfl) rfl
theorem q1140 : (Jvm.Cond.methodLink "SilkClerks" (30 : Nat) ({ cls := "java/lang/Integer", name := "bitCount", desc := "(I)I" } : Jvm.MethodName)) ∈ lw_all := lw_g (lw_at lw_m5 26 rfl) rfl
theorem q1147 : (Jvm.Cond.instanceMethod ({ cls := "SilkClerks", name := "would", desc := "(III)I" } : Jvm.MethodName)) ∈ lw_all := lw_g (lw_at lw_m5 33 rfl) rfl
theorem q1148 : (Jvm.Cond.selects "SilkClerks" ({ cls := "SilkClerks", name := "would", desc := "(III)I" } : Jvm.MethodName) ({ cls := "SilkClerks", name := "would", desc := "(III)I" } : Jvm.MethodName)) ∈ lw_all := lw_g (lw_at lw_m5 34 rfl) rfl
theorem q1149 : (Jvm.Cond.code ({ cls := "SilkClerks", name := "would", desc := "(III)I" } : Jvm.MethodName) prog_1_method_62_code (5 : Nat) (Option.some Jvm.ClassFile.FieldType.int)) ∈ lw_all := lw_g (lw_at lw_m5 35 rfl) rfl
theorem q1150 : (Jvm.Cond.methodLink "SilkClerks" (548 : Nat) ({ cls := "SilkClerks", name := "spunOf", desc := "(II)[I" } : Jvm.MethodName)) ∈ lw_all := lw_g (lw_at lw_m5 36 rfl) rfl
theorem q1152 : (Jvm.Cond.instanceMethod ({ cls := "SilkClerks", name := "reads", desc := "(II)I" } : Jvm.MethodName)) ∈ lw_all := lw_g (lw_at lw_m5 38 rfl) rfl
theorem q1153 : (Jvm.Cond.selects "SilkClerks" ({ cls := "SilkClerks", name := "reads", desc := "(II)I" } : Jvm.MethodName) ({ cls := "SilkClerks", name := "reads", desc := "(II)I" } : Jvm.MethodName)) ∈ lw_all := lw_g (lw_at lw_m5 39 rfl) rfl
theorem q1154 : (Jvm.Cond.code ({ cls := "SilkClerks", name := "reads", desc := "(II)I" } : Jvm.MethodName) prog_1_method_63_code (5 : Nat) (Option.some Jvm.ClassFile.FieldType.int)) ∈ lw_all := lw_g (lw_at lw_m5 40 rfl) rfl
theorem q1156 : (Jvm.Cond.methodLinkNest "SilkClerks" (552 : Nat) ({ cls := "SilkClerks$Read", name := "<init>", desc := "(II)V" } : Jvm.MethodName) "SilkClerks") ∈ lw_tbl := lw_at lw_m5 42 rfl
theorem q1168 : (Jvm.Cond.instanceMethod ({ cls := "SilkClerks", name := "fits", desc := "(I)I" } : Jvm.MethodName)) ∈ lw_all := lw_g (lw_at lw_m5 54 rfl) rfl
theorem q1169 : (Jvm.Cond.selects "SilkClerks" ({ cls := "SilkClerks", name := "fits", desc := "(I)I" } : Jvm.MethodName) ({ cls := "SilkClerks", name := "fits", desc := "(I)I" } : Jvm.MethodName)) ∈ lw_all := lw_g (lw_at lw_m5 55 rfl) rfl
theorem q1170 : (Jvm.Cond.code ({ cls := "SilkClerks", name := "fits", desc := "(I)I" } : Jvm.MethodName) prog_1_method_68_code (3 : Nat) (Option.some Jvm.ClassFile.FieldType.int)) ∈ lw_all := lw_g (lw_at lw_m5 56 rfl) rfl
theorem q1171 : (Jvm.Cond.methodLink "SilkClerks" (565 : Nat) ({ cls := "SilkClerks", name := "couples", desc := "()[I" } : Jvm.MethodName)) ∈ lw_all := lw_g (lw_at lw_m5 57 rfl) rfl
theorem q1172 : (Jvm.Cond.privateMethod ({ cls := "SilkClerks", name := "couples", desc := "()[I" } : Jvm.MethodName)) ∈ lw_tbl := lw_at lw_m5 58 rfl
theorem q1173 : (Jvm.Cond.instanceMethod ({ cls := "SilkClerks", name := "couples", desc := "()[I" } : Jvm.MethodName)) ∈ lw_all := lw_g (lw_at lw_m5 59 rfl) rfl
theorem q1174 : (Jvm.Cond.code ({ cls := "SilkClerks", name := "couples", desc := "()[I" } : Jvm.MethodName) prog_1_method_66_code (4 : Nat) (Option.some (Jvm.ClassFile.FieldType.array Jvm.ClassFile.FieldType.int))) ∈ lw_all := lw_g (lw_at lw_m5 60 rfl) rfl
theorem q1175 : (Jvm.Cond.methodLink "SilkClerks" (561 : Nat) ({ cls := "SilkClerks", name := "fitsAll", desc := "([I)Z" } : Jvm.MethodName)) ∈ lw_all := lw_g (lw_at lw_m5 61 rfl) rfl
theorem q1176 : (Jvm.Cond.privateMethod ({ cls := "SilkClerks", name := "fitsAll", desc := "([I)Z" } : Jvm.MethodName)) ∈ lw_tbl := lw_at lw_m5 62 rfl
theorem q1177 : (Jvm.Cond.instanceMethod ({ cls := "SilkClerks", name := "fitsAll", desc := "([I)Z" } : Jvm.MethodName)) ∈ lw_all := lw_g (lw_at lw_m5 63 rfl) rfl
theorem q1178 : (Jvm.Cond.code ({ cls := "SilkClerks", name := "fitsAll", desc := "([I)Z" } : Jvm.MethodName) prog_1_method_65_code (3 : Nat) (Option.some Jvm.ClassFile.FieldType.boolean)) ∈ lw_all := lw_g (lw_at lw_m5 64 rfl) rfl
theorem q1179 : (Jvm.Cond.methodLink "SilkClerks" (553 : Nat) ({ cls := "SilkClerks$Read", name := "place", desc := "()I" } : Jvm.MethodName)) ∈ lw_all := lw_g (lw_at lw_m5 65 rfl) rfl
theorem q1183 : (Jvm.Cond.methodLink "SilkClerks" (555 : Nat) ({ cls := "SilkClerks", name := "markOf", desc := "([II)I" } : Jvm.MethodName)) ∈ lw_all := lw_g (lw_at lw_m5 69 rfl) rfl
theorem q1184 : (Jvm.Cond.static ({ cls := "SilkClerks", name := "markOf", desc := "([II)I" } : Jvm.MethodName)) ∈ lw_all := lw_g (lw_at lw_m5 70 rfl) rfl
theorem q1185 : (Jvm.Cond.code ({ cls := "SilkClerks", name := "markOf", desc := "([II)I" } : Jvm.MethodName) prog_1_method_64_code (2 : Nat) (Option.some Jvm.ClassFile.FieldType.int)) ∈ lw_all := lw_g (lw_at lw_m5 71 rfl) rfl
theorem q1186 : (Jvm.Cond.methodLink "SilkClerks" (559 : Nat) ({ cls := "SilkClerks$Read", name := "mark", desc := "()I" } : Jvm.MethodName)) ∈ lw_all := lw_g (lw_at lw_m5 72 rfl) rfl
theorem q1190 : (Jvm.Cond.privateMethod ({ cls := "SilkClerks", name := "lambda$fits$1", desc := "([II)I" } : Jvm.MethodName)) ∈ lw_tbl := lw_at lw_m5 76 rfl
theorem q1191 : (Jvm.Cond.instanceMethod ({ cls := "SilkClerks", name := "lambda$fits$1", desc := "([II)I" } : Jvm.MethodName)) ∈ lw_all := lw_g (lw_at lw_m5 77 rfl) rfl
theorem q1192 : (Jvm.Cond.code ({ cls := "SilkClerks", name := "lambda$fits$1", desc := "([II)I" } : Jvm.MethodName) prog_1_method_120_code (3 : Nat) (Option.some Jvm.ClassFile.FieldType.int)) ∈ lw_all := lw_g (lw_at lw_m5 78 rfl) rfl
theorem q1193 : (Jvm.Cond.methodLink "SilkClerks" (701 : Nat) ({ cls := "SilkClerks", name := "mostAlike", desc := "([II)I" } : Jvm.MethodName)) ∈ lw_all := lw_g (lw_at lw_m5 79 rfl) rfl
theorem q1194 : (Jvm.Cond.privateMethod ({ cls := "SilkClerks", name := "mostAlike", desc := "([II)I" } : Jvm.MethodName)) ∈ lw_tbl := lw_at lw_m5 80 rfl
theorem q1195 : (Jvm.Cond.instanceMethod ({ cls := "SilkClerks", name := "mostAlike", desc := "([II)I" } : Jvm.MethodName)) ∈ lw_all := lw_g (lw_at lw_m5 81 rfl) rfl
theorem q1196 : (Jvm.Cond.code ({ cls := "SilkClerks", name := "mostAlike", desc := "([II)I" } : Jvm.MethodName) prog_1_method_67_code (7 : Nat) (Option.some Jvm.ClassFile.FieldType.int)) ∈ lw_all := lw_g (lw_at lw_m5 82 rfl) rfl
theorem q1197 : (Jvm.Cond.methodLink "SilkClerks" (571 : Nat) ({ cls := "SilkClerks", name := "leastBy", desc := "(ILSilkClerks$Measure;)I" } : Jvm.MethodName)) ∈ lw_all := lw_g (lw_at lw_m5 83 rfl) rfl
theorem q1198 : (Jvm.Cond.static ({ cls := "SilkClerks", name := "leastBy", desc := "(ILSilkClerks$Measure;)I" } : Jvm.MethodName)) ∈ lw_all := lw_g (lw_at lw_m5 84 rfl) rfl
theorem q1199 : (Jvm.Cond.code ({ cls := "SilkClerks", name := "leastBy", desc := "(ILSilkClerks$Measure;)I" } : Jvm.MethodName) prog_1_method_6_code (4 : Nat) (Option.some Jvm.ClassFile.FieldType.int)) ∈ lw_all := lw_g (lw_at lw_m5 85 rfl) rfl
theorem q1200 : (Jvm.Cond.interfaceEntry "SilkClerks" (24 : Nat)) ∈ lw_tbl := lw_at lw_m5 86 rfl
theorem q1201 : (Jvm.Cond.methodLink "SilkClerks" (24 : Nat) ({ cls := "SilkClerks$Measure", name := "of", desc := "(I)I" } : Jvm.MethodName)) ∈ lw_all := lw_g (lw_at lw_m5 87 rfl) rfl
theorem q1205 : (Jvm.Cond.instanceMethod ({ cls := "SilkClerks", name := "reel", desc := "(I)I" } : Jvm.MethodName)) ∈ lw_all := lw_g (lw_at lw_m5 91 rfl) rfl
theorem q1206 : (Jvm.Cond.selects "SilkClerks" ({ cls := "SilkClerks", name := "reel", desc := "(I)I" } : Jvm.MethodName) ({ cls := "SilkClerks", name := "reel", desc := "(I)I" } : Jvm.MethodName)) ∈ lw_all := lw_g (lw_at lw_m5 92 rfl) rfl
theorem q1207 : (Jvm.Cond.code ({ cls := "SilkClerks", name := "reel", desc := "(I)I" } : Jvm.MethodName) prog_1_method_75_code (8 : Nat) (Option.some Jvm.ClassFile.FieldType.int)) ∈ lw_all := lw_g (lw_at lw_m5 93 rfl) rfl
theorem q1208 : (Jvm.Cond.methodLink "SilkClerks" (587 : Nat) ({ cls := "SilkClerks", name := "threaded", desc := "()I" } : Jvm.MethodName)) ∈ lw_all := lw_g (lw_at lw_m5 94 rfl) rfl
theorem q1209 : (Jvm.Cond.privateMethod ({ cls := "SilkClerks", name := "threaded", desc := "()I" } : Jvm.MethodName)) ∈ lw_tbl := lw_at lw_m5 95 rfl
theorem q1210 : (Jvm.Cond.instanceMethod ({ cls := "SilkClerks", name := "threaded", desc := "()I" } : Jvm.MethodName)) ∈ lw_all := lw_g (lw_at lw_m5 96 rfl) rfl
theorem q1211 : (Jvm.Cond.code ({ cls := "SilkClerks", name := "threaded", desc := "()I" } : Jvm.MethodName) prog_1_method_74_code (1 : Nat) (Option.some Jvm.ClassFile.FieldType.int)) ∈ lw_all := lw_g (lw_at lw_m5 97 rfl) rfl
theorem q1212 : (Jvm.Cond.privateMethod ({ cls := "SilkClerks", name := "lambda$threaded$2", desc := "(I)Z" } : Jvm.MethodName)) ∈ lw_tbl := lw_at lw_m5 98 rfl
theorem q1213 : (Jvm.Cond.instanceMethod ({ cls := "SilkClerks", name := "lambda$threaded$2", desc := "(I)Z" } : Jvm.MethodName)) ∈ lw_all := lw_g (lw_at lw_m5 99 rfl) rfl
theorem q1214 : (Jvm.Cond.code ({ cls := "SilkClerks", name := "lambda$threaded$2", desc := "(I)Z" } : Jvm.MethodName) prog_1_method_119_code (2 : Nat) (Option.some Jvm.ClassFile.FieldType.boolean)) ∈ lw_all := lw_g (lw_at lw_m5 100 rfl) rfl
theorem q1215 : (Jvm.Cond.methodLink "SilkClerks" (590 : Nat) ({ cls := "SilkClerks", name := "isReeled", desc := "(II)Z" } : Jvm.MethodName)) ∈ lw_all := lw_g (lw_at lw_m5 101 rfl) rfl
theorem q1216 : (Jvm.Cond.privateMethod ({ cls := "SilkClerks", name := "isReeled", desc := "(II)Z" } : Jvm.MethodName)) ∈ lw_tbl := lw_at lw_m5 102 rfl
theorem q1217 : (Jvm.Cond.instanceMethod ({ cls := "SilkClerks", name := "isReeled", desc := "(II)Z" } : Jvm.MethodName)) ∈ lw_all := lw_g (lw_at lw_m5 103 rfl) rfl
theorem q1218 : (Jvm.Cond.code ({ cls := "SilkClerks", name := "isReeled", desc := "(II)Z" } : Jvm.MethodName) prog_1_method_72_code (5 : Nat) (Option.some Jvm.ClassFile.FieldType.boolean)) ∈ lw_all := lw_g (lw_at lw_m5 104 rfl) rfl
theorem q1219 : (Jvm.Cond.methodLink "SilkClerks" (581 : Nat) ({ cls := "SilkClerks", name := "canFollow", desc := "(II)Z" } : Jvm.MethodName)) ∈ lw_all := lw_g (lw_at lw_m5 105 rfl) rfl
theorem q1220 : (Jvm.Cond.privateMethod ({ cls := "SilkClerks", name := "canFollow", desc := "(II)Z" } : Jvm.MethodName)) ∈ lw_tbl := lw_at lw_m5 106 rfl
theorem q1221 : (Jvm.Cond.instanceMethod ({ cls := "SilkClerks", name := "canFollow", desc := "(II)Z" } : Jvm.MethodName)) ∈ lw_all := lw_g (lw_at lw_m5 107 rfl) rfl
theorem q1222 : (Jvm.Cond.code ({ cls := "SilkClerks", name := "canFollow", desc := "(II)Z" } : Jvm.MethodName) prog_1_method_71_code (3 : Nat) (Option.some Jvm.ClassFile.FieldType.boolean)) ∈ lw_all := lw_g (lw_at lw_m5 108 rfl) rfl
theorem q1223 : (Jvm.Cond.methodLink "SilkClerks" (575 : Nat) ({ cls := "SilkClerks", name := "firstMark", desc := "(I)I" } : Jvm.MethodName)) ∈ lw_all := lw_g (lw_at lw_m5 109 rfl) rfl
theorem q1224 : (Jvm.Cond.privateMethod ({ cls := "SilkClerks", name := "firstMark", desc := "(I)I" } : Jvm.MethodName)) ∈ lw_tbl := lw_at lw_m5 110 rfl
theorem q1225 : (Jvm.Cond.instanceMethod ({ cls := "SilkClerks", name := "firstMark", desc := "(I)I" } : Jvm.MethodName)) ∈ lw_all := lw_g (lw_at lw_m5 111 rfl) rfl
theorem q1226 : (Jvm.Cond.code ({ cls := "SilkClerks", name := "firstMark", desc := "(I)I" } : Jvm.MethodName) prog_1_method_69_code (2 : Nat) (Option.some Jvm.ClassFile.FieldType.int)) ∈ lw_all := lw_g (lw_at lw_m5 112 rfl) rfl
theorem q1227 : (Jvm.Cond.methodLink "SilkClerks" (578 : Nat) ({ cls := "SilkClerks", name := "lastMark", desc := "(I)I" } : Jvm.MethodName)) ∈ lw_all := lw_g (lw_at lw_m5 113 rfl) rfl
theorem q1228 : (Jvm.Cond.privateMethod ({ cls := "SilkClerks", name := "lastMark", desc := "(I)I" } : Jvm.MethodName)) ∈ lw_tbl := lw_at lw_m5 114 rfl
theorem q1229 : (Jvm.Cond.instanceMethod ({ cls := "SilkClerks", name := "lastMark", desc := "(I)I" } : Jvm.MethodName)) ∈ lw_all := lw_g (lw_at lw_m5 115 rfl) rfl
theorem q1230 : (Jvm.Cond.code ({ cls := "SilkClerks", name := "lastMark", desc := "(I)I" } : Jvm.MethodName) prog_1_method_70_code (2 : Nat) (Option.some Jvm.ClassFile.FieldType.int)) ∈ lw_all := lw_g (lw_at lw_m5 116 rfl) rfl
theorem q1231 : (Jvm.Cond.methodLink "SilkClerks" (593 : Nat) ({ cls := "SilkClerks", name := "strengthOf", desc := "(I)I" } : Jvm.MethodName)) ∈ lw_all := lw_g (lw_at lw_m5 117 rfl) rfl
theorem q1232 : (Jvm.Cond.privateMethod ({ cls := "SilkClerks", name := "strengthOf", desc := "(I)I" } : Jvm.MethodName)) ∈ lw_tbl := lw_at lw_m5 118 rfl
theorem q1233 : (Jvm.Cond.instanceMethod ({ cls := "SilkClerks", name := "strengthOf", desc := "(I)I" } : Jvm.MethodName)) ∈ lw_all := lw_g (lw_at lw_m5 119 rfl) rfl
theorem q1234 : (Jvm.Cond.code ({ cls := "SilkClerks", name := "strengthOf", desc := "(I)I" } : Jvm.MethodName) prog_1_method_73_code (4 : Nat) (Option.some Jvm.ClassFile.FieldType.int)) ∈ lw_all := lw_g (lw_at lw_m5 120 rfl) rfl
theorem q1236 : (Jvm.Cond.instanceMethod ({ cls := "SilkClerks", name := "unlike", desc := "(II)I" } : Jvm.MethodName)) ∈ lw_all := lw_g (lw_at lw_m5 122 rfl) rfl
theorem q1237 : (Jvm.Cond.selects "SilkClerks" ({ cls := "SilkClerks", name := "unlike", desc := "(II)I" } : Jvm.MethodName) ({ cls := "SilkClerks", name := "unlike", desc := "(II)I" } : Jvm.MethodName)) ∈ lw_all := lw_g (lw_at lw_m5 123 rfl) rfl
theorem q1238 : (Jvm.Cond.code ({ cls := "SilkClerks", name := "unlike", desc := "(II)I" } : Jvm.MethodName) prog_1_method_76_code (9 : Nat) (Option.some Jvm.ClassFile.FieldType.int)) ∈ lw_all := lw_g (lw_at lw_m5 124 rfl) rfl
theorem q1240 : (Jvm.Cond.instanceMethod ({ cls := "SilkClerks", name := "knot", desc := "(II)I" } : Jvm.MethodName)) ∈ lw_all := lw_g (lw_at lw_m5 126 rfl) rfl
theorem q1241 : (Jvm.Cond.selects "SilkClerks" ({ cls := "SilkClerks", name := "knot", desc := "(II)I" } : Jvm.MethodName) ({ cls := "SilkClerks", name := "knot", desc := "(II)I" } : Jvm.MethodName)) ∈ lw_all := lw_g (lw_at lw_m5 127 rfl) rfl
theorem q1242 : (Jvm.Cond.code ({ cls := "SilkClerks", name := "knot", desc := "(II)I" } : Jvm.MethodName) prog_1_method_77_code (3 : Nat) (Option.some Jvm.ClassFile.FieldType.int)) ∈ lw_all := lw_g (lw_at lw_m5 128 rfl) rfl
theorem q1244 : (Jvm.Cond.instanceMethod ({ cls := "SilkClerks", name := "cuts", desc := "(I)I" } : Jvm.MethodName)) ∈ lw_all := lw_g (lw_at lw_m5 130 rfl) rfl
theorem q1245 : (Jvm.Cond.selects "SilkClerks" ({ cls := "SilkClerks", name := "cuts", desc := "(I)I" } : Jvm.MethodName) ({ cls := "SilkClerks", name := "cuts", desc := "(I)I" } : Jvm.MethodName)) ∈ lw_all := lw_g (lw_at lw_m5 131 rfl) rfl
theorem q1246 : (Jvm.Cond.code ({ cls := "SilkClerks", name := "cuts", desc := "(I)I" } : Jvm.MethodName) prog_1_method_79_code (3 : Nat) (Option.some Jvm.ClassFile.FieldType.int)) ∈ lw_all := lw_g (lw_at lw_m5 132 rfl) rfl
theorem q1247 : (Jvm.Cond.privateMethod ({ cls := "SilkClerks", name := "lambda$cuts$3", desc := "(I)Z" } : Jvm.MethodName)) ∈ lw_tbl := lw_at lw_m5 133 rfl
theorem q1248 : (Jvm.Cond.instanceMethod ({ cls := "SilkClerks", name := "lambda$cuts$3", desc := "(I)Z" } : Jvm.MethodName)) ∈ lw_all := lw_g (lw_at lw_m5 134 rfl) rfl
theorem q1249 : (Jvm.Cond.code ({ cls := "SilkClerks", name := "lambda$cuts$3", desc := "(I)Z" } : Jvm.MethodName) prog_1_method_118_code (2 : Nat) (Option.some Jvm.ClassFile.FieldType.boolean)) ∈ lw_all := lw_g (lw_at lw_m5 135 rfl) rfl
theorem q1250 : (Jvm.Cond.methodLink "SilkClerks" (698 : Nat) ({ cls := "SilkClerks", name := "cutsAll", desc := "(I)Z" } : Jvm.MethodName)) ∈ lw_all := lw_g (lw_at lw_m5 136 rfl) rfl
theorem q1251 : (Jvm.Cond.privateMethod ({ cls := "SilkClerks", name := "cutsAll", desc := "(I)Z" } : Jvm.MethodName)) ∈ lw_tbl := lw_at lw_m5 137 rfl
theorem q1252 : (Jvm.Cond.instanceMethod ({ cls := "SilkClerks", name := "cutsAll", desc := "(I)Z" } : Jvm.MethodName)) ∈ lw_all := lw_g (lw_at lw_m5 138 rfl) rfl
theorem q1253 : (Jvm.Cond.code ({ cls := "SilkClerks", name := "cutsAll", desc := "(I)Z" } : Jvm.MethodName) prog_1_method_78_code (3 : Nat) (Option.some Jvm.ClassFile.FieldType.boolean)) ∈ lw_all := lw_g (lw_at lw_m5 139 rfl) rfl
theorem q1254 : (Jvm.Cond.methodLink "SilkClerks" (597 : Nat) ({ cls := "SilkClerks", name := "fewest", desc := "(ILSilkClerks$Condition;)I" } : Jvm.MethodName)) ∈ lw_all := lw_g (lw_at lw_m5 140 rfl) rfl
theorem q1255 : (Jvm.Cond.static ({ cls := "SilkClerks", name := "fewest", desc := "(ILSilkClerks$Condition;)I" } : Jvm.MethodName)) ∈ lw_all := lw_g (lw_at lw_m5 141 rfl) rfl
theorem q1256 : (Jvm.Cond.code ({ cls := "SilkClerks", name := "fewest", desc := "(ILSilkClerks$Condition;)I" } : Jvm.MethodName) prog_1_method_7_code (4 : Nat) (Option.some Jvm.ClassFile.FieldType.int)) ∈ lw_all := lw_g (lw_at lw_m5 142 rfl) rfl
theorem q1258 : (Jvm.Cond.instanceMethod ({ cls := "SilkClerks", name := "keeps", desc := "(II)I" } : Jvm.MethodName)) ∈ lw_all := lw_g (lw_at lw_m5 144 rfl) rfl
theorem q1259 : (Jvm.Cond.selects "SilkClerks" ({ cls := "SilkClerks", name := "keeps", desc := "(II)I" } : Jvm.MethodName) ({ cls := "SilkClerks", name := "keeps", desc := "(II)I" } : Jvm.MethodName)) ∈ lw_all := lw_g (lw_at lw_m5 145 rfl) rfl
theorem q1260 : (Jvm.Cond.code ({ cls := "SilkClerks", name := "keeps", desc := "(II)I" } : Jvm.MethodName) prog_1_method_81_code (7 : Nat) (Option.some Jvm.ClassFile.FieldType.int)) ∈ lw_all := lw_g (lw_at lw_m5 146 rfl) rfl
theorem q1261 : (Jvm.Cond.methodLink "SilkClerks" (600 : Nat) ({ cls := "SilkClerks", name := "sumOf", desc := "(ILSilkClerks$Measure;)I" } : Jvm.MethodName)) ∈ lw_all := lw_g (lw_at lw_m5 147 rfl) rfl
theorem q1262 : (Jvm.Cond.privateMethod ({ cls := "SilkClerks", name := "sumOf", desc := "(ILSilkClerks$Measure;)I" } : Jvm.MethodName)) ∈ lw_tbl := lw_at lw_m5 148 rfl
theorem q1263 : (Jvm.Cond.instanceMethod ({ cls := "SilkClerks", name := "sumOf", desc := "(ILSilkClerks$Measure;)I" } : Jvm.MethodName)) ∈ lw_all := lw_g (lw_at lw_m5 149 rfl) rfl
theorem q1264 : (Jvm.Cond.code ({ cls := "SilkClerks", name := "sumOf", desc := "(ILSilkClerks$Measure;)I" } : Jvm.MethodName) prog_1_method_80_code (5 : Nat) (Option.some Jvm.ClassFile.FieldType.int)) ∈ lw_all := lw_g (lw_at lw_m5 150 rfl) rfl
theorem q1266 : (Jvm.Cond.instanceMethod ({ cls := "SilkClerks", name := "trays", desc := "(I)I" } : Jvm.MethodName)) ∈ lw_all := lw_g (lw_at lw_m5 152 rfl) rfl
theorem q1267 : (Jvm.Cond.selects "SilkClerks" ({ cls := "SilkClerks", name := "trays", desc := "(I)I" } : Jvm.MethodName) ({ cls := "SilkClerks", name := "trays", desc := "(I)I" } : Jvm.MethodName)) ∈ lw_all := lw_g (lw_at lw_m5 153 rfl) rfl
theorem q1268 : (Jvm.Cond.code ({ cls := "SilkClerks", name := "trays", desc := "(I)I" } : Jvm.MethodName) prog_1_method_85_code (2 : Nat) (Option.some Jvm.ClassFile.FieldType.int)) ∈ lw_all := lw_g (lw_at lw_m5 154 rfl) rfl
theorem q1269 : (Jvm.Cond.methodLink "SilkClerks" (610 : Nat) ({ cls := "SilkClerks", name := "traysOf", desc := "(I)I" } : Jvm.MethodName)) ∈ lw_all := lw_g (lw_at lw_m5 155 rfl) rfl
theorem q1270 : (Jvm.Cond.privateMethod ({ cls := "SilkClerks", name := "traysOf", desc := "(I)I" } : Jvm.MethodName)) ∈ lw_tbl := lw_at lw_m5 156 rfl
theorem q1271 : (Jvm.Cond.instanceMethod ({ cls := "SilkClerks", name := "traysOf", desc := "(I)I" } : Jvm.MethodName)) ∈ lw_all := lw_g (lw_at lw_m5 157 rfl) rfl
theorem q1272 : (Jvm.Cond.code ({ cls := "SilkClerks", name := "traysOf", desc := "(I)I" } : Jvm.MethodName) prog_1_method_84_code (4 : Nat) (Option.some Jvm.ClassFile.FieldType.int)) ∈ lw_all := lw_g (lw_at lw_m5 158 rfl) rfl
theorem q1273 : (Jvm.Cond.methodLink "SilkClerks" (607 : Nat) ({ cls := "SilkClerks", name := "stands", desc := "(II)Z" } : Jvm.MethodName)) ∈ lw_all := lw_g (lw_at lw_m5 159 rfl) rfl
theorem q1274 : (Jvm.Cond.privateMethod ({ cls := "SilkClerks", name := "stands", desc := "(II)Z" } : Jvm.MethodName)) ∈ lw_tbl := lw_at lw_m5 160 rfl
theorem q1275 : (Jvm.Cond.instanceMethod ({ cls := "SilkClerks", name := "stands", desc := "(II)Z" } : Jvm.MethodName)) ∈ lw_all := lw_g (lw_at lw_m5 161 rfl) rfl
theorem q1276 : (Jvm.Cond.code ({ cls := "SilkClerks", name := "stands", desc := "(II)Z" } : Jvm.MethodName) prog_1_method_83_code (5 : Nat) (Option.some Jvm.ClassFile.FieldType.boolean)) ∈ lw_all := lw_g (lw_at lw_m5 162 rfl) rfl
theorem q1277 : (Jvm.Cond.methodLink "SilkClerks" (603 : Nat) ({ cls := "SilkClerks", name := "alikeFrom", desc := "(II[II)I" } : Jvm.MethodName)) ∈ lw_all := lw_g (lw_at lw_m5 163 rfl) rfl
theorem q1278 : (Jvm.Cond.privateMethod ({ cls := "SilkClerks", name := "alikeFrom", desc := "(II[II)I" } : Jvm.MethodName)) ∈ lw_tbl := lw_at lw_m5 164 rfl
theorem q1279 : (Jvm.Cond.instanceMethod ({ cls := "SilkClerks", name := "alikeFrom", desc := "(II[II)I" } : Jvm.MethodName)) ∈ lw_all := lw_g (lw_at lw_m5 165 rfl) rfl
theorem q1280 : (Jvm.Cond.code ({ cls := "SilkClerks", name := "alikeFrom", desc := "(II[II)I" } : Jvm.MethodName) prog_1_method_82_code (6 : Nat) (Option.some Jvm.ClassFile.FieldType.int)) ∈ lw_all := lw_g (lw_at lw_m5 166 rfl) rfl
theorem q1282 : (Jvm.Cond.instanceMethod ({ cls := "SilkClerks", name := "answered", desc := "(I)I" } : Jvm.MethodName)) ∈ lw_all := lw_g (lw_at lw_m5 168 rfl) rfl
theorem q1283 : (Jvm.Cond.selects "SilkClerks" ({ cls := "SilkClerks", name := "answered", desc := "(I)I" } : Jvm.MethodName) ({ cls := "SilkClerks", name := "answered", desc := "(I)I" } : Jvm.MethodName)) ∈ lw_all := lw_g (lw_at lw_m5 169 rfl) rfl
theorem q1284 : (Jvm.Cond.code ({ cls := "SilkClerks", name := "answered", desc := "(I)I" } : Jvm.MethodName) prog_1_method_87_code (5 : Nat) (Option.some Jvm.ClassFile.FieldType.int)) ∈ lw_all := lw_g (lw_at lw_m5 170 rfl) rfl
theorem q1285 : (Jvm.Cond.methodLink "SilkClerks" (613 : Nat) ({ cls := "SilkClerks", name := "answeredBy", desc := "(I[I)I" } : Jvm.MethodName)) ∈ lw_all := lw_g (lw_at lw_m5 171 rfl) rfl
theorem q1286 : (Jvm.Cond.privateMethod ({ cls := "SilkClerks", name := "answeredBy", desc := "(I[I)I" } : Jvm.MethodName)) ∈ lw_tbl := lw_at lw_m5 172 rfl
theorem q1287 : (Jvm.Cond.instanceMethod ({ cls := "SilkClerks", name := "answeredBy", desc := "(I[I)I" } : Jvm.MethodName)) ∈ lw_all := lw_g (lw_at lw_m5 173 rfl) rfl
theorem q1288 : (Jvm.Cond.code ({ cls := "SilkClerks", name := "answeredBy", desc := "(I[I)I" } : Jvm.MethodName) prog_1_method_86_code (6 : Nat) (Option.some Jvm.ClassFile.FieldType.int)) ∈ lw_all := lw_g (lw_at lw_m5 174 rfl) rfl
theorem q1289 : (Jvm.Cond.privateMethod ({ cls := "SilkClerks", name := "lambda$answered$6", desc := "([III)Z" } : Jvm.MethodName)) ∈ lw_tbl := lw_at lw_m5 175 rfl
theorem q1290 : (Jvm.Cond.instanceMethod ({ cls := "SilkClerks", name := "lambda$answered$6", desc := "([III)Z" } : Jvm.MethodName)) ∈ lw_all := lw_g (lw_at lw_m5 176 rfl) rfl
theorem q1291 : (Jvm.Cond.code ({ cls := "SilkClerks", name := "lambda$answered$6", desc := "([III)Z" } : Jvm.MethodName) prog_1_method_115_code (4 : Nat) (Option.some Jvm.ClassFile.FieldType.boolean)) ∈ lw_all := lw_g (lw_at lw_m5 177 rfl) rfl
theorem q1293 : (Jvm.Cond.instanceMethod ({ cls := "SilkClerks", name := "gaps", desc := "(I)I" } : Jvm.MethodName)) ∈ lw_all := lw_g (lw_at lw_m5 179 rfl) rfl
theorem q1294 : (Jvm.Cond.selects "SilkClerks" ({ cls := "SilkClerks", name := "gaps", desc := "(I)I" } : Jvm.MethodName) ({ cls := "SilkClerks", name := "gaps", desc := "(I)I" } : Jvm.MethodName)) ∈ lw_all := lw_g (lw_at lw_m5 180 rfl) rfl
theorem q1295 : (Jvm.Cond.code ({ cls := "SilkClerks", name := "gaps", desc := "(I)I" } : Jvm.MethodName) prog_1_method_88_code (2 : Nat) (Option.some Jvm.ClassFile.FieldType.int)) ∈ lw_all := lw_g (lw_at lw_m5 181 rfl) rfl
theorem q1296 : (Jvm.Cond.privateMethod ({ cls := "SilkClerks", name := "lambda$gaps$7", desc := "(II)Z" } : Jvm.MethodName)) ∈ lw_tbl := lw_at lw_m5 182 rfl
theorem q1297 : (Jvm.Cond.instanceMethod ({ cls := "SilkClerks", name := "lambda$gaps$7", desc := "(II)Z" } : Jvm.MethodName)) ∈ lw_all := lw_g (lw_at lw_m5 183 rfl) rfl
theorem q1298 : (Jvm.Cond.code ({ cls := "SilkClerks", name := "lambda$gaps$7", desc := "(II)Z" } : Jvm.MethodName) prog_1_method_114_code (3 : Nat) (Option.some Jvm.ClassFile.FieldType.boolean)) ∈ lw_all := lw_g (lw_at lw_m5 184 rfl) rfl
theorem q1300 : (Jvm.Cond.instanceMethod ({ cls := "SilkClerks", name := "scarf", desc := "(I)I" } : Jvm.MethodName)) ∈ lw_all := lw_g (lw_at lw_m5 186 rfl) rfl
theorem q1301 : (Jvm.Cond.selects "SilkClerks" ({ cls := "SilkClerks", name := "scarf", desc := "(I)I" } : Jvm.MethodName) ({ cls := "SilkClerks", name := "scarf", desc := "(I)I" } : Jvm.MethodName)) ∈ lw_all := lw_g (lw_at lw_m5 187 rfl) rfl
theorem q1302 : (Jvm.Cond.code ({ cls := "SilkClerks", name := "scarf", desc := "(I)I" } : Jvm.MethodName) prog_1_method_89_code (2 : Nat) (Option.some Jvm.ClassFile.FieldType.int)) ∈ lw_all := lw_g (lw_at lw_m5 188 rfl) rfl
theorem q1304 : (Jvm.Cond.instanceMethod ({ cls := "SilkClerks", name := "whose", desc := "(I)I" } : Jvm.MethodName)) ∈ lw_all := lw_g (lw_at lw_m5 190 rfl) rfl
theorem q1305 : (Jvm.Cond.selects "SilkClerks" ({ cls := "SilkClerks", name := "whose", desc := "(I)I" } : Jvm.MethodName) ({ cls := "SilkClerks", name := "whose", desc := "(I)I" } : Jvm.MethodName)) ∈ lw_all := lw_g (lw_at lw_m5 191 rfl) rfl
theorem q1306 : (Jvm.Cond.code ({ cls := "SilkClerks", name := "whose", desc := "(I)I" } : Jvm.MethodName) prog_1_method_92_code (4 : Nat) (Option.some Jvm.ClassFile.FieldType.int)) ∈ lw_all := lw_g (lw_at lw_m5 192 rfl) rfl
theorem q1307 : (Jvm.Cond.privateMethod ({ cls := "SilkClerks", name := "lambda$whose$8", desc := "(I)I" } : Jvm.MethodName)) ∈ lw_tbl := lw_at lw_m5 193 rfl
theorem q1308 : (Jvm.Cond.instanceMethod ({ cls := "SilkClerks", name := "lambda$whose$8", desc := "(I)I" } : Jvm.MethodName)) ∈ lw_all := lw_g (lw_at lw_m5 194 rfl) rfl
theorem q1309 : (Jvm.Cond.code ({ cls := "SilkClerks", name := "lambda$whose$8", desc := "(I)I" } : Jvm.MethodName) prog_1_method_113_code (2 : Nat) (Option.some Jvm.ClassFile.FieldType.int)) ∈ lw_all := lw_g (lw_at lw_m5 195 rfl) rfl
theorem q1310 : (Jvm.Cond.methodLink "SilkClerks" (624 : Nat) ({ cls := "SilkClerks", name := "longestIn", desc := "(I)I" } : Jvm.MethodName)) ∈ lw_all := lw_g (lw_at lw_m5 196 rfl) rfl
theorem q1311 : (Jvm.Cond.privateMethod ({ cls := "SilkClerks", name := "longestIn", desc := "(I)I" } : Jvm.MethodName)) ∈ lw_tbl := lw_at lw_m5 197 rfl
theorem q1312 : (Jvm.Cond.instanceMethod ({ cls := "SilkClerks", name := "longestIn", desc := "(I)I" } : Jvm.MethodName)) ∈ lw_all := lw_g (lw_at lw_m5 198 rfl) rfl
theorem q1313 : (Jvm.Cond.code ({ cls := "SilkClerks", name := "longestIn", desc := "(I)I" } : Jvm.MethodName) prog_1_method_90_code (5 : Nat) (Option.some Jvm.ClassFile.FieldType.int)) ∈ lw_all := lw_g (lw_at lw_m5 199 rfl) rfl
theorem q1314 : (Jvm.Cond.methodLink "SilkClerks" (627 : Nat) ({ cls := "SilkClerks", name := "foundIn", desc := "(I)I" } : Jvm.MethodName)) ∈ lw_all := lw_g (lw_at lw_m5 200 rfl) rfl
theorem q1315 : (Jvm.Cond.privateMethod ({ cls := "SilkClerks", name := "foundIn", desc := "(I)I" } : Jvm.MethodName)) ∈ lw_tbl := lw_at lw_m5 201 rfl
theorem q1316 : (Jvm.Cond.instanceMethod ({ cls := "SilkClerks", name := "foundIn", desc := "(I)I" } : Jvm.MethodName)) ∈ lw_all := lw_g (lw_at lw_m5 202 rfl) rfl
theorem q1317 : (Jvm.Cond.code ({ cls := "SilkClerks", name := "foundIn", desc := "(I)I" } : Jvm.MethodName) prog_1_method_91_code (7 : Nat) (Option.some Jvm.ClassFile.FieldType.int)) ∈ lw_all := lw_g (lw_at lw_m5 203 rfl) rfl
theorem q1319 : (Jvm.Cond.instanceMethod ({ cls := "SilkClerks", name := "forged", desc := "(III)I" } : Jvm.MethodName)) ∈ lw_all := lw_g (lw_at lw_m5 205 rfl) rfl
theorem q1320 : (Jvm.Cond.selects "SilkClerks" ({ cls := "SilkClerks", name := "forged", desc := "(III)I" } : Jvm.MethodName) ({ cls := "SilkClerks", name := "forged", desc := "(III)I" } : Jvm.MethodName)) ∈ lw_all := lw_g (lw_at lw_m5 206 rfl) rfl
theorem q1321 : (Jvm.Cond.code ({ cls := "SilkClerks", name := "forged", desc := "(III)I" } : Jvm.MethodName) prog_1_method_94_code (6 : Nat) (Option.some Jvm.ClassFile.FieldType.int)) ∈ lw_all := lw_g (lw_at lw_m5 207 rfl) rfl
theorem q1322 : (Jvm.Cond.methodLink "SilkClerks" (633 : Nat) ({ cls := "SilkClerks", name := "forgedBy", desc := "(IZ)I" } : Jvm.MethodName)) ∈ lw_all := lw_g (lw_at lw_m5 208 rfl) rfl
theorem q1323 : (Jvm.Cond.static ({ cls := "SilkClerks", name := "forgedBy", desc := "(IZ)I" } : Jvm.MethodName)) ∈ lw_all := lw_g (lw_at lw_m5 209 rfl) rfl
theorem q1324 : (Jvm.Cond.code ({ cls := "SilkClerks", name := "forgedBy", desc := "(IZ)I" } : Jvm.MethodName) prog_1_method_93_code (6 : Nat) (Option.some Jvm.ClassFile.FieldType.int)) ∈ lw_all := lw_g (lw_at lw_m5 210 rfl) rfl
theorem q1325 : (Jvm.Cond.constant "SilkClerks" (630 : Nat) (1000000 : Int32)) ∈ lw_all := lw_g (lw_at lw_m5 211 rfl) rfl
theorem q1326 : (Jvm.Cond.constantLong "SilkClerks" (631 : Nat) (1000000 : Int64)) ∈ lw_all := lw_g (lw_at lw_m5 212 rfl) rfl
theorem q1328 : (Jvm.Cond.instanceMethod ({ cls := "SilkClerks", name := "own", desc := "(II)I" } : Jvm.MethodName)) ∈ lw_all := lw_g (lw_at lw_m5 214 rfl) rfl
theorem q1329 : (Jvm.Cond.selects "SilkClerks" ({ cls := "SilkClerks", name := "own", desc := "(II)I" } : Jvm.MethodName) ({ cls := "SilkClerks", name := "own", desc := "(II)I" } : Jvm.MethodName)) ∈ lw_all := lw_g (lw_at lw_m5 215 rfl) rfl
theorem q1330 : (Jvm.Cond.code ({ cls := "SilkClerks", name := "own", desc := "(II)I" } : Jvm.MethodName) prog_1_method_95_code (3 : Nat) (Option.some Jvm.ClassFile.FieldType.int)) ∈ lw_all := lw_g (lw_at lw_m5 216 rfl) rfl
theorem q1332 : (Jvm.Cond.instanceMethod ({ cls := "SilkClerks", name := "feedings", desc := "()I" } : Jvm.MethodName)) ∈ lw_all := lw_g (lw_at lw_m5 218 rfl) rfl
theorem q1333 : (Jvm.Cond.selects "SilkClerks" ({ cls := "SilkClerks", name := "feedings", desc := "()I" } : Jvm.MethodName) ({ cls := "SilkClerks", name := "feedings", desc := "()I" } : Jvm.MethodName)) ∈ lw_all := lw_g (lw_at lw_m5 219 rfl) rfl
theorem q1334 : (Jvm.Cond.code ({ cls := "SilkClerks", name := "feedings", desc := "()I" } : Jvm.MethodName) prog_1_method_97_code (7 : Nat) (Option.some Jvm.ClassFile.FieldType.int)) ∈ lw_all := lw_g (lw_at lw_m5 220 rfl) rfl
theorem q1335 : (Jvm.Cond.methodLink "SilkClerks" (637 : Nat) ({ cls := "SilkClerks", name := "mayHave", desc := "(II)Z" } : Jvm.MethodName)) ∈ lw_all := lw_g (lw_at lw_m5 221 rfl) rfl
theorem q1336 : (Jvm.Cond.privateMethod ({ cls := "SilkClerks", name := "mayHave", desc := "(II)Z" } : Jvm.MethodName)) ∈ lw_tbl := lw_at lw_m5 222 rfl
theorem q1337 : (Jvm.Cond.instanceMethod ({ cls := "SilkClerks", name := "mayHave", desc := "(II)Z" } : Jvm.MethodName)) ∈ lw_all := lw_g (lw_at lw_m5 223 rfl) rfl
theorem q1338 : (Jvm.Cond.code ({ cls := "SilkClerks", name := "mayHave", desc := "(II)Z" } : Jvm.MethodName) prog_1_method_96_code (4 : Nat) (Option.some Jvm.ClassFile.FieldType.boolean)) ∈ lw_all := lw_g (lw_at lw_m5 224 rfl) rfl
theorem q1339 : (Jvm.Cond.constantLong "SilkClerks" (640 : Nat) (1000000007 : Int64)) ∈ lw_all := lw_g (lw_at lw_m5 225 rfl) rfl
theorem q1341 : (Jvm.Cond.instanceMethod ({ cls := "SilkClerks", name := "dyes", desc := "(I)I" } : Jvm.MethodName)) ∈ lw_all := lw_g (lw_at lw_m5 227 rfl) rfl
theorem q1342 : (Jvm.Cond.selects "SilkClerks" ({ cls := "SilkClerks", name := "dyes", desc := "(I)I" } : Jvm.MethodName) ({ cls := "SilkClerks", name := "dyes", desc := "(I)I" } : Jvm.MethodName)) ∈ lw_all := lw_g (lw_at lw_m5 228 rfl) rfl
theorem q1343 : (Jvm.Cond.code ({ cls := "SilkClerks", name := "dyes", desc := "(I)I" } : Jvm.MethodName) prog_1_method_99_code (5 : Nat) (Option.some Jvm.ClassFile.FieldType.int)) ∈ lw_all := lw_g (lw_at lw_m5 229 rfl) rfl
theorem q1344 : (Jvm.Cond.methodLink "SilkClerks" (642 : Nat) ({ cls := "SilkClerks", name := "isAlikeDyed", desc := "([I[II)Z" } : Jvm.MethodName)) ∈ lw_all := lw_g (lw_at lw_m5 230 rfl) rfl
theorem q1345 : (Jvm.Cond.privateMethod ({ cls := "SilkClerks", name := "isAlikeDyed", desc := "([I[II)Z" } : Jvm.MethodName)) ∈ lw_tbl := lw_at lw_m5 231 rfl
theorem q1346 : (Jvm.Cond.instanceMethod ({ cls := "SilkClerks", name := "isAlikeDyed", desc := "([I[II)Z" } : Jvm.MethodName)) ∈ lw_all := lw_g (lw_at lw_m5 232 rfl) rfl
theorem q1347 : (Jvm.Cond.code ({ cls := "SilkClerks", name := "isAlikeDyed", desc := "([I[II)Z" } : Jvm.MethodName) prog_1_method_98_code (5 : Nat) (Option.some Jvm.ClassFile.FieldType.boolean)) ∈ lw_all := lw_g (lw_at lw_m5 233 rfl) rfl
theorem q1349 : (Jvm.Cond.instanceMethod ({ cls := "SilkClerks", name := "tally", desc := "(I)I" } : Jvm.MethodName)) ∈ lw_all := lw_g (lw_at lw_m5 235 rfl) rfl
theorem q1350 : (Jvm.Cond.selects "SilkClerks" ({ cls := "SilkClerks", name := "tally", desc := "(I)I" } : Jvm.MethodName) ({ cls := "SilkClerks", name := "tally", desc := "(I)I" } : Jvm.MethodName)) ∈ lw_all := lw_g (lw_at lw_m5 236 rfl) rfl
theorem q1351 : (Jvm.Cond.code ({ cls := "SilkClerks", name := "tally", desc := "(I)I" } : Jvm.MethodName) prog_1_method_100_code (5 : Nat) (Option.some Jvm.ClassFile.FieldType.int)) ∈ lw_all := lw_g (lw_at lw_m5 237 rfl) rfl
theorem q1352 : (Jvm.Cond.static ({ cls := "SilkClerks", name := "lambda$tally$9", desc := "([II)I" } : Jvm.MethodName)) ∈ lw_all := lw_g (lw_at lw_m5 238 rfl) rfl
theorem q1353 : (Jvm.Cond.code ({ cls := "SilkClerks", name := "lambda$tally$9", desc := "([II)I" } : Jvm.MethodName) prog_1_method_112_code (2 : Nat) (Option.some Jvm.ClassFile.FieldType.int)) ∈ lw_all := lw_g (lw_at lw_m5 239 rfl) rfl
theorem q1355 : (Jvm.Cond.instanceMethod ({ cls := "SilkClerks", name := "splice", desc := "(II)I" } : Jvm.MethodName)) ∈ lw_all := lw_g (lw_at lw_m6 1 rfl) rfl
theorem q1356 : (Jvm.Cond.selects "SilkClerks" ({ cls := "SilkClerks", name := "splice", desc := "(II)I" } : Jvm.MethodName) ({ cls := "SilkClerks", name := "splice", desc := "(II)I" } : Jvm.MethodName)) ∈ lw_all := lw_g (lw_at lw_m6 2 rfl) rfl
theorem q1357 : (Jvm.Cond.code ({ cls := "SilkClerks", name := "splice", desc := "(II)I" } : Jvm.MethodName) prog_1_method_102_code (4 : Nat) (Option.some Jvm.ClassFile.FieldType.int)) ∈ lw_all := lw_g (lw_at lw_m6 3 rfl) rfl
theorem q1358 : (Jvm.Cond.methodLink "SilkClerks" (649 : Nat) ({ cls := "SilkClerks", name := "isSpliced", desc := "(III)Z" } : Jvm.MethodName)) ∈ lw_all := lw_g (lw_at lw_m6 4 rfl) rfl
theorem q1359 : (Jvm.Cond.privateMethod ({ cls := "SilkClerks", name := "isSpliced", desc := "(III)Z" } : Jvm.MethodName)) ∈ lw_tbl := lw_at lw_m6 5 rfl
theorem q1360 : (Jvm.Cond.instanceMethod ({ cls := "SilkClerks", name := "isSpliced", desc := "(III)Z" } : Jvm.MethodName)) ∈ lw_all := lw_g (lw_at lw_m6 6 rfl) rfl
theorem q1361 : (Jvm.Cond.code ({ cls := "SilkClerks", name := "isSpliced", desc := "(III)Z" } : Jvm.MethodName) prog_1_method_101_code (5 : Nat) (Option.some Jvm.ClassFile.FieldType.boolean)) ∈ lw_all := lw_g (lw_at lw_m6 7 rfl) rfl
theorem q1363 : (Jvm.Cond.instanceMethod ({ cls := "SilkClerks", name := "both", desc := "(II)I" } : Jvm.MethodName)) ∈ lw_all := lw_g (lw_at lw_m6 9 rfl) rfl
theorem q1364 : (Jvm.Cond.selects "SilkClerks" ({ cls := "SilkClerks", name := "both", desc := "(II)I" } : Jvm.MethodName) ({ cls := "SilkClerks", name := "both", desc := "(II)I" } : Jvm.MethodName)) ∈ lw_all := lw_g (lw_at lw_m6 10 rfl) rfl
theorem q1365 : (Jvm.Cond.code ({ cls := "SilkClerks", name := "both", desc := "(II)I" } : Jvm.MethodName) prog_1_method_104_code (5 : Nat) (Option.some Jvm.ClassFile.FieldType.int)) ∈ lw_all := lw_g (lw_at lw_m6 11 rfl) rfl
theorem q1366 : (Jvm.Cond.methodLink "SilkClerks" (652 : Nat) ({ cls := "SilkClerks", name := "isBothWays", desc := "(III)Z" } : Jvm.MethodName)) ∈ lw_all := lw_g (lw_at lw_m6 12 rfl) rfl
theorem q1367 : (Jvm.Cond.privateMethod ({ cls := "SilkClerks", name := "isBothWays", desc := "(III)Z" } : Jvm.MethodName)) ∈ lw_tbl := lw_at lw_m6 13 rfl
theorem q1368 : (Jvm.Cond.instanceMethod ({ cls := "SilkClerks", name := "isBothWays", desc := "(III)Z" } : Jvm.MethodName)) ∈ lw_all := lw_g (lw_at lw_m6 14 rfl) rfl
theorem q1369 : (Jvm.Cond.code ({ cls := "SilkClerks", name := "isBothWays", desc := "(III)Z" } : Jvm.MethodName) prog_1_method_103_code (5 : Nat) (Option.some Jvm.ClassFile.FieldType.boolean)) ∈ lw_all := lw_g (lw_at lw_m6 15 rfl) rfl
theorem q1371 : (Jvm.Cond.instanceMethod ({ cls := "SilkClerks", name := "pull", desc := "(I)I" } : Jvm.MethodName)) ∈ lw_all := lw_g (lw_at lw_m6 17 rfl) rfl
theorem q1372 : (Jvm.Cond.selects "SilkClerks" ({ cls := "SilkClerks", name := "pull", desc := "(I)I" } : Jvm.MethodName) ({ cls := "SilkClerks", name := "pull", desc := "(I)I" } : Jvm.MethodName)) ∈ lw_all := lw_g (lw_at lw_m6 18 rfl) rfl
theorem q1373 : (Jvm.Cond.code ({ cls := "SilkClerks", name := "pull", desc := "(I)I" } : Jvm.MethodName) prog_1_method_105_code (5 : Nat) (Option.some Jvm.ClassFile.FieldType.int)) ∈ lw_all := lw_g (lw_at lw_m6 19 rfl) rfl
theorem q1374 : (Jvm.Cond.privateMethod ({ cls := "SilkClerks", name := "lambda$pull$10", desc := "(III)Z" } : Jvm.MethodName)) ∈ lw_tbl := lw_at lw_m6 20 rfl
theorem q1375 : (Jvm.Cond.instanceMethod ({ cls := "SilkClerks", name := "lambda$pull$10", desc := "(III)Z" } : Jvm.MethodName)) ∈ lw_all := lw_g (lw_at lw_m6 21 rfl) rfl
theorem q1376 : (Jvm.Cond.code ({ cls := "SilkClerks", name := "lambda$pull$10", desc := "(III)Z" } : Jvm.MethodName) prog_1_method_111_code (4 : Nat) (Option.some Jvm.ClassFile.FieldType.boolean)) ∈ lw_all := lw_g (lw_at lw_m6 22 rfl) rfl
theorem q1378 : (Jvm.Cond.instanceMethod ({ cls := "SilkClerks", name := "game", desc := "(I)I" } : Jvm.MethodName)) ∈ lw_all := lw_g (lw_at lw_m6 24 rfl) rfl
theorem q1379 : (Jvm.Cond.selects "SilkClerks" ({ cls := "SilkClerks", name := "game", desc := "(I)I" } : Jvm.MethodName) ({ cls := "SilkClerks", name := "game", desc := "(I)I" } : Jvm.MethodName)) ∈ lw_all := lw_g (lw_at lw_m6 25 rfl) rfl
theorem q1380 : (Jvm.Cond.code ({ cls := "SilkClerks", name := "game", desc := "(I)I" } : Jvm.MethodName) prog_1_method_106_code (5 : Nat) (Option.some Jvm.ClassFile.FieldType.int)) ∈ lw_all := lw_g (lw_at lw_m6 26 rfl) rfl
theorem q1382 : (Jvm.Cond.instanceMethod ({ cls := "SilkClerks", name := "image", desc := "(Z)Z" } : Jvm.MethodName)) ∈ lw_all := lw_g (lw_at lw_m6 28 rfl) rfl
theorem q1383 : (Jvm.Cond.selects "SilkClerks" ({ cls := "SilkClerks", name := "image", desc := "(Z)Z" } : Jvm.MethodName) ({ cls := "SilkClerks", name := "image", desc := "(Z)Z" } : Jvm.MethodName)) ∈ lw_all := lw_g (lw_at lw_m6 29 rfl) rfl
theorem q1384 : (Jvm.Cond.code ({ cls := "SilkClerks", name := "image", desc := "(Z)Z" } : Jvm.MethodName) prog_1_method_109_code (2 : Nat) (Option.some Jvm.ClassFile.FieldType.boolean)) ∈ lw_all := lw_g (lw_at lw_m6 30 rfl) rfl
theorem q1385 : (Jvm.Cond.methodLink "SilkClerks" (689 : Nat) ({ cls := "SilkClerks", name := "takesAll", desc := "()V" } : Jvm.MethodName)) ∈ lw_all := lw_g (lw_at lw_m6 31 rfl) rfl
theorem q1386 : (Jvm.Cond.privateMethod ({ cls := "SilkClerks", name := "takesAll", desc := "()V" } : Jvm.MethodName)) ∈ lw_tbl := lw_at lw_m6 32 rfl
theorem q1387 : (Jvm.Cond.instanceMethod ({ cls := "SilkClerks", name := "takesAll", desc := "()V" } : Jvm.MethodName)) ∈ lw_all := lw_g (lw_at lw_m6 33 rfl) rfl
theorem q1388 : (Jvm.Cond.code ({ cls := "SilkClerks", name := "takesAll", desc := "()V" } : Jvm.MethodName) prog_1_method_107_code (1 : Nat) (Option.none : Option Jvm.ClassFile.FieldType)) ∈ lw_all := lw_g (lw_at lw_m6 34 rfl) rfl
theorem q1389 : (Jvm.Cond.methodLink "SilkClerks" (658 : Nat) ({ cls := "SilkClerks", name := "copies", desc := "([I[I)V" } : Jvm.MethodName)) ∈ lw_all := lw_g (lw_at lw_m6 35 rfl) rfl
theorem q1390 : (Jvm.Cond.methodLink "SilkClerks" (692 : Nat) ({ cls := "SilkClerks", name := "goesBack", desc := "()V" } : Jvm.MethodName)) ∈ lw_all := lw_g (lw_at lw_m6 36 rfl) rfl
theorem q1391 : (Jvm.Cond.privateMethod ({ cls := "SilkClerks", name := "goesBack", desc := "()V" } : Jvm.MethodName)) ∈ lw_tbl := lw_at lw_m6 37 rfl
theorem q1392 : (Jvm.Cond.instanceMethod ({ cls := "SilkClerks", name := "goesBack", desc := "()V" } : Jvm.MethodName)) ∈ lw_all := lw_g (lw_at lw_m6 38 rfl) rfl
theorem q1393 : (Jvm.Cond.code ({ cls := "SilkClerks", name := "goesBack", desc := "()V" } : Jvm.MethodName) prog_1_method_108_code (1 : Nat) (Option.none : Option Jvm.ClassFile.FieldType)) ∈ lw_all := lw_g (lw_at lw_m6 39 rfl) rfl
theorem q1395 : (Jvm.Cond.instanceMethod ({ cls := "SilkClerks", name := "look", desc := "(I)I" } : Jvm.MethodName)) ∈ lw_all := lw_g (lw_at lw_m6 41 rfl) rfl
theorem q1396 : (Jvm.Cond.selects "SilkClerks" ({ cls := "SilkClerks", name := "look", desc := "(I)I" } : Jvm.MethodName) ({ cls := "SilkClerks", name := "look", desc := "(I)I" } : Jvm.MethodName)) ∈ lw_all := lw_g (lw_at lw_m6 42 rfl) rfl
theorem q1397 : (Jvm.Cond.code ({ cls := "SilkClerks", name := "look", desc := "(I)I" } : Jvm.MethodName) prog_1_method_110_code (2 : Nat) (Option.some Jvm.ClassFile.FieldType.int)) ∈ lw_all := lw_g (lw_at lw_m6 43 rfl) rfl
theorem in_X0 : ∀ w ∈ wsX00, w ∈ lw_all := lw_in wsX00 [399, 401, 403, 405, 407, 409, 411, 413, 415, 417, 419, 421, 423, 425, 427, 429, 431, 433, 435, 437, 439, 441, 443, 445, 447, 449, 451, 453, 455, 457, 459, 461, 463, 465, 467, 469, 471, 473, 475, 477, 479, 481, 483, 485, 487, 489, 491] (by decide +kernel) (by decide +kernel)
