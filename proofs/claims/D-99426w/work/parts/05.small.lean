/-! SilkClerks$Text -/
set_option maxRecDepth 100000
def RX1 : String := "SilkClerks$Text"
def TX1 : u_T := fun k => match k with
  | 0 => ("SilkClerks$Text", "word", "[I", true)
  | 1 => ("SilkClerks$Text", "worth", "[LSilkClerks$Term;", true)
  | 2 => ("SilkClerks$Text", "when", "[LSilkClerks$Term;", true)
  | _ => ("SilkClerks$Text", "many", "I", false)
def tyX1 : Nat → FieldType := fun k => match k with
  | 0 => .array .int
  | 1 => .array (.object "SilkClerks$Term")
  | 2 => .array (.object "SilkClerks$Term")
  | _ => .int
abbrev wsX10 : List Cond := u_ws RX1 TX1 4
theorem nmX1 : ∀ a, a < 4 → ∀ b, b < 4 → a ≠ b → (TX1 a).2.1 ≠ (TX1 b).2.1 := by decide +kernel
theorem tyX1_ok : ∀ k, k < 4 → parseFieldDescriptor (TX1 k).2.2.1 = some (tyX1 k) := by decide +kernel
abbrev cX1_init : ByteArray := prog_11_method_1_code
def yX1_init : MethodName := ⟨RX1, "<init>", "()V"⟩
def dkwX1_init_1 : List UInt8 := [189, 0, 15, 181, 0, 21, 177]
abbrev dktX1_init_1 : List UInt8 := dkwX1_init_1 ++ []
def dkwX1_init_0 : List UInt8 := [42, 183, 0, 3, 42, 16, 16, 188, 10, 181, 0, 9, 42, 16, 16, 189, 0, 15, 181, 0, 17, 42, 16, 16]
abbrev dktX1_init_0 : List UInt8 := dkwX1_init_0 ++ dktX1_init_1
theorem dksX1_init_0 : cX1_init.data.toList.drop 0 = dktX1_init_0 := by decide +kernel
theorem dksX1_init_1 : cX1_init.data.toList.drop 24 = dktX1_init_1 := dk_seg dksX1_init_0 24 rfl rfl
theorem dX1_init_0 : decode cX1_init 0 = .ok (.aload_n 0, 1) := dk_42 (dk_at dksX1_init_0 0 rfl rfl)
theorem dX1_init_1 : decode cX1_init 1 = .ok (.invokespecial 3, 3) := dk_183 0 3 (dk_at dksX1_init_0 1 rfl rfl)
theorem dX1_init_4 : decode cX1_init 4 = .ok (.aload_n 0, 1) := dk_42 (dk_at dksX1_init_0 4 rfl rfl)
theorem dX1_init_5 : decode cX1_init 5 = .ok (.bipush 16, 2) := dk_16 16 (dk_at dksX1_init_0 5 rfl rfl)
theorem dX1_init_7 : decode cX1_init 7 = .ok (.newarray .int, 2) := dk_188_10 (dk_at dksX1_init_0 7 rfl rfl)
theorem dX1_init_9 : decode cX1_init 9 = .ok (.putfield 9, 3) := dk_181 0 9 (dk_at dksX1_init_0 9 rfl rfl)
theorem dX1_init_12 : decode cX1_init 12 = .ok (.aload_n 0, 1) := dk_42 (dk_at dksX1_init_0 12 rfl rfl)
theorem dX1_init_13 : decode cX1_init 13 = .ok (.bipush 16, 2) := dk_16 16 (dk_at dksX1_init_0 13 rfl rfl)
theorem dX1_init_15 : decode cX1_init 15 = .ok (.anewarray 15, 3) := dk_189 0 15 (dk_at dksX1_init_0 15 rfl rfl)
theorem dX1_init_18 : decode cX1_init 18 = .ok (.putfield 17, 3) := dk_181 0 17 (dk_at dksX1_init_0 18 rfl rfl)
theorem dX1_init_21 : decode cX1_init 21 = .ok (.aload_n 0, 1) := dk_42 (dk_at dksX1_init_0 21 rfl rfl)
theorem dX1_init_22 : decode cX1_init 22 = .ok (.bipush 16, 2) := dk_16 16 (dk_at dksX1_init_0 22 rfl rfl)
theorem dX1_init_24 : decode cX1_init 24 = .ok (.anewarray 15, 3) := dk_189 0 15 (dk_at dksX1_init_1 0 rfl rfl)
theorem dX1_init_27 : decode cX1_init 27 = .ok (.putfield 21, 3) := dk_181 0 21 (dk_at dksX1_init_1 3 rfl rfl)
theorem dX1_init_30 : decode cX1_init 30 = .ok (.return_, 1) := dk_177 (dk_at dksX1_init_1 6 rfl rfl)
theorem q156 : (Jvm.Cond.initialized "SilkClerks$Text") ∈ lw_all := lw_g (lw_at lw_m1 2 rfl) rfl
theorem q220 : (Jvm.Cond.instantiable "SilkClerks$Text" (4 : Nat)) ∈ lw_all := lw_g (lw_at lw_m1 66 rfl) rfl
theorem q222 : (Jvm.Cond.instanceMethod ({ cls := "SilkClerks$Text", name := "<init>", desc := "()V" } : Jvm.MethodName)) ∈ lw_all := lw_g (lw_at lw_m1 68 rfl) rfl
theorem q223 : (Jvm.Cond.code ({ cls := "SilkClerks$Text", name := "<init>", desc := "()V" } : Jvm.MethodName) prog_11_method_1_code (1 : Nat) (Option.none : Option Jvm.ClassFile.FieldType)) ∈ lw_all := lw_g (lw_at lw_m1 69 rfl) rfl
theorem q224 : (Jvm.Cond.methodLink "SilkClerks$Text" (3 : Nat) ({ cls := "java/lang/Object", name := "<init>", desc := "()V" } : Jvm.MethodName)) ∈ lw_all := lw_g (lw_at lw_m1 70 rfl) rfl
theorem q225 : (Jvm.Cond.classLink "SilkClerks$Text" (15 : Nat) "SilkClerks$Term") ∈ lw_all := lw_g (lw_at lw_m1 71 rfl) rfl
theorem q227 : (Jvm.Cond.fieldLink "SilkClerks$Text" (9 : Nat) "SilkClerks$Text" "word" "[I") ∈ lw_all := lw_g (lw_at lw_m1 73 rfl) rfl
theorem q229 : (Jvm.Cond.fieldLink "SilkClerks$Text" (17 : Nat) "SilkClerks$Text" "worth" "[LSilkClerks$Term;") ∈ lw_all := lw_g (lw_at lw_m1 75 rfl) rfl
theorem q231 : (Jvm.Cond.fieldLink "SilkClerks$Text" (21 : Nat) "SilkClerks$Text" "when" "[LSilkClerks$Term;") ∈ lw_all := lw_g (lw_at lw_m1 77 rfl) rfl
theorem q234 : (Jvm.Cond.laysFinal "SilkClerks$Text" "SilkClerks$Text" "word" "[I") ∈ lw_all := lw_g (lw_at lw_m1 80 rfl) rfl
theorem q235 : (Jvm.Cond.soleField "SilkClerks$Text" "word") ∈ lw_all := lw_g (lw_at lw_m1 81 rfl) rfl
theorem q236 : (Jvm.Cond.laysFinal "SilkClerks$Text" "SilkClerks$Text" "worth" "[LSilkClerks$Term;") ∈ lw_all := lw_g (lw_at lw_m1 82 rfl) rfl
theorem q237 : (Jvm.Cond.soleField "SilkClerks$Text" "worth") ∈ lw_all := lw_g (lw_at lw_m1 83 rfl) rfl
theorem q238 : (Jvm.Cond.laysFinal "SilkClerks$Text" "SilkClerks$Text" "when" "[LSilkClerks$Term;") ∈ lw_all := lw_g (lw_at lw_m1 84 rfl) rfl
theorem q239 : (Jvm.Cond.soleField "SilkClerks$Text" "when") ∈ lw_all := lw_g (lw_at lw_m1 85 rfl) rfl
theorem q240 : (Jvm.Cond.lays "SilkClerks$Text" "SilkClerks$Text" "many" "I") ∈ lw_all := lw_g (lw_at lw_m1 86 rfl) rfl
theorem q241 : (Jvm.Cond.soleField "SilkClerks$Text" "many") ∈ lw_all := lw_g (lw_at lw_m1 87 rfl) rfl
theorem q242 : (Jvm.Cond.superclass "SilkClerks$Text" "java/lang/Object") ∈ lw_all := lw_g (lw_at lw_m1 88 rfl) rfl
theorem in_X1 : ∀ w ∈ wsX10, w ∈ lw_all := lw_in wsX10 [234, 236, 238, 240] (by decide +kernel) (by decide +kernel)
/-! SilkClerks$Trays -/
set_option maxRecDepth 100000
def RX2 : String := "SilkClerks$Trays"
def TX2 : u_T := fun k => match k with
  | 0 => ("SilkClerks$Trays", "lazy", "[I", true)
  | 1 => ("SilkClerks$Trays", "eaten", "[I", true)
  | 2 => ("SilkClerks$Trays", "today", "[I", true)
  | 3 => ("SilkClerks$Trays", "strength", "[I", true)
  | 4 => ("SilkClerks$Trays", "cocoonUp", "[I", true)
  | 5 => ("SilkClerks$Trays", "lasting", "[I", true)
  | 6 => ("SilkClerks$Trays", "thread", "[I", true)
  | 7 => ("SilkClerks$Trays", "steamed", "I", false)
  | 8 => ("SilkClerks$Trays", "flown", "I", false)
  | 9 => ("SilkClerks$Trays", "leaves", "I", false)
  | 10 => ("SilkClerks$Trays", "noise", "I", false)
  | 11 => ("SilkClerks$Trays", "day", "I", false)
  | 12 => ("SilkClerks$Trays", "mixed", "I", false)
  | 13 => ("SilkClerks$Trays", "slipped", "I", false)
  | 14 => ("SilkClerks$Trays", "lost", "I", false)
  | 15 => ("SilkClerks$Trays", "state", "I", false)
  | 16 => ("SilkClerks$Trays", "bookMany", "I", false)
  | 17 => ("SilkClerks$Trays", "isThought", "Z", false)
  | _ => ("SilkClerks$Trays", "this$0", "LSilkClerks;", true)
def tyX2 : Nat → FieldType := fun k => match k with
  | 0 => .array .int
  | 1 => .array .int
  | 2 => .array .int
  | 3 => .array .int
  | 4 => .array .int
  | 5 => .array .int
  | 6 => .array .int
  | 7 => .int
  | 8 => .int
  | 9 => .int
  | 10 => .int
  | 11 => .int
  | 12 => .int
  | 13 => .int
  | 14 => .int
  | 15 => .int
  | 16 => .int
  | 17 => .boolean
  | _ => .object "SilkClerks"
abbrev wsX20 : List Cond := u_ws RX2 TX2 19
set_option maxRecDepth 100000 in
theorem nmX2 : ∀ a, a < 19 → ∀ b, b < 19 → a ≠ b → (TX2 a).2.1 ≠ (TX2 b).2.1 := by decide +kernel
set_option maxRecDepth 100000 in
theorem tyX2_ok : ∀ k, k < 19 → parseFieldDescriptor (TX2 k).2.2.1 = some (tyX2 k) := by decide +kernel
abbrev cX2_init : ByteArray := prog_13_method_1_code
def yX2_init : MethodName := ⟨RX2, "<init>", "(LSilkClerks;)V"⟩
def dkwX2_init_3 : List UInt8 := [181, 0, 37, 177]
abbrev dktX2_init_3 : List UInt8 := dkwX2_init_3 ++ []
def dkwX2_init_2 : List UInt8 := [181, 0, 28, 42, 16, 12, 188, 10, 181, 0, 31, 42, 17, 1, 224, 188, 10, 181, 0, 34, 42, 16, 100]
abbrev dktX2_init_2 : List UInt8 := dkwX2_init_2 ++ dktX2_init_3
def dkwX2_init_1 : List UInt8 := [181, 0, 19, 42, 16, 12, 188, 10, 181, 0, 22, 42, 16, 12, 188, 10, 181, 0, 25, 42, 16, 12, 188, 10]
abbrev dktX2_init_1 : List UInt8 := dkwX2_init_1 ++ dktX2_init_2
def dkwX2_init_0 : List UInt8 := [42, 43, 181, 0, 3, 42, 183, 0, 9, 42, 16, 12, 188, 10, 181, 0, 15, 42, 16, 12, 188, 10]
abbrev dktX2_init_0 : List UInt8 := dkwX2_init_0 ++ dktX2_init_1
theorem dksX2_init_0 : cX2_init.data.toList.drop 0 = dktX2_init_0 := by decide +kernel
theorem dksX2_init_1 : cX2_init.data.toList.drop 22 = dktX2_init_1 := dk_seg dksX2_init_0 22 rfl rfl
theorem dksX2_init_2 : cX2_init.data.toList.drop 46 = dktX2_init_2 := dk_seg dksX2_init_1 24 rfl rfl
theorem dksX2_init_3 : cX2_init.data.toList.drop 69 = dktX2_init_3 := dk_seg dksX2_init_2 23 rfl rfl
theorem dX2_init_0 : decode cX2_init 0 = .ok (.aload_n 0, 1) := dk_42 (dk_at dksX2_init_0 0 rfl rfl)
theorem dX2_init_1 : decode cX2_init 1 = .ok (.aload_n 1, 1) := dk_43 (dk_at dksX2_init_0 1 rfl rfl)
theorem dX2_init_2 : decode cX2_init 2 = .ok (.putfield 3, 3) := dk_181 0 3 (dk_at dksX2_init_0 2 rfl rfl)
theorem dX2_init_5 : decode cX2_init 5 = .ok (.aload_n 0, 1) := dk_42 (dk_at dksX2_init_0 5 rfl rfl)
theorem dX2_init_6 : decode cX2_init 6 = .ok (.invokespecial 9, 3) := dk_183 0 9 (dk_at dksX2_init_0 6 rfl rfl)
theorem dX2_init_9 : decode cX2_init 9 = .ok (.aload_n 0, 1) := dk_42 (dk_at dksX2_init_0 9 rfl rfl)
theorem dX2_init_10 : decode cX2_init 10 = .ok (.bipush 12, 2) := dk_16 12 (dk_at dksX2_init_0 10 rfl rfl)
theorem dX2_init_12 : decode cX2_init 12 = .ok (.newarray .int, 2) := dk_188_10 (dk_at dksX2_init_0 12 rfl rfl)
theorem dX2_init_14 : decode cX2_init 14 = .ok (.putfield 15, 3) := dk_181 0 15 (dk_at dksX2_init_0 14 rfl rfl)
theorem dX2_init_17 : decode cX2_init 17 = .ok (.aload_n 0, 1) := dk_42 (dk_at dksX2_init_0 17 rfl rfl)
theorem dX2_init_18 : decode cX2_init 18 = .ok (.bipush 12, 2) := dk_16 12 (dk_at dksX2_init_0 18 rfl rfl)
theorem dX2_init_20 : decode cX2_init 20 = .ok (.newarray .int, 2) := dk_188_10 (dk_at dksX2_init_0 20 rfl rfl)
theorem dX2_init_22 : decode cX2_init 22 = .ok (.putfield 19, 3) := dk_181 0 19 (dk_at dksX2_init_1 0 rfl rfl)
theorem dX2_init_25 : decode cX2_init 25 = .ok (.aload_n 0, 1) := dk_42 (dk_at dksX2_init_1 3 rfl rfl)
theorem dX2_init_26 : decode cX2_init 26 = .ok (.bipush 12, 2) := dk_16 12 (dk_at dksX2_init_1 4 rfl rfl)
theorem dX2_init_28 : decode cX2_init 28 = .ok (.newarray .int, 2) := dk_188_10 (dk_at dksX2_init_1 6 rfl rfl)
theorem dX2_init_30 : decode cX2_init 30 = .ok (.putfield 22, 3) := dk_181 0 22 (dk_at dksX2_init_1 8 rfl rfl)
theorem dX2_init_33 : decode cX2_init 33 = .ok (.aload_n 0, 1) := dk_42 (dk_at dksX2_init_1 11 rfl rfl)
theorem dX2_init_34 : decode cX2_init 34 = .ok (.bipush 12, 2) := dk_16 12 (dk_at dksX2_init_1 12 rfl rfl)
theorem dX2_init_36 : decode cX2_init 36 = .ok (.newarray .int, 2) := dk_188_10 (dk_at dksX2_init_1 14 rfl rfl)
theorem dX2_init_38 : decode cX2_init 38 = .ok (.putfield 25, 3) := dk_181 0 25 (dk_at dksX2_init_1 16 rfl rfl)
theorem dX2_init_41 : decode cX2_init 41 = .ok (.aload_n 0, 1) := dk_42 (dk_at dksX2_init_1 19 rfl rfl)
theorem dX2_init_42 : decode cX2_init 42 = .ok (.bipush 12, 2) := dk_16 12 (dk_at dksX2_init_1 20 rfl rfl)
theorem dX2_init_44 : decode cX2_init 44 = .ok (.newarray .int, 2) := dk_188_10 (dk_at dksX2_init_1 22 rfl rfl)
theorem dX2_init_46 : decode cX2_init 46 = .ok (.putfield 28, 3) := dk_181 0 28 (dk_at dksX2_init_2 0 rfl rfl)
theorem dX2_init_49 : decode cX2_init 49 = .ok (.aload_n 0, 1) := dk_42 (dk_at dksX2_init_2 3 rfl rfl)
theorem dX2_init_50 : decode cX2_init 50 = .ok (.bipush 12, 2) := dk_16 12 (dk_at dksX2_init_2 4 rfl rfl)
theorem dX2_init_52 : decode cX2_init 52 = .ok (.newarray .int, 2) := dk_188_10 (dk_at dksX2_init_2 6 rfl rfl)
theorem dX2_init_54 : decode cX2_init 54 = .ok (.putfield 31, 3) := dk_181 0 31 (dk_at dksX2_init_2 8 rfl rfl)
theorem dX2_init_57 : decode cX2_init 57 = .ok (.aload_n 0, 1) := dk_42 (dk_at dksX2_init_2 11 rfl rfl)
theorem dX2_init_58 : decode cX2_init 58 = .ok (.sipush 480, 3) := dk_17 1 224 (dk_at dksX2_init_2 12 rfl rfl)
theorem dX2_init_61 : decode cX2_init 61 = .ok (.newarray .int, 2) := dk_188_10 (dk_at dksX2_init_2 15 rfl rfl)
theorem dX2_init_63 : decode cX2_init 63 = .ok (.putfield 34, 3) := dk_181 0 34 (dk_at dksX2_init_2 17 rfl rfl)
theorem dX2_init_66 : decode cX2_init 66 = .ok (.aload_n 0, 1) := dk_42 (dk_at dksX2_init_2 20 rfl rfl)
theorem dX2_init_67 : decode cX2_init 67 = .ok (.bipush 100, 2) := dk_16 100 (dk_at dksX2_init_2 21 rfl rfl)
theorem dX2_init_69 : decode cX2_init 69 = .ok (.putfield 37, 3) := dk_181 0 37 (dk_at dksX2_init_3 0 rfl rfl)
theorem dX2_init_72 : decode cX2_init 72 = .ok (.return_, 1) := dk_177 (dk_at dksX2_init_3 3 rfl rfl)
abbrev cX2_become : ByteArray := prog_13_method_2_code
def yX2_become : MethodName := ⟨RX2, "become", "(LSilkClerks$Trays;)V"⟩
def dkwX2_become_6 : List UInt8 := [181, 0, 63, 42, 43, 180, 0, 66, 181, 0, 66, 42, 43, 180, 0, 69, 181, 0, 69, 177]
abbrev dktX2_become_6 : List UInt8 := dkwX2_become_6 ++ []
def dkwX2_become_5 : List UInt8 := [181, 0, 54, 42, 43, 180, 0, 57, 181, 0, 57, 42, 43, 180, 0, 60, 181, 0, 60, 42, 43, 180, 0, 63]
abbrev dktX2_become_5 : List UInt8 := dkwX2_become_5 ++ dktX2_become_6
def dkwX2_become_4 : List UInt8 := [181, 0, 48, 42, 43, 180, 0, 37, 181, 0, 37, 42, 43, 180, 0, 51, 181, 0, 51, 42, 43, 180, 0, 54]
abbrev dktX2_become_4 : List UInt8 := dkwX2_become_4 ++ dktX2_become_5
def dkwX2_become_3 : List UInt8 := [180, 0, 34, 42, 180, 0, 34, 184, 0, 41, 42, 43, 180, 0, 45, 181, 0, 45, 42, 43, 180, 0, 48]
abbrev dktX2_become_3 : List UInt8 := dkwX2_become_3 ++ dktX2_become_4
def dkwX2_become_2 : List UInt8 := [180, 0, 28, 42, 180, 0, 28, 184, 0, 41, 43, 180, 0, 31, 42, 180, 0, 31, 184, 0, 41, 43]
abbrev dktX2_become_2 : List UInt8 := dkwX2_become_2 ++ dktX2_become_3
def dkwX2_become_1 : List UInt8 := [180, 0, 22, 42, 180, 0, 22, 184, 0, 41, 43, 180, 0, 25, 42, 180, 0, 25, 184, 0, 41, 43]
abbrev dktX2_become_1 : List UInt8 := dkwX2_become_1 ++ dktX2_become_2
def dkwX2_become_0 : List UInt8 := [43, 180, 0, 15, 42, 180, 0, 15, 184, 0, 41, 43, 180, 0, 19, 42, 180, 0, 19, 184, 0, 41, 43]
abbrev dktX2_become_0 : List UInt8 := dkwX2_become_0 ++ dktX2_become_1
theorem dksX2_become_0 : cX2_become.data.toList.drop 0 = dktX2_become_0 := by decide +kernel
theorem dksX2_become_1 : cX2_become.data.toList.drop 23 = dktX2_become_1 := dk_seg dksX2_become_0 23 rfl rfl
theorem dksX2_become_2 : cX2_become.data.toList.drop 45 = dktX2_become_2 := dk_seg dksX2_become_1 22 rfl rfl
theorem dksX2_become_3 : cX2_become.data.toList.drop 67 = dktX2_become_3 := dk_seg dksX2_become_2 22 rfl rfl
theorem dksX2_become_4 : cX2_become.data.toList.drop 90 = dktX2_become_4 := dk_seg dksX2_become_3 23 rfl rfl
theorem dksX2_become_5 : cX2_become.data.toList.drop 114 = dktX2_become_5 := dk_seg dksX2_become_4 24 rfl rfl
theorem dksX2_become_6 : cX2_become.data.toList.drop 138 = dktX2_become_6 := dk_seg dksX2_become_5 24 rfl rfl
theorem dX2_become_0 : decode cX2_become 0 = .ok (.aload_n 1, 1) := dk_43 (dk_at dksX2_become_0 0 rfl rfl)
theorem dX2_become_1 : decode cX2_become 1 = .ok (.getfield 15, 3) := dk_180 0 15 (dk_at dksX2_become_0 1 rfl rfl)
theorem dX2_become_4 : decode cX2_become 4 = .ok (.aload_n 0, 1) := dk_42 (dk_at dksX2_become_0 4 rfl rfl)
theorem dX2_become_5 : decode cX2_become 5 = .ok (.getfield 15, 3) := dk_180 0 15 (dk_at dksX2_become_0 5 rfl rfl)
theorem dX2_become_8 : decode cX2_become 8 = .ok (.invokestatic 41, 3) := dk_184 0 41 (dk_at dksX2_become_0 8 rfl rfl)
theorem dX2_become_11 : decode cX2_become 11 = .ok (.aload_n 1, 1) := dk_43 (dk_at dksX2_become_0 11 rfl rfl)
theorem dX2_become_12 : decode cX2_become 12 = .ok (.getfield 19, 3) := dk_180 0 19 (dk_at dksX2_become_0 12 rfl rfl)
theorem dX2_become_15 : decode cX2_become 15 = .ok (.aload_n 0, 1) := dk_42 (dk_at dksX2_become_0 15 rfl rfl)
theorem dX2_become_16 : decode cX2_become 16 = .ok (.getfield 19, 3) := dk_180 0 19 (dk_at dksX2_become_0 16 rfl rfl)
theorem dX2_become_19 : decode cX2_become 19 = .ok (.invokestatic 41, 3) := dk_184 0 41 (dk_at dksX2_become_0 19 rfl rfl)
theorem dX2_become_22 : decode cX2_become 22 = .ok (.aload_n 1, 1) := dk_43 (dk_at dksX2_become_0 22 rfl rfl)
theorem dX2_become_23 : decode cX2_become 23 = .ok (.getfield 22, 3) := dk_180 0 22 (dk_at dksX2_become_1 0 rfl rfl)
theorem dX2_become_26 : decode cX2_become 26 = .ok (.aload_n 0, 1) := dk_42 (dk_at dksX2_become_1 3 rfl rfl)
theorem dX2_become_27 : decode cX2_become 27 = .ok (.getfield 22, 3) := dk_180 0 22 (dk_at dksX2_become_1 4 rfl rfl)
theorem dX2_become_30 : decode cX2_become 30 = .ok (.invokestatic 41, 3) := dk_184 0 41 (dk_at dksX2_become_1 7 rfl rfl)
theorem dX2_become_33 : decode cX2_become 33 = .ok (.aload_n 1, 1) := dk_43 (dk_at dksX2_become_1 10 rfl rfl)
theorem dX2_become_34 : decode cX2_become 34 = .ok (.getfield 25, 3) := dk_180 0 25 (dk_at dksX2_become_1 11 rfl rfl)
theorem dX2_become_37 : decode cX2_become 37 = .ok (.aload_n 0, 1) := dk_42 (dk_at dksX2_become_1 14 rfl rfl)
theorem dX2_become_38 : decode cX2_become 38 = .ok (.getfield 25, 3) := dk_180 0 25 (dk_at dksX2_become_1 15 rfl rfl)
theorem dX2_become_41 : decode cX2_become 41 = .ok (.invokestatic 41, 3) := dk_184 0 41 (dk_at dksX2_become_1 18 rfl rfl)
theorem dX2_become_44 : decode cX2_become 44 = .ok (.aload_n 1, 1) := dk_43 (dk_at dksX2_become_1 21 rfl rfl)
theorem dX2_become_45 : decode cX2_become 45 = .ok (.getfield 28, 3) := dk_180 0 28 (dk_at dksX2_become_2 0 rfl rfl)
theorem dX2_become_48 : decode cX2_become 48 = .ok (.aload_n 0, 1) := dk_42 (dk_at dksX2_become_2 3 rfl rfl)
theorem dX2_become_49 : decode cX2_become 49 = .ok (.getfield 28, 3) := dk_180 0 28 (dk_at dksX2_become_2 4 rfl rfl)
theorem dX2_become_52 : decode cX2_become 52 = .ok (.invokestatic 41, 3) := dk_184 0 41 (dk_at dksX2_become_2 7 rfl rfl)
theorem dX2_become_55 : decode cX2_become 55 = .ok (.aload_n 1, 1) := dk_43 (dk_at dksX2_become_2 10 rfl rfl)
theorem dX2_become_56 : decode cX2_become 56 = .ok (.getfield 31, 3) := dk_180 0 31 (dk_at dksX2_become_2 11 rfl rfl)
theorem dX2_become_59 : decode cX2_become 59 = .ok (.aload_n 0, 1) := dk_42 (dk_at dksX2_become_2 14 rfl rfl)
theorem dX2_become_60 : decode cX2_become 60 = .ok (.getfield 31, 3) := dk_180 0 31 (dk_at dksX2_become_2 15 rfl rfl)
theorem dX2_become_63 : decode cX2_become 63 = .ok (.invokestatic 41, 3) := dk_184 0 41 (dk_at dksX2_become_2 18 rfl rfl)
theorem dX2_become_66 : decode cX2_become 66 = .ok (.aload_n 1, 1) := dk_43 (dk_at dksX2_become_2 21 rfl rfl)
theorem dX2_become_67 : decode cX2_become 67 = .ok (.getfield 34, 3) := dk_180 0 34 (dk_at dksX2_become_3 0 rfl rfl)
theorem dX2_become_70 : decode cX2_become 70 = .ok (.aload_n 0, 1) := dk_42 (dk_at dksX2_become_3 3 rfl rfl)
theorem dX2_become_71 : decode cX2_become 71 = .ok (.getfield 34, 3) := dk_180 0 34 (dk_at dksX2_become_3 4 rfl rfl)
theorem dX2_become_74 : decode cX2_become 74 = .ok (.invokestatic 41, 3) := dk_184 0 41 (dk_at dksX2_become_3 7 rfl rfl)
theorem dX2_become_77 : decode cX2_become 77 = .ok (.aload_n 0, 1) := dk_42 (dk_at dksX2_become_3 10 rfl rfl)
theorem dX2_become_78 : decode cX2_become 78 = .ok (.aload_n 1, 1) := dk_43 (dk_at dksX2_become_3 11 rfl rfl)
theorem dX2_become_79 : decode cX2_become 79 = .ok (.getfield 45, 3) := dk_180 0 45 (dk_at dksX2_become_3 12 rfl rfl)
theorem dX2_become_82 : decode cX2_become 82 = .ok (.putfield 45, 3) := dk_181 0 45 (dk_at dksX2_become_3 15 rfl rfl)
theorem dX2_become_85 : decode cX2_become 85 = .ok (.aload_n 0, 1) := dk_42 (dk_at dksX2_become_3 18 rfl rfl)
theorem dX2_become_86 : decode cX2_become 86 = .ok (.aload_n 1, 1) := dk_43 (dk_at dksX2_become_3 19 rfl rfl)
theorem dX2_become_87 : decode cX2_become 87 = .ok (.getfield 48, 3) := dk_180 0 48 (dk_at dksX2_become_3 20 rfl rfl)
theorem dX2_become_90 : decode cX2_become 90 = .ok (.putfield 48, 3) := dk_181 0 48 (dk_at dksX2_become_4 0 rfl rfl)
theorem dX2_become_93 : decode cX2_become 93 = .ok (.aload_n 0, 1) := dk_42 (dk_at dksX2_become_4 3 rfl rfl)
theorem dX2_become_94 : decode cX2_become 94 = .ok (.aload_n 1, 1) := dk_43 (dk_at dksX2_become_4 4 rfl rfl)
theorem dX2_become_95 : decode cX2_become 95 = .ok (.getfield 37, 3) := dk_180 0 37 (dk_at dksX2_become_4 5 rfl rfl)
theorem dX2_become_98 : decode cX2_become 98 = .ok (.putfield 37, 3) := dk_181 0 37 (dk_at dksX2_become_4 8 rfl rfl)
theorem dX2_become_101 : decode cX2_become 101 = .ok (.aload_n 0, 1) := dk_42 (dk_at dksX2_become_4 11 rfl rfl)
theorem dX2_become_102 : decode cX2_become 102 = .ok (.aload_n 1, 1) := dk_43 (dk_at dksX2_become_4 12 rfl rfl)
theorem dX2_become_103 : decode cX2_become 103 = .ok (.getfield 51, 3) := dk_180 0 51 (dk_at dksX2_become_4 13 rfl rfl)
theorem dX2_become_106 : decode cX2_become 106 = .ok (.putfield 51, 3) := dk_181 0 51 (dk_at dksX2_become_4 16 rfl rfl)
theorem dX2_become_109 : decode cX2_become 109 = .ok (.aload_n 0, 1) := dk_42 (dk_at dksX2_become_4 19 rfl rfl)
theorem dX2_become_110 : decode cX2_become 110 = .ok (.aload_n 1, 1) := dk_43 (dk_at dksX2_become_4 20 rfl rfl)
theorem dX2_become_111 : decode cX2_become 111 = .ok (.getfield 54, 3) := dk_180 0 54 (dk_at dksX2_become_4 21 rfl rfl)
theorem dX2_become_114 : decode cX2_become 114 = .ok (.putfield 54, 3) := dk_181 0 54 (dk_at dksX2_become_5 0 rfl rfl)
theorem dX2_become_117 : decode cX2_become 117 = .ok (.aload_n 0, 1) := dk_42 (dk_at dksX2_become_5 3 rfl rfl)
theorem dX2_become_118 : decode cX2_become 118 = .ok (.aload_n 1, 1) := dk_43 (dk_at dksX2_become_5 4 rfl rfl)
theorem dX2_become_119 : decode cX2_become 119 = .ok (.getfield 57, 3) := dk_180 0 57 (dk_at dksX2_become_5 5 rfl rfl)
theorem dX2_become_122 : decode cX2_become 122 = .ok (.putfield 57, 3) := dk_181 0 57 (dk_at dksX2_become_5 8 rfl rfl)
theorem dX2_become_125 : decode cX2_become 125 = .ok (.aload_n 0, 1) := dk_42 (dk_at dksX2_become_5 11 rfl rfl)
theorem dX2_become_126 : decode cX2_become 126 = .ok (.aload_n 1, 1) := dk_43 (dk_at dksX2_become_5 12 rfl rfl)
theorem dX2_become_127 : decode cX2_become 127 = .ok (.getfield 60, 3) := dk_180 0 60 (dk_at dksX2_become_5 13 rfl rfl)
theorem dX2_become_130 : decode cX2_become 130 = .ok (.putfield 60, 3) := dk_181 0 60 (dk_at dksX2_become_5 16 rfl rfl)
theorem dX2_become_133 : decode cX2_become 133 = .ok (.aload_n 0, 1) := dk_42 (dk_at dksX2_become_5 19 rfl rfl)
theorem dX2_become_134 : decode cX2_become 134 = .ok (.aload_n 1, 1) := dk_43 (dk_at dksX2_become_5 20 rfl rfl)
theorem dX2_become_135 : decode cX2_become 135 = .ok (.getfield 63, 3) := dk_180 0 63 (dk_at dksX2_become_5 21 rfl rfl)
theorem dX2_become_138 : decode cX2_become 138 = .ok (.putfield 63, 3) := dk_181 0 63 (dk_at dksX2_become_6 0 rfl rfl)
theorem dX2_become_141 : decode cX2_become 141 = .ok (.aload_n 0, 1) := dk_42 (dk_at dksX2_become_6 3 rfl rfl)
theorem dX2_become_142 : decode cX2_become 142 = .ok (.aload_n 1, 1) := dk_43 (dk_at dksX2_become_6 4 rfl rfl)
theorem dX2_become_143 : decode cX2_become 143 = .ok (.getfield 66, 3) := dk_180 0 66 (dk_at dksX2_become_6 5 rfl rfl)
theorem dX2_become_146 : decode cX2_become 146 = .ok (.putfield 66, 3) := dk_181 0 66 (dk_at dksX2_become_6 8 rfl rfl)
theorem dX2_become_149 : decode cX2_become 149 = .ok (.aload_n 0, 1) := dk_42 (dk_at dksX2_become_6 11 rfl rfl)
theorem dX2_become_150 : decode cX2_become 150 = .ok (.aload_n 1, 1) := dk_43 (dk_at dksX2_become_6 12 rfl rfl)
theorem dX2_become_151 : decode cX2_become 151 = .ok (.getfield 69, 3) := dk_180 0 69 (dk_at dksX2_become_6 13 rfl rfl)
theorem dX2_become_154 : decode cX2_become 154 = .ok (.putfield 69, 3) := dk_181 0 69 (dk_at dksX2_become_6 16 rfl rfl)
theorem dX2_become_157 : decode cX2_become 157 = .ok (.return_, 1) := dk_177 (dk_at dksX2_become_6 19 rfl rfl)
abbrev cX2_canFeed : ByteArray := prog_13_method_11_code
def yX2_canFeed : MethodName := ⟨RX2, "canFeed", "(III)Z"⟩
def dkwX2_canFeed_3 : List UInt8 := [167, 0, 4, 3, 172]
abbrev dktX2_canFeed_3 : List UInt8 := dkwX2_canFeed_3 ++ []
def dkwX2_canFeed_2 : List UInt8 := [27, 46, 42, 27, 182, 0, 110, 162, 0, 20, 42, 180, 0, 37, 42, 28, 29, 182, 0, 114, 161, 0, 7, 4]
abbrev dktX2_canFeed_2 : List UInt8 := dkwX2_canFeed_2 ++ dktX2_canFeed_3
def dkwX2_canFeed_1 : List UInt8 := [27, 46, 29, 2, 160, 0, 7, 4, 167, 0, 4, 5, 96, 16, 9, 164, 0, 5, 3, 172, 42, 180, 0, 22]
abbrev dktX2_canFeed_1 : List UInt8 := dkwX2_canFeed_1 ++ dktX2_canFeed_2
def dkwX2_canFeed_0 : List UInt8 := [42, 180, 0, 28, 27, 46, 157, 0, 36, 42, 180, 0, 48, 27, 184, 0, 106, 154, 0, 25, 42, 180, 0, 19]
abbrev dktX2_canFeed_0 : List UInt8 := dkwX2_canFeed_0 ++ dktX2_canFeed_1
theorem dksX2_canFeed_0 : cX2_canFeed.data.toList.drop 0 = dktX2_canFeed_0 := by decide +kernel
theorem dksX2_canFeed_1 : cX2_canFeed.data.toList.drop 24 = dktX2_canFeed_1 := dk_seg dksX2_canFeed_0 24 rfl rfl
theorem dksX2_canFeed_2 : cX2_canFeed.data.toList.drop 48 = dktX2_canFeed_2 := dk_seg dksX2_canFeed_1 24 rfl rfl
theorem dksX2_canFeed_3 : cX2_canFeed.data.toList.drop 72 = dktX2_canFeed_3 := dk_seg dksX2_canFeed_2 24 rfl rfl
theorem dX2_canFeed_0 : decode cX2_canFeed 0 = .ok (.aload_n 0, 1) := dk_42 (dk_at dksX2_canFeed_0 0 rfl rfl)
theorem dX2_canFeed_1 : decode cX2_canFeed 1 = .ok (.getfield 28, 3) := dk_180 0 28 (dk_at dksX2_canFeed_0 1 rfl rfl)
theorem dX2_canFeed_4 : decode cX2_canFeed 4 = .ok (.iload_n 1, 1) := dk_27 (dk_at dksX2_canFeed_0 4 rfl rfl)
theorem dX2_canFeed_5 : decode cX2_canFeed 5 = .ok (.iaload, 1) := dk_46 (dk_at dksX2_canFeed_0 5 rfl rfl)
theorem dX2_canFeed_6 : decode cX2_canFeed 6 = .ok (.ifCond .gt 36, 3) := dk_157 0 36 (dk_at dksX2_canFeed_0 6 rfl rfl)
theorem dX2_canFeed_9 : decode cX2_canFeed 9 = .ok (.aload_n 0, 1) := dk_42 (dk_at dksX2_canFeed_0 9 rfl rfl)
theorem dX2_canFeed_10 : decode cX2_canFeed 10 = .ok (.getfield 48, 3) := dk_180 0 48 (dk_at dksX2_canFeed_0 10 rfl rfl)
theorem dX2_canFeed_13 : decode cX2_canFeed 13 = .ok (.iload_n 1, 1) := dk_27 (dk_at dksX2_canFeed_0 13 rfl rfl)
theorem dX2_canFeed_14 : decode cX2_canFeed 14 = .ok (.invokestatic 106, 3) := dk_184 0 106 (dk_at dksX2_canFeed_0 14 rfl rfl)
theorem dX2_canFeed_17 : decode cX2_canFeed 17 = .ok (.ifCond .ne 25, 3) := dk_154 0 25 (dk_at dksX2_canFeed_0 17 rfl rfl)
theorem dX2_canFeed_20 : decode cX2_canFeed 20 = .ok (.aload_n 0, 1) := dk_42 (dk_at dksX2_canFeed_0 20 rfl rfl)
theorem dX2_canFeed_21 : decode cX2_canFeed 21 = .ok (.getfield 19, 3) := dk_180 0 19 (dk_at dksX2_canFeed_0 21 rfl rfl)
theorem dX2_canFeed_24 : decode cX2_canFeed 24 = .ok (.iload_n 1, 1) := dk_27 (dk_at dksX2_canFeed_1 0 rfl rfl)
theorem dX2_canFeed_25 : decode cX2_canFeed 25 = .ok (.iaload, 1) := dk_46 (dk_at dksX2_canFeed_1 1 rfl rfl)
theorem dX2_canFeed_26 : decode cX2_canFeed 26 = .ok (.iload_n 3, 1) := dk_29 (dk_at dksX2_canFeed_1 2 rfl rfl)
theorem dX2_canFeed_27 : decode cX2_canFeed 27 = .ok (.iconst (-1), 1) := dk_2 (dk_at dksX2_canFeed_1 3 rfl rfl)
theorem dX2_canFeed_28 : decode cX2_canFeed 28 = .ok (.if_icmp .ne 7, 3) := dk_160 0 7 (dk_at dksX2_canFeed_1 4 rfl rfl)
theorem dX2_canFeed_31 : decode cX2_canFeed 31 = .ok (.iconst 1, 1) := dk_4 (dk_at dksX2_canFeed_1 7 rfl rfl)
theorem dX2_canFeed_32 : decode cX2_canFeed 32 = .ok (.goto 4, 3) := dk_167 0 4 (dk_at dksX2_canFeed_1 8 rfl rfl)
theorem dX2_canFeed_35 : decode cX2_canFeed 35 = .ok (.iconst 2, 1) := dk_5 (dk_at dksX2_canFeed_1 11 rfl rfl)
theorem dX2_canFeed_36 : decode cX2_canFeed 36 = .ok (.iadd, 1) := dk_96 (dk_at dksX2_canFeed_1 12 rfl rfl)
theorem dX2_canFeed_37 : decode cX2_canFeed 37 = .ok (.bipush 9, 2) := dk_16 9 (dk_at dksX2_canFeed_1 13 rfl rfl)
theorem dX2_canFeed_39 : decode cX2_canFeed 39 = .ok (.if_icmp .le 5, 3) := dk_164 0 5 (dk_at dksX2_canFeed_1 15 rfl rfl)
theorem dX2_canFeed_42 : decode cX2_canFeed 42 = .ok (.iconst 0, 1) := dk_3 (dk_at dksX2_canFeed_1 18 rfl rfl)
theorem dX2_canFeed_43 : decode cX2_canFeed 43 = .ok (.ireturn, 1) := dk_172 (dk_at dksX2_canFeed_1 19 rfl rfl)
theorem dX2_canFeed_44 : decode cX2_canFeed 44 = .ok (.aload_n 0, 1) := dk_42 (dk_at dksX2_canFeed_1 20 rfl rfl)
theorem dX2_canFeed_45 : decode cX2_canFeed 45 = .ok (.getfield 22, 3) := dk_180 0 22 (dk_at dksX2_canFeed_1 21 rfl rfl)
theorem dX2_canFeed_48 : decode cX2_canFeed 48 = .ok (.iload_n 1, 1) := dk_27 (dk_at dksX2_canFeed_2 0 rfl rfl)
theorem dX2_canFeed_49 : decode cX2_canFeed 49 = .ok (.iaload, 1) := dk_46 (dk_at dksX2_canFeed_2 1 rfl rfl)
theorem dX2_canFeed_50 : decode cX2_canFeed 50 = .ok (.aload_n 0, 1) := dk_42 (dk_at dksX2_canFeed_2 2 rfl rfl)
theorem dX2_canFeed_51 : decode cX2_canFeed 51 = .ok (.iload_n 1, 1) := dk_27 (dk_at dksX2_canFeed_2 3 rfl rfl)
theorem dX2_canFeed_52 : decode cX2_canFeed 52 = .ok (.invokevirtual 110, 3) := dk_182 0 110 (dk_at dksX2_canFeed_2 4 rfl rfl)
theorem dX2_canFeed_55 : decode cX2_canFeed 55 = .ok (.if_icmp .ge 20, 3) := dk_162 0 20 (dk_at dksX2_canFeed_2 7 rfl rfl)
theorem dX2_canFeed_58 : decode cX2_canFeed 58 = .ok (.aload_n 0, 1) := dk_42 (dk_at dksX2_canFeed_2 10 rfl rfl)
theorem dX2_canFeed_59 : decode cX2_canFeed 59 = .ok (.getfield 37, 3) := dk_180 0 37 (dk_at dksX2_canFeed_2 11 rfl rfl)
theorem dX2_canFeed_62 : decode cX2_canFeed 62 = .ok (.aload_n 0, 1) := dk_42 (dk_at dksX2_canFeed_2 14 rfl rfl)
theorem dX2_canFeed_63 : decode cX2_canFeed 63 = .ok (.iload_n 2, 1) := dk_28 (dk_at dksX2_canFeed_2 15 rfl rfl)
theorem dX2_canFeed_64 : decode cX2_canFeed 64 = .ok (.iload_n 3, 1) := dk_29 (dk_at dksX2_canFeed_2 16 rfl rfl)
theorem dX2_canFeed_65 : decode cX2_canFeed 65 = .ok (.invokevirtual 114, 3) := dk_182 0 114 (dk_at dksX2_canFeed_2 17 rfl rfl)
theorem dX2_canFeed_68 : decode cX2_canFeed 68 = .ok (.if_icmp .lt 7, 3) := dk_161 0 7 (dk_at dksX2_canFeed_2 20 rfl rfl)
theorem dX2_canFeed_71 : decode cX2_canFeed 71 = .ok (.iconst 1, 1) := dk_4 (dk_at dksX2_canFeed_2 23 rfl rfl)
theorem dX2_canFeed_72 : decode cX2_canFeed 72 = .ok (.goto 4, 3) := dk_167 0 4 (dk_at dksX2_canFeed_3 0 rfl rfl)
theorem dX2_canFeed_75 : decode cX2_canFeed 75 = .ok (.iconst 0, 1) := dk_3 (dk_at dksX2_canFeed_3 3 rfl rfl)
theorem dX2_canFeed_76 : decode cX2_canFeed 76 = .ok (.ireturn, 1) := dk_172 (dk_at dksX2_canFeed_3 4 rfl rfl)
abbrev cX2_eatsOf : ByteArray := prog_13_method_7_code
def yX2_eatsOf : MethodName := ⟨RX2, "eatsOf", "(I)I"⟩
def dkwX2_eatsOf_0 : List UInt8 := [42, 27, 3, 3, 182, 0, 88, 42, 180, 0, 3, 3, 6, 6, 182, 0, 92, 172]
abbrev dktX2_eatsOf_0 : List UInt8 := dkwX2_eatsOf_0 ++ []
theorem dksX2_eatsOf_0 : cX2_eatsOf.data.toList.drop 0 = dktX2_eatsOf_0 := by decide +kernel
theorem dX2_eatsOf_0 : decode cX2_eatsOf 0 = .ok (.aload_n 0, 1) := dk_42 (dk_at dksX2_eatsOf_0 0 rfl rfl)
theorem dX2_eatsOf_1 : decode cX2_eatsOf 1 = .ok (.iload_n 1, 1) := dk_27 (dk_at dksX2_eatsOf_0 1 rfl rfl)
theorem dX2_eatsOf_2 : decode cX2_eatsOf 2 = .ok (.iconst 0, 1) := dk_3 (dk_at dksX2_eatsOf_0 2 rfl rfl)
theorem dX2_eatsOf_3 : decode cX2_eatsOf 3 = .ok (.iconst 0, 1) := dk_3 (dk_at dksX2_eatsOf_0 3 rfl rfl)
theorem dX2_eatsOf_4 : decode cX2_eatsOf 4 = .ok (.invokevirtual 88, 3) := dk_182 0 88 (dk_at dksX2_eatsOf_0 4 rfl rfl)
theorem dX2_eatsOf_7 : decode cX2_eatsOf 7 = .ok (.aload_n 0, 1) := dk_42 (dk_at dksX2_eatsOf_0 7 rfl rfl)
theorem dX2_eatsOf_8 : decode cX2_eatsOf 8 = .ok (.getfield 3, 3) := dk_180 0 3 (dk_at dksX2_eatsOf_0 8 rfl rfl)
theorem dX2_eatsOf_11 : decode cX2_eatsOf 11 = .ok (.iconst 0, 1) := dk_3 (dk_at dksX2_eatsOf_0 11 rfl rfl)
theorem dX2_eatsOf_12 : decode cX2_eatsOf 12 = .ok (.iconst 3, 1) := dk_6 (dk_at dksX2_eatsOf_0 12 rfl rfl)
theorem dX2_eatsOf_13 : decode cX2_eatsOf 13 = .ok (.iconst 3, 1) := dk_6 (dk_at dksX2_eatsOf_0 13 rfl rfl)
theorem dX2_eatsOf_14 : decode cX2_eatsOf 14 = .ok (.invokevirtual 92, 3) := dk_182 0 92 (dk_at dksX2_eatsOf_0 14 rfl rfl)
theorem dX2_eatsOf_17 : decode cX2_eatsOf 17 = .ok (.ireturn, 1) := dk_172 (dk_at dksX2_eatsOf_0 17 rfl rfl)
abbrev cX2_asks : ByteArray := prog_13_method_6_code
def yX2_asks : MethodName := ⟨RX2, "asks", "(III)V"⟩
def dkwX2_asks_6 : List UInt8 := [177]
abbrev dktX2_asks_6 : List UInt8 := dkwX2_asks_6 ++ []
def dkwX2_asks_5 : List UInt8 := [180, 0, 3, 180, 0, 82, 16, 8, 29, 79, 42, 180, 0, 3, 180, 0, 82, 16, 9, 42, 180, 0, 54, 79]
abbrev dktX2_asks_5 : List UInt8 := dkwX2_asks_5 ++ dktX2_asks_6
def dkwX2_asks_4 : List UInt8 := [180, 0, 82, 16, 6, 42, 180, 0, 37, 79, 42, 180, 0, 3, 180, 0, 82, 16, 7, 28, 79, 42]
abbrev dktX2_asks_4 : List UInt8 := dkwX2_asks_4 ++ dktX2_asks_5
def dkwX2_asks_3 : List UInt8 := [180, 0, 31, 27, 46, 79, 42, 180, 0, 3, 180, 0, 82, 8, 42, 180, 0, 51, 79, 42, 180, 0, 3]
abbrev dktX2_asks_3 : List UInt8 := dkwX2_asks_3 ++ dktX2_asks_4
def dkwX2_asks_2 : List UInt8 := [180, 0, 3, 180, 0, 82, 6, 42, 180, 0, 19, 27, 46, 79, 42, 180, 0, 3, 180, 0, 82, 7, 42]
abbrev dktX2_asks_2 : List UInt8 := dkwX2_asks_2 ++ dktX2_asks_3
def dkwX2_asks_1 : List UInt8 := [180, 0, 85, 27, 46, 79, 42, 180, 0, 3, 180, 0, 82, 5, 42, 180, 0, 15, 27, 46, 79, 42]
abbrev dktX2_asks_1 : List UInt8 := dkwX2_asks_1 ++ dktX2_asks_2
def dkwX2_asks_0 : List UInt8 := [42, 180, 0, 3, 180, 0, 82, 3, 27, 79, 42, 180, 0, 3, 180, 0, 82, 4, 42, 180, 0, 3]
abbrev dktX2_asks_0 : List UInt8 := dkwX2_asks_0 ++ dktX2_asks_1
theorem dksX2_asks_0 : cX2_asks.data.toList.drop 0 = dktX2_asks_0 := by decide +kernel
theorem dksX2_asks_1 : cX2_asks.data.toList.drop 22 = dktX2_asks_1 := dk_seg dksX2_asks_0 22 rfl rfl
theorem dksX2_asks_2 : cX2_asks.data.toList.drop 44 = dktX2_asks_2 := dk_seg dksX2_asks_1 22 rfl rfl
theorem dksX2_asks_3 : cX2_asks.data.toList.drop 67 = dktX2_asks_3 := dk_seg dksX2_asks_2 23 rfl rfl
theorem dksX2_asks_4 : cX2_asks.data.toList.drop 90 = dktX2_asks_4 := dk_seg dksX2_asks_3 23 rfl rfl
theorem dksX2_asks_5 : cX2_asks.data.toList.drop 112 = dktX2_asks_5 := dk_seg dksX2_asks_4 22 rfl rfl
theorem dksX2_asks_6 : cX2_asks.data.toList.drop 136 = dktX2_asks_6 := dk_seg dksX2_asks_5 24 rfl rfl
theorem dX2_asks_0 : decode cX2_asks 0 = .ok (.aload_n 0, 1) := dk_42 (dk_at dksX2_asks_0 0 rfl rfl)
theorem dX2_asks_1 : decode cX2_asks 1 = .ok (.getfield 3, 3) := dk_180 0 3 (dk_at dksX2_asks_0 1 rfl rfl)
theorem dX2_asks_4 : decode cX2_asks 4 = .ok (.getfield 82, 3) := dk_180 0 82 (dk_at dksX2_asks_0 4 rfl rfl)
theorem dX2_asks_7 : decode cX2_asks 7 = .ok (.iconst 0, 1) := dk_3 (dk_at dksX2_asks_0 7 rfl rfl)
theorem dX2_asks_8 : decode cX2_asks 8 = .ok (.iload_n 1, 1) := dk_27 (dk_at dksX2_asks_0 8 rfl rfl)
theorem dX2_asks_9 : decode cX2_asks 9 = .ok (.iastore, 1) := dk_79 (dk_at dksX2_asks_0 9 rfl rfl)
theorem dX2_asks_10 : decode cX2_asks 10 = .ok (.aload_n 0, 1) := dk_42 (dk_at dksX2_asks_0 10 rfl rfl)
theorem dX2_asks_11 : decode cX2_asks 11 = .ok (.getfield 3, 3) := dk_180 0 3 (dk_at dksX2_asks_0 11 rfl rfl)
theorem dX2_asks_14 : decode cX2_asks 14 = .ok (.getfield 82, 3) := dk_180 0 82 (dk_at dksX2_asks_0 14 rfl rfl)
theorem dX2_asks_17 : decode cX2_asks 17 = .ok (.iconst 1, 1) := dk_4 (dk_at dksX2_asks_0 17 rfl rfl)
theorem dX2_asks_18 : decode cX2_asks 18 = .ok (.aload_n 0, 1) := dk_42 (dk_at dksX2_asks_0 18 rfl rfl)
theorem dX2_asks_19 : decode cX2_asks 19 = .ok (.getfield 3, 3) := dk_180 0 3 (dk_at dksX2_asks_0 19 rfl rfl)
theorem dX2_asks_22 : decode cX2_asks 22 = .ok (.getfield 85, 3) := dk_180 0 85 (dk_at dksX2_asks_1 0 rfl rfl)
theorem dX2_asks_25 : decode cX2_asks 25 = .ok (.iload_n 1, 1) := dk_27 (dk_at dksX2_asks_1 3 rfl rfl)
theorem dX2_asks_26 : decode cX2_asks 26 = .ok (.iaload, 1) := dk_46 (dk_at dksX2_asks_1 4 rfl rfl)
theorem dX2_asks_27 : decode cX2_asks 27 = .ok (.iastore, 1) := dk_79 (dk_at dksX2_asks_1 5 rfl rfl)
theorem dX2_asks_28 : decode cX2_asks 28 = .ok (.aload_n 0, 1) := dk_42 (dk_at dksX2_asks_1 6 rfl rfl)
theorem dX2_asks_29 : decode cX2_asks 29 = .ok (.getfield 3, 3) := dk_180 0 3 (dk_at dksX2_asks_1 7 rfl rfl)
theorem dX2_asks_32 : decode cX2_asks 32 = .ok (.getfield 82, 3) := dk_180 0 82 (dk_at dksX2_asks_1 10 rfl rfl)
theorem dX2_asks_35 : decode cX2_asks 35 = .ok (.iconst 2, 1) := dk_5 (dk_at dksX2_asks_1 13 rfl rfl)
theorem dX2_asks_36 : decode cX2_asks 36 = .ok (.aload_n 0, 1) := dk_42 (dk_at dksX2_asks_1 14 rfl rfl)
theorem dX2_asks_37 : decode cX2_asks 37 = .ok (.getfield 15, 3) := dk_180 0 15 (dk_at dksX2_asks_1 15 rfl rfl)
theorem dX2_asks_40 : decode cX2_asks 40 = .ok (.iload_n 1, 1) := dk_27 (dk_at dksX2_asks_1 18 rfl rfl)
theorem dX2_asks_41 : decode cX2_asks 41 = .ok (.iaload, 1) := dk_46 (dk_at dksX2_asks_1 19 rfl rfl)
theorem dX2_asks_42 : decode cX2_asks 42 = .ok (.iastore, 1) := dk_79 (dk_at dksX2_asks_1 20 rfl rfl)
theorem dX2_asks_43 : decode cX2_asks 43 = .ok (.aload_n 0, 1) := dk_42 (dk_at dksX2_asks_1 21 rfl rfl)
theorem dX2_asks_44 : decode cX2_asks 44 = .ok (.getfield 3, 3) := dk_180 0 3 (dk_at dksX2_asks_2 0 rfl rfl)
theorem dX2_asks_47 : decode cX2_asks 47 = .ok (.getfield 82, 3) := dk_180 0 82 (dk_at dksX2_asks_2 3 rfl rfl)
theorem dX2_asks_50 : decode cX2_asks 50 = .ok (.iconst 3, 1) := dk_6 (dk_at dksX2_asks_2 6 rfl rfl)
theorem dX2_asks_51 : decode cX2_asks 51 = .ok (.aload_n 0, 1) := dk_42 (dk_at dksX2_asks_2 7 rfl rfl)
theorem dX2_asks_52 : decode cX2_asks 52 = .ok (.getfield 19, 3) := dk_180 0 19 (dk_at dksX2_asks_2 8 rfl rfl)
theorem dX2_asks_55 : decode cX2_asks 55 = .ok (.iload_n 1, 1) := dk_27 (dk_at dksX2_asks_2 11 rfl rfl)
theorem dX2_asks_56 : decode cX2_asks 56 = .ok (.iaload, 1) := dk_46 (dk_at dksX2_asks_2 12 rfl rfl)
theorem dX2_asks_57 : decode cX2_asks 57 = .ok (.iastore, 1) := dk_79 (dk_at dksX2_asks_2 13 rfl rfl)
theorem dX2_asks_58 : decode cX2_asks 58 = .ok (.aload_n 0, 1) := dk_42 (dk_at dksX2_asks_2 14 rfl rfl)
theorem dX2_asks_59 : decode cX2_asks 59 = .ok (.getfield 3, 3) := dk_180 0 3 (dk_at dksX2_asks_2 15 rfl rfl)
theorem dX2_asks_62 : decode cX2_asks 62 = .ok (.getfield 82, 3) := dk_180 0 82 (dk_at dksX2_asks_2 18 rfl rfl)
theorem dX2_asks_65 : decode cX2_asks 65 = .ok (.iconst 4, 1) := dk_7 (dk_at dksX2_asks_2 21 rfl rfl)
theorem dX2_asks_66 : decode cX2_asks 66 = .ok (.aload_n 0, 1) := dk_42 (dk_at dksX2_asks_2 22 rfl rfl)
theorem dX2_asks_67 : decode cX2_asks 67 = .ok (.getfield 31, 3) := dk_180 0 31 (dk_at dksX2_asks_3 0 rfl rfl)
theorem dX2_asks_70 : decode cX2_asks 70 = .ok (.iload_n 1, 1) := dk_27 (dk_at dksX2_asks_3 3 rfl rfl)
theorem dX2_asks_71 : decode cX2_asks 71 = .ok (.iaload, 1) := dk_46 (dk_at dksX2_asks_3 4 rfl rfl)
theorem dX2_asks_72 : decode cX2_asks 72 = .ok (.iastore, 1) := dk_79 (dk_at dksX2_asks_3 5 rfl rfl)
theorem dX2_asks_73 : decode cX2_asks 73 = .ok (.aload_n 0, 1) := dk_42 (dk_at dksX2_asks_3 6 rfl rfl)
theorem dX2_asks_74 : decode cX2_asks 74 = .ok (.getfield 3, 3) := dk_180 0 3 (dk_at dksX2_asks_3 7 rfl rfl)
theorem dX2_asks_77 : decode cX2_asks 77 = .ok (.getfield 82, 3) := dk_180 0 82 (dk_at dksX2_asks_3 10 rfl rfl)
theorem dX2_asks_80 : decode cX2_asks 80 = .ok (.iconst 5, 1) := dk_8 (dk_at dksX2_asks_3 13 rfl rfl)
theorem dX2_asks_81 : decode cX2_asks 81 = .ok (.aload_n 0, 1) := dk_42 (dk_at dksX2_asks_3 14 rfl rfl)
theorem dX2_asks_82 : decode cX2_asks 82 = .ok (.getfield 51, 3) := dk_180 0 51 (dk_at dksX2_asks_3 15 rfl rfl)
theorem dX2_asks_85 : decode cX2_asks 85 = .ok (.iastore, 1) := dk_79 (dk_at dksX2_asks_3 18 rfl rfl)
theorem dX2_asks_86 : decode cX2_asks 86 = .ok (.aload_n 0, 1) := dk_42 (dk_at dksX2_asks_3 19 rfl rfl)
theorem dX2_asks_87 : decode cX2_asks 87 = .ok (.getfield 3, 3) := dk_180 0 3 (dk_at dksX2_asks_3 20 rfl rfl)
theorem dX2_asks_90 : decode cX2_asks 90 = .ok (.getfield 82, 3) := dk_180 0 82 (dk_at dksX2_asks_4 0 rfl rfl)
theorem dX2_asks_93 : decode cX2_asks 93 = .ok (.bipush 6, 2) := dk_16 6 (dk_at dksX2_asks_4 3 rfl rfl)
theorem dX2_asks_95 : decode cX2_asks 95 = .ok (.aload_n 0, 1) := dk_42 (dk_at dksX2_asks_4 5 rfl rfl)
theorem dX2_asks_96 : decode cX2_asks 96 = .ok (.getfield 37, 3) := dk_180 0 37 (dk_at dksX2_asks_4 6 rfl rfl)
theorem dX2_asks_99 : decode cX2_asks 99 = .ok (.iastore, 1) := dk_79 (dk_at dksX2_asks_4 9 rfl rfl)
theorem dX2_asks_100 : decode cX2_asks 100 = .ok (.aload_n 0, 1) := dk_42 (dk_at dksX2_asks_4 10 rfl rfl)
theorem dX2_asks_101 : decode cX2_asks 101 = .ok (.getfield 3, 3) := dk_180 0 3 (dk_at dksX2_asks_4 11 rfl rfl)
theorem dX2_asks_104 : decode cX2_asks 104 = .ok (.getfield 82, 3) := dk_180 0 82 (dk_at dksX2_asks_4 14 rfl rfl)
theorem dX2_asks_107 : decode cX2_asks 107 = .ok (.bipush 7, 2) := dk_16 7 (dk_at dksX2_asks_4 17 rfl rfl)
theorem dX2_asks_109 : decode cX2_asks 109 = .ok (.iload_n 2, 1) := dk_28 (dk_at dksX2_asks_4 19 rfl rfl)
theorem dX2_asks_110 : decode cX2_asks 110 = .ok (.iastore, 1) := dk_79 (dk_at dksX2_asks_4 20 rfl rfl)
theorem dX2_asks_111 : decode cX2_asks 111 = .ok (.aload_n 0, 1) := dk_42 (dk_at dksX2_asks_4 21 rfl rfl)
theorem dX2_asks_112 : decode cX2_asks 112 = .ok (.getfield 3, 3) := dk_180 0 3 (dk_at dksX2_asks_5 0 rfl rfl)
theorem dX2_asks_115 : decode cX2_asks 115 = .ok (.getfield 82, 3) := dk_180 0 82 (dk_at dksX2_asks_5 3 rfl rfl)
theorem dX2_asks_118 : decode cX2_asks 118 = .ok (.bipush 8, 2) := dk_16 8 (dk_at dksX2_asks_5 6 rfl rfl)
theorem dX2_asks_120 : decode cX2_asks 120 = .ok (.iload_n 3, 1) := dk_29 (dk_at dksX2_asks_5 8 rfl rfl)
theorem dX2_asks_121 : decode cX2_asks 121 = .ok (.iastore, 1) := dk_79 (dk_at dksX2_asks_5 9 rfl rfl)
theorem dX2_asks_122 : decode cX2_asks 122 = .ok (.aload_n 0, 1) := dk_42 (dk_at dksX2_asks_5 10 rfl rfl)
theorem dX2_asks_123 : decode cX2_asks 123 = .ok (.getfield 3, 3) := dk_180 0 3 (dk_at dksX2_asks_5 11 rfl rfl)
theorem dX2_asks_126 : decode cX2_asks 126 = .ok (.getfield 82, 3) := dk_180 0 82 (dk_at dksX2_asks_5 14 rfl rfl)
theorem dX2_asks_129 : decode cX2_asks 129 = .ok (.bipush 9, 2) := dk_16 9 (dk_at dksX2_asks_5 17 rfl rfl)
theorem dX2_asks_131 : decode cX2_asks 131 = .ok (.aload_n 0, 1) := dk_42 (dk_at dksX2_asks_5 19 rfl rfl)
theorem dX2_asks_132 : decode cX2_asks 132 = .ok (.getfield 54, 3) := dk_180 0 54 (dk_at dksX2_asks_5 20 rfl rfl)
theorem dX2_asks_135 : decode cX2_asks 135 = .ok (.iastore, 1) := dk_79 (dk_at dksX2_asks_5 23 rfl rfl)
theorem dX2_asks_136 : decode cX2_asks 136 = .ok (.return_, 1) := dk_177 (dk_at dksX2_asks_6 0 rfl rfl)
abbrev cX2_leafOf : ByteArray := prog_13_method_10_code
def yX2_leafOf : MethodName := ⟨RX2, "leafOf", "(II)I"⟩
def dkwX2_leafOf_1 : List UInt8 := [180, 0, 3, 180, 0, 96, 28, 50, 182, 0, 100, 96, 172]
abbrev dktX2_leafOf_1 : List UInt8 := dkwX2_leafOf_1 ++ []
def dkwX2_leafOf_0 : List UInt8 := [42, 180, 0, 3, 180, 0, 96, 27, 50, 182, 0, 100, 28, 2, 160, 0, 7, 3, 167, 0, 15, 42]
abbrev dktX2_leafOf_0 : List UInt8 := dkwX2_leafOf_0 ++ dktX2_leafOf_1
theorem dksX2_leafOf_0 : cX2_leafOf.data.toList.drop 0 = dktX2_leafOf_0 := by decide +kernel
theorem dksX2_leafOf_1 : cX2_leafOf.data.toList.drop 22 = dktX2_leafOf_1 := dk_seg dksX2_leafOf_0 22 rfl rfl
theorem dX2_leafOf_0 : decode cX2_leafOf 0 = .ok (.aload_n 0, 1) := dk_42 (dk_at dksX2_leafOf_0 0 rfl rfl)
theorem dX2_leafOf_1 : decode cX2_leafOf 1 = .ok (.getfield 3, 3) := dk_180 0 3 (dk_at dksX2_leafOf_0 1 rfl rfl)
theorem dX2_leafOf_4 : decode cX2_leafOf 4 = .ok (.getfield 96, 3) := dk_180 0 96 (dk_at dksX2_leafOf_0 4 rfl rfl)
theorem dX2_leafOf_7 : decode cX2_leafOf 7 = .ok (.iload_n 1, 1) := dk_27 (dk_at dksX2_leafOf_0 7 rfl rfl)
theorem dX2_leafOf_8 : decode cX2_leafOf 8 = .ok (.aaload, 1) := dk_50 (dk_at dksX2_leafOf_0 8 rfl rfl)
theorem dX2_leafOf_9 : decode cX2_leafOf 9 = .ok (.invokevirtual 100, 3) := dk_182 0 100 (dk_at dksX2_leafOf_0 9 rfl rfl)
theorem dX2_leafOf_12 : decode cX2_leafOf 12 = .ok (.iload_n 2, 1) := dk_28 (dk_at dksX2_leafOf_0 12 rfl rfl)
theorem dX2_leafOf_13 : decode cX2_leafOf 13 = .ok (.iconst (-1), 1) := dk_2 (dk_at dksX2_leafOf_0 13 rfl rfl)
theorem dX2_leafOf_14 : decode cX2_leafOf 14 = .ok (.if_icmp .ne 7, 3) := dk_160 0 7 (dk_at dksX2_leafOf_0 14 rfl rfl)
theorem dX2_leafOf_17 : decode cX2_leafOf 17 = .ok (.iconst 0, 1) := dk_3 (dk_at dksX2_leafOf_0 17 rfl rfl)
theorem dX2_leafOf_18 : decode cX2_leafOf 18 = .ok (.goto 15, 3) := dk_167 0 15 (dk_at dksX2_leafOf_0 18 rfl rfl)
theorem dX2_leafOf_21 : decode cX2_leafOf 21 = .ok (.aload_n 0, 1) := dk_42 (dk_at dksX2_leafOf_0 21 rfl rfl)
theorem dX2_leafOf_22 : decode cX2_leafOf 22 = .ok (.getfield 3, 3) := dk_180 0 3 (dk_at dksX2_leafOf_1 0 rfl rfl)
theorem dX2_leafOf_25 : decode cX2_leafOf 25 = .ok (.getfield 96, 3) := dk_180 0 96 (dk_at dksX2_leafOf_1 3 rfl rfl)
theorem dX2_leafOf_28 : decode cX2_leafOf 28 = .ok (.iload_n 2, 1) := dk_28 (dk_at dksX2_leafOf_1 6 rfl rfl)
theorem dX2_leafOf_29 : decode cX2_leafOf 29 = .ok (.aaload, 1) := dk_50 (dk_at dksX2_leafOf_1 7 rfl rfl)
theorem dX2_leafOf_30 : decode cX2_leafOf 30 = .ok (.invokevirtual 100, 3) := dk_182 0 100 (dk_at dksX2_leafOf_1 8 rfl rfl)
theorem dX2_leafOf_33 : decode cX2_leafOf 33 = .ok (.iadd, 1) := dk_96 (dk_at dksX2_leafOf_1 11 rfl rfl)
theorem dX2_leafOf_34 : decode cX2_leafOf 34 = .ok (.ireturn, 1) := dk_172 (dk_at dksX2_leafOf_1 12 rfl rfl)
abbrev cX2_feeds : ByteArray := prog_13_method_13_code
def yX2_feeds : MethodName := ⟨RX2, "feeds", "(III)I"⟩
def dkwX2_feeds_6 : List UInt8 := [160, 0, 8, 42, 27, 182, 0, 143, 21, 4, 172]
abbrev dktX2_feeds_6 : List UInt8 := dkwX2_feeds_6 ++ []
def dkwX2_feeds_5 : List UInt8 := [160, 0, 7, 28, 167, 0, 9, 16, 10, 28, 104, 29, 96, 182, 0, 140, 42, 180, 0, 19, 27, 46, 16, 9]
abbrev dktX2_feeds_5 : List UInt8 := dkwX2_feeds_5 ++ dktX2_feeds_6
def dkwX2_feeds_4 : List UInt8 := [27, 182, 0, 132, 96, 184, 0, 135, 79, 42, 29, 2, 160, 0, 7, 3, 167, 0, 4, 4, 27, 29, 2]
abbrev dktX2_feeds_4 : List UInt8 := dkwX2_feeds_4 ++ dktX2_feeds_5
def dkwX2_feeds_3 : List UInt8 := [29, 182, 0, 124, 182, 0, 128, 54, 4, 42, 180, 0, 25, 27, 17, 3, 231, 42, 180, 0, 25, 27, 46, 42]
abbrev dktX2_feeds_3 : List UInt8 := dkwX2_feeds_3 ++ dktX2_feeds_4
def dkwX2_feeds_2 : List UInt8 := [180, 0, 57, 29, 2, 160, 0, 7, 3, 167, 0, 4, 4, 96, 181, 0, 57, 42, 27, 42, 180, 0, 3, 28]
abbrev dktX2_feeds_2 : List UInt8 := dkwX2_feeds_2 ++ dktX2_feeds_3
def dkwX2_feeds_1 : List UInt8 := [160, 0, 7, 4, 167, 0, 4, 5, 96, 79, 42, 180, 0, 22, 27, 92, 46, 4, 96, 79, 42, 89]
abbrev dktX2_feeds_1 : List UInt8 := dkwX2_feeds_1 ++ dktX2_feeds_2
def dkwX2_feeds_0 : List UInt8 := [42, 89, 180, 0, 37, 42, 28, 29, 182, 0, 114, 100, 181, 0, 37, 42, 180, 0, 19, 27, 92, 46, 29, 2]
abbrev dktX2_feeds_0 : List UInt8 := dkwX2_feeds_0 ++ dktX2_feeds_1
theorem dksX2_feeds_0 : cX2_feeds.data.toList.drop 0 = dktX2_feeds_0 := by decide +kernel
theorem dksX2_feeds_1 : cX2_feeds.data.toList.drop 24 = dktX2_feeds_1 := dk_seg dksX2_feeds_0 24 rfl rfl
theorem dksX2_feeds_2 : cX2_feeds.data.toList.drop 46 = dktX2_feeds_2 := dk_seg dksX2_feeds_1 22 rfl rfl
theorem dksX2_feeds_3 : cX2_feeds.data.toList.drop 70 = dktX2_feeds_3 := dk_seg dksX2_feeds_2 24 rfl rfl
theorem dksX2_feeds_4 : cX2_feeds.data.toList.drop 94 = dktX2_feeds_4 := dk_seg dksX2_feeds_3 24 rfl rfl
theorem dksX2_feeds_5 : cX2_feeds.data.toList.drop 117 = dktX2_feeds_5 := dk_seg dksX2_feeds_4 23 rfl rfl
theorem dksX2_feeds_6 : cX2_feeds.data.toList.drop 141 = dktX2_feeds_6 := dk_seg dksX2_feeds_5 24 rfl rfl
theorem dX2_feeds_0 : decode cX2_feeds 0 = .ok (.aload_n 0, 1) := dk_42 (dk_at dksX2_feeds_0 0 rfl rfl)
theorem dX2_feeds_1 : decode cX2_feeds 1 = .ok (.dup, 1) := dk_89 (dk_at dksX2_feeds_0 1 rfl rfl)
theorem dX2_feeds_2 : decode cX2_feeds 2 = .ok (.getfield 37, 3) := dk_180 0 37 (dk_at dksX2_feeds_0 2 rfl rfl)
theorem dX2_feeds_5 : decode cX2_feeds 5 = .ok (.aload_n 0, 1) := dk_42 (dk_at dksX2_feeds_0 5 rfl rfl)
theorem dX2_feeds_6 : decode cX2_feeds 6 = .ok (.iload_n 2, 1) := dk_28 (dk_at dksX2_feeds_0 6 rfl rfl)
theorem dX2_feeds_7 : decode cX2_feeds 7 = .ok (.iload_n 3, 1) := dk_29 (dk_at dksX2_feeds_0 7 rfl rfl)
theorem dX2_feeds_8 : decode cX2_feeds 8 = .ok (.invokevirtual 114, 3) := dk_182 0 114 (dk_at dksX2_feeds_0 8 rfl rfl)
theorem dX2_feeds_11 : decode cX2_feeds 11 = .ok (.isub, 1) := dk_100 (dk_at dksX2_feeds_0 11 rfl rfl)
theorem dX2_feeds_12 : decode cX2_feeds 12 = .ok (.putfield 37, 3) := dk_181 0 37 (dk_at dksX2_feeds_0 12 rfl rfl)
theorem dX2_feeds_15 : decode cX2_feeds 15 = .ok (.aload_n 0, 1) := dk_42 (dk_at dksX2_feeds_0 15 rfl rfl)
theorem dX2_feeds_16 : decode cX2_feeds 16 = .ok (.getfield 19, 3) := dk_180 0 19 (dk_at dksX2_feeds_0 16 rfl rfl)
theorem dX2_feeds_19 : decode cX2_feeds 19 = .ok (.iload_n 1, 1) := dk_27 (dk_at dksX2_feeds_0 19 rfl rfl)
theorem dX2_feeds_20 : decode cX2_feeds 20 = .ok (.dup2, 1) := dk_92 (dk_at dksX2_feeds_0 20 rfl rfl)
theorem dX2_feeds_21 : decode cX2_feeds 21 = .ok (.iaload, 1) := dk_46 (dk_at dksX2_feeds_0 21 rfl rfl)
theorem dX2_feeds_22 : decode cX2_feeds 22 = .ok (.iload_n 3, 1) := dk_29 (dk_at dksX2_feeds_0 22 rfl rfl)
theorem dX2_feeds_23 : decode cX2_feeds 23 = .ok (.iconst (-1), 1) := dk_2 (dk_at dksX2_feeds_0 23 rfl rfl)
theorem dX2_feeds_24 : decode cX2_feeds 24 = .ok (.if_icmp .ne 7, 3) := dk_160 0 7 (dk_at dksX2_feeds_1 0 rfl rfl)
theorem dX2_feeds_27 : decode cX2_feeds 27 = .ok (.iconst 1, 1) := dk_4 (dk_at dksX2_feeds_1 3 rfl rfl)
theorem dX2_feeds_28 : decode cX2_feeds 28 = .ok (.goto 4, 3) := dk_167 0 4 (dk_at dksX2_feeds_1 4 rfl rfl)
theorem dX2_feeds_31 : decode cX2_feeds 31 = .ok (.iconst 2, 1) := dk_5 (dk_at dksX2_feeds_1 7 rfl rfl)
theorem dX2_feeds_32 : decode cX2_feeds 32 = .ok (.iadd, 1) := dk_96 (dk_at dksX2_feeds_1 8 rfl rfl)
theorem dX2_feeds_33 : decode cX2_feeds 33 = .ok (.iastore, 1) := dk_79 (dk_at dksX2_feeds_1 9 rfl rfl)
theorem dX2_feeds_34 : decode cX2_feeds 34 = .ok (.aload_n 0, 1) := dk_42 (dk_at dksX2_feeds_1 10 rfl rfl)
theorem dX2_feeds_35 : decode cX2_feeds 35 = .ok (.getfield 22, 3) := dk_180 0 22 (dk_at dksX2_feeds_1 11 rfl rfl)
theorem dX2_feeds_38 : decode cX2_feeds 38 = .ok (.iload_n 1, 1) := dk_27 (dk_at dksX2_feeds_1 14 rfl rfl)
theorem dX2_feeds_39 : decode cX2_feeds 39 = .ok (.dup2, 1) := dk_92 (dk_at dksX2_feeds_1 15 rfl rfl)
theorem dX2_feeds_40 : decode cX2_feeds 40 = .ok (.iaload, 1) := dk_46 (dk_at dksX2_feeds_1 16 rfl rfl)
theorem dX2_feeds_41 : decode cX2_feeds 41 = .ok (.iconst 1, 1) := dk_4 (dk_at dksX2_feeds_1 17 rfl rfl)
theorem dX2_feeds_42 : decode cX2_feeds 42 = .ok (.iadd, 1) := dk_96 (dk_at dksX2_feeds_1 18 rfl rfl)
theorem dX2_feeds_43 : decode cX2_feeds 43 = .ok (.iastore, 1) := dk_79 (dk_at dksX2_feeds_1 19 rfl rfl)
theorem dX2_feeds_44 : decode cX2_feeds 44 = .ok (.aload_n 0, 1) := dk_42 (dk_at dksX2_feeds_1 20 rfl rfl)
theorem dX2_feeds_45 : decode cX2_feeds 45 = .ok (.dup, 1) := dk_89 (dk_at dksX2_feeds_1 21 rfl rfl)
theorem dX2_feeds_46 : decode cX2_feeds 46 = .ok (.getfield 57, 3) := dk_180 0 57 (dk_at dksX2_feeds_2 0 rfl rfl)
theorem dX2_feeds_49 : decode cX2_feeds 49 = .ok (.iload_n 3, 1) := dk_29 (dk_at dksX2_feeds_2 3 rfl rfl)
theorem dX2_feeds_50 : decode cX2_feeds 50 = .ok (.iconst (-1), 1) := dk_2 (dk_at dksX2_feeds_2 4 rfl rfl)
theorem dX2_feeds_51 : decode cX2_feeds 51 = .ok (.if_icmp .ne 7, 3) := dk_160 0 7 (dk_at dksX2_feeds_2 5 rfl rfl)
theorem dX2_feeds_54 : decode cX2_feeds 54 = .ok (.iconst 0, 1) := dk_3 (dk_at dksX2_feeds_2 8 rfl rfl)
theorem dX2_feeds_55 : decode cX2_feeds 55 = .ok (.goto 4, 3) := dk_167 0 4 (dk_at dksX2_feeds_2 9 rfl rfl)
theorem dX2_feeds_58 : decode cX2_feeds 58 = .ok (.iconst 1, 1) := dk_4 (dk_at dksX2_feeds_2 12 rfl rfl)
theorem dX2_feeds_59 : decode cX2_feeds 59 = .ok (.iadd, 1) := dk_96 (dk_at dksX2_feeds_2 13 rfl rfl)
theorem dX2_feeds_60 : decode cX2_feeds 60 = .ok (.putfield 57, 3) := dk_181 0 57 (dk_at dksX2_feeds_2 14 rfl rfl)
theorem dX2_feeds_63 : decode cX2_feeds 63 = .ok (.aload_n 0, 1) := dk_42 (dk_at dksX2_feeds_2 17 rfl rfl)
theorem dX2_feeds_64 : decode cX2_feeds 64 = .ok (.iload_n 1, 1) := dk_27 (dk_at dksX2_feeds_2 18 rfl rfl)
theorem dX2_feeds_65 : decode cX2_feeds 65 = .ok (.aload_n 0, 1) := dk_42 (dk_at dksX2_feeds_2 19 rfl rfl)
theorem dX2_feeds_66 : decode cX2_feeds 66 = .ok (.getfield 3, 3) := dk_180 0 3 (dk_at dksX2_feeds_2 20 rfl rfl)
theorem dX2_feeds_69 : decode cX2_feeds 69 = .ok (.iload_n 2, 1) := dk_28 (dk_at dksX2_feeds_2 23 rfl rfl)
theorem dX2_feeds_70 : decode cX2_feeds 70 = .ok (.iload_n 3, 1) := dk_29 (dk_at dksX2_feeds_3 0 rfl rfl)
theorem dX2_feeds_71 : decode cX2_feeds 71 = .ok (.invokevirtual 124, 3) := dk_182 0 124 (dk_at dksX2_feeds_3 1 rfl rfl)
theorem dX2_feeds_74 : decode cX2_feeds 74 = .ok (.invokevirtual 128, 3) := dk_182 0 128 (dk_at dksX2_feeds_3 4 rfl rfl)
theorem dX2_feeds_77 : decode cX2_feeds 77 = .ok (.istore 4, 2) := dk_54 4 (dk_at dksX2_feeds_3 7 rfl rfl)
theorem dX2_feeds_79 : decode cX2_feeds 79 = .ok (.aload_n 0, 1) := dk_42 (dk_at dksX2_feeds_3 9 rfl rfl)
theorem dX2_feeds_80 : decode cX2_feeds 80 = .ok (.getfield 25, 3) := dk_180 0 25 (dk_at dksX2_feeds_3 10 rfl rfl)
theorem dX2_feeds_83 : decode cX2_feeds 83 = .ok (.iload_n 1, 1) := dk_27 (dk_at dksX2_feeds_3 13 rfl rfl)
theorem dX2_feeds_84 : decode cX2_feeds 84 = .ok (.sipush 999, 3) := dk_17 3 231 (dk_at dksX2_feeds_3 14 rfl rfl)
theorem dX2_feeds_87 : decode cX2_feeds 87 = .ok (.aload_n 0, 1) := dk_42 (dk_at dksX2_feeds_3 17 rfl rfl)
theorem dX2_feeds_88 : decode cX2_feeds 88 = .ok (.getfield 25, 3) := dk_180 0 25 (dk_at dksX2_feeds_3 18 rfl rfl)
theorem dX2_feeds_91 : decode cX2_feeds 91 = .ok (.iload_n 1, 1) := dk_27 (dk_at dksX2_feeds_3 21 rfl rfl)
theorem dX2_feeds_92 : decode cX2_feeds 92 = .ok (.iaload, 1) := dk_46 (dk_at dksX2_feeds_3 22 rfl rfl)
theorem dX2_feeds_93 : decode cX2_feeds 93 = .ok (.aload_n 0, 1) := dk_42 (dk_at dksX2_feeds_3 23 rfl rfl)
theorem dX2_feeds_94 : decode cX2_feeds 94 = .ok (.iload_n 1, 1) := dk_27 (dk_at dksX2_feeds_4 0 rfl rfl)
theorem dX2_feeds_95 : decode cX2_feeds 95 = .ok (.invokevirtual 132, 3) := dk_182 0 132 (dk_at dksX2_feeds_4 1 rfl rfl)
theorem dX2_feeds_98 : decode cX2_feeds 98 = .ok (.iadd, 1) := dk_96 (dk_at dksX2_feeds_4 4 rfl rfl)
theorem dX2_feeds_99 : decode cX2_feeds 99 = .ok (.invokestatic 135, 3) := dk_184 0 135 (dk_at dksX2_feeds_4 5 rfl rfl)
theorem dX2_feeds_102 : decode cX2_feeds 102 = .ok (.iastore, 1) := dk_79 (dk_at dksX2_feeds_4 8 rfl rfl)
theorem dX2_feeds_103 : decode cX2_feeds 103 = .ok (.aload_n 0, 1) := dk_42 (dk_at dksX2_feeds_4 9 rfl rfl)
theorem dX2_feeds_104 : decode cX2_feeds 104 = .ok (.iload_n 3, 1) := dk_29 (dk_at dksX2_feeds_4 10 rfl rfl)
theorem dX2_feeds_105 : decode cX2_feeds 105 = .ok (.iconst (-1), 1) := dk_2 (dk_at dksX2_feeds_4 11 rfl rfl)
theorem dX2_feeds_106 : decode cX2_feeds 106 = .ok (.if_icmp .ne 7, 3) := dk_160 0 7 (dk_at dksX2_feeds_4 12 rfl rfl)
theorem dX2_feeds_109 : decode cX2_feeds 109 = .ok (.iconst 0, 1) := dk_3 (dk_at dksX2_feeds_4 15 rfl rfl)
theorem dX2_feeds_110 : decode cX2_feeds 110 = .ok (.goto 4, 3) := dk_167 0 4 (dk_at dksX2_feeds_4 16 rfl rfl)
theorem dX2_feeds_113 : decode cX2_feeds 113 = .ok (.iconst 1, 1) := dk_4 (dk_at dksX2_feeds_4 19 rfl rfl)
theorem dX2_feeds_114 : decode cX2_feeds 114 = .ok (.iload_n 1, 1) := dk_27 (dk_at dksX2_feeds_4 20 rfl rfl)
theorem dX2_feeds_115 : decode cX2_feeds 115 = .ok (.iload_n 3, 1) := dk_29 (dk_at dksX2_feeds_4 21 rfl rfl)
theorem dX2_feeds_116 : decode cX2_feeds 116 = .ok (.iconst (-1), 1) := dk_2 (dk_at dksX2_feeds_4 22 rfl rfl)
theorem dX2_feeds_117 : decode cX2_feeds 117 = .ok (.if_icmp .ne 7, 3) := dk_160 0 7 (dk_at dksX2_feeds_5 0 rfl rfl)
theorem dX2_feeds_120 : decode cX2_feeds 120 = .ok (.iload_n 2, 1) := dk_28 (dk_at dksX2_feeds_5 3 rfl rfl)
theorem dX2_feeds_121 : decode cX2_feeds 121 = .ok (.goto 9, 3) := dk_167 0 9 (dk_at dksX2_feeds_5 4 rfl rfl)
theorem dX2_feeds_124 : decode cX2_feeds 124 = .ok (.bipush 10, 2) := dk_16 10 (dk_at dksX2_feeds_5 7 rfl rfl)
theorem dX2_feeds_126 : decode cX2_feeds 126 = .ok (.iload_n 2, 1) := dk_28 (dk_at dksX2_feeds_5 9 rfl rfl)
theorem dX2_feeds_127 : decode cX2_feeds 127 = .ok (.imul, 1) := dk_104 (dk_at dksX2_feeds_5 10 rfl rfl)
theorem dX2_feeds_128 : decode cX2_feeds 128 = .ok (.iload_n 3, 1) := dk_29 (dk_at dksX2_feeds_5 11 rfl rfl)
theorem dX2_feeds_129 : decode cX2_feeds 129 = .ok (.iadd, 1) := dk_96 (dk_at dksX2_feeds_5 12 rfl rfl)
theorem dX2_feeds_130 : decode cX2_feeds 130 = .ok (.invokevirtual 140, 3) := dk_182 0 140 (dk_at dksX2_feeds_5 13 rfl rfl)
theorem dX2_feeds_133 : decode cX2_feeds 133 = .ok (.aload_n 0, 1) := dk_42 (dk_at dksX2_feeds_5 16 rfl rfl)
theorem dX2_feeds_134 : decode cX2_feeds 134 = .ok (.getfield 19, 3) := dk_180 0 19 (dk_at dksX2_feeds_5 17 rfl rfl)
theorem dX2_feeds_137 : decode cX2_feeds 137 = .ok (.iload_n 1, 1) := dk_27 (dk_at dksX2_feeds_5 20 rfl rfl)
theorem dX2_feeds_138 : decode cX2_feeds 138 = .ok (.iaload, 1) := dk_46 (dk_at dksX2_feeds_5 21 rfl rfl)
theorem dX2_feeds_139 : decode cX2_feeds 139 = .ok (.bipush 9, 2) := dk_16 9 (dk_at dksX2_feeds_5 22 rfl rfl)
theorem dX2_feeds_141 : decode cX2_feeds 141 = .ok (.if_icmp .ne 8, 3) := dk_160 0 8 (dk_at dksX2_feeds_6 0 rfl rfl)
theorem dX2_feeds_144 : decode cX2_feeds 144 = .ok (.aload_n 0, 1) := dk_42 (dk_at dksX2_feeds_6 3 rfl rfl)
theorem dX2_feeds_145 : decode cX2_feeds 145 = .ok (.iload_n 1, 1) := dk_27 (dk_at dksX2_feeds_6 4 rfl rfl)
theorem dX2_feeds_146 : decode cX2_feeds 146 = .ok (.invokevirtual 143, 3) := dk_182 0 143 (dk_at dksX2_feeds_6 5 rfl rfl)
theorem dX2_feeds_149 : decode cX2_feeds 149 = .ok (.iload 4, 2) := dk_21 4 (dk_at dksX2_feeds_6 8 rfl rfl)
theorem dX2_feeds_151 : decode cX2_feeds 151 = .ok (.ireturn, 1) := dk_172 (dk_at dksX2_feeds_6 10 rfl rfl)
abbrev cX2_spins : ByteArray := prog_13_method_12_code
def yX2_spins : MethodName := ⟨RX2, "spins", "(I[I)I"⟩
def dkwX2_spins_6 : List UInt8 := [181, 0, 60, 29, 172]
abbrev dktX2_spins_6 : List UInt8 := dkwX2_spins_6 ++ []
def dkwX2_spins_5 : List UInt8 := [180, 0, 31, 27, 92, 46, 4, 96, 79, 132, 4, 1, 167, 255, 133, 42, 89, 180, 0, 60, 29, 96]
abbrev dktX2_spins_5 : List UInt8 := dkwX2_spins_5 ++ dktX2_spins_6
def dkwX2_spins_4 : List UInt8 := [21, 6, 153, 0, 15, 44, 21, 4, 46, 4, 96, 16, 8, 112, 167, 0, 7, 44, 21, 4, 46, 79, 42]
abbrev dktX2_spins_4 : List UInt8 := dkwX2_spins_4 ++ dktX2_spins_5
def dkwX2_spins_3 : List UInt8 := [46, 16, 40, 160, 0, 6, 167, 0, 50, 42, 180, 0, 34, 16, 40, 27, 104, 42, 180, 0, 31, 27, 46, 96]
abbrev dktX2_spins_3 : List UInt8 := dkwX2_spins_3 ++ dktX2_spins_4
def dkwX2_spins_2 : List UInt8 := [167, 0, 4, 3, 54, 6, 29, 21, 6, 153, 0, 7, 4, 167, 0, 4, 3, 96, 62, 42, 180, 0, 31, 27]
abbrev dktX2_spins_2 : List UInt8 := dkwX2_spins_2 ++ dktX2_spins_3
def dkwX2_spins_1 : List UInt8 := [54, 5, 42, 180, 0, 76, 154, 0, 19, 42, 17, 3, 232, 182, 0, 121, 21, 5, 162, 0, 7, 4]
abbrev dktX2_spins_1 : List UInt8 := dkwX2_spins_1 ++ dktX2_spins_2
def dkwX2_spins_0 : List UInt8 := [3, 62, 3, 54, 4, 21, 4, 44, 190, 162, 0, 122, 42, 27, 44, 21, 4, 46, 21, 4, 182, 0, 118]
abbrev dktX2_spins_0 : List UInt8 := dkwX2_spins_0 ++ dktX2_spins_1
theorem dksX2_spins_0 : cX2_spins.data.toList.drop 0 = dktX2_spins_0 := by decide +kernel
theorem dksX2_spins_1 : cX2_spins.data.toList.drop 23 = dktX2_spins_1 := dk_seg dksX2_spins_0 23 rfl rfl
theorem dksX2_spins_2 : cX2_spins.data.toList.drop 45 = dktX2_spins_2 := dk_seg dksX2_spins_1 22 rfl rfl
theorem dksX2_spins_3 : cX2_spins.data.toList.drop 69 = dktX2_spins_3 := dk_seg dksX2_spins_2 24 rfl rfl
theorem dksX2_spins_4 : cX2_spins.data.toList.drop 93 = dktX2_spins_4 := dk_seg dksX2_spins_3 24 rfl rfl
theorem dksX2_spins_5 : cX2_spins.data.toList.drop 116 = dktX2_spins_5 := dk_seg dksX2_spins_4 23 rfl rfl
theorem dksX2_spins_6 : cX2_spins.data.toList.drop 138 = dktX2_spins_6 := dk_seg dksX2_spins_5 22 rfl rfl
theorem dX2_spins_0 : decode cX2_spins 0 = .ok (.iconst 0, 1) := dk_3 (dk_at dksX2_spins_0 0 rfl rfl)
theorem dX2_spins_1 : decode cX2_spins 1 = .ok (.istore_n 3, 1) := dk_62 (dk_at dksX2_spins_0 1 rfl rfl)
theorem dX2_spins_2 : decode cX2_spins 2 = .ok (.iconst 0, 1) := dk_3 (dk_at dksX2_spins_0 2 rfl rfl)
theorem dX2_spins_3 : decode cX2_spins 3 = .ok (.istore 4, 2) := dk_54 4 (dk_at dksX2_spins_0 3 rfl rfl)
theorem dX2_spins_5 : decode cX2_spins 5 = .ok (.iload 4, 2) := dk_21 4 (dk_at dksX2_spins_0 5 rfl rfl)
theorem dX2_spins_7 : decode cX2_spins 7 = .ok (.aload_n 2, 1) := dk_44 (dk_at dksX2_spins_0 7 rfl rfl)
theorem dX2_spins_8 : decode cX2_spins 8 = .ok (.arraylength, 1) := dk_190 (dk_at dksX2_spins_0 8 rfl rfl)
theorem dX2_spins_9 : decode cX2_spins 9 = .ok (.if_icmp .ge 122, 3) := dk_162 0 122 (dk_at dksX2_spins_0 9 rfl rfl)
theorem dX2_spins_12 : decode cX2_spins 12 = .ok (.aload_n 0, 1) := dk_42 (dk_at dksX2_spins_0 12 rfl rfl)
theorem dX2_spins_13 : decode cX2_spins 13 = .ok (.iload_n 1, 1) := dk_27 (dk_at dksX2_spins_0 13 rfl rfl)
theorem dX2_spins_14 : decode cX2_spins 14 = .ok (.aload_n 2, 1) := dk_44 (dk_at dksX2_spins_0 14 rfl rfl)
theorem dX2_spins_15 : decode cX2_spins 15 = .ok (.iload 4, 2) := dk_21 4 (dk_at dksX2_spins_0 15 rfl rfl)
theorem dX2_spins_17 : decode cX2_spins 17 = .ok (.iaload, 1) := dk_46 (dk_at dksX2_spins_0 17 rfl rfl)
theorem dX2_spins_18 : decode cX2_spins 18 = .ok (.iload 4, 2) := dk_21 4 (dk_at dksX2_spins_0 18 rfl rfl)
theorem dX2_spins_20 : decode cX2_spins 20 = .ok (.invokevirtual 118, 3) := dk_182 0 118 (dk_at dksX2_spins_0 20 rfl rfl)
theorem dX2_spins_23 : decode cX2_spins 23 = .ok (.istore 5, 2) := dk_54 5 (dk_at dksX2_spins_1 0 rfl rfl)
theorem dX2_spins_25 : decode cX2_spins 25 = .ok (.aload_n 0, 1) := dk_42 (dk_at dksX2_spins_1 2 rfl rfl)
theorem dX2_spins_26 : decode cX2_spins 26 = .ok (.getfield 76, 3) := dk_180 0 76 (dk_at dksX2_spins_1 3 rfl rfl)
theorem dX2_spins_29 : decode cX2_spins 29 = .ok (.ifCond .ne 19, 3) := dk_154 0 19 (dk_at dksX2_spins_1 6 rfl rfl)
theorem dX2_spins_32 : decode cX2_spins 32 = .ok (.aload_n 0, 1) := dk_42 (dk_at dksX2_spins_1 9 rfl rfl)
theorem dX2_spins_33 : decode cX2_spins 33 = .ok (.sipush 1000, 3) := dk_17 3 232 (dk_at dksX2_spins_1 10 rfl rfl)
theorem dX2_spins_36 : decode cX2_spins 36 = .ok (.invokevirtual 121, 3) := dk_182 0 121 (dk_at dksX2_spins_1 13 rfl rfl)
theorem dX2_spins_39 : decode cX2_spins 39 = .ok (.iload 5, 2) := dk_21 5 (dk_at dksX2_spins_1 16 rfl rfl)
theorem dX2_spins_41 : decode cX2_spins 41 = .ok (.if_icmp .ge 7, 3) := dk_162 0 7 (dk_at dksX2_spins_1 18 rfl rfl)
theorem dX2_spins_44 : decode cX2_spins 44 = .ok (.iconst 1, 1) := dk_4 (dk_at dksX2_spins_1 21 rfl rfl)
theorem dX2_spins_45 : decode cX2_spins 45 = .ok (.goto 4, 3) := dk_167 0 4 (dk_at dksX2_spins_2 0 rfl rfl)
theorem dX2_spins_48 : decode cX2_spins 48 = .ok (.iconst 0, 1) := dk_3 (dk_at dksX2_spins_2 3 rfl rfl)
theorem dX2_spins_49 : decode cX2_spins 49 = .ok (.istore 6, 2) := dk_54 6 (dk_at dksX2_spins_2 4 rfl rfl)
theorem dX2_spins_51 : decode cX2_spins 51 = .ok (.iload_n 3, 1) := dk_29 (dk_at dksX2_spins_2 6 rfl rfl)
theorem dX2_spins_52 : decode cX2_spins 52 = .ok (.iload 6, 2) := dk_21 6 (dk_at dksX2_spins_2 7 rfl rfl)
theorem dX2_spins_54 : decode cX2_spins 54 = .ok (.ifCond .eq 7, 3) := dk_153 0 7 (dk_at dksX2_spins_2 9 rfl rfl)
theorem dX2_spins_57 : decode cX2_spins 57 = .ok (.iconst 1, 1) := dk_4 (dk_at dksX2_spins_2 12 rfl rfl)
theorem dX2_spins_58 : decode cX2_spins 58 = .ok (.goto 4, 3) := dk_167 0 4 (dk_at dksX2_spins_2 13 rfl rfl)
theorem dX2_spins_61 : decode cX2_spins 61 = .ok (.iconst 0, 1) := dk_3 (dk_at dksX2_spins_2 16 rfl rfl)
theorem dX2_spins_62 : decode cX2_spins 62 = .ok (.iadd, 1) := dk_96 (dk_at dksX2_spins_2 17 rfl rfl)
theorem dX2_spins_63 : decode cX2_spins 63 = .ok (.istore_n 3, 1) := dk_62 (dk_at dksX2_spins_2 18 rfl rfl)
theorem dX2_spins_64 : decode cX2_spins 64 = .ok (.aload_n 0, 1) := dk_42 (dk_at dksX2_spins_2 19 rfl rfl)
theorem dX2_spins_65 : decode cX2_spins 65 = .ok (.getfield 31, 3) := dk_180 0 31 (dk_at dksX2_spins_2 20 rfl rfl)
theorem dX2_spins_68 : decode cX2_spins 68 = .ok (.iload_n 1, 1) := dk_27 (dk_at dksX2_spins_2 23 rfl rfl)
theorem dX2_spins_69 : decode cX2_spins 69 = .ok (.iaload, 1) := dk_46 (dk_at dksX2_spins_3 0 rfl rfl)
theorem dX2_spins_70 : decode cX2_spins 70 = .ok (.bipush 40, 2) := dk_16 40 (dk_at dksX2_spins_3 1 rfl rfl)
theorem dX2_spins_72 : decode cX2_spins 72 = .ok (.if_icmp .ne 6, 3) := dk_160 0 6 (dk_at dksX2_spins_3 3 rfl rfl)
theorem dX2_spins_75 : decode cX2_spins 75 = .ok (.goto 50, 3) := dk_167 0 50 (dk_at dksX2_spins_3 6 rfl rfl)
theorem dX2_spins_78 : decode cX2_spins 78 = .ok (.aload_n 0, 1) := dk_42 (dk_at dksX2_spins_3 9 rfl rfl)
theorem dX2_spins_79 : decode cX2_spins 79 = .ok (.getfield 34, 3) := dk_180 0 34 (dk_at dksX2_spins_3 10 rfl rfl)
theorem dX2_spins_82 : decode cX2_spins 82 = .ok (.bipush 40, 2) := dk_16 40 (dk_at dksX2_spins_3 13 rfl rfl)
theorem dX2_spins_84 : decode cX2_spins 84 = .ok (.iload_n 1, 1) := dk_27 (dk_at dksX2_spins_3 15 rfl rfl)
theorem dX2_spins_85 : decode cX2_spins 85 = .ok (.imul, 1) := dk_104 (dk_at dksX2_spins_3 16 rfl rfl)
theorem dX2_spins_86 : decode cX2_spins 86 = .ok (.aload_n 0, 1) := dk_42 (dk_at dksX2_spins_3 17 rfl rfl)
theorem dX2_spins_87 : decode cX2_spins 87 = .ok (.getfield 31, 3) := dk_180 0 31 (dk_at dksX2_spins_3 18 rfl rfl)
theorem dX2_spins_90 : decode cX2_spins 90 = .ok (.iload_n 1, 1) := dk_27 (dk_at dksX2_spins_3 21 rfl rfl)
theorem dX2_spins_91 : decode cX2_spins 91 = .ok (.iaload, 1) := dk_46 (dk_at dksX2_spins_3 22 rfl rfl)
theorem dX2_spins_92 : decode cX2_spins 92 = .ok (.iadd, 1) := dk_96 (dk_at dksX2_spins_3 23 rfl rfl)
theorem dX2_spins_93 : decode cX2_spins 93 = .ok (.iload 6, 2) := dk_21 6 (dk_at dksX2_spins_4 0 rfl rfl)
theorem dX2_spins_95 : decode cX2_spins 95 = .ok (.ifCond .eq 15, 3) := dk_153 0 15 (dk_at dksX2_spins_4 2 rfl rfl)
theorem dX2_spins_98 : decode cX2_spins 98 = .ok (.aload_n 2, 1) := dk_44 (dk_at dksX2_spins_4 5 rfl rfl)
theorem dX2_spins_99 : decode cX2_spins 99 = .ok (.iload 4, 2) := dk_21 4 (dk_at dksX2_spins_4 6 rfl rfl)
theorem dX2_spins_101 : decode cX2_spins 101 = .ok (.iaload, 1) := dk_46 (dk_at dksX2_spins_4 8 rfl rfl)
theorem dX2_spins_102 : decode cX2_spins 102 = .ok (.iconst 1, 1) := dk_4 (dk_at dksX2_spins_4 9 rfl rfl)
theorem dX2_spins_103 : decode cX2_spins 103 = .ok (.iadd, 1) := dk_96 (dk_at dksX2_spins_4 10 rfl rfl)
theorem dX2_spins_104 : decode cX2_spins 104 = .ok (.bipush 8, 2) := dk_16 8 (dk_at dksX2_spins_4 11 rfl rfl)
theorem dX2_spins_106 : decode cX2_spins 106 = .ok (.irem, 1) := dk_112 (dk_at dksX2_spins_4 13 rfl rfl)
theorem dX2_spins_107 : decode cX2_spins 107 = .ok (.goto 7, 3) := dk_167 0 7 (dk_at dksX2_spins_4 14 rfl rfl)
theorem dX2_spins_110 : decode cX2_spins 110 = .ok (.aload_n 2, 1) := dk_44 (dk_at dksX2_spins_4 17 rfl rfl)
theorem dX2_spins_111 : decode cX2_spins 111 = .ok (.iload 4, 2) := dk_21 4 (dk_at dksX2_spins_4 18 rfl rfl)
theorem dX2_spins_113 : decode cX2_spins 113 = .ok (.iaload, 1) := dk_46 (dk_at dksX2_spins_4 20 rfl rfl)
theorem dX2_spins_114 : decode cX2_spins 114 = .ok (.iastore, 1) := dk_79 (dk_at dksX2_spins_4 21 rfl rfl)
theorem dX2_spins_115 : decode cX2_spins 115 = .ok (.aload_n 0, 1) := dk_42 (dk_at dksX2_spins_4 22 rfl rfl)
theorem dX2_spins_116 : decode cX2_spins 116 = .ok (.getfield 31, 3) := dk_180 0 31 (dk_at dksX2_spins_5 0 rfl rfl)
theorem dX2_spins_119 : decode cX2_spins 119 = .ok (.iload_n 1, 1) := dk_27 (dk_at dksX2_spins_5 3 rfl rfl)
theorem dX2_spins_120 : decode cX2_spins 120 = .ok (.dup2, 1) := dk_92 (dk_at dksX2_spins_5 4 rfl rfl)
theorem dX2_spins_121 : decode cX2_spins 121 = .ok (.iaload, 1) := dk_46 (dk_at dksX2_spins_5 5 rfl rfl)
theorem dX2_spins_122 : decode cX2_spins 122 = .ok (.iconst 1, 1) := dk_4 (dk_at dksX2_spins_5 6 rfl rfl)
theorem dX2_spins_123 : decode cX2_spins 123 = .ok (.iadd, 1) := dk_96 (dk_at dksX2_spins_5 7 rfl rfl)
theorem dX2_spins_124 : decode cX2_spins 124 = .ok (.iastore, 1) := dk_79 (dk_at dksX2_spins_5 8 rfl rfl)
theorem dX2_spins_125 : decode cX2_spins 125 = .ok (.iinc 4 1, 3) := dk_132 4 1 (dk_at dksX2_spins_5 9 rfl rfl)
theorem dX2_spins_128 : decode cX2_spins 128 = .ok (.goto (-123), 3) := dk_167 255 133 (dk_at dksX2_spins_5 12 rfl rfl)
theorem dX2_spins_131 : decode cX2_spins 131 = .ok (.aload_n 0, 1) := dk_42 (dk_at dksX2_spins_5 15 rfl rfl)
theorem dX2_spins_132 : decode cX2_spins 132 = .ok (.dup, 1) := dk_89 (dk_at dksX2_spins_5 16 rfl rfl)
theorem dX2_spins_133 : decode cX2_spins 133 = .ok (.getfield 60, 3) := dk_180 0 60 (dk_at dksX2_spins_5 17 rfl rfl)
theorem dX2_spins_136 : decode cX2_spins 136 = .ok (.iload_n 3, 1) := dk_29 (dk_at dksX2_spins_5 20 rfl rfl)
theorem dX2_spins_137 : decode cX2_spins 137 = .ok (.iadd, 1) := dk_96 (dk_at dksX2_spins_5 21 rfl rfl)
theorem dX2_spins_138 : decode cX2_spins 138 = .ok (.putfield 60, 3) := dk_181 0 60 (dk_at dksX2_spins_6 0 rfl rfl)
theorem dX2_spins_141 : decode cX2_spins 141 = .ok (.iload_n 3, 1) := dk_29 (dk_at dksX2_spins_6 3 rfl rfl)
theorem dX2_spins_142 : decode cX2_spins 142 = .ok (.ireturn, 1) := dk_172 (dk_at dksX2_spins_6 4 rfl rfl)
abbrev cX2_slipsOf : ByteArray := prog_13_method_8_code
def yX2_slipsOf : MethodName := ⟨RX2, "slipsOf", "(III)I"⟩
def dkwX2_slipsOf_1 : List UInt8 := [17, 3, 232, 182, 0, 92, 172]
abbrev dktX2_slipsOf_1 : List UInt8 := dkwX2_slipsOf_1 ++ []
def dkwX2_slipsOf_0 : List UInt8 := [42, 27, 28, 29, 182, 0, 88, 42, 180, 0, 3, 4, 16, 25, 16, 20, 42, 180, 0, 51, 104, 96]
abbrev dktX2_slipsOf_0 : List UInt8 := dkwX2_slipsOf_0 ++ dktX2_slipsOf_1
theorem dksX2_slipsOf_0 : cX2_slipsOf.data.toList.drop 0 = dktX2_slipsOf_0 := by decide +kernel
theorem dksX2_slipsOf_1 : cX2_slipsOf.data.toList.drop 22 = dktX2_slipsOf_1 := dk_seg dksX2_slipsOf_0 22 rfl rfl
theorem dX2_slipsOf_0 : decode cX2_slipsOf 0 = .ok (.aload_n 0, 1) := dk_42 (dk_at dksX2_slipsOf_0 0 rfl rfl)
theorem dX2_slipsOf_1 : decode cX2_slipsOf 1 = .ok (.iload_n 1, 1) := dk_27 (dk_at dksX2_slipsOf_0 1 rfl rfl)
theorem dX2_slipsOf_2 : decode cX2_slipsOf 2 = .ok (.iload_n 2, 1) := dk_28 (dk_at dksX2_slipsOf_0 2 rfl rfl)
theorem dX2_slipsOf_3 : decode cX2_slipsOf 3 = .ok (.iload_n 3, 1) := dk_29 (dk_at dksX2_slipsOf_0 3 rfl rfl)
theorem dX2_slipsOf_4 : decode cX2_slipsOf 4 = .ok (.invokevirtual 88, 3) := dk_182 0 88 (dk_at dksX2_slipsOf_0 4 rfl rfl)
theorem dX2_slipsOf_7 : decode cX2_slipsOf 7 = .ok (.aload_n 0, 1) := dk_42 (dk_at dksX2_slipsOf_0 7 rfl rfl)
theorem dX2_slipsOf_8 : decode cX2_slipsOf 8 = .ok (.getfield 3, 3) := dk_180 0 3 (dk_at dksX2_slipsOf_0 8 rfl rfl)
theorem dX2_slipsOf_11 : decode cX2_slipsOf 11 = .ok (.iconst 1, 1) := dk_4 (dk_at dksX2_slipsOf_0 11 rfl rfl)
theorem dX2_slipsOf_12 : decode cX2_slipsOf 12 = .ok (.bipush 25, 2) := dk_16 25 (dk_at dksX2_slipsOf_0 12 rfl rfl)
theorem dX2_slipsOf_14 : decode cX2_slipsOf 14 = .ok (.bipush 20, 2) := dk_16 20 (dk_at dksX2_slipsOf_0 14 rfl rfl)
theorem dX2_slipsOf_16 : decode cX2_slipsOf 16 = .ok (.aload_n 0, 1) := dk_42 (dk_at dksX2_slipsOf_0 16 rfl rfl)
theorem dX2_slipsOf_17 : decode cX2_slipsOf 17 = .ok (.getfield 51, 3) := dk_180 0 51 (dk_at dksX2_slipsOf_0 17 rfl rfl)
theorem dX2_slipsOf_20 : decode cX2_slipsOf 20 = .ok (.imul, 1) := dk_104 (dk_at dksX2_slipsOf_0 20 rfl rfl)
theorem dX2_slipsOf_21 : decode cX2_slipsOf 21 = .ok (.iadd, 1) := dk_96 (dk_at dksX2_slipsOf_0 21 rfl rfl)
theorem dX2_slipsOf_22 : decode cX2_slipsOf 22 = .ok (.sipush 1000, 3) := dk_17 3 232 (dk_at dksX2_slipsOf_1 0 rfl rfl)
theorem dX2_slipsOf_25 : decode cX2_slipsOf 25 = .ok (.invokevirtual 92, 3) := dk_182 0 92 (dk_at dksX2_slipsOf_1 3 rfl rfl)
theorem dX2_slipsOf_28 : decode cX2_slipsOf 28 = .ok (.ireturn, 1) := dk_172 (dk_at dksX2_slipsOf_1 6 rfl rfl)
abbrev cX2_draw : ByteArray := prog_13_method_4_code
def yX2_draw : MethodName := ⟨RX2, "draw", "(I)I"⟩
def dkwX2_draw_0 : List UInt8 := [42, 18, 80, 42, 180, 0, 66, 104, 18, 81, 96, 181, 0, 66, 42, 180, 0, 66, 16, 8, 124, 27, 112, 172]
abbrev dktX2_draw_0 : List UInt8 := dkwX2_draw_0 ++ []
theorem dksX2_draw_0 : cX2_draw.data.toList.drop 0 = dktX2_draw_0 := by decide +kernel
theorem dX2_draw_0 : decode cX2_draw 0 = .ok (.aload_n 0, 1) := dk_42 (dk_at dksX2_draw_0 0 rfl rfl)
theorem dX2_draw_1 : decode cX2_draw 1 = .ok (.ldc 80, 2) := dk_18 80 (dk_at dksX2_draw_0 1 rfl rfl)
theorem dX2_draw_3 : decode cX2_draw 3 = .ok (.aload_n 0, 1) := dk_42 (dk_at dksX2_draw_0 3 rfl rfl)
theorem dX2_draw_4 : decode cX2_draw 4 = .ok (.getfield 66, 3) := dk_180 0 66 (dk_at dksX2_draw_0 4 rfl rfl)
theorem dX2_draw_7 : decode cX2_draw 7 = .ok (.imul, 1) := dk_104 (dk_at dksX2_draw_0 7 rfl rfl)
theorem dX2_draw_8 : decode cX2_draw 8 = .ok (.ldc 81, 2) := dk_18 81 (dk_at dksX2_draw_0 8 rfl rfl)
theorem dX2_draw_10 : decode cX2_draw 10 = .ok (.iadd, 1) := dk_96 (dk_at dksX2_draw_0 10 rfl rfl)
theorem dX2_draw_11 : decode cX2_draw 11 = .ok (.putfield 66, 3) := dk_181 0 66 (dk_at dksX2_draw_0 11 rfl rfl)
theorem dX2_draw_14 : decode cX2_draw 14 = .ok (.aload_n 0, 1) := dk_42 (dk_at dksX2_draw_0 14 rfl rfl)
theorem dX2_draw_15 : decode cX2_draw 15 = .ok (.getfield 66, 3) := dk_180 0 66 (dk_at dksX2_draw_0 15 rfl rfl)
theorem dX2_draw_18 : decode cX2_draw 18 = .ok (.bipush 8, 2) := dk_16 8 (dk_at dksX2_draw_0 18 rfl rfl)
theorem dX2_draw_20 : decode cX2_draw 20 = .ok (.iushr, 1) := dk_124 (dk_at dksX2_draw_0 20 rfl rfl)
theorem dX2_draw_21 : decode cX2_draw 21 = .ok (.iload_n 1, 1) := dk_27 (dk_at dksX2_draw_0 21 rfl rfl)
theorem dX2_draw_22 : decode cX2_draw 22 = .ok (.irem, 1) := dk_112 (dk_at dksX2_draw_0 22 rfl rfl)
theorem dX2_draw_23 : decode cX2_draw 23 = .ok (.ireturn, 1) := dk_172 (dk_at dksX2_draw_0 23 rfl rfl)
abbrev cX2_strongOf : ByteArray := prog_13_method_9_code
def yX2_strongOf : MethodName := ⟨RX2, "strongOf", "(I)I"⟩
def dkwX2_strongOf_1 : List UInt8 := [182, 0, 92, 172]
abbrev dktX2_strongOf_1 : List UInt8 := dkwX2_strongOf_1 ++ []
def dkwX2_strongOf_0 : List UInt8 := [42, 27, 3, 3, 182, 0, 88, 42, 180, 0, 3, 5, 16, 9, 42, 180, 0, 15, 27, 46, 100, 16, 20]
abbrev dktX2_strongOf_0 : List UInt8 := dkwX2_strongOf_0 ++ dktX2_strongOf_1
theorem dksX2_strongOf_0 : cX2_strongOf.data.toList.drop 0 = dktX2_strongOf_0 := by decide +kernel
theorem dksX2_strongOf_1 : cX2_strongOf.data.toList.drop 23 = dktX2_strongOf_1 := dk_seg dksX2_strongOf_0 23 rfl rfl
theorem dX2_strongOf_0 : decode cX2_strongOf 0 = .ok (.aload_n 0, 1) := dk_42 (dk_at dksX2_strongOf_0 0 rfl rfl)
theorem dX2_strongOf_1 : decode cX2_strongOf 1 = .ok (.iload_n 1, 1) := dk_27 (dk_at dksX2_strongOf_0 1 rfl rfl)
theorem dX2_strongOf_2 : decode cX2_strongOf 2 = .ok (.iconst 0, 1) := dk_3 (dk_at dksX2_strongOf_0 2 rfl rfl)
theorem dX2_strongOf_3 : decode cX2_strongOf 3 = .ok (.iconst 0, 1) := dk_3 (dk_at dksX2_strongOf_0 3 rfl rfl)
theorem dX2_strongOf_4 : decode cX2_strongOf 4 = .ok (.invokevirtual 88, 3) := dk_182 0 88 (dk_at dksX2_strongOf_0 4 rfl rfl)
theorem dX2_strongOf_7 : decode cX2_strongOf 7 = .ok (.aload_n 0, 1) := dk_42 (dk_at dksX2_strongOf_0 7 rfl rfl)
theorem dX2_strongOf_8 : decode cX2_strongOf 8 = .ok (.getfield 3, 3) := dk_180 0 3 (dk_at dksX2_strongOf_0 8 rfl rfl)
theorem dX2_strongOf_11 : decode cX2_strongOf 11 = .ok (.iconst 2, 1) := dk_5 (dk_at dksX2_strongOf_0 11 rfl rfl)
theorem dX2_strongOf_12 : decode cX2_strongOf 12 = .ok (.bipush 9, 2) := dk_16 9 (dk_at dksX2_strongOf_0 12 rfl rfl)
theorem dX2_strongOf_14 : decode cX2_strongOf 14 = .ok (.aload_n 0, 1) := dk_42 (dk_at dksX2_strongOf_0 14 rfl rfl)
theorem dX2_strongOf_15 : decode cX2_strongOf 15 = .ok (.getfield 15, 3) := dk_180 0 15 (dk_at dksX2_strongOf_0 15 rfl rfl)
theorem dX2_strongOf_18 : decode cX2_strongOf 18 = .ok (.iload_n 1, 1) := dk_27 (dk_at dksX2_strongOf_0 18 rfl rfl)
theorem dX2_strongOf_19 : decode cX2_strongOf 19 = .ok (.iaload, 1) := dk_46 (dk_at dksX2_strongOf_0 19 rfl rfl)
theorem dX2_strongOf_20 : decode cX2_strongOf 20 = .ok (.isub, 1) := dk_100 (dk_at dksX2_strongOf_0 20 rfl rfl)
theorem dX2_strongOf_21 : decode cX2_strongOf 21 = .ok (.bipush 20, 2) := dk_16 20 (dk_at dksX2_strongOf_0 21 rfl rfl)
theorem dX2_strongOf_23 : decode cX2_strongOf 23 = .ok (.invokevirtual 92, 3) := dk_182 0 92 (dk_at dksX2_strongOf_1 0 rfl rfl)
theorem dX2_strongOf_26 : decode cX2_strongOf 26 = .ok (.ireturn, 1) := dk_172 (dk_at dksX2_strongOf_1 3 rfl rfl)
abbrev cX2_notes : ByteArray := prog_13_method_20_code
def yX2_notes : MethodName := ⟨RX2, "notes", "(III)V"⟩
def dkwX2_notes_0 : List UInt8 := [42, 180, 0, 76, 154, 0, 13, 42, 180, 0, 3, 27, 28, 29, 182, 0, 184, 177]
abbrev dktX2_notes_0 : List UInt8 := dkwX2_notes_0 ++ []
theorem dksX2_notes_0 : cX2_notes.data.toList.drop 0 = dktX2_notes_0 := by decide +kernel
theorem dX2_notes_0 : decode cX2_notes 0 = .ok (.aload_n 0, 1) := dk_42 (dk_at dksX2_notes_0 0 rfl rfl)
theorem dX2_notes_1 : decode cX2_notes 1 = .ok (.getfield 76, 3) := dk_180 0 76 (dk_at dksX2_notes_0 1 rfl rfl)
theorem dX2_notes_4 : decode cX2_notes 4 = .ok (.ifCond .ne 13, 3) := dk_154 0 13 (dk_at dksX2_notes_0 4 rfl rfl)
theorem dX2_notes_7 : decode cX2_notes 7 = .ok (.aload_n 0, 1) := dk_42 (dk_at dksX2_notes_0 7 rfl rfl)
theorem dX2_notes_8 : decode cX2_notes 8 = .ok (.getfield 3, 3) := dk_180 0 3 (dk_at dksX2_notes_0 8 rfl rfl)
theorem dX2_notes_11 : decode cX2_notes 11 = .ok (.iload_n 1, 1) := dk_27 (dk_at dksX2_notes_0 11 rfl rfl)
theorem dX2_notes_12 : decode cX2_notes 12 = .ok (.iload_n 2, 1) := dk_28 (dk_at dksX2_notes_0 12 rfl rfl)
theorem dX2_notes_13 : decode cX2_notes 13 = .ok (.iload_n 3, 1) := dk_29 (dk_at dksX2_notes_0 13 rfl rfl)
theorem dX2_notes_14 : decode cX2_notes 14 = .ok (.invokevirtual 184, 3) := dk_182 0 184 (dk_at dksX2_notes_0 14 rfl rfl)
theorem dX2_notes_17 : decode cX2_notes 17 = .ok (.return_, 1) := dk_177 (dk_at dksX2_notes_0 17 rfl rfl)
abbrev cX2_hides : ByteArray := prog_13_method_15_code
def yX2_hides : MethodName := ⟨RX2, "hides", "(I)V"⟩
def dkwX2_hides_0 : List UInt8 := [42, 180, 0, 28, 27, 4, 79, 42, 5, 27, 42, 180, 0, 31, 27, 46, 182, 0, 140, 177]
abbrev dktX2_hides_0 : List UInt8 := dkwX2_hides_0 ++ []
theorem dksX2_hides_0 : cX2_hides.data.toList.drop 0 = dktX2_hides_0 := by decide +kernel
theorem dX2_hides_0 : decode cX2_hides 0 = .ok (.aload_n 0, 1) := dk_42 (dk_at dksX2_hides_0 0 rfl rfl)
theorem dX2_hides_1 : decode cX2_hides 1 = .ok (.getfield 28, 3) := dk_180 0 28 (dk_at dksX2_hides_0 1 rfl rfl)
theorem dX2_hides_4 : decode cX2_hides 4 = .ok (.iload_n 1, 1) := dk_27 (dk_at dksX2_hides_0 4 rfl rfl)
theorem dX2_hides_5 : decode cX2_hides 5 = .ok (.iconst 1, 1) := dk_4 (dk_at dksX2_hides_0 5 rfl rfl)
theorem dX2_hides_6 : decode cX2_hides 6 = .ok (.iastore, 1) := dk_79 (dk_at dksX2_hides_0 6 rfl rfl)
theorem dX2_hides_7 : decode cX2_hides 7 = .ok (.aload_n 0, 1) := dk_42 (dk_at dksX2_hides_0 7 rfl rfl)
theorem dX2_hides_8 : decode cX2_hides 8 = .ok (.iconst 2, 1) := dk_5 (dk_at dksX2_hides_0 8 rfl rfl)
theorem dX2_hides_9 : decode cX2_hides 9 = .ok (.iload_n 1, 1) := dk_27 (dk_at dksX2_hides_0 9 rfl rfl)
theorem dX2_hides_10 : decode cX2_hides 10 = .ok (.aload_n 0, 1) := dk_42 (dk_at dksX2_hides_0 10 rfl rfl)
theorem dX2_hides_11 : decode cX2_hides 11 = .ok (.getfield 31, 3) := dk_180 0 31 (dk_at dksX2_hides_0 11 rfl rfl)
theorem dX2_hides_14 : decode cX2_hides 14 = .ok (.iload_n 1, 1) := dk_27 (dk_at dksX2_hides_0 14 rfl rfl)
theorem dX2_hides_15 : decode cX2_hides 15 = .ok (.iaload, 1) := dk_46 (dk_at dksX2_hides_0 15 rfl rfl)
theorem dX2_hides_16 : decode cX2_hides 16 = .ok (.invokevirtual 140, 3) := dk_182 0 140 (dk_at dksX2_hides_0 16 rfl rfl)
theorem dX2_hides_19 : decode cX2_hides 19 = .ok (.return_, 1) := dk_177 (dk_at dksX2_hides_0 19 rfl rfl)
abbrev cX2_canSteam : ByteArray := prog_13_method_16_code
def yX2_canSteam : MethodName := ⟨RX2, "canSteam", "(I)Z"⟩
def dkwX2_canSteam_1 : List UInt8 := [3, 172]
abbrev dktX2_canSteam_1 : List UInt8 := dkwX2_canSteam_1 ++ []
def dkwX2_canSteam_0 : List UInt8 := [42, 180, 0, 28, 27, 46, 158, 0, 18, 42, 180, 0, 45, 27, 184, 0, 106, 154, 0, 7, 4, 167, 0, 4]
abbrev dktX2_canSteam_0 : List UInt8 := dkwX2_canSteam_0 ++ dktX2_canSteam_1
theorem dksX2_canSteam_0 : cX2_canSteam.data.toList.drop 0 = dktX2_canSteam_0 := by decide +kernel
theorem dksX2_canSteam_1 : cX2_canSteam.data.toList.drop 24 = dktX2_canSteam_1 := dk_seg dksX2_canSteam_0 24 rfl rfl
theorem dX2_canSteam_0 : decode cX2_canSteam 0 = .ok (.aload_n 0, 1) := dk_42 (dk_at dksX2_canSteam_0 0 rfl rfl)
theorem dX2_canSteam_1 : decode cX2_canSteam 1 = .ok (.getfield 28, 3) := dk_180 0 28 (dk_at dksX2_canSteam_0 1 rfl rfl)
theorem dX2_canSteam_4 : decode cX2_canSteam 4 = .ok (.iload_n 1, 1) := dk_27 (dk_at dksX2_canSteam_0 4 rfl rfl)
theorem dX2_canSteam_5 : decode cX2_canSteam 5 = .ok (.iaload, 1) := dk_46 (dk_at dksX2_canSteam_0 5 rfl rfl)
theorem dX2_canSteam_6 : decode cX2_canSteam 6 = .ok (.ifCond .le 18, 3) := dk_158 0 18 (dk_at dksX2_canSteam_0 6 rfl rfl)
theorem dX2_canSteam_9 : decode cX2_canSteam 9 = .ok (.aload_n 0, 1) := dk_42 (dk_at dksX2_canSteam_0 9 rfl rfl)
theorem dX2_canSteam_10 : decode cX2_canSteam 10 = .ok (.getfield 45, 3) := dk_180 0 45 (dk_at dksX2_canSteam_0 10 rfl rfl)
theorem dX2_canSteam_13 : decode cX2_canSteam 13 = .ok (.iload_n 1, 1) := dk_27 (dk_at dksX2_canSteam_0 13 rfl rfl)
theorem dX2_canSteam_14 : decode cX2_canSteam 14 = .ok (.invokestatic 106, 3) := dk_184 0 106 (dk_at dksX2_canSteam_0 14 rfl rfl)
theorem dX2_canSteam_17 : decode cX2_canSteam 17 = .ok (.ifCond .ne 7, 3) := dk_154 0 7 (dk_at dksX2_canSteam_0 17 rfl rfl)
theorem dX2_canSteam_20 : decode cX2_canSteam 20 = .ok (.iconst 1, 1) := dk_4 (dk_at dksX2_canSteam_0 20 rfl rfl)
theorem dX2_canSteam_21 : decode cX2_canSteam 21 = .ok (.goto 4, 3) := dk_167 0 4 (dk_at dksX2_canSteam_0 21 rfl rfl)
theorem dX2_canSteam_24 : decode cX2_canSteam 24 = .ok (.iconst 0, 1) := dk_3 (dk_at dksX2_canSteam_1 0 rfl rfl)
theorem dX2_canSteam_25 : decode cX2_canSteam 25 = .ok (.ireturn, 1) := dk_172 (dk_at dksX2_canSteam_1 1 rfl rfl)
abbrev cX2_canHide : ByteArray := prog_13_method_14_code
def yX2_canHide : MethodName := ⟨RX2, "canHide", "(I)Z"⟩
def dkwX2_canHide_1 : List UInt8 := [27, 46, 158, 0, 7, 4, 167, 0, 4, 3, 172]
abbrev dktX2_canHide_1 : List UInt8 := dkwX2_canHide_1 ++ []
def dkwX2_canHide_0 : List UInt8 := [42, 180, 0, 28, 27, 46, 154, 0, 27, 42, 180, 0, 48, 27, 184, 0, 106, 154, 0, 16, 42, 180, 0, 31]
abbrev dktX2_canHide_0 : List UInt8 := dkwX2_canHide_0 ++ dktX2_canHide_1
theorem dksX2_canHide_0 : cX2_canHide.data.toList.drop 0 = dktX2_canHide_0 := by decide +kernel
theorem dksX2_canHide_1 : cX2_canHide.data.toList.drop 24 = dktX2_canHide_1 := dk_seg dksX2_canHide_0 24 rfl rfl
theorem dX2_canHide_0 : decode cX2_canHide 0 = .ok (.aload_n 0, 1) := dk_42 (dk_at dksX2_canHide_0 0 rfl rfl)
theorem dX2_canHide_1 : decode cX2_canHide 1 = .ok (.getfield 28, 3) := dk_180 0 28 (dk_at dksX2_canHide_0 1 rfl rfl)
theorem dX2_canHide_4 : decode cX2_canHide 4 = .ok (.iload_n 1, 1) := dk_27 (dk_at dksX2_canHide_0 4 rfl rfl)
theorem dX2_canHide_5 : decode cX2_canHide 5 = .ok (.iaload, 1) := dk_46 (dk_at dksX2_canHide_0 5 rfl rfl)
theorem dX2_canHide_6 : decode cX2_canHide 6 = .ok (.ifCond .ne 27, 3) := dk_154 0 27 (dk_at dksX2_canHide_0 6 rfl rfl)
theorem dX2_canHide_9 : decode cX2_canHide 9 = .ok (.aload_n 0, 1) := dk_42 (dk_at dksX2_canHide_0 9 rfl rfl)
theorem dX2_canHide_10 : decode cX2_canHide 10 = .ok (.getfield 48, 3) := dk_180 0 48 (dk_at dksX2_canHide_0 10 rfl rfl)
theorem dX2_canHide_13 : decode cX2_canHide 13 = .ok (.iload_n 1, 1) := dk_27 (dk_at dksX2_canHide_0 13 rfl rfl)
theorem dX2_canHide_14 : decode cX2_canHide 14 = .ok (.invokestatic 106, 3) := dk_184 0 106 (dk_at dksX2_canHide_0 14 rfl rfl)
theorem dX2_canHide_17 : decode cX2_canHide 17 = .ok (.ifCond .ne 16, 3) := dk_154 0 16 (dk_at dksX2_canHide_0 17 rfl rfl)
theorem dX2_canHide_20 : decode cX2_canHide 20 = .ok (.aload_n 0, 1) := dk_42 (dk_at dksX2_canHide_0 20 rfl rfl)
theorem dX2_canHide_21 : decode cX2_canHide 21 = .ok (.getfield 31, 3) := dk_180 0 31 (dk_at dksX2_canHide_0 21 rfl rfl)
theorem dX2_canHide_24 : decode cX2_canHide 24 = .ok (.iload_n 1, 1) := dk_27 (dk_at dksX2_canHide_1 0 rfl rfl)
theorem dX2_canHide_25 : decode cX2_canHide 25 = .ok (.iaload, 1) := dk_46 (dk_at dksX2_canHide_1 1 rfl rfl)
theorem dX2_canHide_26 : decode cX2_canHide 26 = .ok (.ifCond .le 7, 3) := dk_158 0 7 (dk_at dksX2_canHide_1 2 rfl rfl)
theorem dX2_canHide_29 : decode cX2_canHide 29 = .ok (.iconst 1, 1) := dk_4 (dk_at dksX2_canHide_1 5 rfl rfl)
theorem dX2_canHide_30 : decode cX2_canHide 30 = .ok (.goto 4, 3) := dk_167 0 4 (dk_at dksX2_canHide_1 6 rfl rfl)
theorem dX2_canHide_33 : decode cX2_canHide 33 = .ok (.iconst 0, 1) := dk_3 (dk_at dksX2_canHide_1 9 rfl rfl)
theorem dX2_canHide_34 : decode cX2_canHide 34 = .ok (.ireturn, 1) := dk_172 (dk_at dksX2_canHide_1 10 rfl rfl)
abbrev cX2_steams : ByteArray := prog_13_method_17_code
def yX2_steams : MethodName := ⟨RX2, "steams", "(I)V"⟩
def dkwX2_steams_0 : List UInt8 := [42, 89, 180, 0, 45, 4, 27, 120, 128, 181, 0, 45, 42, 6, 27, 3, 182, 0, 140, 177]
abbrev dktX2_steams_0 : List UInt8 := dkwX2_steams_0 ++ []
theorem dksX2_steams_0 : cX2_steams.data.toList.drop 0 = dktX2_steams_0 := by decide +kernel
theorem dX2_steams_0 : decode cX2_steams 0 = .ok (.aload_n 0, 1) := dk_42 (dk_at dksX2_steams_0 0 rfl rfl)
theorem dX2_steams_1 : decode cX2_steams 1 = .ok (.dup, 1) := dk_89 (dk_at dksX2_steams_0 1 rfl rfl)
theorem dX2_steams_2 : decode cX2_steams 2 = .ok (.getfield 45, 3) := dk_180 0 45 (dk_at dksX2_steams_0 2 rfl rfl)
theorem dX2_steams_5 : decode cX2_steams 5 = .ok (.iconst 1, 1) := dk_4 (dk_at dksX2_steams_0 5 rfl rfl)
theorem dX2_steams_6 : decode cX2_steams 6 = .ok (.iload_n 1, 1) := dk_27 (dk_at dksX2_steams_0 6 rfl rfl)
theorem dX2_steams_7 : decode cX2_steams 7 = .ok (.ishl, 1) := dk_120 (dk_at dksX2_steams_0 7 rfl rfl)
theorem dX2_steams_8 : decode cX2_steams 8 = .ok (.ior, 1) := dk_128 (dk_at dksX2_steams_0 8 rfl rfl)
theorem dX2_steams_9 : decode cX2_steams 9 = .ok (.putfield 45, 3) := dk_181 0 45 (dk_at dksX2_steams_0 9 rfl rfl)
theorem dX2_steams_12 : decode cX2_steams 12 = .ok (.aload_n 0, 1) := dk_42 (dk_at dksX2_steams_0 12 rfl rfl)
theorem dX2_steams_13 : decode cX2_steams 13 = .ok (.iconst 3, 1) := dk_6 (dk_at dksX2_steams_0 13 rfl rfl)
theorem dX2_steams_14 : decode cX2_steams 14 = .ok (.iload_n 1, 1) := dk_27 (dk_at dksX2_steams_0 14 rfl rfl)
theorem dX2_steams_15 : decode cX2_steams 15 = .ok (.iconst 0, 1) := dk_3 (dk_at dksX2_steams_0 15 rfl rfl)
theorem dX2_steams_16 : decode cX2_steams 16 = .ok (.invokevirtual 140, 3) := dk_182 0 140 (dk_at dksX2_steams_0 16 rfl rfl)
theorem dX2_steams_19 : decode cX2_steams 19 = .ok (.return_, 1) := dk_177 (dk_at dksX2_steams_0 19 rfl rfl)
abbrev cX2_goesBy : ByteArray := prog_13_method_19_code
def yX2_goesBy : MethodName := ⟨RX2, "goesBy", "()I"⟩
def dkwX2_goesBy_7 : List UInt8 := [4, 96, 181, 0, 54, 42, 180, 0, 22, 3, 184, 0, 178, 27, 172]
abbrev dktX2_goesBy_7 : List UInt8 := dkwX2_goesBy_7 ++ []
def dkwX2_goesBy_6 : List UInt8 := [182, 0, 174, 153, 0, 7, 4, 167, 0, 4, 3, 96, 60, 132, 2, 1, 167, 255, 226, 42, 89, 180, 0, 54]
abbrev dktX2_goesBy_6 : List UInt8 := dkwX2_goesBy_6 ++ dktX2_goesBy_7
def dkwX2_goesBy_5 : List UInt8 := [132, 1, 1, 167, 255, 138, 3, 60, 3, 61, 28, 42, 180, 0, 3, 180, 0, 171, 162, 0, 25, 27, 42, 28]
abbrev dktX2_goesBy_5 : List UInt8 := dkwX2_goesBy_5 ++ dktX2_goesBy_6
def dkwX2_goesBy_4 : List UInt8 := [180, 0, 147, 27, 50, 182, 0, 158, 42, 180, 0, 3, 180, 0, 147, 27, 50, 182, 0, 161, 182, 0, 168, 87]
abbrev dktX2_goesBy_4 : List UInt8 := dkwX2_goesBy_4 ++ dktX2_goesBy_5
def dkwX2_goesBy_3 : List UInt8 := [182, 0, 164, 153, 0, 44, 42, 42, 180, 0, 3, 180, 0, 147, 27, 50, 182, 0, 155, 42, 180, 0, 3]
abbrev dktX2_goesBy_3 : List UInt8 := dkwX2_goesBy_3 ++ dktX2_goesBy_4
def dkwX2_goesBy_2 : List UInt8 := [180, 0, 3, 180, 0, 147, 27, 50, 182, 0, 158, 42, 180, 0, 3, 180, 0, 147, 27, 50, 182, 0, 161]
abbrev dktX2_goesBy_2 : List UInt8 := dkwX2_goesBy_2 ++ dktX2_goesBy_3
def dkwX2_goesBy_1 : List UInt8 := [182, 0, 151, 42, 180, 0, 54, 160, 0, 87, 42, 42, 180, 0, 3, 180, 0, 147, 27, 50, 182, 0, 155, 42]
abbrev dktX2_goesBy_1 : List UInt8 := dkwX2_goesBy_1 ++ dktX2_goesBy_2
def dkwX2_goesBy_0 : List UInt8 := [3, 60, 27, 42, 180, 0, 3, 180, 0, 147, 190, 162, 0, 112, 42, 180, 0, 3, 180, 0, 147, 27, 50]
abbrev dktX2_goesBy_0 : List UInt8 := dkwX2_goesBy_0 ++ dktX2_goesBy_1
theorem dksX2_goesBy_0 : cX2_goesBy.data.toList.drop 0 = dktX2_goesBy_0 := by decide +kernel
theorem dksX2_goesBy_1 : cX2_goesBy.data.toList.drop 23 = dktX2_goesBy_1 := dk_seg dksX2_goesBy_0 23 rfl rfl
theorem dksX2_goesBy_2 : cX2_goesBy.data.toList.drop 47 = dktX2_goesBy_2 := dk_seg dksX2_goesBy_1 24 rfl rfl
theorem dksX2_goesBy_3 : cX2_goesBy.data.toList.drop 70 = dktX2_goesBy_3 := dk_seg dksX2_goesBy_2 23 rfl rfl
theorem dksX2_goesBy_4 : cX2_goesBy.data.toList.drop 93 = dktX2_goesBy_4 := dk_seg dksX2_goesBy_3 23 rfl rfl
theorem dksX2_goesBy_5 : cX2_goesBy.data.toList.drop 117 = dktX2_goesBy_5 := dk_seg dksX2_goesBy_4 24 rfl rfl
theorem dksX2_goesBy_6 : cX2_goesBy.data.toList.drop 141 = dktX2_goesBy_6 := dk_seg dksX2_goesBy_5 24 rfl rfl
theorem dksX2_goesBy_7 : cX2_goesBy.data.toList.drop 165 = dktX2_goesBy_7 := dk_seg dksX2_goesBy_6 24 rfl rfl
theorem dX2_goesBy_0 : decode cX2_goesBy 0 = .ok (.iconst 0, 1) := dk_3 (dk_at dksX2_goesBy_0 0 rfl rfl)
theorem dX2_goesBy_1 : decode cX2_goesBy 1 = .ok (.istore_n 1, 1) := dk_60 (dk_at dksX2_goesBy_0 1 rfl rfl)
theorem dX2_goesBy_2 : decode cX2_goesBy 2 = .ok (.iload_n 1, 1) := dk_27 (dk_at dksX2_goesBy_0 2 rfl rfl)
theorem dX2_goesBy_3 : decode cX2_goesBy 3 = .ok (.aload_n 0, 1) := dk_42 (dk_at dksX2_goesBy_0 3 rfl rfl)
theorem dX2_goesBy_4 : decode cX2_goesBy 4 = .ok (.getfield 3, 3) := dk_180 0 3 (dk_at dksX2_goesBy_0 4 rfl rfl)
theorem dX2_goesBy_7 : decode cX2_goesBy 7 = .ok (.getfield 147, 3) := dk_180 0 147 (dk_at dksX2_goesBy_0 7 rfl rfl)
theorem dX2_goesBy_10 : decode cX2_goesBy 10 = .ok (.arraylength, 1) := dk_190 (dk_at dksX2_goesBy_0 10 rfl rfl)
theorem dX2_goesBy_11 : decode cX2_goesBy 11 = .ok (.if_icmp .ge 112, 3) := dk_162 0 112 (dk_at dksX2_goesBy_0 11 rfl rfl)
theorem dX2_goesBy_14 : decode cX2_goesBy 14 = .ok (.aload_n 0, 1) := dk_42 (dk_at dksX2_goesBy_0 14 rfl rfl)
theorem dX2_goesBy_15 : decode cX2_goesBy 15 = .ok (.getfield 3, 3) := dk_180 0 3 (dk_at dksX2_goesBy_0 15 rfl rfl)
theorem dX2_goesBy_18 : decode cX2_goesBy 18 = .ok (.getfield 147, 3) := dk_180 0 147 (dk_at dksX2_goesBy_0 18 rfl rfl)
theorem dX2_goesBy_21 : decode cX2_goesBy 21 = .ok (.iload_n 1, 1) := dk_27 (dk_at dksX2_goesBy_0 21 rfl rfl)
theorem dX2_goesBy_22 : decode cX2_goesBy 22 = .ok (.aaload, 1) := dk_50 (dk_at dksX2_goesBy_0 22 rfl rfl)
theorem dX2_goesBy_23 : decode cX2_goesBy 23 = .ok (.invokevirtual 151, 3) := dk_182 0 151 (dk_at dksX2_goesBy_1 0 rfl rfl)
theorem dX2_goesBy_26 : decode cX2_goesBy 26 = .ok (.aload_n 0, 1) := dk_42 (dk_at dksX2_goesBy_1 3 rfl rfl)
theorem dX2_goesBy_27 : decode cX2_goesBy 27 = .ok (.getfield 54, 3) := dk_180 0 54 (dk_at dksX2_goesBy_1 4 rfl rfl)
theorem dX2_goesBy_30 : decode cX2_goesBy 30 = .ok (.if_icmp .ne 87, 3) := dk_160 0 87 (dk_at dksX2_goesBy_1 7 rfl rfl)
theorem dX2_goesBy_33 : decode cX2_goesBy 33 = .ok (.aload_n 0, 1) := dk_42 (dk_at dksX2_goesBy_1 10 rfl rfl)
theorem dX2_goesBy_34 : decode cX2_goesBy 34 = .ok (.aload_n 0, 1) := dk_42 (dk_at dksX2_goesBy_1 11 rfl rfl)
theorem dX2_goesBy_35 : decode cX2_goesBy 35 = .ok (.getfield 3, 3) := dk_180 0 3 (dk_at dksX2_goesBy_1 12 rfl rfl)
theorem dX2_goesBy_38 : decode cX2_goesBy 38 = .ok (.getfield 147, 3) := dk_180 0 147 (dk_at dksX2_goesBy_1 15 rfl rfl)
theorem dX2_goesBy_41 : decode cX2_goesBy 41 = .ok (.iload_n 1, 1) := dk_27 (dk_at dksX2_goesBy_1 18 rfl rfl)
theorem dX2_goesBy_42 : decode cX2_goesBy 42 = .ok (.aaload, 1) := dk_50 (dk_at dksX2_goesBy_1 19 rfl rfl)
theorem dX2_goesBy_43 : decode cX2_goesBy 43 = .ok (.invokevirtual 155, 3) := dk_182 0 155 (dk_at dksX2_goesBy_1 20 rfl rfl)
theorem dX2_goesBy_46 : decode cX2_goesBy 46 = .ok (.aload_n 0, 1) := dk_42 (dk_at dksX2_goesBy_1 23 rfl rfl)
theorem dX2_goesBy_47 : decode cX2_goesBy 47 = .ok (.getfield 3, 3) := dk_180 0 3 (dk_at dksX2_goesBy_2 0 rfl rfl)
theorem dX2_goesBy_50 : decode cX2_goesBy 50 = .ok (.getfield 147, 3) := dk_180 0 147 (dk_at dksX2_goesBy_2 3 rfl rfl)
theorem dX2_goesBy_53 : decode cX2_goesBy 53 = .ok (.iload_n 1, 1) := dk_27 (dk_at dksX2_goesBy_2 6 rfl rfl)
theorem dX2_goesBy_54 : decode cX2_goesBy 54 = .ok (.aaload, 1) := dk_50 (dk_at dksX2_goesBy_2 7 rfl rfl)
theorem dX2_goesBy_55 : decode cX2_goesBy 55 = .ok (.invokevirtual 158, 3) := dk_182 0 158 (dk_at dksX2_goesBy_2 8 rfl rfl)
theorem dX2_goesBy_58 : decode cX2_goesBy 58 = .ok (.aload_n 0, 1) := dk_42 (dk_at dksX2_goesBy_2 11 rfl rfl)
theorem dX2_goesBy_59 : decode cX2_goesBy 59 = .ok (.getfield 3, 3) := dk_180 0 3 (dk_at dksX2_goesBy_2 12 rfl rfl)
theorem dX2_goesBy_62 : decode cX2_goesBy 62 = .ok (.getfield 147, 3) := dk_180 0 147 (dk_at dksX2_goesBy_2 15 rfl rfl)
theorem dX2_goesBy_65 : decode cX2_goesBy 65 = .ok (.iload_n 1, 1) := dk_27 (dk_at dksX2_goesBy_2 18 rfl rfl)
theorem dX2_goesBy_66 : decode cX2_goesBy 66 = .ok (.aaload, 1) := dk_50 (dk_at dksX2_goesBy_2 19 rfl rfl)
theorem dX2_goesBy_67 : decode cX2_goesBy 67 = .ok (.invokevirtual 161, 3) := dk_182 0 161 (dk_at dksX2_goesBy_2 20 rfl rfl)
theorem dX2_goesBy_70 : decode cX2_goesBy 70 = .ok (.invokevirtual 164, 3) := dk_182 0 164 (dk_at dksX2_goesBy_3 0 rfl rfl)
theorem dX2_goesBy_73 : decode cX2_goesBy 73 = .ok (.ifCond .eq 44, 3) := dk_153 0 44 (dk_at dksX2_goesBy_3 3 rfl rfl)
theorem dX2_goesBy_76 : decode cX2_goesBy 76 = .ok (.aload_n 0, 1) := dk_42 (dk_at dksX2_goesBy_3 6 rfl rfl)
theorem dX2_goesBy_77 : decode cX2_goesBy 77 = .ok (.aload_n 0, 1) := dk_42 (dk_at dksX2_goesBy_3 7 rfl rfl)
theorem dX2_goesBy_78 : decode cX2_goesBy 78 = .ok (.getfield 3, 3) := dk_180 0 3 (dk_at dksX2_goesBy_3 8 rfl rfl)
theorem dX2_goesBy_81 : decode cX2_goesBy 81 = .ok (.getfield 147, 3) := dk_180 0 147 (dk_at dksX2_goesBy_3 11 rfl rfl)
theorem dX2_goesBy_84 : decode cX2_goesBy 84 = .ok (.iload_n 1, 1) := dk_27 (dk_at dksX2_goesBy_3 14 rfl rfl)
theorem dX2_goesBy_85 : decode cX2_goesBy 85 = .ok (.aaload, 1) := dk_50 (dk_at dksX2_goesBy_3 15 rfl rfl)
theorem dX2_goesBy_86 : decode cX2_goesBy 86 = .ok (.invokevirtual 155, 3) := dk_182 0 155 (dk_at dksX2_goesBy_3 16 rfl rfl)
theorem dX2_goesBy_89 : decode cX2_goesBy 89 = .ok (.aload_n 0, 1) := dk_42 (dk_at dksX2_goesBy_3 19 rfl rfl)
theorem dX2_goesBy_90 : decode cX2_goesBy 90 = .ok (.getfield 3, 3) := dk_180 0 3 (dk_at dksX2_goesBy_3 20 rfl rfl)
theorem dX2_goesBy_93 : decode cX2_goesBy 93 = .ok (.getfield 147, 3) := dk_180 0 147 (dk_at dksX2_goesBy_4 0 rfl rfl)
theorem dX2_goesBy_96 : decode cX2_goesBy 96 = .ok (.iload_n 1, 1) := dk_27 (dk_at dksX2_goesBy_4 3 rfl rfl)
theorem dX2_goesBy_97 : decode cX2_goesBy 97 = .ok (.aaload, 1) := dk_50 (dk_at dksX2_goesBy_4 4 rfl rfl)
theorem dX2_goesBy_98 : decode cX2_goesBy 98 = .ok (.invokevirtual 158, 3) := dk_182 0 158 (dk_at dksX2_goesBy_4 5 rfl rfl)
theorem dX2_goesBy_101 : decode cX2_goesBy 101 = .ok (.aload_n 0, 1) := dk_42 (dk_at dksX2_goesBy_4 8 rfl rfl)
theorem dX2_goesBy_102 : decode cX2_goesBy 102 = .ok (.getfield 3, 3) := dk_180 0 3 (dk_at dksX2_goesBy_4 9 rfl rfl)
theorem dX2_goesBy_105 : decode cX2_goesBy 105 = .ok (.getfield 147, 3) := dk_180 0 147 (dk_at dksX2_goesBy_4 12 rfl rfl)
theorem dX2_goesBy_108 : decode cX2_goesBy 108 = .ok (.iload_n 1, 1) := dk_27 (dk_at dksX2_goesBy_4 15 rfl rfl)
theorem dX2_goesBy_109 : decode cX2_goesBy 109 = .ok (.aaload, 1) := dk_50 (dk_at dksX2_goesBy_4 16 rfl rfl)
theorem dX2_goesBy_110 : decode cX2_goesBy 110 = .ok (.invokevirtual 161, 3) := dk_182 0 161 (dk_at dksX2_goesBy_4 17 rfl rfl)
theorem dX2_goesBy_113 : decode cX2_goesBy 113 = .ok (.invokevirtual 168, 3) := dk_182 0 168 (dk_at dksX2_goesBy_4 20 rfl rfl)
theorem dX2_goesBy_116 : decode cX2_goesBy 116 = .ok (.pop, 1) := dk_87 (dk_at dksX2_goesBy_4 23 rfl rfl)
theorem dX2_goesBy_117 : decode cX2_goesBy 117 = .ok (.iinc 1 1, 3) := dk_132 1 1 (dk_at dksX2_goesBy_5 0 rfl rfl)
theorem dX2_goesBy_120 : decode cX2_goesBy 120 = .ok (.goto (-118), 3) := dk_167 255 138 (dk_at dksX2_goesBy_5 3 rfl rfl)
theorem dX2_goesBy_123 : decode cX2_goesBy 123 = .ok (.iconst 0, 1) := dk_3 (dk_at dksX2_goesBy_5 6 rfl rfl)
theorem dX2_goesBy_124 : decode cX2_goesBy 124 = .ok (.istore_n 1, 1) := dk_60 (dk_at dksX2_goesBy_5 7 rfl rfl)
theorem dX2_goesBy_125 : decode cX2_goesBy 125 = .ok (.iconst 0, 1) := dk_3 (dk_at dksX2_goesBy_5 8 rfl rfl)
theorem dX2_goesBy_126 : decode cX2_goesBy 126 = .ok (.istore_n 2, 1) := dk_61 (dk_at dksX2_goesBy_5 9 rfl rfl)
theorem dX2_goesBy_127 : decode cX2_goesBy 127 = .ok (.iload_n 2, 1) := dk_28 (dk_at dksX2_goesBy_5 10 rfl rfl)
theorem dX2_goesBy_128 : decode cX2_goesBy 128 = .ok (.aload_n 0, 1) := dk_42 (dk_at dksX2_goesBy_5 11 rfl rfl)
theorem dX2_goesBy_129 : decode cX2_goesBy 129 = .ok (.getfield 3, 3) := dk_180 0 3 (dk_at dksX2_goesBy_5 12 rfl rfl)
theorem dX2_goesBy_132 : decode cX2_goesBy 132 = .ok (.getfield 171, 3) := dk_180 0 171 (dk_at dksX2_goesBy_5 15 rfl rfl)
theorem dX2_goesBy_135 : decode cX2_goesBy 135 = .ok (.if_icmp .ge 25, 3) := dk_162 0 25 (dk_at dksX2_goesBy_5 18 rfl rfl)
theorem dX2_goesBy_138 : decode cX2_goesBy 138 = .ok (.iload_n 1, 1) := dk_27 (dk_at dksX2_goesBy_5 21 rfl rfl)
theorem dX2_goesBy_139 : decode cX2_goesBy 139 = .ok (.aload_n 0, 1) := dk_42 (dk_at dksX2_goesBy_5 22 rfl rfl)
theorem dX2_goesBy_140 : decode cX2_goesBy 140 = .ok (.iload_n 2, 1) := dk_28 (dk_at dksX2_goesBy_5 23 rfl rfl)
theorem dX2_goesBy_141 : decode cX2_goesBy 141 = .ok (.invokevirtual 174, 3) := dk_182 0 174 (dk_at dksX2_goesBy_6 0 rfl rfl)
theorem dX2_goesBy_144 : decode cX2_goesBy 144 = .ok (.ifCond .eq 7, 3) := dk_153 0 7 (dk_at dksX2_goesBy_6 3 rfl rfl)
theorem dX2_goesBy_147 : decode cX2_goesBy 147 = .ok (.iconst 1, 1) := dk_4 (dk_at dksX2_goesBy_6 6 rfl rfl)
theorem dX2_goesBy_148 : decode cX2_goesBy 148 = .ok (.goto 4, 3) := dk_167 0 4 (dk_at dksX2_goesBy_6 7 rfl rfl)
theorem dX2_goesBy_151 : decode cX2_goesBy 151 = .ok (.iconst 0, 1) := dk_3 (dk_at dksX2_goesBy_6 10 rfl rfl)
theorem dX2_goesBy_152 : decode cX2_goesBy 152 = .ok (.iadd, 1) := dk_96 (dk_at dksX2_goesBy_6 11 rfl rfl)
theorem dX2_goesBy_153 : decode cX2_goesBy 153 = .ok (.istore_n 1, 1) := dk_60 (dk_at dksX2_goesBy_6 12 rfl rfl)
theorem dX2_goesBy_154 : decode cX2_goesBy 154 = .ok (.iinc 2 1, 3) := dk_132 2 1 (dk_at dksX2_goesBy_6 13 rfl rfl)
theorem dX2_goesBy_157 : decode cX2_goesBy 157 = .ok (.goto (-30), 3) := dk_167 255 226 (dk_at dksX2_goesBy_6 16 rfl rfl)
theorem dX2_goesBy_160 : decode cX2_goesBy 160 = .ok (.aload_n 0, 1) := dk_42 (dk_at dksX2_goesBy_6 19 rfl rfl)
theorem dX2_goesBy_161 : decode cX2_goesBy 161 = .ok (.dup, 1) := dk_89 (dk_at dksX2_goesBy_6 20 rfl rfl)
theorem dX2_goesBy_162 : decode cX2_goesBy 162 = .ok (.getfield 54, 3) := dk_180 0 54 (dk_at dksX2_goesBy_6 21 rfl rfl)
theorem dX2_goesBy_165 : decode cX2_goesBy 165 = .ok (.iconst 1, 1) := dk_4 (dk_at dksX2_goesBy_7 0 rfl rfl)
theorem dX2_goesBy_166 : decode cX2_goesBy 166 = .ok (.iadd, 1) := dk_96 (dk_at dksX2_goesBy_7 1 rfl rfl)
theorem dX2_goesBy_167 : decode cX2_goesBy 167 = .ok (.putfield 54, 3) := dk_181 0 54 (dk_at dksX2_goesBy_7 2 rfl rfl)
theorem dX2_goesBy_170 : decode cX2_goesBy 170 = .ok (.aload_n 0, 1) := dk_42 (dk_at dksX2_goesBy_7 5 rfl rfl)
theorem dX2_goesBy_171 : decode cX2_goesBy 171 = .ok (.getfield 22, 3) := dk_180 0 22 (dk_at dksX2_goesBy_7 6 rfl rfl)
theorem dX2_goesBy_174 : decode cX2_goesBy 174 = .ok (.iconst 0, 1) := dk_3 (dk_at dksX2_goesBy_7 9 rfl rfl)
theorem dX2_goesBy_175 : decode cX2_goesBy 175 = .ok (.invokestatic 178, 3) := dk_184 0 178 (dk_at dksX2_goesBy_7 10 rfl rfl)
theorem dX2_goesBy_178 : decode cX2_goesBy 178 = .ok (.iload_n 1, 1) := dk_27 (dk_at dksX2_goesBy_7 13 rfl rfl)
theorem dX2_goesBy_179 : decode cX2_goesBy 179 = .ok (.ireturn, 1) := dk_172 (dk_at dksX2_goesBy_7 14 rfl rfl)
abbrev cX2_flies : ByteArray := prog_13_method_18_code
def yX2_flies : MethodName := ⟨RX2, "flies", "(I)Z"⟩
def dkwX2_flies_4 : List UInt8 := [42, 180, 0, 25, 27, 3, 79, 42, 89, 180, 0, 63, 4, 96, 181, 0, 63, 4, 172]
abbrev dktX2_flies_4 : List UInt8 := dkwX2_flies_4 ++ []
def dkwX2_flies_3 : List UInt8 := [180, 0, 48, 4, 27, 120, 128, 181, 0, 48, 42, 180, 0, 28, 27, 3, 79, 42, 180, 0, 31, 27, 3, 79]
abbrev dktX2_flies_3 : List UInt8 := dkwX2_flies_3 ++ dktX2_flies_4
def dkwX2_flies_2 : List UInt8 := [184, 0, 106, 153, 0, 5, 3, 172, 42, 7, 27, 42, 180, 0, 31, 27, 46, 182, 0, 140, 42, 89]
abbrev dktX2_flies_2 : List UInt8 := dkwX2_flies_2 ++ dktX2_flies_3
def dkwX2_flies_1 : List UInt8 := [46, 4, 96, 184, 0, 135, 79, 42, 180, 0, 28, 27, 46, 16, 21, 160, 0, 14, 42, 180, 0, 45, 27]
abbrev dktX2_flies_1 : List UInt8 := dkwX2_flies_1 ++ dktX2_flies_2
def dkwX2_flies_0 : List UInt8 := [42, 180, 0, 28, 27, 46, 154, 0, 5, 3, 172, 42, 180, 0, 28, 27, 17, 39, 16, 42, 180, 0, 28, 27]
abbrev dktX2_flies_0 : List UInt8 := dkwX2_flies_0 ++ dktX2_flies_1
theorem dksX2_flies_0 : cX2_flies.data.toList.drop 0 = dktX2_flies_0 := by decide +kernel
theorem dksX2_flies_1 : cX2_flies.data.toList.drop 24 = dktX2_flies_1 := dk_seg dksX2_flies_0 24 rfl rfl
theorem dksX2_flies_2 : cX2_flies.data.toList.drop 47 = dktX2_flies_2 := dk_seg dksX2_flies_1 23 rfl rfl
theorem dksX2_flies_3 : cX2_flies.data.toList.drop 69 = dktX2_flies_3 := dk_seg dksX2_flies_2 22 rfl rfl
theorem dksX2_flies_4 : cX2_flies.data.toList.drop 93 = dktX2_flies_4 := dk_seg dksX2_flies_3 24 rfl rfl
theorem dX2_flies_0 : decode cX2_flies 0 = .ok (.aload_n 0, 1) := dk_42 (dk_at dksX2_flies_0 0 rfl rfl)
theorem dX2_flies_1 : decode cX2_flies 1 = .ok (.getfield 28, 3) := dk_180 0 28 (dk_at dksX2_flies_0 1 rfl rfl)
theorem dX2_flies_4 : decode cX2_flies 4 = .ok (.iload_n 1, 1) := dk_27 (dk_at dksX2_flies_0 4 rfl rfl)
theorem dX2_flies_5 : decode cX2_flies 5 = .ok (.iaload, 1) := dk_46 (dk_at dksX2_flies_0 5 rfl rfl)
theorem dX2_flies_6 : decode cX2_flies 6 = .ok (.ifCond .ne 5, 3) := dk_154 0 5 (dk_at dksX2_flies_0 6 rfl rfl)
theorem dX2_flies_9 : decode cX2_flies 9 = .ok (.iconst 0, 1) := dk_3 (dk_at dksX2_flies_0 9 rfl rfl)
theorem dX2_flies_10 : decode cX2_flies 10 = .ok (.ireturn, 1) := dk_172 (dk_at dksX2_flies_0 10 rfl rfl)
theorem dX2_flies_11 : decode cX2_flies 11 = .ok (.aload_n 0, 1) := dk_42 (dk_at dksX2_flies_0 11 rfl rfl)
theorem dX2_flies_12 : decode cX2_flies 12 = .ok (.getfield 28, 3) := dk_180 0 28 (dk_at dksX2_flies_0 12 rfl rfl)
theorem dX2_flies_15 : decode cX2_flies 15 = .ok (.iload_n 1, 1) := dk_27 (dk_at dksX2_flies_0 15 rfl rfl)
theorem dX2_flies_16 : decode cX2_flies 16 = .ok (.sipush 10000, 3) := dk_17 39 16 (dk_at dksX2_flies_0 16 rfl rfl)
theorem dX2_flies_19 : decode cX2_flies 19 = .ok (.aload_n 0, 1) := dk_42 (dk_at dksX2_flies_0 19 rfl rfl)
theorem dX2_flies_20 : decode cX2_flies 20 = .ok (.getfield 28, 3) := dk_180 0 28 (dk_at dksX2_flies_0 20 rfl rfl)
theorem dX2_flies_23 : decode cX2_flies 23 = .ok (.iload_n 1, 1) := dk_27 (dk_at dksX2_flies_0 23 rfl rfl)
theorem dX2_flies_24 : decode cX2_flies 24 = .ok (.iaload, 1) := dk_46 (dk_at dksX2_flies_1 0 rfl rfl)
theorem dX2_flies_25 : decode cX2_flies 25 = .ok (.iconst 1, 1) := dk_4 (dk_at dksX2_flies_1 1 rfl rfl)
theorem dX2_flies_26 : decode cX2_flies 26 = .ok (.iadd, 1) := dk_96 (dk_at dksX2_flies_1 2 rfl rfl)
theorem dX2_flies_27 : decode cX2_flies 27 = .ok (.invokestatic 135, 3) := dk_184 0 135 (dk_at dksX2_flies_1 3 rfl rfl)
theorem dX2_flies_30 : decode cX2_flies 30 = .ok (.iastore, 1) := dk_79 (dk_at dksX2_flies_1 6 rfl rfl)
theorem dX2_flies_31 : decode cX2_flies 31 = .ok (.aload_n 0, 1) := dk_42 (dk_at dksX2_flies_1 7 rfl rfl)
theorem dX2_flies_32 : decode cX2_flies 32 = .ok (.getfield 28, 3) := dk_180 0 28 (dk_at dksX2_flies_1 8 rfl rfl)
theorem dX2_flies_35 : decode cX2_flies 35 = .ok (.iload_n 1, 1) := dk_27 (dk_at dksX2_flies_1 11 rfl rfl)
theorem dX2_flies_36 : decode cX2_flies 36 = .ok (.iaload, 1) := dk_46 (dk_at dksX2_flies_1 12 rfl rfl)
theorem dX2_flies_37 : decode cX2_flies 37 = .ok (.bipush 21, 2) := dk_16 21 (dk_at dksX2_flies_1 13 rfl rfl)
theorem dX2_flies_39 : decode cX2_flies 39 = .ok (.if_icmp .ne 14, 3) := dk_160 0 14 (dk_at dksX2_flies_1 15 rfl rfl)
theorem dX2_flies_42 : decode cX2_flies 42 = .ok (.aload_n 0, 1) := dk_42 (dk_at dksX2_flies_1 18 rfl rfl)
theorem dX2_flies_43 : decode cX2_flies 43 = .ok (.getfield 45, 3) := dk_180 0 45 (dk_at dksX2_flies_1 19 rfl rfl)
theorem dX2_flies_46 : decode cX2_flies 46 = .ok (.iload_n 1, 1) := dk_27 (dk_at dksX2_flies_1 22 rfl rfl)
theorem dX2_flies_47 : decode cX2_flies 47 = .ok (.invokestatic 106, 3) := dk_184 0 106 (dk_at dksX2_flies_2 0 rfl rfl)
theorem dX2_flies_50 : decode cX2_flies 50 = .ok (.ifCond .eq 5, 3) := dk_153 0 5 (dk_at dksX2_flies_2 3 rfl rfl)
theorem dX2_flies_53 : decode cX2_flies 53 = .ok (.iconst 0, 1) := dk_3 (dk_at dksX2_flies_2 6 rfl rfl)
theorem dX2_flies_54 : decode cX2_flies 54 = .ok (.ireturn, 1) := dk_172 (dk_at dksX2_flies_2 7 rfl rfl)
theorem dX2_flies_55 : decode cX2_flies 55 = .ok (.aload_n 0, 1) := dk_42 (dk_at dksX2_flies_2 8 rfl rfl)
theorem dX2_flies_56 : decode cX2_flies 56 = .ok (.iconst 4, 1) := dk_7 (dk_at dksX2_flies_2 9 rfl rfl)
theorem dX2_flies_57 : decode cX2_flies 57 = .ok (.iload_n 1, 1) := dk_27 (dk_at dksX2_flies_2 10 rfl rfl)
theorem dX2_flies_58 : decode cX2_flies 58 = .ok (.aload_n 0, 1) := dk_42 (dk_at dksX2_flies_2 11 rfl rfl)
theorem dX2_flies_59 : decode cX2_flies 59 = .ok (.getfield 31, 3) := dk_180 0 31 (dk_at dksX2_flies_2 12 rfl rfl)
theorem dX2_flies_62 : decode cX2_flies 62 = .ok (.iload_n 1, 1) := dk_27 (dk_at dksX2_flies_2 15 rfl rfl)
theorem dX2_flies_63 : decode cX2_flies 63 = .ok (.iaload, 1) := dk_46 (dk_at dksX2_flies_2 16 rfl rfl)
theorem dX2_flies_64 : decode cX2_flies 64 = .ok (.invokevirtual 140, 3) := dk_182 0 140 (dk_at dksX2_flies_2 17 rfl rfl)
theorem dX2_flies_67 : decode cX2_flies 67 = .ok (.aload_n 0, 1) := dk_42 (dk_at dksX2_flies_2 20 rfl rfl)
theorem dX2_flies_68 : decode cX2_flies 68 = .ok (.dup, 1) := dk_89 (dk_at dksX2_flies_2 21 rfl rfl)
theorem dX2_flies_69 : decode cX2_flies 69 = .ok (.getfield 48, 3) := dk_180 0 48 (dk_at dksX2_flies_3 0 rfl rfl)
theorem dX2_flies_72 : decode cX2_flies 72 = .ok (.iconst 1, 1) := dk_4 (dk_at dksX2_flies_3 3 rfl rfl)
theorem dX2_flies_73 : decode cX2_flies 73 = .ok (.iload_n 1, 1) := dk_27 (dk_at dksX2_flies_3 4 rfl rfl)
theorem dX2_flies_74 : decode cX2_flies 74 = .ok (.ishl, 1) := dk_120 (dk_at dksX2_flies_3 5 rfl rfl)
theorem dX2_flies_75 : decode cX2_flies 75 = .ok (.ior, 1) := dk_128 (dk_at dksX2_flies_3 6 rfl rfl)
theorem dX2_flies_76 : decode cX2_flies 76 = .ok (.putfield 48, 3) := dk_181 0 48 (dk_at dksX2_flies_3 7 rfl rfl)
theorem dX2_flies_79 : decode cX2_flies 79 = .ok (.aload_n 0, 1) := dk_42 (dk_at dksX2_flies_3 10 rfl rfl)
theorem dX2_flies_80 : decode cX2_flies 80 = .ok (.getfield 28, 3) := dk_180 0 28 (dk_at dksX2_flies_3 11 rfl rfl)
theorem dX2_flies_83 : decode cX2_flies 83 = .ok (.iload_n 1, 1) := dk_27 (dk_at dksX2_flies_3 14 rfl rfl)
theorem dX2_flies_84 : decode cX2_flies 84 = .ok (.iconst 0, 1) := dk_3 (dk_at dksX2_flies_3 15 rfl rfl)
theorem dX2_flies_85 : decode cX2_flies 85 = .ok (.iastore, 1) := dk_79 (dk_at dksX2_flies_3 16 rfl rfl)
theorem dX2_flies_86 : decode cX2_flies 86 = .ok (.aload_n 0, 1) := dk_42 (dk_at dksX2_flies_3 17 rfl rfl)
theorem dX2_flies_87 : decode cX2_flies 87 = .ok (.getfield 31, 3) := dk_180 0 31 (dk_at dksX2_flies_3 18 rfl rfl)
theorem dX2_flies_90 : decode cX2_flies 90 = .ok (.iload_n 1, 1) := dk_27 (dk_at dksX2_flies_3 21 rfl rfl)
theorem dX2_flies_91 : decode cX2_flies 91 = .ok (.iconst 0, 1) := dk_3 (dk_at dksX2_flies_3 22 rfl rfl)
theorem dX2_flies_92 : decode cX2_flies 92 = .ok (.iastore, 1) := dk_79 (dk_at dksX2_flies_3 23 rfl rfl)
theorem dX2_flies_93 : decode cX2_flies 93 = .ok (.aload_n 0, 1) := dk_42 (dk_at dksX2_flies_4 0 rfl rfl)
theorem dX2_flies_94 : decode cX2_flies 94 = .ok (.getfield 25, 3) := dk_180 0 25 (dk_at dksX2_flies_4 1 rfl rfl)
theorem dX2_flies_97 : decode cX2_flies 97 = .ok (.iload_n 1, 1) := dk_27 (dk_at dksX2_flies_4 4 rfl rfl)
theorem dX2_flies_98 : decode cX2_flies 98 = .ok (.iconst 0, 1) := dk_3 (dk_at dksX2_flies_4 5 rfl rfl)
theorem dX2_flies_99 : decode cX2_flies 99 = .ok (.iastore, 1) := dk_79 (dk_at dksX2_flies_4 6 rfl rfl)
theorem dX2_flies_100 : decode cX2_flies 100 = .ok (.aload_n 0, 1) := dk_42 (dk_at dksX2_flies_4 7 rfl rfl)
theorem dX2_flies_101 : decode cX2_flies 101 = .ok (.dup, 1) := dk_89 (dk_at dksX2_flies_4 8 rfl rfl)
theorem dX2_flies_102 : decode cX2_flies 102 = .ok (.getfield 63, 3) := dk_180 0 63 (dk_at dksX2_flies_4 9 rfl rfl)
theorem dX2_flies_105 : decode cX2_flies 105 = .ok (.iconst 1, 1) := dk_4 (dk_at dksX2_flies_4 12 rfl rfl)
theorem dX2_flies_106 : decode cX2_flies 106 = .ok (.iadd, 1) := dk_96 (dk_at dksX2_flies_4 13 rfl rfl)
theorem dX2_flies_107 : decode cX2_flies 107 = .ok (.putfield 63, 3) := dk_181 0 63 (dk_at dksX2_flies_4 14 rfl rfl)
theorem dX2_flies_110 : decode cX2_flies 110 = .ok (.iconst 1, 1) := dk_4 (dk_at dksX2_flies_4 17 rfl rfl)
theorem dX2_flies_111 : decode cX2_flies 111 = .ok (.ireturn, 1) := dk_172 (dk_at dksX2_flies_4 18 rfl rfl)
abbrev cX2_markAt : ByteArray := prog_13_method_5_code
def yX2_markAt : MethodName := ⟨RX2, "markAt", "(II)I"⟩
def dkwX2_markAt_0 : List UInt8 := [42, 180, 0, 34, 16, 40, 27, 104, 28, 96, 46, 172]
abbrev dktX2_markAt_0 : List UInt8 := dkwX2_markAt_0 ++ []
theorem dksX2_markAt_0 : cX2_markAt.data.toList.drop 0 = dktX2_markAt_0 := by decide +kernel
theorem dX2_markAt_0 : decode cX2_markAt 0 = .ok (.aload_n 0, 1) := dk_42 (dk_at dksX2_markAt_0 0 rfl rfl)
theorem dX2_markAt_1 : decode cX2_markAt 1 = .ok (.getfield 34, 3) := dk_180 0 34 (dk_at dksX2_markAt_0 1 rfl rfl)
theorem dX2_markAt_4 : decode cX2_markAt 4 = .ok (.bipush 40, 2) := dk_16 40 (dk_at dksX2_markAt_0 4 rfl rfl)
theorem dX2_markAt_6 : decode cX2_markAt 6 = .ok (.iload_n 1, 1) := dk_27 (dk_at dksX2_markAt_0 6 rfl rfl)
theorem dX2_markAt_7 : decode cX2_markAt 7 = .ok (.imul, 1) := dk_104 (dk_at dksX2_markAt_0 7 rfl rfl)
theorem dX2_markAt_8 : decode cX2_markAt 8 = .ok (.iload_n 2, 1) := dk_28 (dk_at dksX2_markAt_0 8 rfl rfl)
theorem dX2_markAt_9 : decode cX2_markAt 9 = .ok (.iadd, 1) := dk_96 (dk_at dksX2_markAt_0 9 rfl rfl)
theorem dX2_markAt_10 : decode cX2_markAt 10 = .ok (.iaload, 1) := dk_46 (dk_at dksX2_markAt_0 10 rfl rfl)
theorem dX2_markAt_11 : decode cX2_markAt 11 = .ok (.ireturn, 1) := dk_172 (dk_at dksX2_markAt_0 11 rfl rfl)
abbrev cX2_thinks : ByteArray := prog_13_method_3_code
def yX2_thinks : MethodName := ⟨RX2, "thinks", "(LSilkClerks$Trays;)LSilkClerks$Trays;"⟩
def dkwX2_thinks_0 : List UInt8 := [42, 43, 182, 0, 72, 42, 4, 181, 0, 76, 42, 176]
abbrev dktX2_thinks_0 : List UInt8 := dkwX2_thinks_0 ++ []
theorem dksX2_thinks_0 : cX2_thinks.data.toList.drop 0 = dktX2_thinks_0 := by decide +kernel
theorem dX2_thinks_0 : decode cX2_thinks 0 = .ok (.aload_n 0, 1) := dk_42 (dk_at dksX2_thinks_0 0 rfl rfl)
theorem dX2_thinks_1 : decode cX2_thinks 1 = .ok (.aload_n 1, 1) := dk_43 (dk_at dksX2_thinks_0 1 rfl rfl)
theorem dX2_thinks_2 : decode cX2_thinks 2 = .ok (.invokevirtual 72, 3) := dk_182 0 72 (dk_at dksX2_thinks_0 2 rfl rfl)
theorem dX2_thinks_5 : decode cX2_thinks 5 = .ok (.aload_n 0, 1) := dk_42 (dk_at dksX2_thinks_0 5 rfl rfl)
theorem dX2_thinks_6 : decode cX2_thinks 6 = .ok (.iconst 1, 1) := dk_4 (dk_at dksX2_thinks_0 6 rfl rfl)
theorem dX2_thinks_7 : decode cX2_thinks 7 = .ok (.putfield 76, 3) := dk_181 0 76 (dk_at dksX2_thinks_0 7 rfl rfl)
theorem dX2_thinks_10 : decode cX2_thinks 10 = .ok (.aload_n 0, 1) := dk_42 (dk_at dksX2_thinks_0 10 rfl rfl)
theorem dX2_thinks_11 : decode cX2_thinks 11 = .ok (.areturn, 1) := dk_176 (dk_at dksX2_thinks_0 11 rfl rfl)
theorem q157 : (Jvm.Cond.initialized "SilkClerks$Trays") ∈ lw_all := lw_g (lw_at lw_m1 3 rfl) rfl
theorem q250 : (Jvm.Cond.instantiable "SilkClerks$Trays" (19 : Nat)) ∈ lw_all := lw_g (lw_at lw_m1 96 rfl) rfl
theorem q252 : (Jvm.Cond.instanceMethod ({ cls := "SilkClerks$Trays", name := "<init>", desc := "(LSilkClerks;)V" } : Jvm.MethodName)) ∈ lw_all := lw_g (lw_at lw_m1 98 rfl) rfl
theorem q253 : (Jvm.Cond.code ({ cls := "SilkClerks$Trays", name := "<init>", desc := "(LSilkClerks;)V" } : Jvm.MethodName) prog_13_method_1_code (2 : Nat) (Option.none : Option Jvm.ClassFile.FieldType)) ∈ lw_all := lw_g (lw_at lw_m1 99 rfl) rfl
theorem q254 : (Jvm.Cond.methodLink "SilkClerks$Trays" (9 : Nat) ({ cls := "java/lang/Object", name := "<init>", desc := "()V" } : Jvm.MethodName)) ∈ lw_all := lw_g (lw_at lw_m1 100 rfl) rfl
theorem q255 : (Jvm.Cond.fieldLink "SilkClerks$Trays" (15 : Nat) "SilkClerks$Trays" "lazy" "[I") ∈ lw_all := lw_g (lw_at lw_m1 101 rfl) rfl
theorem q257 : (Jvm.Cond.fieldLink "SilkClerks$Trays" (19 : Nat) "SilkClerks$Trays" "eaten" "[I") ∈ lw_all := lw_g (lw_at lw_m1 103 rfl) rfl
theorem q259 : (Jvm.Cond.fieldLink "SilkClerks$Trays" (22 : Nat) "SilkClerks$Trays" "today" "[I") ∈ lw_all := lw_g (lw_at lw_m1 105 rfl) rfl
theorem q261 : (Jvm.Cond.fieldLink "SilkClerks$Trays" (25 : Nat) "SilkClerks$Trays" "strength" "[I") ∈ lw_all := lw_g (lw_at lw_m1 107 rfl) rfl
theorem q263 : (Jvm.Cond.fieldLink "SilkClerks$Trays" (28 : Nat) "SilkClerks$Trays" "cocoonUp" "[I") ∈ lw_all := lw_g (lw_at lw_m1 109 rfl) rfl
theorem q265 : (Jvm.Cond.fieldLink "SilkClerks$Trays" (31 : Nat) "SilkClerks$Trays" "lasting" "[I") ∈ lw_all := lw_g (lw_at lw_m1 111 rfl) rfl
theorem q267 : (Jvm.Cond.fieldLink "SilkClerks$Trays" (34 : Nat) "SilkClerks$Trays" "thread" "[I") ∈ lw_all := lw_g (lw_at lw_m1 113 rfl) rfl
theorem q268 : (Jvm.Cond.fieldLink "SilkClerks$Trays" (45 : Nat) "SilkClerks$Trays" "steamed" "I") ∈ lw_all := lw_g (lw_at lw_m1 114 rfl) rfl
theorem q270 : (Jvm.Cond.fieldLink "SilkClerks$Trays" (48 : Nat) "SilkClerks$Trays" "flown" "I") ∈ lw_all := lw_g (lw_at lw_m1 116 rfl) rfl
theorem q272 : (Jvm.Cond.fieldLink "SilkClerks$Trays" (37 : Nat) "SilkClerks$Trays" "leaves" "I") ∈ lw_all := lw_g (lw_at lw_m1 118 rfl) rfl
theorem q274 : (Jvm.Cond.fieldLink "SilkClerks$Trays" (51 : Nat) "SilkClerks$Trays" "noise" "I") ∈ lw_all := lw_g (lw_at lw_m1 120 rfl) rfl
theorem q276 : (Jvm.Cond.fieldLink "SilkClerks$Trays" (54 : Nat) "SilkClerks$Trays" "day" "I") ∈ lw_all := lw_g (lw_at lw_m1 122 rfl) rfl
theorem q278 : (Jvm.Cond.fieldLink "SilkClerks$Trays" (57 : Nat) "SilkClerks$Trays" "mixed" "I") ∈ lw_all := lw_g (lw_at lw_m1 124 rfl) rfl
theorem q280 : (Jvm.Cond.fieldLink "SilkClerks$Trays" (60 : Nat) "SilkClerks$Trays" "slipped" "I") ∈ lw_all := lw_g (lw_at lw_m1 126 rfl) rfl
theorem q282 : (Jvm.Cond.fieldLink "SilkClerks$Trays" (63 : Nat) "SilkClerks$Trays" "lost" "I") ∈ lw_all := lw_g (lw_at lw_m1 128 rfl) rfl
theorem q284 : (Jvm.Cond.fieldLink "SilkClerks$Trays" (66 : Nat) "SilkClerks$Trays" "state" "I") ∈ lw_all := lw_g (lw_at lw_m1 130 rfl) rfl
theorem q286 : (Jvm.Cond.fieldLink "SilkClerks$Trays" (69 : Nat) "SilkClerks$Trays" "bookMany" "I") ∈ lw_all := lw_g (lw_at lw_m1 132 rfl) rfl
theorem q288 : (Jvm.Cond.fieldLink "SilkClerks$Trays" (76 : Nat) "SilkClerks$Trays" "isThought" "Z") ∈ lw_all := lw_g (lw_at lw_m1 134 rfl) rfl
theorem q289 : (Jvm.Cond.fieldLink "SilkClerks$Trays" (3 : Nat) "SilkClerks$Trays" "this$0" "LSilkClerks;") ∈ lw_all := lw_g (lw_at lw_m1 135 rfl) rfl
theorem q290 : (Jvm.Cond.laysFinal "SilkClerks$Trays" "SilkClerks$Trays" "lazy" "[I") ∈ lw_all := lw_g (lw_at lw_m1 136 rfl) rfl
theorem q291 : (Jvm.Cond.soleField "SilkClerks$Trays" "lazy") ∈ lw_all := lw_g (lw_at lw_m1 137 rfl) rfl
theorem q292 : (Jvm.Cond.laysFinal "SilkClerks$Trays" "SilkClerks$Trays" "eaten" "[I") ∈ lw_all := lw_g (lw_at lw_m1 138 rfl) rfl
theorem q293 : (Jvm.Cond.soleField "SilkClerks$Trays" "eaten") ∈ lw_all := lw_g (lw_at lw_m1 139 rfl) rfl
theorem q294 : (Jvm.Cond.laysFinal "SilkClerks$Trays" "SilkClerks$Trays" "today" "[I") ∈ lw_all := lw_g (lw_at lw_m1 140 rfl) rfl
theorem q295 : (Jvm.Cond.soleField "SilkClerks$Trays" "today") ∈ lw_all := lw_g (lw_at lw_m1 141 rfl) rfl
theorem q296 : (Jvm.Cond.laysFinal "SilkClerks$Trays" "SilkClerks$Trays" "strength" "[I") ∈ lw_all := lw_g (lw_at lw_m1 142 rfl) rfl
theorem q297 : (Jvm.Cond.soleField "SilkClerks$Trays" "strength") ∈ lw_all := lw_g (lw_at lw_m1 143 rfl) rfl
theorem q298 : (Jvm.Cond.laysFinal "SilkClerks$Trays" "SilkClerks$Trays" "cocoonUp" "[I") ∈ lw_all := lw_g (lw_at lw_m1 144 rfl) rfl
theorem q299 : (Jvm.Cond.soleField "SilkClerks$Trays" "cocoonUp") ∈ lw_all := lw_g (lw_at lw_m1 145 rfl) rfl
theorem q300 : (Jvm.Cond.laysFinal "SilkClerks$Trays" "SilkClerks$Trays" "lasting" "[I") ∈ lw_all := lw_g (lw_at lw_m1 146 rfl) rfl
theorem q301 : (Jvm.Cond.soleField "SilkClerks$Trays" "lasting") ∈ lw_all := lw_g (lw_at lw_m1 147 rfl) rfl
theorem q302 : (Jvm.Cond.laysFinal "SilkClerks$Trays" "SilkClerks$Trays" "thread" "[I") ∈ lw_all := lw_g (lw_at lw_m1 148 rfl) rfl
theorem q303 : (Jvm.Cond.soleField "SilkClerks$Trays" "thread") ∈ lw_all := lw_g (lw_at lw_m1 149 rfl) rfl
theorem q304 : (Jvm.Cond.lays "SilkClerks$Trays" "SilkClerks$Trays" "steamed" "I") ∈ lw_all := lw_g (lw_at lw_m1 150 rfl) rfl
theorem q305 : (Jvm.Cond.soleField "SilkClerks$Trays" "steamed") ∈ lw_all := lw_g (lw_at lw_m1 151 rfl) rfl
theorem q306 : (Jvm.Cond.lays "SilkClerks$Trays" "SilkClerks$Trays" "flown" "I") ∈ lw_all := lw_g (lw_at lw_m1 152 rfl) rfl
theorem q307 : (Jvm.Cond.soleField "SilkClerks$Trays" "flown") ∈ lw_all := lw_g (lw_at lw_m1 153 rfl) rfl
theorem q308 : (Jvm.Cond.lays "SilkClerks$Trays" "SilkClerks$Trays" "leaves" "I") ∈ lw_all := lw_g (lw_at lw_m1 154 rfl) rfl
theorem q309 : (Jvm.Cond.soleField "SilkClerks$Trays" "leaves") ∈ lw_all := lw_g (lw_at lw_m1 155 rfl) rfl
theorem q310 : (Jvm.Cond.lays "SilkClerks$Trays" "SilkClerks$Trays" "noise" "I") ∈ lw_all := lw_g (lw_at lw_m1 156 rfl) rfl
theorem q311 : (Jvm.Cond.soleField "SilkClerks$Trays" "noise") ∈ lw_all := lw_g (lw_at lw_m1 157 rfl) rfl
theorem q312 : (Jvm.Cond.lays "SilkClerks$Trays" "SilkClerks$Trays" "day" "I") ∈ lw_all := lw_g (lw_at lw_m1 158 rfl) rfl
theorem q313 : (Jvm.Cond.soleField "SilkClerks$Trays" "day") ∈ lw_all := lw_g (lw_at lw_m1 159 rfl) rfl
theorem q314 : (Jvm.Cond.lays "SilkClerks$Trays" "SilkClerks$Trays" "mixed" "I") ∈ lw_all := lw_g (lw_at lw_m1 160 rfl) rfl
theorem q315 : (Jvm.Cond.soleField "SilkClerks$Trays" "mixed") ∈ lw_all := lw_g (lw_at lw_m1 161 rfl) rfl
theorem q316 : (Jvm.Cond.lays "SilkClerks$Trays" "SilkClerks$Trays" "slipped" "I") ∈ lw_all := lw_g (lw_at lw_m1 162 rfl) rfl
theorem q317 : (Jvm.Cond.soleField "SilkClerks$Trays" "slipped") ∈ lw_all := lw_g (lw_at lw_m1 163 rfl) rfl
theorem q318 : (Jvm.Cond.lays "SilkClerks$Trays" "SilkClerks$Trays" "lost" "I") ∈ lw_all := lw_g (lw_at lw_m1 164 rfl) rfl
theorem q319 : (Jvm.Cond.soleField "SilkClerks$Trays" "lost") ∈ lw_all := lw_g (lw_at lw_m1 165 rfl) rfl
theorem q320 : (Jvm.Cond.lays "SilkClerks$Trays" "SilkClerks$Trays" "state" "I") ∈ lw_all := lw_g (lw_at lw_m1 166 rfl) rfl
theorem q321 : (Jvm.Cond.soleField "SilkClerks$Trays" "state") ∈ lw_all := lw_g (lw_at lw_m1 167 rfl) rfl
theorem q322 : (Jvm.Cond.lays "SilkClerks$Trays" "SilkClerks$Trays" "bookMany" "I") ∈ lw_all := lw_g (lw_at lw_m1 168 rfl) rfl
theorem q323 : (Jvm.Cond.soleField "SilkClerks$Trays" "bookMany") ∈ lw_all := lw_g (lw_at lw_m1 169 rfl) rfl
theorem q324 : (Jvm.Cond.lays "SilkClerks$Trays" "SilkClerks$Trays" "isThought" "Z") ∈ lw_all := lw_g (lw_at lw_m1 170 rfl) rfl
theorem q325 : (Jvm.Cond.soleField "SilkClerks$Trays" "isThought") ∈ lw_all := lw_g (lw_at lw_m1 171 rfl) rfl
theorem q326 : (Jvm.Cond.laysFinal "SilkClerks$Trays" "SilkClerks$Trays" "this$0" "LSilkClerks;") ∈ lw_all := lw_g (lw_at lw_m1 172 rfl) rfl
theorem q327 : (Jvm.Cond.soleField "SilkClerks$Trays" "this$0") ∈ lw_all := lw_g (lw_at lw_m1 173 rfl) rfl
theorem q328 : (Jvm.Cond.superclass "SilkClerks$Trays" "java/lang/Object") ∈ lw_all := lw_g (lw_at lw_m1 174 rfl) rfl
theorem q364 : (Jvm.Cond.fieldLinkNest "SilkClerks$Trays" (82 : Nat) "SilkClerks" "lawHas" "[I" "SilkClerks") ∈ lw_tbl := lw_at lw_m1 210 rfl
theorem q367 : (Jvm.Cond.fieldLinkNest "SilkClerks$Trays" (96 : Nat) "SilkClerks" "facts" "[LSilkClerks$Fact;" "SilkClerks") ∈ lw_tbl := lw_at lw_m1 213 rfl
theorem q369 : (Jvm.Cond.fieldLinkNest "SilkClerks$Trays" (147 : Nat) "SilkClerks" "meals" "[LSilkClerks$Meal;" "SilkClerks") ∈ lw_tbl := lw_at lw_m1 215 rfl
theorem q371 : (Jvm.Cond.fieldLinkNest "SilkClerks$Trays" (171 : Nat) "SilkClerks" "worms" "I" "SilkClerks") ∈ lw_tbl := lw_at lw_m1 217 rfl
theorem q373 : (Jvm.Cond.fieldLinkNest "SilkClerks$Trays" (85 : Nat) "SilkClerks" "tray" "[I" "SilkClerks") ∈ lw_tbl := lw_at lw_m1 219 rfl
theorem q929 : (Jvm.Cond.instanceMethod ({ cls := "SilkClerks$Trays", name := "become", desc := "(LSilkClerks$Trays;)V" } : Jvm.MethodName)) ∈ lw_all := lw_g (lw_at lw_m4 55 rfl) rfl
theorem q930 : (Jvm.Cond.selects "SilkClerks$Trays" ({ cls := "SilkClerks$Trays", name := "become", desc := "(LSilkClerks$Trays;)V" } : Jvm.MethodName) ({ cls := "SilkClerks$Trays", name := "become", desc := "(LSilkClerks$Trays;)V" } : Jvm.MethodName)) ∈ lw_all := lw_g (lw_at lw_m4 56 rfl) rfl
theorem q931 : (Jvm.Cond.code ({ cls := "SilkClerks$Trays", name := "become", desc := "(LSilkClerks$Trays;)V" } : Jvm.MethodName) prog_13_method_2_code (2 : Nat) (Option.none : Option Jvm.ClassFile.FieldType)) ∈ lw_all := lw_g (lw_at lw_m4 57 rfl) rfl
theorem q932 : (Jvm.Cond.methodLinkNest "SilkClerks$Trays" (41 : Nat) ({ cls := "SilkClerks", name := "copies", desc := "([I[I)V" } : Jvm.MethodName) "SilkClerks") ∈ lw_tbl := lw_at lw_m4 58 rfl
theorem q961 : (Jvm.Cond.instanceMethod ({ cls := "SilkClerks$Trays", name := "canFeed", desc := "(III)Z" } : Jvm.MethodName)) ∈ lw_all := lw_g (lw_at lw_m4 87 rfl) rfl
theorem q962 : (Jvm.Cond.selects "SilkClerks$Trays" ({ cls := "SilkClerks$Trays", name := "canFeed", desc := "(III)Z" } : Jvm.MethodName) ({ cls := "SilkClerks$Trays", name := "canFeed", desc := "(III)Z" } : Jvm.MethodName)) ∈ lw_all := lw_g (lw_at lw_m4 88 rfl) rfl
theorem q963 : (Jvm.Cond.code ({ cls := "SilkClerks$Trays", name := "canFeed", desc := "(III)Z" } : Jvm.MethodName) prog_13_method_11_code (4 : Nat) (Option.some Jvm.ClassFile.FieldType.boolean)) ∈ lw_all := lw_g (lw_at lw_m4 89 rfl) rfl
theorem q964 : (Jvm.Cond.methodLinkNest "SilkClerks$Trays" (106 : Nat) ({ cls := "SilkClerks", name := "has", desc := "(II)Z" } : Jvm.MethodName) "SilkClerks") ∈ lw_tbl := lw_at lw_m4 90 rfl
theorem q967 : (Jvm.Cond.methodLink "SilkClerks$Trays" (110 : Nat) ({ cls := "SilkClerks$Trays", name := "eatsOf", desc := "(I)I" } : Jvm.MethodName)) ∈ lw_all := lw_g (lw_at lw_m4 93 rfl) rfl
theorem q968 : (Jvm.Cond.instanceMethod ({ cls := "SilkClerks$Trays", name := "eatsOf", desc := "(I)I" } : Jvm.MethodName)) ∈ lw_all := lw_g (lw_at lw_m4 94 rfl) rfl
theorem q969 : (Jvm.Cond.selects "SilkClerks$Trays" ({ cls := "SilkClerks$Trays", name := "eatsOf", desc := "(I)I" } : Jvm.MethodName) ({ cls := "SilkClerks$Trays", name := "eatsOf", desc := "(I)I" } : Jvm.MethodName)) ∈ lw_all := lw_g (lw_at lw_m4 95 rfl) rfl
theorem q970 : (Jvm.Cond.code ({ cls := "SilkClerks$Trays", name := "eatsOf", desc := "(I)I" } : Jvm.MethodName) prog_13_method_7_code (2 : Nat) (Option.some Jvm.ClassFile.FieldType.int)) ∈ lw_all := lw_g (lw_at lw_m4 96 rfl) rfl
theorem q971 : (Jvm.Cond.methodLink "SilkClerks$Trays" (88 : Nat) ({ cls := "SilkClerks$Trays", name := "asks", desc := "(III)V" } : Jvm.MethodName)) ∈ lw_all := lw_g (lw_at lw_m4 97 rfl) rfl
theorem q972 : (Jvm.Cond.privateMethod ({ cls := "SilkClerks$Trays", name := "asks", desc := "(III)V" } : Jvm.MethodName)) ∈ lw_tbl := lw_at lw_m4 98 rfl
theorem q973 : (Jvm.Cond.instanceMethod ({ cls := "SilkClerks$Trays", name := "asks", desc := "(III)V" } : Jvm.MethodName)) ∈ lw_all := lw_g (lw_at lw_m4 99 rfl) rfl
theorem q974 : (Jvm.Cond.code ({ cls := "SilkClerks$Trays", name := "asks", desc := "(III)V" } : Jvm.MethodName) prog_13_method_6_code (4 : Nat) (Option.none : Option Jvm.ClassFile.FieldType)) ∈ lw_all := lw_g (lw_at lw_m4 100 rfl) rfl
theorem q975 : (Jvm.Cond.methodLinkNest "SilkClerks$Trays" (92 : Nat) ({ cls := "SilkClerks", name := "tells", desc := "(III)I" } : Jvm.MethodName) "SilkClerks") ∈ lw_tbl := lw_at lw_m4 101 rfl
theorem q1000 : (Jvm.Cond.methodLink "SilkClerks$Trays" (114 : Nat) ({ cls := "SilkClerks$Trays", name := "leafOf", desc := "(II)I" } : Jvm.MethodName)) ∈ lw_all := lw_g (lw_at lw_m4 126 rfl) rfl
theorem q1001 : (Jvm.Cond.privateMethod ({ cls := "SilkClerks$Trays", name := "leafOf", desc := "(II)I" } : Jvm.MethodName)) ∈ lw_tbl := lw_at lw_m4 127 rfl
theorem q1002 : (Jvm.Cond.instanceMethod ({ cls := "SilkClerks$Trays", name := "leafOf", desc := "(II)I" } : Jvm.MethodName)) ∈ lw_all := lw_g (lw_at lw_m4 128 rfl) rfl
theorem q1003 : (Jvm.Cond.code ({ cls := "SilkClerks$Trays", name := "leafOf", desc := "(II)I" } : Jvm.MethodName) prog_13_method_10_code (3 : Nat) (Option.some Jvm.ClassFile.FieldType.int)) ∈ lw_all := lw_g (lw_at lw_m4 129 rfl) rfl
theorem q1004 : (Jvm.Cond.methodLink "SilkClerks$Trays" (100 : Nat) ({ cls := "SilkClerks$Fact", name := "leaf", desc := "()I" } : Jvm.MethodName)) ∈ lw_all := lw_g (lw_at lw_m4 130 rfl) rfl
theorem q1010 : (Jvm.Cond.instanceMethod ({ cls := "SilkClerks$Trays", name := "feeds", desc := "(III)I" } : Jvm.MethodName)) ∈ lw_all := lw_g (lw_at lw_m4 136 rfl) rfl
theorem q1011 : (Jvm.Cond.selects "SilkClerks$Trays" ({ cls := "SilkClerks$Trays", name := "feeds", desc := "(III)I" } : Jvm.MethodName) ({ cls := "SilkClerks$Trays", name := "feeds", desc := "(III)I" } : Jvm.MethodName)) ∈ lw_all := lw_g (lw_at lw_m4 137 rfl) rfl
theorem q1012 : (Jvm.Cond.code ({ cls := "SilkClerks$Trays", name := "feeds", desc := "(III)I" } : Jvm.MethodName) prog_13_method_13_code (5 : Nat) (Option.some Jvm.ClassFile.FieldType.int)) ∈ lw_all := lw_g (lw_at lw_m4 138 rfl) rfl
theorem q1013 : (Jvm.Cond.methodLinkNest "SilkClerks$Trays" (124 : Nat) ({ cls := "SilkClerks", name := "spunOf", desc := "(II)[I" } : Jvm.MethodName) "SilkClerks") ∈ lw_tbl := lw_at lw_m4 139 rfl
theorem q1021 : (Jvm.Cond.methodLink "SilkClerks$Trays" (128 : Nat) ({ cls := "SilkClerks$Trays", name := "spins", desc := "(I[I)I" } : Jvm.MethodName)) ∈ lw_all := lw_g (lw_at lw_m4 147 rfl) rfl
theorem q1022 : (Jvm.Cond.privateMethod ({ cls := "SilkClerks$Trays", name := "spins", desc := "(I[I)I" } : Jvm.MethodName)) ∈ lw_tbl := lw_at lw_m4 148 rfl
theorem q1023 : (Jvm.Cond.instanceMethod ({ cls := "SilkClerks$Trays", name := "spins", desc := "(I[I)I" } : Jvm.MethodName)) ∈ lw_all := lw_g (lw_at lw_m4 149 rfl) rfl
theorem q1024 : (Jvm.Cond.code ({ cls := "SilkClerks$Trays", name := "spins", desc := "(I[I)I" } : Jvm.MethodName) prog_13_method_12_code (7 : Nat) (Option.some Jvm.ClassFile.FieldType.int)) ∈ lw_all := lw_g (lw_at lw_m4 150 rfl) rfl
theorem q1025 : (Jvm.Cond.methodLink "SilkClerks$Trays" (118 : Nat) ({ cls := "SilkClerks$Trays", name := "slipsOf", desc := "(III)I" } : Jvm.MethodName)) ∈ lw_all := lw_g (lw_at lw_m4 151 rfl) rfl
theorem q1026 : (Jvm.Cond.instanceMethod ({ cls := "SilkClerks$Trays", name := "slipsOf", desc := "(III)I" } : Jvm.MethodName)) ∈ lw_all := lw_g (lw_at lw_m4 152 rfl) rfl
theorem q1027 : (Jvm.Cond.selects "SilkClerks$Trays" ({ cls := "SilkClerks$Trays", name := "slipsOf", desc := "(III)I" } : Jvm.MethodName) ({ cls := "SilkClerks$Trays", name := "slipsOf", desc := "(III)I" } : Jvm.MethodName)) ∈ lw_all := lw_g (lw_at lw_m4 153 rfl) rfl
theorem q1028 : (Jvm.Cond.code ({ cls := "SilkClerks$Trays", name := "slipsOf", desc := "(III)I" } : Jvm.MethodName) prog_13_method_8_code (4 : Nat) (Option.some Jvm.ClassFile.FieldType.int)) ∈ lw_all := lw_g (lw_at lw_m4 154 rfl) rfl
theorem q1029 : (Jvm.Cond.methodLink "SilkClerks$Trays" (121 : Nat) ({ cls := "SilkClerks$Trays", name := "draw", desc := "(I)I" } : Jvm.MethodName)) ∈ lw_all := lw_g (lw_at lw_m4 155 rfl) rfl
theorem q1030 : (Jvm.Cond.privateMethod ({ cls := "SilkClerks$Trays", name := "draw", desc := "(I)I" } : Jvm.MethodName)) ∈ lw_tbl := lw_at lw_m4 156 rfl
theorem q1031 : (Jvm.Cond.instanceMethod ({ cls := "SilkClerks$Trays", name := "draw", desc := "(I)I" } : Jvm.MethodName)) ∈ lw_all := lw_g (lw_at lw_m4 157 rfl) rfl
theorem q1032 : (Jvm.Cond.code ({ cls := "SilkClerks$Trays", name := "draw", desc := "(I)I" } : Jvm.MethodName) prog_13_method_4_code (2 : Nat) (Option.some Jvm.ClassFile.FieldType.int)) ∈ lw_all := lw_g (lw_at lw_m4 158 rfl) rfl
theorem q1033 : (Jvm.Cond.constant "SilkClerks$Trays" (80 : Nat) (1664525 : Int32)) ∈ lw_all := lw_g (lw_at lw_m4 159 rfl) rfl
theorem q1034 : (Jvm.Cond.constant "SilkClerks$Trays" (81 : Nat) (1013904223 : Int32)) ∈ lw_all := lw_g (lw_at lw_m4 160 rfl) rfl
theorem q1035 : (Jvm.Cond.methodLink "SilkClerks$Trays" (132 : Nat) ({ cls := "SilkClerks$Trays", name := "strongOf", desc := "(I)I" } : Jvm.MethodName)) ∈ lw_all := lw_g (lw_at lw_m4 161 rfl) rfl
theorem q1036 : (Jvm.Cond.instanceMethod ({ cls := "SilkClerks$Trays", name := "strongOf", desc := "(I)I" } : Jvm.MethodName)) ∈ lw_all := lw_g (lw_at lw_m4 162 rfl) rfl
theorem q1037 : (Jvm.Cond.selects "SilkClerks$Trays" ({ cls := "SilkClerks$Trays", name := "strongOf", desc := "(I)I" } : Jvm.MethodName) ({ cls := "SilkClerks$Trays", name := "strongOf", desc := "(I)I" } : Jvm.MethodName)) ∈ lw_all := lw_g (lw_at lw_m4 163 rfl) rfl
theorem q1038 : (Jvm.Cond.code ({ cls := "SilkClerks$Trays", name := "strongOf", desc := "(I)I" } : Jvm.MethodName) prog_13_method_9_code (2 : Nat) (Option.some Jvm.ClassFile.FieldType.int)) ∈ lw_all := lw_g (lw_at lw_m4 164 rfl) rfl
theorem q1039 : (Jvm.Cond.methodLink "SilkClerks$Trays" (135 : Nat) ({ cls := "java/lang/Math", name := "min", desc := "(II)I" } : Jvm.MethodName)) ∈ lw_all := lw_g (lw_at lw_m4 165 rfl) rfl
theorem q1040 : (Jvm.Cond.methodLink "SilkClerks$Trays" (140 : Nat) ({ cls := "SilkClerks$Trays", name := "notes", desc := "(III)V" } : Jvm.MethodName)) ∈ lw_all := lw_g (lw_at lw_m4 166 rfl) rfl
theorem q1041 : (Jvm.Cond.privateMethod ({ cls := "SilkClerks$Trays", name := "notes", desc := "(III)V" } : Jvm.MethodName)) ∈ lw_tbl := lw_at lw_m4 167 rfl
theorem q1042 : (Jvm.Cond.instanceMethod ({ cls := "SilkClerks$Trays", name := "notes", desc := "(III)V" } : Jvm.MethodName)) ∈ lw_all := lw_g (lw_at lw_m4 168 rfl) rfl
theorem q1043 : (Jvm.Cond.code ({ cls := "SilkClerks$Trays", name := "notes", desc := "(III)V" } : Jvm.MethodName) prog_13_method_20_code (4 : Nat) (Option.none : Option Jvm.ClassFile.FieldType)) ∈ lw_all := lw_g (lw_at lw_m4 169 rfl) rfl
theorem q1044 : (Jvm.Cond.methodLinkNest "SilkClerks$Trays" (184 : Nat) ({ cls := "SilkClerks", name := "writes", desc := "(III)V" } : Jvm.MethodName) "SilkClerks") ∈ lw_tbl := lw_at lw_m4 170 rfl
theorem q1048 : (Jvm.Cond.methodLink "SilkClerks$Trays" (143 : Nat) ({ cls := "SilkClerks$Trays", name := "hides", desc := "(I)V" } : Jvm.MethodName)) ∈ lw_all := lw_g (lw_at lw_m4 174 rfl) rfl
theorem q1049 : (Jvm.Cond.instanceMethod ({ cls := "SilkClerks$Trays", name := "hides", desc := "(I)V" } : Jvm.MethodName)) ∈ lw_all := lw_g (lw_at lw_m4 175 rfl) rfl
theorem q1050 : (Jvm.Cond.selects "SilkClerks$Trays" ({ cls := "SilkClerks$Trays", name := "hides", desc := "(I)V" } : Jvm.MethodName) ({ cls := "SilkClerks$Trays", name := "hides", desc := "(I)V" } : Jvm.MethodName)) ∈ lw_all := lw_g (lw_at lw_m4 176 rfl) rfl
theorem q1051 : (Jvm.Cond.code ({ cls := "SilkClerks$Trays", name := "hides", desc := "(I)V" } : Jvm.MethodName) prog_13_method_15_code (2 : Nat) (Option.none : Option Jvm.ClassFile.FieldType)) ∈ lw_all := lw_g (lw_at lw_m4 177 rfl) rfl
theorem q1057 : (Jvm.Cond.instanceMethod ({ cls := "SilkClerks$Trays", name := "canSteam", desc := "(I)Z" } : Jvm.MethodName)) ∈ lw_all := lw_g (lw_at lw_m4 183 rfl) rfl
theorem q1058 : (Jvm.Cond.selects "SilkClerks$Trays" ({ cls := "SilkClerks$Trays", name := "canSteam", desc := "(I)Z" } : Jvm.MethodName) ({ cls := "SilkClerks$Trays", name := "canSteam", desc := "(I)Z" } : Jvm.MethodName)) ∈ lw_all := lw_g (lw_at lw_m4 184 rfl) rfl
theorem q1059 : (Jvm.Cond.code ({ cls := "SilkClerks$Trays", name := "canSteam", desc := "(I)Z" } : Jvm.MethodName) prog_13_method_16_code (2 : Nat) (Option.some Jvm.ClassFile.FieldType.boolean)) ∈ lw_all := lw_g (lw_at lw_m4 185 rfl) rfl
theorem q1061 : (Jvm.Cond.instanceMethod ({ cls := "SilkClerks$Trays", name := "canHide", desc := "(I)Z" } : Jvm.MethodName)) ∈ lw_all := lw_g (lw_at lw_m4 187 rfl) rfl
theorem q1062 : (Jvm.Cond.selects "SilkClerks$Trays" ({ cls := "SilkClerks$Trays", name := "canHide", desc := "(I)Z" } : Jvm.MethodName) ({ cls := "SilkClerks$Trays", name := "canHide", desc := "(I)Z" } : Jvm.MethodName)) ∈ lw_all := lw_g (lw_at lw_m4 188 rfl) rfl
theorem q1063 : (Jvm.Cond.code ({ cls := "SilkClerks$Trays", name := "canHide", desc := "(I)Z" } : Jvm.MethodName) prog_13_method_14_code (2 : Nat) (Option.some Jvm.ClassFile.FieldType.boolean)) ∈ lw_all := lw_g (lw_at lw_m4 189 rfl) rfl
theorem q1065 : (Jvm.Cond.instanceMethod ({ cls := "SilkClerks$Trays", name := "steams", desc := "(I)V" } : Jvm.MethodName)) ∈ lw_all := lw_g (lw_at lw_m4 191 rfl) rfl
theorem q1066 : (Jvm.Cond.selects "SilkClerks$Trays" ({ cls := "SilkClerks$Trays", name := "steams", desc := "(I)V" } : Jvm.MethodName) ({ cls := "SilkClerks$Trays", name := "steams", desc := "(I)V" } : Jvm.MethodName)) ∈ lw_all := lw_g (lw_at lw_m4 192 rfl) rfl
theorem q1067 : (Jvm.Cond.code ({ cls := "SilkClerks$Trays", name := "steams", desc := "(I)V" } : Jvm.MethodName) prog_13_method_17_code (2 : Nat) (Option.none : Option Jvm.ClassFile.FieldType)) ∈ lw_all := lw_g (lw_at lw_m4 193 rfl) rfl
theorem q1074 : (Jvm.Cond.instanceMethod ({ cls := "SilkClerks$Trays", name := "goesBy", desc := "()I" } : Jvm.MethodName)) ∈ lw_all := lw_g (lw_at lw_m4 200 rfl) rfl
theorem q1075 : (Jvm.Cond.selects "SilkClerks$Trays" ({ cls := "SilkClerks$Trays", name := "goesBy", desc := "()I" } : Jvm.MethodName) ({ cls := "SilkClerks$Trays", name := "goesBy", desc := "()I" } : Jvm.MethodName)) ∈ lw_all := lw_g (lw_at lw_m4 201 rfl) rfl
theorem q1076 : (Jvm.Cond.code ({ cls := "SilkClerks$Trays", name := "goesBy", desc := "()I" } : Jvm.MethodName) prog_13_method_19_code (3 : Nat) (Option.some Jvm.ClassFile.FieldType.int)) ∈ lw_all := lw_g (lw_at lw_m4 202 rfl) rfl
theorem q1077 : (Jvm.Cond.methodLink "SilkClerks$Trays" (151 : Nat) ({ cls := "SilkClerks$Meal", name := "day", desc := "()I" } : Jvm.MethodName)) ∈ lw_all := lw_g (lw_at lw_m4 203 rfl) rfl
theorem q1081 : (Jvm.Cond.methodLink "SilkClerks$Trays" (155 : Nat) ({ cls := "SilkClerks$Meal", name := "worm", desc := "()I" } : Jvm.MethodName)) ∈ lw_all := lw_g (lw_at lw_m4 207 rfl) rfl
theorem q1085 : (Jvm.Cond.methodLink "SilkClerks$Trays" (158 : Nat) ({ cls := "SilkClerks$Meal", name := "a", desc := "()I" } : Jvm.MethodName)) ∈ lw_all := lw_g (lw_at lw_m4 211 rfl) rfl
theorem q1089 : (Jvm.Cond.methodLink "SilkClerks$Trays" (161 : Nat) ({ cls := "SilkClerks$Meal", name := "b", desc := "()I" } : Jvm.MethodName)) ∈ lw_all := lw_g (lw_at lw_m4 215 rfl) rfl
theorem q1093 : (Jvm.Cond.methodLink "SilkClerks$Trays" (164 : Nat) ({ cls := "SilkClerks$Trays", name := "canFeed", desc := "(III)Z" } : Jvm.MethodName)) ∈ lw_all := lw_g (lw_at lw_m4 219 rfl) rfl
theorem q1094 : (Jvm.Cond.methodLink "SilkClerks$Trays" (168 : Nat) ({ cls := "SilkClerks$Trays", name := "feeds", desc := "(III)I" } : Jvm.MethodName)) ∈ lw_all := lw_g (lw_at lw_m4 220 rfl) rfl
theorem q1095 : (Jvm.Cond.methodLink "SilkClerks$Trays" (174 : Nat) ({ cls := "SilkClerks$Trays", name := "flies", desc := "(I)Z" } : Jvm.MethodName)) ∈ lw_all := lw_g (lw_at lw_m4 221 rfl) rfl
theorem q1096 : (Jvm.Cond.privateMethod ({ cls := "SilkClerks$Trays", name := "flies", desc := "(I)Z" } : Jvm.MethodName)) ∈ lw_tbl := lw_at lw_m4 222 rfl
theorem q1097 : (Jvm.Cond.instanceMethod ({ cls := "SilkClerks$Trays", name := "flies", desc := "(I)Z" } : Jvm.MethodName)) ∈ lw_all := lw_g (lw_at lw_m4 223 rfl) rfl
theorem q1098 : (Jvm.Cond.code ({ cls := "SilkClerks$Trays", name := "flies", desc := "(I)Z" } : Jvm.MethodName) prog_13_method_18_code (2 : Nat) (Option.some Jvm.ClassFile.FieldType.boolean)) ∈ lw_all := lw_g (lw_at lw_m4 224 rfl) rfl
theorem q1099 : (Jvm.Cond.methodLink "SilkClerks$Trays" (178 : Nat) ({ cls := "java/util/Arrays", name := "fill", desc := "([II)V" } : Jvm.MethodName)) ∈ lw_all := lw_g (lw_at lw_m4 225 rfl) rfl
theorem q1107 : (Jvm.Cond.instanceMethod ({ cls := "SilkClerks$Trays", name := "markAt", desc := "(II)I" } : Jvm.MethodName)) ∈ lw_all := lw_g (lw_at lw_m4 233 rfl) rfl
theorem q1108 : (Jvm.Cond.selects "SilkClerks$Trays" ({ cls := "SilkClerks$Trays", name := "markAt", desc := "(II)I" } : Jvm.MethodName) ({ cls := "SilkClerks$Trays", name := "markAt", desc := "(II)I" } : Jvm.MethodName)) ∈ lw_all := lw_g (lw_at lw_m4 234 rfl) rfl
theorem q1109 : (Jvm.Cond.code ({ cls := "SilkClerks$Trays", name := "markAt", desc := "(II)I" } : Jvm.MethodName) prog_13_method_5_code (3 : Nat) (Option.some Jvm.ClassFile.FieldType.int)) ∈ lw_all := lw_g (lw_at lw_m4 235 rfl) rfl
theorem q1127 : (Jvm.Cond.instanceMethod ({ cls := "SilkClerks$Trays", name := "thinks", desc := "(LSilkClerks$Trays;)LSilkClerks$Trays;" } : Jvm.MethodName)) ∈ lw_all := lw_g (lw_at lw_m5 13 rfl) rfl
theorem q1128 : (Jvm.Cond.selects "SilkClerks$Trays" ({ cls := "SilkClerks$Trays", name := "thinks", desc := "(LSilkClerks$Trays;)LSilkClerks$Trays;" } : Jvm.MethodName) ({ cls := "SilkClerks$Trays", name := "thinks", desc := "(LSilkClerks$Trays;)LSilkClerks$Trays;" } : Jvm.MethodName)) ∈ lw_all := lw_g (lw_at lw_m5 14 rfl) rfl
theorem q1129 : (Jvm.Cond.code ({ cls := "SilkClerks$Trays", name := "thinks", desc := "(LSilkClerks$Trays;)LSilkClerks$Trays;" } : Jvm.MethodName) prog_13_method_3_code (2 : Nat) (Option.some (Jvm.ClassFile.FieldType.object "SilkClerks$Trays"))) ∈ lw_all := lw_g (lw_at lw_m5 15 rfl) rfl
theorem q1130 : (Jvm.Cond.methodLink "SilkClerks$Trays" (72 : Nat) ({ cls := "SilkClerks$Trays", name := "become", desc := "(LSilkClerks$Trays;)V" } : Jvm.MethodName)) ∈ lw_all := lw_g (lw_at lw_m5 16 rfl) rfl
theorem in_X2 : ∀ w ∈ wsX20, w ∈ lw_all := lw_in wsX20 [290, 292, 294, 296, 298, 300, 302, 304, 306, 308, 310, 312, 314, 316, 318, 320, 322, 324, 326] (by decide +kernel) (by decide +kernel)
/-! SilkClerks$Fault -/
set_option maxRecDepth 100000
def RX4 : String := "SilkClerks$Fault"
def TX4 : u_T := fun k => match k with
  | 0 => ("java/lang/Throwable", "cause", "Ljava/lang/Throwable;", false)
  | 1 => ("java/lang/Throwable", "stackTrace", "[Ljava/lang/StackTraceElement;", false)
  | 2 => ("java/lang/Throwable", "suppressedExceptions", "Ljava/util/List;", false)
  | 3 => ("java/lang/Throwable", "detailMessage", "Ljava/lang/String;", false)
  | 4 => ("java/lang/Throwable", "backtrace", "Ljava/lang/Object;", false)
  | 5 => ("java/lang/Throwable", "depth", "I", false)
  | 6 => ("SilkClerks$Fault", "kind", "I", true)
  | _ => ("SilkClerks$Fault", "place", "I", true)
def tyX4 : Nat → FieldType := fun k => match k with
  | 0 => .object "java/lang/Throwable"
  | 1 => .array (.object "java/lang/StackTraceElement")
  | 2 => .object "java/util/List"
  | 3 => .object "java/lang/String"
  | 4 => .object "java/lang/Object"
  | 5 => .int
  | 6 => .int
  | _ => .int
abbrev wsX40 : List Cond := u_ws RX4 TX4 8
theorem nmX4 : ∀ a, a < 8 → ∀ b, b < 8 → a ≠ b → (TX4 a).2.1 ≠ (TX4 b).2.1 := by decide +kernel
theorem tyX4_ok : ∀ k, k < 8 → parseFieldDescriptor (TX4 k).2.2.1 = some (tyX4 k) := by decide +kernel
abbrev cX4_init : ByteArray := prog_4_method_1_code
def yX4_init : MethodName := ⟨RX4, "<init>", "(II)V"⟩
def dkwX4_init_0 : List UInt8 := [42, 1, 1, 3, 3, 183, 0, 1, 42, 27, 181, 0, 7, 42, 28, 181, 0, 13, 177]
abbrev dktX4_init_0 : List UInt8 := dkwX4_init_0 ++ []
theorem dksX4_init_0 : cX4_init.data.toList.drop 0 = dktX4_init_0 := by decide +kernel
theorem dX4_init_0 : decode cX4_init 0 = .ok (.aload_n 0, 1) := dk_42 (dk_at dksX4_init_0 0 rfl rfl)
theorem dX4_init_1 : decode cX4_init 1 = .ok (.aconst_null, 1) := dk_1 (dk_at dksX4_init_0 1 rfl rfl)
theorem dX4_init_2 : decode cX4_init 2 = .ok (.aconst_null, 1) := dk_1 (dk_at dksX4_init_0 2 rfl rfl)
theorem dX4_init_3 : decode cX4_init 3 = .ok (.iconst 0, 1) := dk_3 (dk_at dksX4_init_0 3 rfl rfl)
theorem dX4_init_4 : decode cX4_init 4 = .ok (.iconst 0, 1) := dk_3 (dk_at dksX4_init_0 4 rfl rfl)
theorem dX4_init_5 : decode cX4_init 5 = .ok (.invokespecial 1, 3) := dk_183 0 1 (dk_at dksX4_init_0 5 rfl rfl)
theorem dX4_init_8 : decode cX4_init 8 = .ok (.aload_n 0, 1) := dk_42 (dk_at dksX4_init_0 8 rfl rfl)
theorem dX4_init_9 : decode cX4_init 9 = .ok (.iload_n 1, 1) := dk_27 (dk_at dksX4_init_0 9 rfl rfl)
theorem dX4_init_10 : decode cX4_init 10 = .ok (.putfield 7, 3) := dk_181 0 7 (dk_at dksX4_init_0 10 rfl rfl)
theorem dX4_init_13 : decode cX4_init 13 = .ok (.aload_n 0, 1) := dk_42 (dk_at dksX4_init_0 13 rfl rfl)
theorem dX4_init_14 : decode cX4_init 14 = .ok (.iload_n 2, 1) := dk_28 (dk_at dksX4_init_0 14 rfl rfl)
theorem dX4_init_15 : decode cX4_init 15 = .ok (.putfield 13, 3) := dk_181 0 13 (dk_at dksX4_init_0 15 rfl rfl)
theorem dX4_init_18 : decode cX4_init 18 = .ok (.return_, 1) := dk_177 (dk_at dksX4_init_0 18 rfl rfl)
theorem q171 : (Jvm.Cond.initialized "SilkClerks$Fault") ∈ lw_all := lw_g (lw_at lw_m1 17 rfl) rfl
theorem q680 : (Jvm.Cond.instantiable "SilkClerks$Fault" (8 : Nat)) ∈ lw_all := lw_g (lw_at lw_m3 46 rfl) rfl
theorem q681 : (Jvm.Cond.castable "SilkClerks$Fault" "SilkClerks$Fault") ∈ lw_tbl := lw_at lw_m3 47 rfl
theorem q686 : (Jvm.Cond.selects "SilkClerks$Fault" ({ cls := "java/lang/Throwable", name := "fillInStackTrace", desc := "(I)Ljava/lang/Throwable;" } : Jvm.MethodName) ({ cls := "java/lang/Throwable", name := "fillInStackTrace", desc := "(I)Ljava/lang/Throwable;" } : Jvm.MethodName)) ∈ lw_all := lw_g (lw_at lw_m3 52 rfl) rfl
theorem q687 : (Jvm.Cond.selects "SilkClerks$Fault" ({ cls := "java/lang/Throwable", name := "fillInStackTrace", desc := "()Ljava/lang/Throwable;" } : Jvm.MethodName) ({ cls := "java/lang/Throwable", name := "fillInStackTrace", desc := "()Ljava/lang/Throwable;" } : Jvm.MethodName)) ∈ lw_all := lw_g (lw_at lw_m3 53 rfl) rfl
theorem q688 : (Jvm.Cond.lays "SilkClerks$Fault" "java/lang/Throwable" "cause" "Ljava/lang/Throwable;") ∈ lw_all := lw_g (lw_at lw_m3 54 rfl) rfl
theorem q690 : (Jvm.Cond.lays "SilkClerks$Fault" "java/lang/Throwable" "stackTrace" "[Ljava/lang/StackTraceElement;") ∈ lw_all := lw_g (lw_at lw_m3 56 rfl) rfl
theorem q692 : (Jvm.Cond.lays "SilkClerks$Fault" "java/lang/Throwable" "suppressedExceptions" "Ljava/util/List;") ∈ lw_all := lw_g (lw_at lw_m3 58 rfl) rfl
theorem q694 : (Jvm.Cond.lays "SilkClerks$Fault" "java/lang/Throwable" "detailMessage" "Ljava/lang/String;") ∈ lw_all := lw_g (lw_at lw_m3 60 rfl) rfl
theorem q696 : (Jvm.Cond.lays "SilkClerks$Fault" "java/lang/Throwable" "backtrace" "Ljava/lang/Object;") ∈ lw_all := lw_g (lw_at lw_m3 62 rfl) rfl
theorem q717 : (Jvm.Cond.instanceMethod ({ cls := "SilkClerks$Fault", name := "<init>", desc := "(II)V" } : Jvm.MethodName)) ∈ lw_all := lw_g (lw_at lw_m3 83 rfl) rfl
theorem q718 : (Jvm.Cond.code ({ cls := "SilkClerks$Fault", name := "<init>", desc := "(II)V" } : Jvm.MethodName) prog_4_method_1_code (3 : Nat) (Option.none : Option Jvm.ClassFile.FieldType)) ∈ lw_all := lw_g (lw_at lw_m3 84 rfl) rfl
theorem q719 : (Jvm.Cond.methodLink "SilkClerks$Fault" (1 : Nat) ({ cls := "java/lang/Exception", name := "<init>", desc := "(Ljava/lang/String;Ljava/lang/Throwable;ZZ)V" } : Jvm.MethodName)) ∈ lw_all := lw_g (lw_at lw_m3 85 rfl) rfl
theorem q725 : (Jvm.Cond.fieldLink "SilkClerks$Fault" (7 : Nat) "SilkClerks$Fault" "kind" "I") ∈ lw_all := lw_g (lw_at lw_m3 91 rfl) rfl
theorem q727 : (Jvm.Cond.fieldLink "SilkClerks$Fault" (13 : Nat) "SilkClerks$Fault" "place" "I") ∈ lw_all := lw_g (lw_at lw_m3 93 rfl) rfl
theorem q734 : (Jvm.Cond.laysFinal "SilkClerks$Fault" "SilkClerks$Fault" "kind" "I") ∈ lw_all := lw_g (lw_at lw_m3 100 rfl) rfl
theorem q735 : (Jvm.Cond.soleField "SilkClerks$Fault" "kind") ∈ lw_all := lw_g (lw_at lw_m3 101 rfl) rfl
theorem q736 : (Jvm.Cond.laysFinal "SilkClerks$Fault" "SilkClerks$Fault" "place" "I") ∈ lw_all := lw_g (lw_at lw_m3 102 rfl) rfl
theorem q737 : (Jvm.Cond.soleField "SilkClerks$Fault" "place") ∈ lw_all := lw_g (lw_at lw_m3 103 rfl) rfl
theorem q742 : (Jvm.Cond.lays "SilkClerks$Fault" "java/lang/Throwable" "depth" "I") ∈ lw_all := lw_g (lw_at lw_m3 108 rfl) rfl
theorem q745 : (Jvm.Cond.superclass "SilkClerks$Fault" "java/lang/Exception") ∈ lw_all := lw_g (lw_at lw_m3 111 rfl) rfl
theorem in_X4 : ∀ w ∈ wsX40, w ∈ lw_all := lw_in wsX40 [688, 690, 692, 694, 696, 742, 734, 736] (by decide +kernel) (by decide +kernel)
/-! SilkClerks$Fact -/
set_option maxRecDepth 100000
def RX5 : String := "SilkClerks$Fact"
def TX5 : u_T := fun k => match k with
  | 0 => ("SilkClerks$Fact", "marks", "[I", true)
  | 1 => ("SilkClerks$Fact", "leaf", "I", true)
  | _ => ("SilkClerks$Fact", "worth", "I", true)
def tyX5 : Nat → FieldType := fun k => match k with
  | 0 => .array .int
  | 1 => .int
  | _ => .int
abbrev wsX50 : List Cond := u_ws RX5 TX5 3
theorem nmX5 : ∀ a, a < 3 → ∀ b, b < 3 → a ≠ b → (TX5 a).2.1 ≠ (TX5 b).2.1 := by decide +kernel
theorem tyX5_ok : ∀ k, k < 3 → parseFieldDescriptor (TX5 k).2.2.1 = some (tyX5 k) := by decide +kernel
abbrev cX5_worth : ByteArray := prog_3_method_7_code
def yX5_worth : MethodName := ⟨RX5, "worth", "()I"⟩
theorem dX5_worth_0 : decode cX5_worth 0 = .ok (.aload_n 0, 1) := by decide +kernel
theorem dX5_worth_1 : decode cX5_worth 1 = .ok (.getfield 17, 3) := by decide +kernel
theorem dX5_worth_4 : decode cX5_worth 4 = .ok (.ireturn, 1) := by decide +kernel
abbrev cX5_leaf : ByteArray := prog_3_method_6_code
def yX5_leaf : MethodName := ⟨RX5, "leaf", "()I"⟩
theorem dX5_leaf_0 : decode cX5_leaf 0 = .ok (.aload_n 0, 1) := by decide +kernel
theorem dX5_leaf_1 : decode cX5_leaf 1 = .ok (.getfield 13, 3) := by decide +kernel
theorem dX5_leaf_4 : decode cX5_leaf 4 = .ok (.ireturn, 1) := by decide +kernel
abbrev cX5_init : ByteArray := prog_3_method_1_code
def yX5_init : MethodName := ⟨RX5, "<init>", "([III)V"⟩
def dkwX5_init_0 : List UInt8 := [42, 183, 0, 1, 42, 43, 181, 0, 7, 42, 28, 181, 0, 13, 42, 29, 181, 0, 17, 177]
abbrev dktX5_init_0 : List UInt8 := dkwX5_init_0 ++ []
theorem dksX5_init_0 : cX5_init.data.toList.drop 0 = dktX5_init_0 := by decide +kernel
theorem dX5_init_0 : decode cX5_init 0 = .ok (.aload_n 0, 1) := dk_42 (dk_at dksX5_init_0 0 rfl rfl)
theorem dX5_init_1 : decode cX5_init 1 = .ok (.invokespecial 1, 3) := dk_183 0 1 (dk_at dksX5_init_0 1 rfl rfl)
theorem dX5_init_4 : decode cX5_init 4 = .ok (.aload_n 0, 1) := dk_42 (dk_at dksX5_init_0 4 rfl rfl)
theorem dX5_init_5 : decode cX5_init 5 = .ok (.aload_n 1, 1) := dk_43 (dk_at dksX5_init_0 5 rfl rfl)
theorem dX5_init_6 : decode cX5_init 6 = .ok (.putfield 7, 3) := dk_181 0 7 (dk_at dksX5_init_0 6 rfl rfl)
theorem dX5_init_9 : decode cX5_init 9 = .ok (.aload_n 0, 1) := dk_42 (dk_at dksX5_init_0 9 rfl rfl)
theorem dX5_init_10 : decode cX5_init 10 = .ok (.iload_n 2, 1) := dk_28 (dk_at dksX5_init_0 10 rfl rfl)
theorem dX5_init_11 : decode cX5_init 11 = .ok (.putfield 13, 3) := dk_181 0 13 (dk_at dksX5_init_0 11 rfl rfl)
theorem dX5_init_14 : decode cX5_init 14 = .ok (.aload_n 0, 1) := dk_42 (dk_at dksX5_init_0 14 rfl rfl)
theorem dX5_init_15 : decode cX5_init 15 = .ok (.iload_n 3, 1) := dk_29 (dk_at dksX5_init_0 15 rfl rfl)
theorem dX5_init_16 : decode cX5_init 16 = .ok (.putfield 17, 3) := dk_181 0 17 (dk_at dksX5_init_0 16 rfl rfl)
theorem dX5_init_19 : decode cX5_init 19 = .ok (.return_, 1) := dk_177 (dk_at dksX5_init_0 19 rfl rfl)
abbrev cX5_marks : ByteArray := prog_3_method_5_code
def yX5_marks : MethodName := ⟨RX5, "marks", "()[I"⟩
theorem dX5_marks_0 : decode cX5_marks 0 = .ok (.aload_n 0, 1) := by decide +kernel
theorem dX5_marks_1 : decode cX5_marks 1 = .ok (.getfield 7, 3) := by decide +kernel
theorem dX5_marks_4 : decode cX5_marks 4 = .ok (.areturn, 1) := by decide +kernel
theorem q173 : (Jvm.Cond.initialized "SilkClerks$Fact") ∈ lw_all := lw_g (lw_at lw_m1 19 rfl) rfl
theorem q337 : (Jvm.Cond.instanceMethod ({ cls := "SilkClerks$Fact", name := "worth", desc := "()I" } : Jvm.MethodName)) ∈ lw_all := lw_g (lw_at lw_m1 183 rfl) rfl
theorem q338 : (Jvm.Cond.selects "SilkClerks$Fact" ({ cls := "SilkClerks$Fact", name := "worth", desc := "()I" } : Jvm.MethodName) ({ cls := "SilkClerks$Fact", name := "worth", desc := "()I" } : Jvm.MethodName)) ∈ lw_all := lw_g (lw_at lw_m1 184 rfl) rfl
theorem q339 : (Jvm.Cond.code ({ cls := "SilkClerks$Fact", name := "worth", desc := "()I" } : Jvm.MethodName) prog_3_method_7_code (1 : Nat) (Option.some Jvm.ClassFile.FieldType.int)) ∈ lw_all := lw_g (lw_at lw_m1 185 rfl) rfl
theorem q344 : (Jvm.Cond.instanceMethod ({ cls := "SilkClerks$Fact", name := "leaf", desc := "()I" } : Jvm.MethodName)) ∈ lw_all := lw_g (lw_at lw_m1 190 rfl) rfl
theorem q345 : (Jvm.Cond.selects "SilkClerks$Fact" ({ cls := "SilkClerks$Fact", name := "leaf", desc := "()I" } : Jvm.MethodName) ({ cls := "SilkClerks$Fact", name := "leaf", desc := "()I" } : Jvm.MethodName)) ∈ lw_all := lw_g (lw_at lw_m1 191 rfl) rfl
theorem q346 : (Jvm.Cond.code ({ cls := "SilkClerks$Fact", name := "leaf", desc := "()I" } : Jvm.MethodName) prog_3_method_6_code (1 : Nat) (Option.some Jvm.ClassFile.FieldType.int)) ∈ lw_all := lw_g (lw_at lw_m1 192 rfl) rfl
theorem q779 : (Jvm.Cond.instantiable "SilkClerks$Fact" (3 : Nat)) ∈ lw_all := lw_g (lw_at lw_m3 145 rfl) rfl
theorem q781 : (Jvm.Cond.instanceMethod ({ cls := "SilkClerks$Fact", name := "<init>", desc := "([III)V" } : Jvm.MethodName)) ∈ lw_all := lw_g (lw_at lw_m3 147 rfl) rfl
theorem q782 : (Jvm.Cond.code ({ cls := "SilkClerks$Fact", name := "<init>", desc := "([III)V" } : Jvm.MethodName) prog_3_method_1_code (4 : Nat) (Option.none : Option Jvm.ClassFile.FieldType)) ∈ lw_all := lw_g (lw_at lw_m3 148 rfl) rfl
theorem q783 : (Jvm.Cond.methodLink "SilkClerks$Fact" (1 : Nat) ({ cls := "java/lang/Record", name := "<init>", desc := "()V" } : Jvm.MethodName)) ∈ lw_all := lw_g (lw_at lw_m3 149 rfl) rfl
theorem q787 : (Jvm.Cond.fieldLink "SilkClerks$Fact" (7 : Nat) "SilkClerks$Fact" "marks" "[I") ∈ lw_all := lw_g (lw_at lw_m3 153 rfl) rfl
theorem q788 : (Jvm.Cond.fieldLink "SilkClerks$Fact" (13 : Nat) "SilkClerks$Fact" "leaf" "I") ∈ lw_all := lw_g (lw_at lw_m3 154 rfl) rfl
theorem q789 : (Jvm.Cond.fieldLink "SilkClerks$Fact" (17 : Nat) "SilkClerks$Fact" "worth" "I") ∈ lw_all := lw_g (lw_at lw_m3 155 rfl) rfl
theorem q790 : (Jvm.Cond.laysFinal "SilkClerks$Fact" "SilkClerks$Fact" "marks" "[I") ∈ lw_all := lw_g (lw_at lw_m3 156 rfl) rfl
theorem q791 : (Jvm.Cond.soleField "SilkClerks$Fact" "marks") ∈ lw_all := lw_g (lw_at lw_m3 157 rfl) rfl
theorem q792 : (Jvm.Cond.laysFinal "SilkClerks$Fact" "SilkClerks$Fact" "leaf" "I") ∈ lw_all := lw_g (lw_at lw_m3 158 rfl) rfl
theorem q793 : (Jvm.Cond.soleField "SilkClerks$Fact" "leaf") ∈ lw_all := lw_g (lw_at lw_m3 159 rfl) rfl
theorem q794 : (Jvm.Cond.laysFinal "SilkClerks$Fact" "SilkClerks$Fact" "worth" "I") ∈ lw_all := lw_g (lw_at lw_m3 160 rfl) rfl
theorem q795 : (Jvm.Cond.soleField "SilkClerks$Fact" "worth") ∈ lw_all := lw_g (lw_at lw_m3 161 rfl) rfl
theorem q796 : (Jvm.Cond.superclass "SilkClerks$Fact" "java/lang/Record") ∈ lw_all := lw_g (lw_at lw_m3 162 rfl) rfl
theorem q1018 : (Jvm.Cond.instanceMethod ({ cls := "SilkClerks$Fact", name := "marks", desc := "()[I" } : Jvm.MethodName)) ∈ lw_all := lw_g (lw_at lw_m4 144 rfl) rfl
theorem q1019 : (Jvm.Cond.selects "SilkClerks$Fact" ({ cls := "SilkClerks$Fact", name := "marks", desc := "()[I" } : Jvm.MethodName) ({ cls := "SilkClerks$Fact", name := "marks", desc := "()[I" } : Jvm.MethodName)) ∈ lw_all := lw_g (lw_at lw_m4 145 rfl) rfl
theorem q1020 : (Jvm.Cond.code ({ cls := "SilkClerks$Fact", name := "marks", desc := "()[I" } : Jvm.MethodName) prog_3_method_5_code (1 : Nat) (Option.some (Jvm.ClassFile.FieldType.array Jvm.ClassFile.FieldType.int))) ∈ lw_all := lw_g (lw_at lw_m4 146 rfl) rfl
theorem in_X5 : ∀ w ∈ wsX50, w ∈ lw_all := lw_in wsX50 [790, 792, 794] (by decide +kernel) (by decide +kernel)
/-! SilkClerks$Term -/
set_option maxRecDepth 100000
def RX6 : String := "SilkClerks$Term"
abbrev cX6_init : ByteArray := prog_10_method_1_code
def yX6_init : MethodName := ⟨RX6, "<init>", "()V"⟩
theorem dX6_init_0 : decode cX6_init 0 = .ok (.aload_n 0, 1) := by decide +kernel
theorem dX6_init_1 : decode cX6_init 1 = .ok (.invokespecial 1, 3) := by decide +kernel
theorem dX6_init_4 : decode cX6_init 4 = .ok (.return_, 1) := by decide +kernel
theorem q174 : (Jvm.Cond.initialized "SilkClerks$Term") ∈ lw_all := lw_g (lw_at lw_m1 20 rfl) rfl
theorem q827 : (Jvm.Cond.instanceMethod ({ cls := "SilkClerks$Term", name := "<init>", desc := "()V" } : Jvm.MethodName)) ∈ lw_all := lw_g (lw_at lw_m3 193 rfl) rfl
theorem q828 : (Jvm.Cond.code ({ cls := "SilkClerks$Term", name := "<init>", desc := "()V" } : Jvm.MethodName) prog_10_method_1_code (1 : Nat) (Option.none : Option Jvm.ClassFile.FieldType)) ∈ lw_all := lw_g (lw_at lw_m3 194 rfl) rfl
theorem q829 : (Jvm.Cond.methodLink "SilkClerks$Term" (1 : Nat) ({ cls := "java/lang/Object", name := "<init>", desc := "()V" } : Jvm.MethodName)) ∈ lw_all := lw_g (lw_at lw_m3 195 rfl) rfl
theorem q980 : (Jvm.Cond.declares ({ cls := "SilkClerks$Term", name := "of", desc := "([I)I" } : Jvm.MethodName)) ∈ lw_tbl := lw_at lw_m4 106 rfl
theorem q981 : (Jvm.Cond.sameMethod "SilkClerks$Term" "SilkClerks$Term" "of" "([I)I") ∈ lw_all := lw_g (lw_at lw_m4 107 rfl) rfl
/-! SilkClerks$Number -/
set_option maxRecDepth 100000
def RX7 : String := "SilkClerks$Number"
def TX7 : u_T := fun k => match k with
  | _ => ("SilkClerks$Number", "v", "I", true)
def tyX7 : Nat → FieldType := fun k => match k with
  | _ => .int
abbrev wsX70 : List Cond := u_ws RX7 TX7 1
theorem nmX7 : ∀ a, a < 1 → ∀ b, b < 1 → a ≠ b → (TX7 a).2.1 ≠ (TX7 b).2.1 := by decide +kernel
theorem tyX7_ok : ∀ k, k < 1 → parseFieldDescriptor (TX7 k).2.2.1 = some (tyX7 k) := by decide +kernel
abbrev cX7_init : ByteArray := prog_8_method_1_code
def yX7_init : MethodName := ⟨RX7, "<init>", "(I)V"⟩
def dkwX7_init_0 : List UInt8 := [42, 183, 0, 1, 42, 27, 181, 0, 7, 177]
abbrev dktX7_init_0 : List UInt8 := dkwX7_init_0 ++ []
theorem dksX7_init_0 : cX7_init.data.toList.drop 0 = dktX7_init_0 := by decide +kernel
theorem dX7_init_0 : decode cX7_init 0 = .ok (.aload_n 0, 1) := dk_42 (dk_at dksX7_init_0 0 rfl rfl)
theorem dX7_init_1 : decode cX7_init 1 = .ok (.invokespecial 1, 3) := dk_183 0 1 (dk_at dksX7_init_0 1 rfl rfl)
theorem dX7_init_4 : decode cX7_init 4 = .ok (.aload_n 0, 1) := dk_42 (dk_at dksX7_init_0 4 rfl rfl)
theorem dX7_init_5 : decode cX7_init 5 = .ok (.iload_n 1, 1) := dk_27 (dk_at dksX7_init_0 5 rfl rfl)
theorem dX7_init_6 : decode cX7_init 6 = .ok (.putfield 7, 3) := dk_181 0 7 (dk_at dksX7_init_0 6 rfl rfl)
theorem dX7_init_9 : decode cX7_init 9 = .ok (.return_, 1) := dk_177 (dk_at dksX7_init_0 9 rfl rfl)
abbrev cX7_of : ByteArray := prog_8_method_2_code
def yX7_of : MethodName := ⟨RX7, "of", "([I)I"⟩
theorem dX7_of_0 : decode cX7_of 0 = .ok (.aload_n 0, 1) := by decide +kernel
theorem dX7_of_1 : decode cX7_of 1 = .ok (.getfield 7, 3) := by decide +kernel
theorem dX7_of_4 : decode cX7_of 4 = .ok (.ireturn, 1) := by decide +kernel
theorem q175 : (Jvm.Cond.initialized "SilkClerks$Number") ∈ lw_all := lw_g (lw_at lw_m1 21 rfl) rfl
theorem q822 : (Jvm.Cond.instantiable "SilkClerks$Number" (1 : Nat)) ∈ lw_all := lw_g (lw_at lw_m3 188 rfl) rfl
theorem q824 : (Jvm.Cond.instanceMethod ({ cls := "SilkClerks$Number", name := "<init>", desc := "(I)V" } : Jvm.MethodName)) ∈ lw_all := lw_g (lw_at lw_m3 190 rfl) rfl
theorem q825 : (Jvm.Cond.code ({ cls := "SilkClerks$Number", name := "<init>", desc := "(I)V" } : Jvm.MethodName) prog_8_method_1_code (2 : Nat) (Option.none : Option Jvm.ClassFile.FieldType)) ∈ lw_all := lw_g (lw_at lw_m3 191 rfl) rfl
theorem q826 : (Jvm.Cond.methodLinkNest "SilkClerks$Number" (1 : Nat) ({ cls := "SilkClerks$Term", name := "<init>", desc := "()V" } : Jvm.MethodName) "SilkClerks") ∈ lw_tbl := lw_at lw_m3 192 rfl
theorem q830 : (Jvm.Cond.fieldLink "SilkClerks$Number" (7 : Nat) "SilkClerks$Number" "v" "I") ∈ lw_all := lw_g (lw_at lw_m3 196 rfl) rfl
theorem q831 : (Jvm.Cond.laysFinal "SilkClerks$Number" "SilkClerks$Number" "v" "I") ∈ lw_all := lw_g (lw_at lw_m3 197 rfl) rfl
theorem q832 : (Jvm.Cond.soleField "SilkClerks$Number" "v") ∈ lw_all := lw_g (lw_at lw_m3 198 rfl) rfl
theorem q833 : (Jvm.Cond.superclass "SilkClerks$Number" "SilkClerks$Term") ∈ lw_all := lw_g (lw_at lw_m3 199 rfl) rfl
theorem q986 : (Jvm.Cond.instanceMethod ({ cls := "SilkClerks$Number", name := "of", desc := "([I)I" } : Jvm.MethodName)) ∈ lw_all := lw_g (lw_at lw_m4 112 rfl) rfl
theorem q987 : (Jvm.Cond.code ({ cls := "SilkClerks$Number", name := "of", desc := "([I)I" } : Jvm.MethodName) prog_8_method_2_code (2 : Nat) (Option.some Jvm.ClassFile.FieldType.int)) ∈ lw_all := lw_g (lw_at lw_m4 113 rfl) rfl
theorem q993 : (Jvm.Cond.selects "SilkClerks$Number" ({ cls := "SilkClerks$Term", name := "of", desc := "([I)I" } : Jvm.MethodName) ({ cls := "SilkClerks$Number", name := "of", desc := "([I)I" } : Jvm.MethodName)) ∈ lw_all := lw_g (lw_at lw_m4 119 rfl) rfl
theorem q2042 : (Jvm.Cond.castable "SilkClerks$Number" "SilkClerks$Term") ∈ lw_tbl := lw_at lw_m8 208 rfl
theorem in_X7 : ∀ w ∈ wsX70, w ∈ lw_all := lw_in wsX70 [831] (by decide +kernel) (by decide +kernel)
/-! SilkClerks$Word -/
set_option maxRecDepth 100000
def RX8 : String := "SilkClerks$Word"
def TX8 : u_T := fun k => match k with
  | _ => ("SilkClerks$Word", "k", "I", true)
def tyX8 : Nat → FieldType := fun k => match k with
  | _ => .int
abbrev wsX80 : List Cond := u_ws RX8 TX8 1
theorem nmX8 : ∀ a, a < 1 → ∀ b, b < 1 → a ≠ b → (TX8 a).2.1 ≠ (TX8 b).2.1 := by decide +kernel
theorem tyX8_ok : ∀ k, k < 1 → parseFieldDescriptor (TX8 k).2.2.1 = some (tyX8 k) := by decide +kernel
abbrev cX8_init : ByteArray := prog_15_method_1_code
def yX8_init : MethodName := ⟨RX8, "<init>", "(I)V"⟩
def dkwX8_init_0 : List UInt8 := [42, 183, 0, 1, 42, 27, 181, 0, 7, 177]
abbrev dktX8_init_0 : List UInt8 := dkwX8_init_0 ++ []
theorem dksX8_init_0 : cX8_init.data.toList.drop 0 = dktX8_init_0 := by decide +kernel
theorem dX8_init_0 : decode cX8_init 0 = .ok (.aload_n 0, 1) := dk_42 (dk_at dksX8_init_0 0 rfl rfl)
theorem dX8_init_1 : decode cX8_init 1 = .ok (.invokespecial 1, 3) := dk_183 0 1 (dk_at dksX8_init_0 1 rfl rfl)
theorem dX8_init_4 : decode cX8_init 4 = .ok (.aload_n 0, 1) := dk_42 (dk_at dksX8_init_0 4 rfl rfl)
theorem dX8_init_5 : decode cX8_init 5 = .ok (.iload_n 1, 1) := dk_27 (dk_at dksX8_init_0 5 rfl rfl)
theorem dX8_init_6 : decode cX8_init 6 = .ok (.putfield 7, 3) := dk_181 0 7 (dk_at dksX8_init_0 6 rfl rfl)
theorem dX8_init_9 : decode cX8_init 9 = .ok (.return_, 1) := dk_177 (dk_at dksX8_init_0 9 rfl rfl)
abbrev cX8_of : ByteArray := prog_15_method_2_code
def yX8_of : MethodName := ⟨RX8, "of", "([I)I"⟩
def dkwX8_of_0 : List UInt8 := [43, 42, 180, 0, 7, 46, 172]
abbrev dktX8_of_0 : List UInt8 := dkwX8_of_0 ++ []
theorem dksX8_of_0 : cX8_of.data.toList.drop 0 = dktX8_of_0 := by decide +kernel
theorem dX8_of_0 : decode cX8_of 0 = .ok (.aload_n 1, 1) := dk_43 (dk_at dksX8_of_0 0 rfl rfl)
theorem dX8_of_1 : decode cX8_of 1 = .ok (.aload_n 0, 1) := dk_42 (dk_at dksX8_of_0 1 rfl rfl)
theorem dX8_of_2 : decode cX8_of 2 = .ok (.getfield 7, 3) := dk_180 0 7 (dk_at dksX8_of_0 2 rfl rfl)
theorem dX8_of_5 : decode cX8_of 5 = .ok (.iaload, 1) := dk_46 (dk_at dksX8_of_0 5 rfl rfl)
theorem dX8_of_6 : decode cX8_of 6 = .ok (.ireturn, 1) := dk_172 (dk_at dksX8_of_0 6 rfl rfl)
theorem q176 : (Jvm.Cond.initialized "SilkClerks$Word") ∈ lw_all := lw_g (lw_at lw_m1 22 rfl) rfl
theorem q835 : (Jvm.Cond.instantiable "SilkClerks$Word" (1 : Nat)) ∈ lw_all := lw_g (lw_at lw_m3 201 rfl) rfl
theorem q837 : (Jvm.Cond.instanceMethod ({ cls := "SilkClerks$Word", name := "<init>", desc := "(I)V" } : Jvm.MethodName)) ∈ lw_all := lw_g (lw_at lw_m3 203 rfl) rfl
theorem q838 : (Jvm.Cond.code ({ cls := "SilkClerks$Word", name := "<init>", desc := "(I)V" } : Jvm.MethodName) prog_15_method_1_code (2 : Nat) (Option.none : Option Jvm.ClassFile.FieldType)) ∈ lw_all := lw_g (lw_at lw_m3 204 rfl) rfl
theorem q839 : (Jvm.Cond.methodLinkNest "SilkClerks$Word" (1 : Nat) ({ cls := "SilkClerks$Term", name := "<init>", desc := "()V" } : Jvm.MethodName) "SilkClerks") ∈ lw_tbl := lw_at lw_m3 205 rfl
theorem q840 : (Jvm.Cond.fieldLink "SilkClerks$Word" (7 : Nat) "SilkClerks$Word" "k" "I") ∈ lw_all := lw_g (lw_at lw_m3 206 rfl) rfl
theorem q841 : (Jvm.Cond.laysFinal "SilkClerks$Word" "SilkClerks$Word" "k" "I") ∈ lw_all := lw_g (lw_at lw_m3 207 rfl) rfl
theorem q842 : (Jvm.Cond.soleField "SilkClerks$Word" "k") ∈ lw_all := lw_g (lw_at lw_m3 208 rfl) rfl
theorem q843 : (Jvm.Cond.superclass "SilkClerks$Word" "SilkClerks$Term") ∈ lw_all := lw_g (lw_at lw_m3 209 rfl) rfl
theorem q991 : (Jvm.Cond.instanceMethod ({ cls := "SilkClerks$Word", name := "of", desc := "([I)I" } : Jvm.MethodName)) ∈ lw_all := lw_g (lw_at lw_m4 117 rfl) rfl
theorem q992 : (Jvm.Cond.code ({ cls := "SilkClerks$Word", name := "of", desc := "([I)I" } : Jvm.MethodName) prog_15_method_2_code (2 : Nat) (Option.some Jvm.ClassFile.FieldType.int)) ∈ lw_all := lw_g (lw_at lw_m4 118 rfl) rfl
theorem q995 : (Jvm.Cond.selects "SilkClerks$Word" ({ cls := "SilkClerks$Term", name := "of", desc := "([I)I" } : Jvm.MethodName) ({ cls := "SilkClerks$Word", name := "of", desc := "([I)I" } : Jvm.MethodName)) ∈ lw_all := lw_g (lw_at lw_m4 121 rfl) rfl
theorem q2043 : (Jvm.Cond.castable "SilkClerks$Word" "SilkClerks$Term") ∈ lw_tbl := lw_at lw_m8 209 rfl
theorem in_X8 : ∀ w ∈ wsX80, w ∈ lw_all := lw_in wsX80 [841] (by decide +kernel) (by decide +kernel)
/-! SilkClerks$Two -/
set_option maxRecDepth 100000
def RX9 : String := "SilkClerks$Two"
def TX9 : u_T := fun k => match k with
  | 0 => ("SilkClerks$Two", "sign", "C", true)
  | 1 => ("SilkClerks$Two", "a", "LSilkClerks$Term;", true)
  | _ => ("SilkClerks$Two", "b", "LSilkClerks$Term;", true)
def tyX9 : Nat → FieldType := fun k => match k with
  | 0 => .char
  | 1 => .object "SilkClerks$Term"
  | _ => .object "SilkClerks$Term"
abbrev wsX90 : List Cond := u_ws RX9 TX9 3
theorem nmX9 : ∀ a, a < 3 → ∀ b, b < 3 → a ≠ b → (TX9 a).2.1 ≠ (TX9 b).2.1 := by decide +kernel
theorem tyX9_ok : ∀ k, k < 3 → parseFieldDescriptor (TX9 k).2.2.1 = some (tyX9 k) := by decide +kernel
abbrev cX9_init : ByteArray := prog_14_method_1_code
def yX9_init : MethodName := ⟨RX9, "<init>", "(CLSilkClerks$Term;LSilkClerks$Term;)V"⟩
def dkwX9_init_0 : List UInt8 := [42, 183, 0, 1, 42, 27, 181, 0, 7, 42, 44, 181, 0, 13, 42, 45, 181, 0, 17, 177]
abbrev dktX9_init_0 : List UInt8 := dkwX9_init_0 ++ []
theorem dksX9_init_0 : cX9_init.data.toList.drop 0 = dktX9_init_0 := by decide +kernel
theorem dX9_init_0 : decode cX9_init 0 = .ok (.aload_n 0, 1) := dk_42 (dk_at dksX9_init_0 0 rfl rfl)
theorem dX9_init_1 : decode cX9_init 1 = .ok (.invokespecial 1, 3) := dk_183 0 1 (dk_at dksX9_init_0 1 rfl rfl)
theorem dX9_init_4 : decode cX9_init 4 = .ok (.aload_n 0, 1) := dk_42 (dk_at dksX9_init_0 4 rfl rfl)
theorem dX9_init_5 : decode cX9_init 5 = .ok (.iload_n 1, 1) := dk_27 (dk_at dksX9_init_0 5 rfl rfl)
theorem dX9_init_6 : decode cX9_init 6 = .ok (.putfield 7, 3) := dk_181 0 7 (dk_at dksX9_init_0 6 rfl rfl)
theorem dX9_init_9 : decode cX9_init 9 = .ok (.aload_n 0, 1) := dk_42 (dk_at dksX9_init_0 9 rfl rfl)
theorem dX9_init_10 : decode cX9_init 10 = .ok (.aload_n 2, 1) := dk_44 (dk_at dksX9_init_0 10 rfl rfl)
theorem dX9_init_11 : decode cX9_init 11 = .ok (.putfield 13, 3) := dk_181 0 13 (dk_at dksX9_init_0 11 rfl rfl)
theorem dX9_init_14 : decode cX9_init 14 = .ok (.aload_n 0, 1) := dk_42 (dk_at dksX9_init_0 14 rfl rfl)
theorem dX9_init_15 : decode cX9_init 15 = .ok (.aload_n 3, 1) := dk_45 (dk_at dksX9_init_0 15 rfl rfl)
theorem dX9_init_16 : decode cX9_init 16 = .ok (.putfield 17, 3) := dk_181 0 17 (dk_at dksX9_init_0 16 rfl rfl)
theorem dX9_init_19 : decode cX9_init 19 = .ok (.return_, 1) := dk_177 (dk_at dksX9_init_0 19 rfl rfl)
abbrev cX9_of : ByteArray := prog_14_method_2_code
def yX9_of : MethodName := ⟨RX9, "of", "([I)I"⟩
def dkwX9_of_4 : List UInt8 := [167, 0, 4, 3, 172, 28, 29, 126, 172, 28, 29, 128, 172]
abbrev dktX9_of_4 : List UInt8 := dkwX9_of_4 ++ []
def dkwX9_of_3 : List UInt8 := [167, 0, 4, 3, 172, 28, 29, 160, 0, 7, 4, 167, 0, 4, 3, 172, 28, 29, 164, 0, 7, 4]
abbrev dktX9_of_3 : List UInt8 := dkwX9_of_3 ++ dktX9_of_4
def dkwX9_of_2 : List UInt8 := [28, 29, 96, 172, 28, 29, 100, 172, 28, 29, 104, 172, 28, 29, 108, 172, 28, 29, 162, 0, 7, 4]
abbrev dktX9_of_2 : List UInt8 := dkwX9_of_2 ++ dktX9_of_3
def dkwX9_of_1 : List UInt8 := [170, 0, 0, 0, 0, 167, 0, 0, 0, 38, 0, 0, 0, 62, 0, 0, 0, 163, 0, 0, 0, 167, 0, 0, 0, 167, 0, 0, 0, 167, 0, 0, 0, 122, 0, 0, 0, 114, 0, 0, 0, 167, 0, 0, 0, 118, 0, 0, 0, 167, 0, 0, 0, 126, 0, 0, 0, 167, 0, 0, 0, 167, 0, 0, 0, 167, 0, 0, 0, 167, 0, 0, 0, 167, 0, 0, 0, 167, 0, 0, 0, 167, 0, 0, 0, 167, 0, 0, 0, 167, 0, 0, 0, 167, 0, 0, 0, 167, 0, 0, 0, 167, 0, 0, 0, 130, 0, 0, 0, 141, 0, 0, 0, 152]
abbrev dktX9_of_1 : List UInt8 := dkwX9_of_1 ++ dktX9_of_2
def dkwX9_of_0 : List UInt8 := [42, 180, 0, 13, 43, 182, 0, 20, 61, 42, 180, 0, 17, 43, 182, 0, 20, 62, 42, 180, 0, 7]
abbrev dktX9_of_0 : List UInt8 := dkwX9_of_0 ++ dktX9_of_1
theorem dksX9_of_0 : cX9_of.data.toList.drop 0 = dktX9_of_0 := by decide +kernel
theorem dksX9_of_1 : cX9_of.data.toList.drop 22 = dktX9_of_1 := dk_seg dksX9_of_0 22 rfl rfl
theorem dksX9_of_2 : cX9_of.data.toList.drop 136 = dktX9_of_2 := dk_seg dksX9_of_1 114 rfl rfl
theorem dksX9_of_3 : cX9_of.data.toList.drop 158 = dktX9_of_3 := dk_seg dksX9_of_2 22 rfl rfl
theorem dksX9_of_4 : cX9_of.data.toList.drop 180 = dktX9_of_4 := dk_seg dksX9_of_3 22 rfl rfl
theorem dX9_of_0 : decode cX9_of 0 = .ok (.aload_n 0, 1) := dk_42 (dk_at dksX9_of_0 0 rfl rfl)
theorem dX9_of_1 : decode cX9_of 1 = .ok (.getfield 13, 3) := dk_180 0 13 (dk_at dksX9_of_0 1 rfl rfl)
theorem dX9_of_4 : decode cX9_of 4 = .ok (.aload_n 1, 1) := dk_43 (dk_at dksX9_of_0 4 rfl rfl)
theorem dX9_of_5 : decode cX9_of 5 = .ok (.invokevirtual 20, 3) := dk_182 0 20 (dk_at dksX9_of_0 5 rfl rfl)
theorem dX9_of_8 : decode cX9_of 8 = .ok (.istore_n 2, 1) := dk_61 (dk_at dksX9_of_0 8 rfl rfl)
theorem dX9_of_9 : decode cX9_of 9 = .ok (.aload_n 0, 1) := dk_42 (dk_at dksX9_of_0 9 rfl rfl)
theorem dX9_of_10 : decode cX9_of 10 = .ok (.getfield 17, 3) := dk_180 0 17 (dk_at dksX9_of_0 10 rfl rfl)
theorem dX9_of_13 : decode cX9_of 13 = .ok (.aload_n 1, 1) := dk_43 (dk_at dksX9_of_0 13 rfl rfl)
theorem dX9_of_14 : decode cX9_of 14 = .ok (.invokevirtual 20, 3) := dk_182 0 20 (dk_at dksX9_of_0 14 rfl rfl)
theorem dX9_of_17 : decode cX9_of 17 = .ok (.istore_n 3, 1) := dk_62 (dk_at dksX9_of_0 17 rfl rfl)
theorem dX9_of_18 : decode cX9_of 18 = .ok (.aload_n 0, 1) := dk_42 (dk_at dksX9_of_0 18 rfl rfl)
theorem dX9_of_19 : decode cX9_of 19 = .ok (.getfield 7, 3) := dk_180 0 7 (dk_at dksX9_of_0 19 rfl rfl)
theorem dX9_of_22 : decode cX9_of 22 = .ok (.tableswitch 167 38 62 #[163, 167, 167, 167, 122, 114, 167, 118, 167, 126, 167, 167, 167, 167, 167, 167, 167, 167, 167, 167, 167, 167, 130, 141, 152], 114) := by decide +kernel
theorem dX9_of_136 : decode cX9_of 136 = .ok (.iload_n 2, 1) := dk_28 (dk_at dksX9_of_2 0 rfl rfl)
theorem dX9_of_137 : decode cX9_of 137 = .ok (.iload_n 3, 1) := dk_29 (dk_at dksX9_of_2 1 rfl rfl)
theorem dX9_of_138 : decode cX9_of 138 = .ok (.iadd, 1) := dk_96 (dk_at dksX9_of_2 2 rfl rfl)
theorem dX9_of_139 : decode cX9_of 139 = .ok (.ireturn, 1) := dk_172 (dk_at dksX9_of_2 3 rfl rfl)
theorem dX9_of_140 : decode cX9_of 140 = .ok (.iload_n 2, 1) := dk_28 (dk_at dksX9_of_2 4 rfl rfl)
theorem dX9_of_141 : decode cX9_of 141 = .ok (.iload_n 3, 1) := dk_29 (dk_at dksX9_of_2 5 rfl rfl)
theorem dX9_of_142 : decode cX9_of 142 = .ok (.isub, 1) := dk_100 (dk_at dksX9_of_2 6 rfl rfl)
theorem dX9_of_143 : decode cX9_of 143 = .ok (.ireturn, 1) := dk_172 (dk_at dksX9_of_2 7 rfl rfl)
theorem dX9_of_144 : decode cX9_of 144 = .ok (.iload_n 2, 1) := dk_28 (dk_at dksX9_of_2 8 rfl rfl)
theorem dX9_of_145 : decode cX9_of 145 = .ok (.iload_n 3, 1) := dk_29 (dk_at dksX9_of_2 9 rfl rfl)
theorem dX9_of_146 : decode cX9_of 146 = .ok (.imul, 1) := dk_104 (dk_at dksX9_of_2 10 rfl rfl)
theorem dX9_of_147 : decode cX9_of 147 = .ok (.ireturn, 1) := dk_172 (dk_at dksX9_of_2 11 rfl rfl)
theorem dX9_of_148 : decode cX9_of 148 = .ok (.iload_n 2, 1) := dk_28 (dk_at dksX9_of_2 12 rfl rfl)
theorem dX9_of_149 : decode cX9_of 149 = .ok (.iload_n 3, 1) := dk_29 (dk_at dksX9_of_2 13 rfl rfl)
theorem dX9_of_150 : decode cX9_of 150 = .ok (.idiv, 1) := dk_108 (dk_at dksX9_of_2 14 rfl rfl)
theorem dX9_of_151 : decode cX9_of 151 = .ok (.ireturn, 1) := dk_172 (dk_at dksX9_of_2 15 rfl rfl)
theorem dX9_of_152 : decode cX9_of 152 = .ok (.iload_n 2, 1) := dk_28 (dk_at dksX9_of_2 16 rfl rfl)
theorem dX9_of_153 : decode cX9_of 153 = .ok (.iload_n 3, 1) := dk_29 (dk_at dksX9_of_2 17 rfl rfl)
theorem dX9_of_154 : decode cX9_of 154 = .ok (.if_icmp .ge 7, 3) := dk_162 0 7 (dk_at dksX9_of_2 18 rfl rfl)
theorem dX9_of_157 : decode cX9_of 157 = .ok (.iconst 1, 1) := dk_4 (dk_at dksX9_of_2 21 rfl rfl)
theorem dX9_of_158 : decode cX9_of 158 = .ok (.goto 4, 3) := dk_167 0 4 (dk_at dksX9_of_3 0 rfl rfl)
theorem dX9_of_161 : decode cX9_of 161 = .ok (.iconst 0, 1) := dk_3 (dk_at dksX9_of_3 3 rfl rfl)
theorem dX9_of_162 : decode cX9_of 162 = .ok (.ireturn, 1) := dk_172 (dk_at dksX9_of_3 4 rfl rfl)
theorem dX9_of_163 : decode cX9_of 163 = .ok (.iload_n 2, 1) := dk_28 (dk_at dksX9_of_3 5 rfl rfl)
theorem dX9_of_164 : decode cX9_of 164 = .ok (.iload_n 3, 1) := dk_29 (dk_at dksX9_of_3 6 rfl rfl)
theorem dX9_of_165 : decode cX9_of 165 = .ok (.if_icmp .ne 7, 3) := dk_160 0 7 (dk_at dksX9_of_3 7 rfl rfl)
theorem dX9_of_168 : decode cX9_of 168 = .ok (.iconst 1, 1) := dk_4 (dk_at dksX9_of_3 10 rfl rfl)
theorem dX9_of_169 : decode cX9_of 169 = .ok (.goto 4, 3) := dk_167 0 4 (dk_at dksX9_of_3 11 rfl rfl)
theorem dX9_of_172 : decode cX9_of 172 = .ok (.iconst 0, 1) := dk_3 (dk_at dksX9_of_3 14 rfl rfl)
theorem dX9_of_173 : decode cX9_of 173 = .ok (.ireturn, 1) := dk_172 (dk_at dksX9_of_3 15 rfl rfl)
theorem dX9_of_174 : decode cX9_of 174 = .ok (.iload_n 2, 1) := dk_28 (dk_at dksX9_of_3 16 rfl rfl)
theorem dX9_of_175 : decode cX9_of 175 = .ok (.iload_n 3, 1) := dk_29 (dk_at dksX9_of_3 17 rfl rfl)
theorem dX9_of_176 : decode cX9_of 176 = .ok (.if_icmp .le 7, 3) := dk_164 0 7 (dk_at dksX9_of_3 18 rfl rfl)
theorem dX9_of_179 : decode cX9_of 179 = .ok (.iconst 1, 1) := dk_4 (dk_at dksX9_of_3 21 rfl rfl)
theorem dX9_of_180 : decode cX9_of 180 = .ok (.goto 4, 3) := dk_167 0 4 (dk_at dksX9_of_4 0 rfl rfl)
theorem dX9_of_183 : decode cX9_of 183 = .ok (.iconst 0, 1) := dk_3 (dk_at dksX9_of_4 3 rfl rfl)
theorem dX9_of_184 : decode cX9_of 184 = .ok (.ireturn, 1) := dk_172 (dk_at dksX9_of_4 4 rfl rfl)
theorem dX9_of_185 : decode cX9_of 185 = .ok (.iload_n 2, 1) := dk_28 (dk_at dksX9_of_4 5 rfl rfl)
theorem dX9_of_186 : decode cX9_of 186 = .ok (.iload_n 3, 1) := dk_29 (dk_at dksX9_of_4 6 rfl rfl)
theorem dX9_of_187 : decode cX9_of 187 = .ok (.iand, 1) := dk_126 (dk_at dksX9_of_4 7 rfl rfl)
theorem dX9_of_188 : decode cX9_of 188 = .ok (.ireturn, 1) := dk_172 (dk_at dksX9_of_4 8 rfl rfl)
theorem dX9_of_189 : decode cX9_of 189 = .ok (.iload_n 2, 1) := dk_28 (dk_at dksX9_of_4 9 rfl rfl)
theorem dX9_of_190 : decode cX9_of 190 = .ok (.iload_n 3, 1) := dk_29 (dk_at dksX9_of_4 10 rfl rfl)
theorem dX9_of_191 : decode cX9_of 191 = .ok (.ior, 1) := dk_128 (dk_at dksX9_of_4 11 rfl rfl)
theorem dX9_of_192 : decode cX9_of 192 = .ok (.ireturn, 1) := dk_172 (dk_at dksX9_of_4 12 rfl rfl)
theorem q177 : (Jvm.Cond.initialized "SilkClerks$Two") ∈ lw_all := lw_g (lw_at lw_m1 23 rfl) rfl
theorem q845 : (Jvm.Cond.instantiable "SilkClerks$Two" (3 : Nat)) ∈ lw_all := lw_g (lw_at lw_m3 211 rfl) rfl
theorem q847 : (Jvm.Cond.instanceMethod ({ cls := "SilkClerks$Two", name := "<init>", desc := "(CLSilkClerks$Term;LSilkClerks$Term;)V" } : Jvm.MethodName)) ∈ lw_all := lw_g (lw_at lw_m3 213 rfl) rfl
theorem q848 : (Jvm.Cond.code ({ cls := "SilkClerks$Two", name := "<init>", desc := "(CLSilkClerks$Term;LSilkClerks$Term;)V" } : Jvm.MethodName) prog_14_method_1_code (4 : Nat) (Option.none : Option Jvm.ClassFile.FieldType)) ∈ lw_all := lw_g (lw_at lw_m3 214 rfl) rfl
theorem q849 : (Jvm.Cond.methodLinkNest "SilkClerks$Two" (1 : Nat) ({ cls := "SilkClerks$Term", name := "<init>", desc := "()V" } : Jvm.MethodName) "SilkClerks") ∈ lw_tbl := lw_at lw_m3 215 rfl
theorem q850 : (Jvm.Cond.fieldLink "SilkClerks$Two" (7 : Nat) "SilkClerks$Two" "sign" "C") ∈ lw_all := lw_g (lw_at lw_m3 216 rfl) rfl
theorem q851 : (Jvm.Cond.fieldLink "SilkClerks$Two" (13 : Nat) "SilkClerks$Two" "a" "LSilkClerks$Term;") ∈ lw_all := lw_g (lw_at lw_m3 217 rfl) rfl
theorem q852 : (Jvm.Cond.fieldLink "SilkClerks$Two" (17 : Nat) "SilkClerks$Two" "b" "LSilkClerks$Term;") ∈ lw_all := lw_g (lw_at lw_m3 218 rfl) rfl
theorem q853 : (Jvm.Cond.laysFinal "SilkClerks$Two" "SilkClerks$Two" "sign" "C") ∈ lw_all := lw_g (lw_at lw_m3 219 rfl) rfl
theorem q854 : (Jvm.Cond.soleField "SilkClerks$Two" "sign") ∈ lw_all := lw_g (lw_at lw_m3 220 rfl) rfl
theorem q855 : (Jvm.Cond.laysFinal "SilkClerks$Two" "SilkClerks$Two" "a" "LSilkClerks$Term;") ∈ lw_all := lw_g (lw_at lw_m3 221 rfl) rfl
theorem q856 : (Jvm.Cond.soleField "SilkClerks$Two" "a") ∈ lw_all := lw_g (lw_at lw_m3 222 rfl) rfl
theorem q857 : (Jvm.Cond.laysFinal "SilkClerks$Two" "SilkClerks$Two" "b" "LSilkClerks$Term;") ∈ lw_all := lw_g (lw_at lw_m3 223 rfl) rfl
theorem q858 : (Jvm.Cond.soleField "SilkClerks$Two" "b") ∈ lw_all := lw_g (lw_at lw_m3 224 rfl) rfl
theorem q859 : (Jvm.Cond.superclass "SilkClerks$Two" "SilkClerks$Term") ∈ lw_all := lw_g (lw_at lw_m3 225 rfl) rfl
theorem q988 : (Jvm.Cond.instanceMethod ({ cls := "SilkClerks$Two", name := "of", desc := "([I)I" } : Jvm.MethodName)) ∈ lw_all := lw_g (lw_at lw_m4 114 rfl) rfl
theorem q989 : (Jvm.Cond.code ({ cls := "SilkClerks$Two", name := "of", desc := "([I)I" } : Jvm.MethodName) prog_14_method_2_code (4 : Nat) (Option.some Jvm.ClassFile.FieldType.int)) ∈ lw_all := lw_g (lw_at lw_m4 115 rfl) rfl
theorem q990 : (Jvm.Cond.methodLink "SilkClerks$Two" (20 : Nat) ({ cls := "SilkClerks$Term", name := "of", desc := "([I)I" } : Jvm.MethodName)) ∈ lw_all := lw_g (lw_at lw_m4 116 rfl) rfl
theorem q994 : (Jvm.Cond.selects "SilkClerks$Two" ({ cls := "SilkClerks$Term", name := "of", desc := "([I)I" } : Jvm.MethodName) ({ cls := "SilkClerks$Two", name := "of", desc := "([I)I" } : Jvm.MethodName)) ∈ lw_all := lw_g (lw_at lw_m4 120 rfl) rfl
theorem q2044 : (Jvm.Cond.castable "SilkClerks$Two" "SilkClerks$Term") ∈ lw_tbl := lw_at lw_m8 210 rfl
theorem in_X9 : ∀ w ∈ wsX90, w ∈ lw_all := lw_in wsX90 [853, 855, 857] (by decide +kernel) (by decide +kernel)
/-! SilkClerks$Not -/
set_option maxRecDepth 100000
def RX10 : String := "SilkClerks$Not"
def TX10 : u_T := fun k => match k with
  | _ => ("SilkClerks$Not", "in", "LSilkClerks$Term;", true)
def tyX10 : Nat → FieldType := fun k => match k with
  | _ => .object "SilkClerks$Term"
abbrev wsX100 : List Cond := u_ws RX10 TX10 1
theorem nmX10 : ∀ a, a < 1 → ∀ b, b < 1 → a ≠ b → (TX10 a).2.1 ≠ (TX10 b).2.1 := by decide +kernel
theorem tyX10_ok : ∀ k, k < 1 → parseFieldDescriptor (TX10 k).2.2.1 = some (tyX10 k) := by decide +kernel
abbrev cX10_init : ByteArray := prog_7_method_1_code
def yX10_init : MethodName := ⟨RX10, "<init>", "(LSilkClerks$Term;)V"⟩
def dkwX10_init_0 : List UInt8 := [42, 183, 0, 1, 42, 43, 181, 0, 7, 177]
abbrev dktX10_init_0 : List UInt8 := dkwX10_init_0 ++ []
theorem dksX10_init_0 : cX10_init.data.toList.drop 0 = dktX10_init_0 := by decide +kernel
theorem dX10_init_0 : decode cX10_init 0 = .ok (.aload_n 0, 1) := dk_42 (dk_at dksX10_init_0 0 rfl rfl)
theorem dX10_init_1 : decode cX10_init 1 = .ok (.invokespecial 1, 3) := dk_183 0 1 (dk_at dksX10_init_0 1 rfl rfl)
theorem dX10_init_4 : decode cX10_init 4 = .ok (.aload_n 0, 1) := dk_42 (dk_at dksX10_init_0 4 rfl rfl)
theorem dX10_init_5 : decode cX10_init 5 = .ok (.aload_n 1, 1) := dk_43 (dk_at dksX10_init_0 5 rfl rfl)
theorem dX10_init_6 : decode cX10_init 6 = .ok (.putfield 7, 3) := dk_181 0 7 (dk_at dksX10_init_0 6 rfl rfl)
theorem dX10_init_9 : decode cX10_init 9 = .ok (.return_, 1) := dk_177 (dk_at dksX10_init_0 9 rfl rfl)
abbrev cX10_of : ByteArray := prog_7_method_2_code
def yX10_of : MethodName := ⟨RX10, "of", "([I)I"⟩
def dkwX10_of_0 : List UInt8 := [4, 42, 180, 0, 7, 43, 182, 0, 13, 100, 172]
abbrev dktX10_of_0 : List UInt8 := dkwX10_of_0 ++ []
theorem dksX10_of_0 : cX10_of.data.toList.drop 0 = dktX10_of_0 := by decide +kernel
theorem dX10_of_0 : decode cX10_of 0 = .ok (.iconst 1, 1) := dk_4 (dk_at dksX10_of_0 0 rfl rfl)
theorem dX10_of_1 : decode cX10_of 1 = .ok (.aload_n 0, 1) := dk_42 (dk_at dksX10_of_0 1 rfl rfl)
theorem dX10_of_2 : decode cX10_of 2 = .ok (.getfield 7, 3) := dk_180 0 7 (dk_at dksX10_of_0 2 rfl rfl)
theorem dX10_of_5 : decode cX10_of 5 = .ok (.aload_n 1, 1) := dk_43 (dk_at dksX10_of_0 5 rfl rfl)
theorem dX10_of_6 : decode cX10_of 6 = .ok (.invokevirtual 13, 3) := dk_182 0 13 (dk_at dksX10_of_0 6 rfl rfl)
theorem dX10_of_9 : decode cX10_of 9 = .ok (.isub, 1) := dk_100 (dk_at dksX10_of_0 9 rfl rfl)
theorem dX10_of_10 : decode cX10_of 10 = .ok (.ireturn, 1) := dk_172 (dk_at dksX10_of_0 10 rfl rfl)
theorem q178 : (Jvm.Cond.initialized "SilkClerks$Not") ∈ lw_all := lw_g (lw_at lw_m1 24 rfl) rfl
theorem q877 : (Jvm.Cond.instantiable "SilkClerks$Not" (1 : Nat)) ∈ lw_all := lw_g (lw_at lw_m4 3 rfl) rfl
theorem q879 : (Jvm.Cond.instanceMethod ({ cls := "SilkClerks$Not", name := "<init>", desc := "(LSilkClerks$Term;)V" } : Jvm.MethodName)) ∈ lw_all := lw_g (lw_at lw_m4 5 rfl) rfl
theorem q880 : (Jvm.Cond.code ({ cls := "SilkClerks$Not", name := "<init>", desc := "(LSilkClerks$Term;)V" } : Jvm.MethodName) prog_7_method_1_code (2 : Nat) (Option.none : Option Jvm.ClassFile.FieldType)) ∈ lw_all := lw_g (lw_at lw_m4 6 rfl) rfl
theorem q881 : (Jvm.Cond.methodLinkNest "SilkClerks$Not" (1 : Nat) ({ cls := "SilkClerks$Term", name := "<init>", desc := "()V" } : Jvm.MethodName) "SilkClerks") ∈ lw_tbl := lw_at lw_m4 7 rfl
theorem q882 : (Jvm.Cond.fieldLink "SilkClerks$Not" (7 : Nat) "SilkClerks$Not" "in" "LSilkClerks$Term;") ∈ lw_all := lw_g (lw_at lw_m4 8 rfl) rfl
theorem q883 : (Jvm.Cond.laysFinal "SilkClerks$Not" "SilkClerks$Not" "in" "LSilkClerks$Term;") ∈ lw_all := lw_g (lw_at lw_m4 9 rfl) rfl
theorem q884 : (Jvm.Cond.soleField "SilkClerks$Not" "in") ∈ lw_all := lw_g (lw_at lw_m4 10 rfl) rfl
theorem q885 : (Jvm.Cond.superclass "SilkClerks$Not" "SilkClerks$Term") ∈ lw_all := lw_g (lw_at lw_m4 11 rfl) rfl
theorem q982 : (Jvm.Cond.selects "SilkClerks$Not" ({ cls := "SilkClerks$Term", name := "of", desc := "([I)I" } : Jvm.MethodName) ({ cls := "SilkClerks$Not", name := "of", desc := "([I)I" } : Jvm.MethodName)) ∈ lw_all := lw_g (lw_at lw_m4 108 rfl) rfl
theorem q983 : (Jvm.Cond.instanceMethod ({ cls := "SilkClerks$Not", name := "of", desc := "([I)I" } : Jvm.MethodName)) ∈ lw_all := lw_g (lw_at lw_m4 109 rfl) rfl
theorem q984 : (Jvm.Cond.code ({ cls := "SilkClerks$Not", name := "of", desc := "([I)I" } : Jvm.MethodName) prog_7_method_2_code (2 : Nat) (Option.some Jvm.ClassFile.FieldType.int)) ∈ lw_all := lw_g (lw_at lw_m4 110 rfl) rfl
theorem q985 : (Jvm.Cond.methodLink "SilkClerks$Not" (13 : Nat) ({ cls := "SilkClerks$Term", name := "of", desc := "([I)I" } : Jvm.MethodName)) ∈ lw_all := lw_g (lw_at lw_m4 111 rfl) rfl
theorem q2045 : (Jvm.Cond.castable "SilkClerks$Not" "SilkClerks$Term") ∈ lw_tbl := lw_at lw_m8 211 rfl
theorem in_X10 : ∀ w ∈ wsX100, w ∈ lw_all := lw_in wsX100 [883] (by decide +kernel) (by decide +kernel)
/-! SilkClerks$Meal -/
set_option maxRecDepth 100000
def RX11 : String := "SilkClerks$Meal"
def TX11 : u_T := fun k => match k with
  | 0 => ("SilkClerks$Meal", "day", "I", true)
  | 1 => ("SilkClerks$Meal", "worm", "I", true)
  | 2 => ("SilkClerks$Meal", "a", "I", true)
  | _ => ("SilkClerks$Meal", "b", "I", true)
def tyX11 : Nat → FieldType := fun k => match k with
  | 0 => .int
  | 1 => .int
  | 2 => .int
  | _ => .int
abbrev wsX110 : List Cond := u_ws RX11 TX11 4
theorem nmX11 : ∀ a, a < 4 → ∀ b, b < 4 → a ≠ b → (TX11 a).2.1 ≠ (TX11 b).2.1 := by decide +kernel
theorem tyX11_ok : ∀ k, k < 4 → parseFieldDescriptor (TX11 k).2.2.1 = some (tyX11 k) := by decide +kernel
abbrev cX11_init : ByteArray := prog_5_method_1_code
def yX11_init : MethodName := ⟨RX11, "<init>", "(IIII)V"⟩
def dkwX11_init_1 : List UInt8 := [181, 0, 19, 177]
abbrev dktX11_init_1 : List UInt8 := dkwX11_init_1 ++ []
def dkwX11_init_0 : List UInt8 := [42, 183, 0, 1, 42, 27, 181, 0, 7, 42, 28, 181, 0, 13, 42, 29, 181, 0, 16, 42, 21, 4]
abbrev dktX11_init_0 : List UInt8 := dkwX11_init_0 ++ dktX11_init_1
theorem dksX11_init_0 : cX11_init.data.toList.drop 0 = dktX11_init_0 := by decide +kernel
theorem dksX11_init_1 : cX11_init.data.toList.drop 22 = dktX11_init_1 := dk_seg dksX11_init_0 22 rfl rfl
theorem dX11_init_0 : decode cX11_init 0 = .ok (.aload_n 0, 1) := dk_42 (dk_at dksX11_init_0 0 rfl rfl)
theorem dX11_init_1 : decode cX11_init 1 = .ok (.invokespecial 1, 3) := dk_183 0 1 (dk_at dksX11_init_0 1 rfl rfl)
theorem dX11_init_4 : decode cX11_init 4 = .ok (.aload_n 0, 1) := dk_42 (dk_at dksX11_init_0 4 rfl rfl)
theorem dX11_init_5 : decode cX11_init 5 = .ok (.iload_n 1, 1) := dk_27 (dk_at dksX11_init_0 5 rfl rfl)
theorem dX11_init_6 : decode cX11_init 6 = .ok (.putfield 7, 3) := dk_181 0 7 (dk_at dksX11_init_0 6 rfl rfl)
theorem dX11_init_9 : decode cX11_init 9 = .ok (.aload_n 0, 1) := dk_42 (dk_at dksX11_init_0 9 rfl rfl)
theorem dX11_init_10 : decode cX11_init 10 = .ok (.iload_n 2, 1) := dk_28 (dk_at dksX11_init_0 10 rfl rfl)
theorem dX11_init_11 : decode cX11_init 11 = .ok (.putfield 13, 3) := dk_181 0 13 (dk_at dksX11_init_0 11 rfl rfl)
theorem dX11_init_14 : decode cX11_init 14 = .ok (.aload_n 0, 1) := dk_42 (dk_at dksX11_init_0 14 rfl rfl)
theorem dX11_init_15 : decode cX11_init 15 = .ok (.iload_n 3, 1) := dk_29 (dk_at dksX11_init_0 15 rfl rfl)
theorem dX11_init_16 : decode cX11_init 16 = .ok (.putfield 16, 3) := dk_181 0 16 (dk_at dksX11_init_0 16 rfl rfl)
theorem dX11_init_19 : decode cX11_init 19 = .ok (.aload_n 0, 1) := dk_42 (dk_at dksX11_init_0 19 rfl rfl)
theorem dX11_init_20 : decode cX11_init 20 = .ok (.iload 4, 2) := dk_21 4 (dk_at dksX11_init_0 20 rfl rfl)
theorem dX11_init_22 : decode cX11_init 22 = .ok (.putfield 19, 3) := dk_181 0 19 (dk_at dksX11_init_1 0 rfl rfl)
theorem dX11_init_25 : decode cX11_init 25 = .ok (.return_, 1) := dk_177 (dk_at dksX11_init_1 3 rfl rfl)
abbrev cX11_day : ByteArray := prog_5_method_5_code
def yX11_day : MethodName := ⟨RX11, "day", "()I"⟩
theorem dX11_day_0 : decode cX11_day 0 = .ok (.aload_n 0, 1) := by decide +kernel
theorem dX11_day_1 : decode cX11_day 1 = .ok (.getfield 7, 3) := by decide +kernel
theorem dX11_day_4 : decode cX11_day 4 = .ok (.ireturn, 1) := by decide +kernel
abbrev cX11_worm : ByteArray := prog_5_method_6_code
def yX11_worm : MethodName := ⟨RX11, "worm", "()I"⟩
theorem dX11_worm_0 : decode cX11_worm 0 = .ok (.aload_n 0, 1) := by decide +kernel
theorem dX11_worm_1 : decode cX11_worm 1 = .ok (.getfield 13, 3) := by decide +kernel
theorem dX11_worm_4 : decode cX11_worm 4 = .ok (.ireturn, 1) := by decide +kernel
abbrev cX11_a : ByteArray := prog_5_method_7_code
def yX11_a : MethodName := ⟨RX11, "a", "()I"⟩
theorem dX11_a_0 : decode cX11_a 0 = .ok (.aload_n 0, 1) := by decide +kernel
theorem dX11_a_1 : decode cX11_a 1 = .ok (.getfield 16, 3) := by decide +kernel
theorem dX11_a_4 : decode cX11_a 4 = .ok (.ireturn, 1) := by decide +kernel
abbrev cX11_b : ByteArray := prog_5_method_8_code
def yX11_b : MethodName := ⟨RX11, "b", "()I"⟩
theorem dX11_b_0 : decode cX11_b 0 = .ok (.aload_n 0, 1) := by decide +kernel
theorem dX11_b_1 : decode cX11_b 1 = .ok (.getfield 19, 3) := by decide +kernel
theorem dX11_b_4 : decode cX11_b 4 = .ok (.ireturn, 1) := by decide +kernel
theorem q179 : (Jvm.Cond.initialized "SilkClerks$Meal") ∈ lw_all := lw_g (lw_at lw_m1 25 rfl) rfl
theorem q902 : (Jvm.Cond.instantiable "SilkClerks$Meal" (4 : Nat)) ∈ lw_all := lw_g (lw_at lw_m4 28 rfl) rfl
theorem q904 : (Jvm.Cond.instanceMethod ({ cls := "SilkClerks$Meal", name := "<init>", desc := "(IIII)V" } : Jvm.MethodName)) ∈ lw_all := lw_g (lw_at lw_m4 30 rfl) rfl
theorem q905 : (Jvm.Cond.code ({ cls := "SilkClerks$Meal", name := "<init>", desc := "(IIII)V" } : Jvm.MethodName) prog_5_method_1_code (5 : Nat) (Option.none : Option Jvm.ClassFile.FieldType)) ∈ lw_all := lw_g (lw_at lw_m4 31 rfl) rfl
theorem q906 : (Jvm.Cond.methodLink "SilkClerks$Meal" (1 : Nat) ({ cls := "java/lang/Record", name := "<init>", desc := "()V" } : Jvm.MethodName)) ∈ lw_all := lw_g (lw_at lw_m4 32 rfl) rfl
theorem q907 : (Jvm.Cond.fieldLink "SilkClerks$Meal" (7 : Nat) "SilkClerks$Meal" "day" "I") ∈ lw_all := lw_g (lw_at lw_m4 33 rfl) rfl
theorem q908 : (Jvm.Cond.fieldLink "SilkClerks$Meal" (13 : Nat) "SilkClerks$Meal" "worm" "I") ∈ lw_all := lw_g (lw_at lw_m4 34 rfl) rfl
theorem q909 : (Jvm.Cond.fieldLink "SilkClerks$Meal" (16 : Nat) "SilkClerks$Meal" "a" "I") ∈ lw_all := lw_g (lw_at lw_m4 35 rfl) rfl
theorem q910 : (Jvm.Cond.fieldLink "SilkClerks$Meal" (19 : Nat) "SilkClerks$Meal" "b" "I") ∈ lw_all := lw_g (lw_at lw_m4 36 rfl) rfl
theorem q911 : (Jvm.Cond.laysFinal "SilkClerks$Meal" "SilkClerks$Meal" "day" "I") ∈ lw_all := lw_g (lw_at lw_m4 37 rfl) rfl
theorem q912 : (Jvm.Cond.soleField "SilkClerks$Meal" "day") ∈ lw_all := lw_g (lw_at lw_m4 38 rfl) rfl
theorem q913 : (Jvm.Cond.laysFinal "SilkClerks$Meal" "SilkClerks$Meal" "worm" "I") ∈ lw_all := lw_g (lw_at lw_m4 39 rfl) rfl
theorem q914 : (Jvm.Cond.soleField "SilkClerks$Meal" "worm") ∈ lw_all := lw_g (lw_at lw_m4 40 rfl) rfl
theorem q915 : (Jvm.Cond.laysFinal "SilkClerks$Meal" "SilkClerks$Meal" "a" "I") ∈ lw_all := lw_g (lw_at lw_m4 41 rfl) rfl
theorem q916 : (Jvm.Cond.soleField "SilkClerks$Meal" "a") ∈ lw_all := lw_g (lw_at lw_m4 42 rfl) rfl
theorem q917 : (Jvm.Cond.laysFinal "SilkClerks$Meal" "SilkClerks$Meal" "b" "I") ∈ lw_all := lw_g (lw_at lw_m4 43 rfl) rfl
theorem q918 : (Jvm.Cond.soleField "SilkClerks$Meal" "b") ∈ lw_all := lw_g (lw_at lw_m4 44 rfl) rfl
theorem q919 : (Jvm.Cond.superclass "SilkClerks$Meal" "java/lang/Record") ∈ lw_all := lw_g (lw_at lw_m4 45 rfl) rfl
theorem q1078 : (Jvm.Cond.instanceMethod ({ cls := "SilkClerks$Meal", name := "day", desc := "()I" } : Jvm.MethodName)) ∈ lw_all := lw_g (lw_at lw_m4 204 rfl) rfl
theorem q1079 : (Jvm.Cond.selects "SilkClerks$Meal" ({ cls := "SilkClerks$Meal", name := "day", desc := "()I" } : Jvm.MethodName) ({ cls := "SilkClerks$Meal", name := "day", desc := "()I" } : Jvm.MethodName)) ∈ lw_all := lw_g (lw_at lw_m4 205 rfl) rfl
theorem q1080 : (Jvm.Cond.code ({ cls := "SilkClerks$Meal", name := "day", desc := "()I" } : Jvm.MethodName) prog_5_method_5_code (1 : Nat) (Option.some Jvm.ClassFile.FieldType.int)) ∈ lw_all := lw_g (lw_at lw_m4 206 rfl) rfl
theorem q1082 : (Jvm.Cond.instanceMethod ({ cls := "SilkClerks$Meal", name := "worm", desc := "()I" } : Jvm.MethodName)) ∈ lw_all := lw_g (lw_at lw_m4 208 rfl) rfl
theorem q1083 : (Jvm.Cond.selects "SilkClerks$Meal" ({ cls := "SilkClerks$Meal", name := "worm", desc := "()I" } : Jvm.MethodName) ({ cls := "SilkClerks$Meal", name := "worm", desc := "()I" } : Jvm.MethodName)) ∈ lw_all := lw_g (lw_at lw_m4 209 rfl) rfl
theorem q1084 : (Jvm.Cond.code ({ cls := "SilkClerks$Meal", name := "worm", desc := "()I" } : Jvm.MethodName) prog_5_method_6_code (1 : Nat) (Option.some Jvm.ClassFile.FieldType.int)) ∈ lw_all := lw_g (lw_at lw_m4 210 rfl) rfl
theorem q1086 : (Jvm.Cond.instanceMethod ({ cls := "SilkClerks$Meal", name := "a", desc := "()I" } : Jvm.MethodName)) ∈ lw_all := lw_g (lw_at lw_m4 212 rfl) rfl
theorem q1087 : (Jvm.Cond.selects "SilkClerks$Meal" ({ cls := "SilkClerks$Meal", name := "a", desc := "()I" } : Jvm.MethodName) ({ cls := "SilkClerks$Meal", name := "a", desc := "()I" } : Jvm.MethodName)) ∈ lw_all := lw_g (lw_at lw_m4 213 rfl) rfl
theorem q1088 : (Jvm.Cond.code ({ cls := "SilkClerks$Meal", name := "a", desc := "()I" } : Jvm.MethodName) prog_5_method_7_code (1 : Nat) (Option.some Jvm.ClassFile.FieldType.int)) ∈ lw_all := lw_g (lw_at lw_m4 214 rfl) rfl
theorem q1090 : (Jvm.Cond.instanceMethod ({ cls := "SilkClerks$Meal", name := "b", desc := "()I" } : Jvm.MethodName)) ∈ lw_all := lw_g (lw_at lw_m4 216 rfl) rfl
theorem q1091 : (Jvm.Cond.selects "SilkClerks$Meal" ({ cls := "SilkClerks$Meal", name := "b", desc := "()I" } : Jvm.MethodName) ({ cls := "SilkClerks$Meal", name := "b", desc := "()I" } : Jvm.MethodName)) ∈ lw_all := lw_g (lw_at lw_m4 217 rfl) rfl
theorem q1092 : (Jvm.Cond.code ({ cls := "SilkClerks$Meal", name := "b", desc := "()I" } : Jvm.MethodName) prog_5_method_8_code (1 : Nat) (Option.some Jvm.ClassFile.FieldType.int)) ∈ lw_all := lw_g (lw_at lw_m4 218 rfl) rfl
theorem in_X11 : ∀ w ∈ wsX110, w ∈ lw_all := lw_in wsX110 [911, 913, 915, 917] (by decide +kernel) (by decide +kernel)
/-! SilkClerks$Read -/
set_option maxRecDepth 100000
def RX12 : String := "SilkClerks$Read"
def TX12 : u_T := fun k => match k with
  | 0 => ("SilkClerks$Read", "mark", "I", true)
  | _ => ("SilkClerks$Read", "place", "I", true)
def tyX12 : Nat → FieldType := fun k => match k with
  | 0 => .int
  | _ => .int
abbrev wsX120 : List Cond := u_ws RX12 TX12 2
theorem nmX12 : ∀ a, a < 2 → ∀ b, b < 2 → a ≠ b → (TX12 a).2.1 ≠ (TX12 b).2.1 := by decide +kernel
theorem tyX12_ok : ∀ k, k < 2 → parseFieldDescriptor (TX12 k).2.2.1 = some (tyX12 k) := by decide +kernel
abbrev cX12_init : ByteArray := prog_9_method_1_code
def yX12_init : MethodName := ⟨RX12, "<init>", "(II)V"⟩
def dkwX12_init_0 : List UInt8 := [42, 183, 0, 1, 42, 27, 181, 0, 7, 42, 28, 181, 0, 13, 177]
abbrev dktX12_init_0 : List UInt8 := dkwX12_init_0 ++ []
theorem dksX12_init_0 : cX12_init.data.toList.drop 0 = dktX12_init_0 := by decide +kernel
theorem dX12_init_0 : decode cX12_init 0 = .ok (.aload_n 0, 1) := dk_42 (dk_at dksX12_init_0 0 rfl rfl)
theorem dX12_init_1 : decode cX12_init 1 = .ok (.invokespecial 1, 3) := dk_183 0 1 (dk_at dksX12_init_0 1 rfl rfl)
theorem dX12_init_4 : decode cX12_init 4 = .ok (.aload_n 0, 1) := dk_42 (dk_at dksX12_init_0 4 rfl rfl)
theorem dX12_init_5 : decode cX12_init 5 = .ok (.iload_n 1, 1) := dk_27 (dk_at dksX12_init_0 5 rfl rfl)
theorem dX12_init_6 : decode cX12_init 6 = .ok (.putfield 7, 3) := dk_181 0 7 (dk_at dksX12_init_0 6 rfl rfl)
theorem dX12_init_9 : decode cX12_init 9 = .ok (.aload_n 0, 1) := dk_42 (dk_at dksX12_init_0 9 rfl rfl)
theorem dX12_init_10 : decode cX12_init 10 = .ok (.iload_n 2, 1) := dk_28 (dk_at dksX12_init_0 10 rfl rfl)
theorem dX12_init_11 : decode cX12_init 11 = .ok (.putfield 13, 3) := dk_181 0 13 (dk_at dksX12_init_0 11 rfl rfl)
theorem dX12_init_14 : decode cX12_init 14 = .ok (.return_, 1) := dk_177 (dk_at dksX12_init_0 14 rfl rfl)
abbrev cX12_place : ByteArray := prog_9_method_6_code
def yX12_place : MethodName := ⟨RX12, "place", "()I"⟩
theorem dX12_place_0 : decode cX12_place 0 = .ok (.aload_n 0, 1) := by decide +kernel
theorem dX12_place_1 : decode cX12_place 1 = .ok (.getfield 13, 3) := by decide +kernel
theorem dX12_place_4 : decode cX12_place 4 = .ok (.ireturn, 1) := by decide +kernel
abbrev cX12_mark : ByteArray := prog_9_method_5_code
def yX12_mark : MethodName := ⟨RX12, "mark", "()I"⟩
theorem dX12_mark_0 : decode cX12_mark 0 = .ok (.aload_n 0, 1) := by decide +kernel
theorem dX12_mark_1 : decode cX12_mark 1 = .ok (.getfield 7, 3) := by decide +kernel
theorem dX12_mark_4 : decode cX12_mark 4 = .ok (.ireturn, 1) := by decide +kernel
theorem q181 : (Jvm.Cond.initialized "SilkClerks$Read") ∈ lw_all := lw_g (lw_at lw_m1 27 rfl) rfl
theorem q1155 : (Jvm.Cond.instantiable "SilkClerks$Read" (2 : Nat)) ∈ lw_all := lw_g (lw_at lw_m5 41 rfl) rfl
theorem q1157 : (Jvm.Cond.instanceMethod ({ cls := "SilkClerks$Read", name := "<init>", desc := "(II)V" } : Jvm.MethodName)) ∈ lw_all := lw_g (lw_at lw_m5 43 rfl) rfl
theorem q1158 : (Jvm.Cond.code ({ cls := "SilkClerks$Read", name := "<init>", desc := "(II)V" } : Jvm.MethodName) prog_9_method_1_code (3 : Nat) (Option.none : Option Jvm.ClassFile.FieldType)) ∈ lw_all := lw_g (lw_at lw_m5 44 rfl) rfl
theorem q1159 : (Jvm.Cond.methodLink "SilkClerks$Read" (1 : Nat) ({ cls := "java/lang/Record", name := "<init>", desc := "()V" } : Jvm.MethodName)) ∈ lw_all := lw_g (lw_at lw_m5 45 rfl) rfl
theorem q1160 : (Jvm.Cond.fieldLink "SilkClerks$Read" (7 : Nat) "SilkClerks$Read" "mark" "I") ∈ lw_all := lw_g (lw_at lw_m5 46 rfl) rfl
theorem q1161 : (Jvm.Cond.fieldLink "SilkClerks$Read" (13 : Nat) "SilkClerks$Read" "place" "I") ∈ lw_all := lw_g (lw_at lw_m5 47 rfl) rfl
theorem q1162 : (Jvm.Cond.laysFinal "SilkClerks$Read" "SilkClerks$Read" "mark" "I") ∈ lw_all := lw_g (lw_at lw_m5 48 rfl) rfl
theorem q1163 : (Jvm.Cond.soleField "SilkClerks$Read" "mark") ∈ lw_all := lw_g (lw_at lw_m5 49 rfl) rfl
theorem q1164 : (Jvm.Cond.laysFinal "SilkClerks$Read" "SilkClerks$Read" "place" "I") ∈ lw_all := lw_g (lw_at lw_m5 50 rfl) rfl
theorem q1165 : (Jvm.Cond.soleField "SilkClerks$Read" "place") ∈ lw_all := lw_g (lw_at lw_m5 51 rfl) rfl
theorem q1166 : (Jvm.Cond.superclass "SilkClerks$Read" "java/lang/Record") ∈ lw_all := lw_g (lw_at lw_m5 52 rfl) rfl
theorem q1180 : (Jvm.Cond.instanceMethod ({ cls := "SilkClerks$Read", name := "place", desc := "()I" } : Jvm.MethodName)) ∈ lw_all := lw_g (lw_at lw_m5 66 rfl) rfl
theorem q1181 : (Jvm.Cond.selects "SilkClerks$Read" ({ cls := "SilkClerks$Read", name := "place", desc := "()I" } : Jvm.MethodName) ({ cls := "SilkClerks$Read", name := "place", desc := "()I" } : Jvm.MethodName)) ∈ lw_all := lw_g (lw_at lw_m5 67 rfl) rfl
theorem q1182 : (Jvm.Cond.code ({ cls := "SilkClerks$Read", name := "place", desc := "()I" } : Jvm.MethodName) prog_9_method_6_code (1 : Nat) (Option.some Jvm.ClassFile.FieldType.int)) ∈ lw_all := lw_g (lw_at lw_m5 68 rfl) rfl
theorem q1187 : (Jvm.Cond.instanceMethod ({ cls := "SilkClerks$Read", name := "mark", desc := "()I" } : Jvm.MethodName)) ∈ lw_all := lw_g (lw_at lw_m5 73 rfl) rfl
theorem q1188 : (Jvm.Cond.selects "SilkClerks$Read" ({ cls := "SilkClerks$Read", name := "mark", desc := "()I" } : Jvm.MethodName) ({ cls := "SilkClerks$Read", name := "mark", desc := "()I" } : Jvm.MethodName)) ∈ lw_all := lw_g (lw_at lw_m5 74 rfl) rfl
theorem q1189 : (Jvm.Cond.code ({ cls := "SilkClerks$Read", name := "mark", desc := "()I" } : Jvm.MethodName) prog_9_method_5_code (1 : Nat) (Option.some Jvm.ClassFile.FieldType.int)) ∈ lw_all := lw_g (lw_at lw_m5 75 rfl) rfl
theorem in_X12 : ∀ w ∈ wsX120, w ∈ lw_all := lw_in wsX120 [1162, 1164] (by decide +kernel) (by decide +kernel)
