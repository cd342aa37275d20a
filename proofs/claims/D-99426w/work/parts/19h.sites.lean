/-! the eleven sites: what is decided of the classes made there; written by sites.py -/
set_option maxRecDepth 100000
def noFile : ClassFile := { minorVersion := 0, majorVersion := 0, constantPool := #[], accessFlags := 0, thisClass := 0, superClass := 0, interfaces := #[], fields := #[], methods := #[], attributes := #[] }
theorem opt_getD {α : Type} {o : Option α} {d : α} (h : o.isSome = true) : o = some (o.getD d) := by
  cases o with
  | none => cases h
  | some x => rfl
abbrev lsg_0 : Lambda.Shape := { iface := "SilkClerks$Measure", name := "of", sam := ({ parameters := [Jvm.ClassFile.FieldType.int], returnType := (Option.some Jvm.ClassFile.FieldType.int) } : Jvm.ClassFile.MethodDescriptor), captured := [(Jvm.ClassFile.FieldType.object "SilkClerks")], kind := 5, implClass := "SilkClerks", implName := "lambda$new$4", implDesc := ({ parameters := [Jvm.ClassFile.FieldType.int], returnType := (Option.some Jvm.ClassFile.FieldType.int) } : Jvm.ClassFile.MethodDescriptor), implItf := false, inst := ({ parameters := [Jvm.ClassFile.FieldType.int], returnType := (Option.some Jvm.ClassFile.FieldType.int) } : Jvm.ClassFile.MethodDescriptor) }
def lsD_0 : ClassFile := (lsg_0.file "SilkClerks").getD noFile
def lsF_0 : Method := ((layoutMethods lsD_0).bind (·[1]?)).getD default
def lsL_0 : Array Field × Array FieldType × Array FieldType := (layoutFields lsD_0 0).getD (#[], #[], #[])
abbrev lsB_0 : ByteArray := ⟨#[42, 180, 0, 15, 27, 182, 0, 22, 172]⟩
def lsf_0 (i : Nat) : Nat := [15].getD i 0
def lsff_0 (i : Nat) : Field := (lsL_0.1[i]?).getD default
theorem lss_0 : sShp lsg_0 "SilkClerks" lsD_0 lsF_0 lsL_0 lsB_0 (some (if false = true then .boolean else .int)) := ⟨opt_getD (by decide +kernel), opt_getD (by decide +kernel), opt_getD (by decide +kernel), by decide +kernel, by decide +kernel⟩
theorem lsx_0 : sFlds lsD_0 lsL_0 lsB_0 lsf_0 lsff_0 1 := fun i hi => by
  match i, hi with
  | 0, _ => exact ⟨by decide +kernel, by decide +kernel, ⟨2, 14, "arg$1", "LSilkClerks;", by decide +kernel, by decide +kernel, by decide +kernel⟩, opt_getD (by decide +kernel), by decide +kernel, by decide +kernel⟩
  | i + 1, hi => exact absurd hi (by omega)
theorem lsm_0 : sMref lsD_0 yX0_lambda_new_4 22 := ⟨19, 21, 18, by decide +kernel, by decide +kernel, by decide +kernel, by decide +kernel, by decide +kernel, by decide +kernel⟩
theorem lsk_0 : sFile (sSiteW 0) lsg_0 ⟨"SilkClerks", "<init>", "()V"⟩ 366 194 lsD_0 lsF_0 lsL_0 lsB_0 false lsf_0 lsff_0 1 22 yX0_lambda_new_4 true := ⟨rfl, lss_0, lsx_0, lsm_0, rfl, rfl, by decide +kernel, rfl, by decide +kernel, by decide +kernel, by decide +kernel, rfl⟩
theorem lst_0 : lsL_0.2.1.toList = [Jvm.ClassFile.FieldType.object "SilkClerks"] := by decide +kernel
abbrev lsg_1 : Lambda.Shape := { iface := "SilkClerks$Measure", name := "of", sam := ({ parameters := [Jvm.ClassFile.FieldType.int], returnType := (Option.some Jvm.ClassFile.FieldType.int) } : Jvm.ClassFile.MethodDescriptor), captured := [(Jvm.ClassFile.FieldType.object "SilkClerks")], kind := 5, implClass := "SilkClerks", implName := "lambda$new$5", implDesc := ({ parameters := [Jvm.ClassFile.FieldType.int], returnType := (Option.some Jvm.ClassFile.FieldType.int) } : Jvm.ClassFile.MethodDescriptor), implItf := false, inst := ({ parameters := [Jvm.ClassFile.FieldType.int], returnType := (Option.some Jvm.ClassFile.FieldType.int) } : Jvm.ClassFile.MethodDescriptor) }
def lsD_1 : ClassFile := (lsg_1.file "SilkClerks").getD noFile
def lsF_1 : Method := ((layoutMethods lsD_1).bind (·[1]?)).getD default
def lsL_1 : Array Field × Array FieldType × Array FieldType := (layoutFields lsD_1 0).getD (#[], #[], #[])
abbrev lsB_1 : ByteArray := ⟨#[42, 180, 0, 15, 27, 182, 0, 22, 172]⟩
def lsf_1 (i : Nat) : Nat := [15].getD i 0
def lsff_1 (i : Nat) : Field := (lsL_1.1[i]?).getD default
theorem lss_1 : sShp lsg_1 "SilkClerks" lsD_1 lsF_1 lsL_1 lsB_1 (some (if false = true then .boolean else .int)) := ⟨opt_getD (by decide +kernel), opt_getD (by decide +kernel), opt_getD (by decide +kernel), by decide +kernel, by decide +kernel⟩
theorem lsx_1 : sFlds lsD_1 lsL_1 lsB_1 lsf_1 lsff_1 1 := fun i hi => by
  match i, hi with
  | 0, _ => exact ⟨by decide +kernel, by decide +kernel, ⟨2, 14, "arg$1", "LSilkClerks;", by decide +kernel, by decide +kernel, by decide +kernel⟩, opt_getD (by decide +kernel), by decide +kernel, by decide +kernel⟩
  | i + 1, hi => exact absurd hi (by omega)
theorem lsm_1 : sMref lsD_1 yX0_lambda_new_5 22 := ⟨19, 21, 18, by decide +kernel, by decide +kernel, by decide +kernel, by decide +kernel, by decide +kernel, by decide +kernel⟩
theorem lsk_1 : sFile (sSiteW 1) lsg_1 ⟨"SilkClerks", "<init>", "()V"⟩ 376 201 lsD_1 lsF_1 lsL_1 lsB_1 false lsf_1 lsff_1 1 22 yX0_lambda_new_5 true := ⟨rfl, lss_1, lsx_1, lsm_1, rfl, rfl, by decide +kernel, rfl, by decide +kernel, by decide +kernel, by decide +kernel, rfl⟩
theorem lst_1 : lsL_1.2.1.toList = [Jvm.ClassFile.FieldType.object "SilkClerks"] := by decide +kernel
abbrev lsg_2 : Lambda.Shape := { iface := "SilkClerks$Condition", name := "holds", sam := ({ parameters := [Jvm.ClassFile.FieldType.int], returnType := (Option.some Jvm.ClassFile.FieldType.boolean) } : Jvm.ClassFile.MethodDescriptor), captured := [(Jvm.ClassFile.FieldType.object "SilkClerks$Trays")], kind := 6, implClass := "SilkClerks", implName := "lambda$goes$0", implDesc := ({ parameters := [(Jvm.ClassFile.FieldType.object "SilkClerks$Trays"), Jvm.ClassFile.FieldType.int], returnType := (Option.some Jvm.ClassFile.FieldType.boolean) } : Jvm.ClassFile.MethodDescriptor), implItf := false, inst := ({ parameters := [Jvm.ClassFile.FieldType.int], returnType := (Option.some Jvm.ClassFile.FieldType.boolean) } : Jvm.ClassFile.MethodDescriptor) }
def lsD_2 : ClassFile := (lsg_2.file "SilkClerks").getD noFile
def lsF_2 : Method := ((layoutMethods lsD_2).bind (·[1]?)).getD default
def lsL_2 : Array Field × Array FieldType × Array FieldType := (layoutFields lsD_2 0).getD (#[], #[], #[])
abbrev lsB_2 : ByteArray := ⟨#[42, 180, 0, 15, 27, 184, 0, 23, 172]⟩
def lsf_2 (i : Nat) : Nat := [15].getD i 0
def lsff_2 (i : Nat) : Field := (lsL_2.1[i]?).getD default
theorem lss_2 : sShp lsg_2 "SilkClerks" lsD_2 lsF_2 lsL_2 lsB_2 (some (if true = true then .boolean else .int)) := ⟨opt_getD (by decide +kernel), opt_getD (by decide +kernel), opt_getD (by decide +kernel), by decide +kernel, by decide +kernel⟩
theorem lsx_2 : sFlds lsD_2 lsL_2 lsB_2 lsf_2 lsff_2 1 := fun i hi => by
  match i, hi with
  | 0, _ => exact ⟨by decide +kernel, by decide +kernel, ⟨2, 14, "arg$1", "LSilkClerks$Trays;", by decide +kernel, by decide +kernel, by decide +kernel⟩, opt_getD (by decide +kernel), by decide +kernel, by decide +kernel⟩
  | i + 1, hi => exact absurd hi (by omega)
theorem lsm_2 : sMref lsD_2 yX0_lambda_goes_0 23 := ⟨19, 22, 18, by decide +kernel, by decide +kernel, by decide +kernel, by decide +kernel, by decide +kernel, by decide +kernel⟩
theorem lsk_2 : sFile (sSiteW 2) lsg_2 ⟨"SilkClerks", "goes", "(II)I"⟩ 93 541 lsD_2 lsF_2 lsL_2 lsB_2 true lsf_2 lsff_2 1 23 yX0_lambda_goes_0 false := ⟨rfl, lss_2, lsx_2, lsm_2, rfl, rfl, by decide +kernel, rfl, by decide +kernel, by decide +kernel, by decide +kernel, rfl⟩
theorem lst_2 : lsL_2.2.1.toList = [Jvm.ClassFile.FieldType.object "SilkClerks$Trays"] := by decide +kernel
abbrev lsg_3 : Lambda.Shape := { iface := "SilkClerks$Measure", name := "of", sam := ({ parameters := [Jvm.ClassFile.FieldType.int], returnType := (Option.some Jvm.ClassFile.FieldType.int) } : Jvm.ClassFile.MethodDescriptor), captured := [(Jvm.ClassFile.FieldType.object "SilkClerks"), (Jvm.ClassFile.FieldType.array Jvm.ClassFile.FieldType.int)], kind := 5, implClass := "SilkClerks", implName := "lambda$fits$1", implDesc := ({ parameters := [(Jvm.ClassFile.FieldType.array Jvm.ClassFile.FieldType.int), Jvm.ClassFile.FieldType.int], returnType := (Option.some Jvm.ClassFile.FieldType.int) } : Jvm.ClassFile.MethodDescriptor), implItf := false, inst := ({ parameters := [Jvm.ClassFile.FieldType.int], returnType := (Option.some Jvm.ClassFile.FieldType.int) } : Jvm.ClassFile.MethodDescriptor) }
def lsD_3 : ClassFile := (lsg_3.file "SilkClerks").getD noFile
def lsF_3 : Method := ((layoutMethods lsD_3).bind (·[1]?)).getD default
def lsL_3 : Array Field × Array FieldType × Array FieldType := (layoutFields lsD_3 0).getD (#[], #[], #[])
abbrev lsB_3 : ByteArray := ⟨#[42, 180, 0, 17, 42, 180, 0, 19, 27, 182, 0, 27, 172]⟩
def lsf_3 (i : Nat) : Nat := [17, 19].getD i 0
def lsff_3 (i : Nat) : Field := (lsL_3.1[i]?).getD default
theorem lss_3 : sShp lsg_3 "SilkClerks" lsD_3 lsF_3 lsL_3 lsB_3 (some (if false = true then .boolean else .int)) := ⟨opt_getD (by decide +kernel), opt_getD (by decide +kernel), opt_getD (by decide +kernel), by decide +kernel, by decide +kernel⟩
theorem lsx_3 : sFlds lsD_3 lsL_3 lsB_3 lsf_3 lsff_3 2 := fun i hi => by
  match i, hi with
  | 0, _ => exact ⟨by decide +kernel, by decide +kernel, ⟨2, 16, "arg$1", "LSilkClerks;", by decide +kernel, by decide +kernel, by decide +kernel⟩, opt_getD (by decide +kernel), by decide +kernel, by decide +kernel⟩
  | 1, _ => exact ⟨by decide +kernel, by decide +kernel, ⟨2, 18, "arg$2", "[I", by decide +kernel, by decide +kernel, by decide +kernel⟩, opt_getD (by decide +kernel), by decide +kernel, by decide +kernel⟩
  | i + 2, hi => exact absurd hi (by omega)
theorem lsm_3 : sMref lsD_3 yX0_lambda_fits_1 27 := ⟨23, 26, 22, by decide +kernel, by decide +kernel, by decide +kernel, by decide +kernel, by decide +kernel, by decide +kernel⟩
theorem lsk_3 : sFile (sSiteW 3) lsg_3 ⟨"SilkClerks", "fits", "(I)I"⟩ 42 568 lsD_3 lsF_3 lsL_3 lsB_3 false lsf_3 lsff_3 2 27 yX0_lambda_fits_1 true := ⟨rfl, lss_3, lsx_3, lsm_3, rfl, rfl, by decide +kernel, rfl, by decide +kernel, by decide +kernel, by decide +kernel, rfl⟩
theorem lst_3 : lsL_3.2.1.toList = [Jvm.ClassFile.FieldType.object "SilkClerks", Jvm.ClassFile.FieldType.array Jvm.ClassFile.FieldType.int] := by decide +kernel
abbrev lsg_4 : Lambda.Shape := { iface := "SilkClerks$Condition", name := "holds", sam := ({ parameters := [Jvm.ClassFile.FieldType.int], returnType := (Option.some Jvm.ClassFile.FieldType.boolean) } : Jvm.ClassFile.MethodDescriptor), captured := [(Jvm.ClassFile.FieldType.object "SilkClerks")], kind := 5, implClass := "SilkClerks", implName := "lambda$threaded$2", implDesc := ({ parameters := [Jvm.ClassFile.FieldType.int], returnType := (Option.some Jvm.ClassFile.FieldType.boolean) } : Jvm.ClassFile.MethodDescriptor), implItf := false, inst := ({ parameters := [Jvm.ClassFile.FieldType.int], returnType := (Option.some Jvm.ClassFile.FieldType.boolean) } : Jvm.ClassFile.MethodDescriptor) }
def lsD_4 : ClassFile := (lsg_4.file "SilkClerks").getD noFile
def lsF_4 : Method := ((layoutMethods lsD_4).bind (·[1]?)).getD default
def lsL_4 : Array Field × Array FieldType × Array FieldType := (layoutFields lsD_4 0).getD (#[], #[], #[])
abbrev lsB_4 : ByteArray := ⟨#[42, 180, 0, 15, 27, 182, 0, 22, 172]⟩
def lsf_4 (i : Nat) : Nat := [15].getD i 0
def lsff_4 (i : Nat) : Field := (lsL_4.1[i]?).getD default
theorem lss_4 : sShp lsg_4 "SilkClerks" lsD_4 lsF_4 lsL_4 lsB_4 (some (if true = true then .boolean else .int)) := ⟨opt_getD (by decide +kernel), opt_getD (by decide +kernel), opt_getD (by decide +kernel), by decide +kernel, by decide +kernel⟩
theorem lsx_4 : sFlds lsD_4 lsL_4 lsB_4 lsf_4 lsff_4 1 := fun i hi => by
  match i, hi with
  | 0, _ => exact ⟨by decide +kernel, by decide +kernel, ⟨2, 14, "arg$1", "LSilkClerks;", by decide +kernel, by decide +kernel, by decide +kernel⟩, opt_getD (by decide +kernel), by decide +kernel, by decide +kernel⟩
  | i + 1, hi => exact absurd hi (by omega)
theorem lsm_4 : sMref lsD_4 yX0_lambda_threaded_2 22 := ⟨19, 21, 18, by decide +kernel, by decide +kernel, by decide +kernel, by decide +kernel, by decide +kernel, by decide +kernel⟩
theorem lsk_4 : sFile (sSiteW 4) lsg_4 ⟨"SilkClerks", "threaded", "()I"⟩ 5 584 lsD_4 lsF_4 lsL_4 lsB_4 true lsf_4 lsff_4 1 22 yX0_lambda_threaded_2 true := ⟨rfl, lss_4, lsx_4, lsm_4, rfl, rfl, by decide +kernel, rfl, by decide +kernel, by decide +kernel, by decide +kernel, rfl⟩
theorem lst_4 : lsL_4.2.1.toList = [Jvm.ClassFile.FieldType.object "SilkClerks"] := by decide +kernel
abbrev lsg_5 : Lambda.Shape := { iface := "SilkClerks$Condition", name := "holds", sam := ({ parameters := [Jvm.ClassFile.FieldType.int], returnType := (Option.some Jvm.ClassFile.FieldType.boolean) } : Jvm.ClassFile.MethodDescriptor), captured := [(Jvm.ClassFile.FieldType.object "SilkClerks")], kind := 5, implClass := "SilkClerks", implName := "lambda$cuts$3", implDesc := ({ parameters := [Jvm.ClassFile.FieldType.int], returnType := (Option.some Jvm.ClassFile.FieldType.boolean) } : Jvm.ClassFile.MethodDescriptor), implItf := false, inst := ({ parameters := [Jvm.ClassFile.FieldType.int], returnType := (Option.some Jvm.ClassFile.FieldType.boolean) } : Jvm.ClassFile.MethodDescriptor) }
def lsD_5 : ClassFile := (lsg_5.file "SilkClerks").getD noFile
def lsF_5 : Method := ((layoutMethods lsD_5).bind (·[1]?)).getD default
def lsL_5 : Array Field × Array FieldType × Array FieldType := (layoutFields lsD_5 0).getD (#[], #[], #[])
abbrev lsB_5 : ByteArray := ⟨#[42, 180, 0, 15, 27, 182, 0, 22, 172]⟩
def lsf_5 (i : Nat) : Nat := [15].getD i 0
def lsff_5 (i : Nat) : Field := (lsL_5.1[i]?).getD default
theorem lss_5 : sShp lsg_5 "SilkClerks" lsD_5 lsF_5 lsL_5 lsB_5 (some (if true = true then .boolean else .int)) := ⟨opt_getD (by decide +kernel), opt_getD (by decide +kernel), opt_getD (by decide +kernel), by decide +kernel, by decide +kernel⟩
theorem lsx_5 : sFlds lsD_5 lsL_5 lsB_5 lsf_5 lsff_5 1 := fun i hi => by
  match i, hi with
  | 0, _ => exact ⟨by decide +kernel, by decide +kernel, ⟨2, 14, "arg$1", "LSilkClerks;", by decide +kernel, by decide +kernel, by decide +kernel⟩, opt_getD (by decide +kernel), by decide +kernel, by decide +kernel⟩
  | i + 1, hi => exact absurd hi (by omega)
theorem lsm_5 : sMref lsD_5 yX0_lambda_cuts_3 22 := ⟨19, 21, 18, by decide +kernel, by decide +kernel, by decide +kernel, by decide +kernel, by decide +kernel, by decide +kernel⟩
theorem lsk_5 : sFile (sSiteW 5) lsg_5 ⟨"SilkClerks", "cuts", "(I)I"⟩ 14 596 lsD_5 lsF_5 lsL_5 lsB_5 true lsf_5 lsff_5 1 22 yX0_lambda_cuts_3 true := ⟨rfl, lss_5, lsx_5, lsm_5, rfl, rfl, by decide +kernel, rfl, by decide +kernel, by decide +kernel, by decide +kernel, rfl⟩
theorem lst_5 : lsL_5.2.1.toList = [Jvm.ClassFile.FieldType.object "SilkClerks"] := by decide +kernel
abbrev lsg_6 : Lambda.Shape := { iface := "SilkClerks$Condition", name := "holds", sam := ({ parameters := [Jvm.ClassFile.FieldType.int], returnType := (Option.some Jvm.ClassFile.FieldType.boolean) } : Jvm.ClassFile.MethodDescriptor), captured := [(Jvm.ClassFile.FieldType.object "SilkClerks"), (Jvm.ClassFile.FieldType.array Jvm.ClassFile.FieldType.int), Jvm.ClassFile.FieldType.int], kind := 5, implClass := "SilkClerks", implName := "lambda$answered$6", implDesc := ({ parameters := [(Jvm.ClassFile.FieldType.array Jvm.ClassFile.FieldType.int), Jvm.ClassFile.FieldType.int, Jvm.ClassFile.FieldType.int], returnType := (Option.some Jvm.ClassFile.FieldType.boolean) } : Jvm.ClassFile.MethodDescriptor), implItf := false, inst := ({ parameters := [Jvm.ClassFile.FieldType.int], returnType := (Option.some Jvm.ClassFile.FieldType.boolean) } : Jvm.ClassFile.MethodDescriptor) }
def lsD_6 : ClassFile := (lsg_6.file "SilkClerks").getD noFile
def lsF_6 : Method := ((layoutMethods lsD_6).bind (·[1]?)).getD default
def lsL_6 : Array Field × Array FieldType × Array FieldType := (layoutFields lsD_6 0).getD (#[], #[], #[])
abbrev lsB_6 : ByteArray := ⟨#[42, 180, 0, 19, 42, 180, 0, 21, 42, 180, 0, 23, 27, 182, 0, 31, 172]⟩
def lsf_6 (i : Nat) : Nat := [19, 21, 23].getD i 0
def lsff_6 (i : Nat) : Field := (lsL_6.1[i]?).getD default
theorem lss_6 : sShp lsg_6 "SilkClerks" lsD_6 lsF_6 lsL_6 lsB_6 (some (if true = true then .boolean else .int)) := ⟨opt_getD (by decide +kernel), opt_getD (by decide +kernel), opt_getD (by decide +kernel), by decide +kernel, by decide +kernel⟩
theorem lsx_6 : sFlds lsD_6 lsL_6 lsB_6 lsf_6 lsff_6 3 := fun i hi => by
  match i, hi with
  | 0, _ => exact ⟨by decide +kernel, by decide +kernel, ⟨2, 18, "arg$1", "LSilkClerks;", by decide +kernel, by decide +kernel, by decide +kernel⟩, opt_getD (by decide +kernel), by decide +kernel, by decide +kernel⟩
  | 1, _ => exact ⟨by decide +kernel, by decide +kernel, ⟨2, 20, "arg$2", "[I", by decide +kernel, by decide +kernel, by decide +kernel⟩, opt_getD (by decide +kernel), by decide +kernel, by decide +kernel⟩
  | 2, _ => exact ⟨by decide +kernel, by decide +kernel, ⟨2, 22, "arg$3", "I", by decide +kernel, by decide +kernel, by decide +kernel⟩, opt_getD (by decide +kernel), by decide +kernel, by decide +kernel⟩
  | i + 3, hi => exact absurd hi (by omega)
theorem lsm_6 : sMref lsD_6 yX0_lambda_answered_6 31 := ⟨27, 30, 26, by decide +kernel, by decide +kernel, by decide +kernel, by decide +kernel, by decide +kernel, by decide +kernel⟩
theorem lsk_6 : sFile (sSiteW 6) lsg_6 ⟨"SilkClerks", "answered", "(I)I"⟩ 65 617 lsD_6 lsF_6 lsL_6 lsB_6 true lsf_6 lsff_6 3 31 yX0_lambda_answered_6 true := ⟨rfl, lss_6, lsx_6, lsm_6, rfl, rfl, by decide +kernel, rfl, by decide +kernel, by decide +kernel, by decide +kernel, rfl⟩
theorem lst_6 : lsL_6.2.1.toList = [Jvm.ClassFile.FieldType.object "SilkClerks", Jvm.ClassFile.FieldType.array Jvm.ClassFile.FieldType.int, Jvm.ClassFile.FieldType.int] := by decide +kernel
abbrev lsg_7 : Lambda.Shape := { iface := "SilkClerks$Condition", name := "holds", sam := ({ parameters := [Jvm.ClassFile.FieldType.int], returnType := (Option.some Jvm.ClassFile.FieldType.boolean) } : Jvm.ClassFile.MethodDescriptor), captured := [(Jvm.ClassFile.FieldType.object "SilkClerks"), Jvm.ClassFile.FieldType.int], kind := 5, implClass := "SilkClerks", implName := "lambda$gaps$7", implDesc := ({ parameters := [Jvm.ClassFile.FieldType.int, Jvm.ClassFile.FieldType.int], returnType := (Option.some Jvm.ClassFile.FieldType.boolean) } : Jvm.ClassFile.MethodDescriptor), implItf := false, inst := ({ parameters := [Jvm.ClassFile.FieldType.int], returnType := (Option.some Jvm.ClassFile.FieldType.boolean) } : Jvm.ClassFile.MethodDescriptor) }
def lsD_7 : ClassFile := (lsg_7.file "SilkClerks").getD noFile
def lsF_7 : Method := ((layoutMethods lsD_7).bind (·[1]?)).getD default
def lsL_7 : Array Field × Array FieldType × Array FieldType := (layoutFields lsD_7 0).getD (#[], #[], #[])
abbrev lsB_7 : ByteArray := ⟨#[42, 180, 0, 17, 42, 180, 0, 19, 27, 182, 0, 27, 172]⟩
def lsf_7 (i : Nat) : Nat := [17, 19].getD i 0
def lsff_7 (i : Nat) : Field := (lsL_7.1[i]?).getD default
theorem lss_7 : sShp lsg_7 "SilkClerks" lsD_7 lsF_7 lsL_7 lsB_7 (some (if true = true then .boolean else .int)) := ⟨opt_getD (by decide +kernel), opt_getD (by decide +kernel), opt_getD (by decide +kernel), by decide +kernel, by decide +kernel⟩
theorem lsx_7 : sFlds lsD_7 lsL_7 lsB_7 lsf_7 lsff_7 2 := fun i hi => by
  match i, hi with
  | 0, _ => exact ⟨by decide +kernel, by decide +kernel, ⟨2, 16, "arg$1", "LSilkClerks;", by decide +kernel, by decide +kernel, by decide +kernel⟩, opt_getD (by decide +kernel), by decide +kernel, by decide +kernel⟩
  | 1, _ => exact ⟨by decide +kernel, by decide +kernel, ⟨2, 18, "arg$2", "I", by decide +kernel, by decide +kernel, by decide +kernel⟩, opt_getD (by decide +kernel), by decide +kernel, by decide +kernel⟩
  | i + 2, hi => exact absurd hi (by omega)
theorem lsm_7 : sMref lsD_7 yX0_lambda_gaps_7 27 := ⟨23, 26, 22, by decide +kernel, by decide +kernel, by decide +kernel, by decide +kernel, by decide +kernel, by decide +kernel⟩
theorem lsk_7 : sFile (sSiteW 7) lsg_7 ⟨"SilkClerks", "gaps", "(I)I"⟩ 18 620 lsD_7 lsF_7 lsL_7 lsB_7 true lsf_7 lsff_7 2 27 yX0_lambda_gaps_7 true := ⟨rfl, lss_7, lsx_7, lsm_7, rfl, rfl, by decide +kernel, rfl, by decide +kernel, by decide +kernel, by decide +kernel, rfl⟩
theorem lst_7 : lsL_7.2.1.toList = [Jvm.ClassFile.FieldType.object "SilkClerks", Jvm.ClassFile.FieldType.int] := by decide +kernel
abbrev lsg_8 : Lambda.Shape := { iface := "SilkClerks$Measure", name := "of", sam := ({ parameters := [Jvm.ClassFile.FieldType.int], returnType := (Option.some Jvm.ClassFile.FieldType.int) } : Jvm.ClassFile.MethodDescriptor), captured := [(Jvm.ClassFile.FieldType.object "SilkClerks")], kind := 5, implClass := "SilkClerks", implName := "lambda$whose$8", implDesc := ({ parameters := [Jvm.ClassFile.FieldType.int], returnType := (Option.some Jvm.ClassFile.FieldType.int) } : Jvm.ClassFile.MethodDescriptor), implItf := false, inst := ({ parameters := [Jvm.ClassFile.FieldType.int], returnType := (Option.some Jvm.ClassFile.FieldType.int) } : Jvm.ClassFile.MethodDescriptor) }
def lsD_8 : ClassFile := (lsg_8.file "SilkClerks").getD noFile
def lsF_8 : Method := ((layoutMethods lsD_8).bind (·[1]?)).getD default
def lsL_8 : Array Field × Array FieldType × Array FieldType := (layoutFields lsD_8 0).getD (#[], #[], #[])
abbrev lsB_8 : ByteArray := ⟨#[42, 180, 0, 15, 27, 182, 0, 22, 172]⟩
def lsf_8 (i : Nat) : Nat := [15].getD i 0
def lsff_8 (i : Nat) : Field := (lsL_8.1[i]?).getD default
theorem lss_8 : sShp lsg_8 "SilkClerks" lsD_8 lsF_8 lsL_8 lsB_8 (some (if false = true then .boolean else .int)) := ⟨opt_getD (by decide +kernel), opt_getD (by decide +kernel), opt_getD (by decide +kernel), by decide +kernel, by decide +kernel⟩
theorem lsx_8 : sFlds lsD_8 lsL_8 lsB_8 lsf_8 lsff_8 1 := fun i hi => by
  match i, hi with
  | 0, _ => exact ⟨by decide +kernel, by decide +kernel, ⟨2, 14, "arg$1", "LSilkClerks;", by decide +kernel, by decide +kernel, by decide +kernel⟩, opt_getD (by decide +kernel), by decide +kernel, by decide +kernel⟩
  | i + 1, hi => exact absurd hi (by omega)
theorem lsm_8 : sMref lsD_8 yX0_lambda_whose_8 22 := ⟨19, 21, 18, by decide +kernel, by decide +kernel, by decide +kernel, by decide +kernel, by decide +kernel, by decide +kernel⟩
theorem lsk_8 : sFile (sSiteW 8) lsg_8 ⟨"SilkClerks", "whose", "(I)I"⟩ 16 623 lsD_8 lsF_8 lsL_8 lsB_8 false lsf_8 lsff_8 1 22 yX0_lambda_whose_8 true := ⟨rfl, lss_8, lsx_8, lsm_8, rfl, rfl, by decide +kernel, rfl, by decide +kernel, by decide +kernel, by decide +kernel, rfl⟩
theorem lst_8 : lsL_8.2.1.toList = [Jvm.ClassFile.FieldType.object "SilkClerks"] := by decide +kernel
abbrev lsg_9 : Lambda.Shape := { iface := "SilkClerks$Measure", name := "of", sam := ({ parameters := [Jvm.ClassFile.FieldType.int], returnType := (Option.some Jvm.ClassFile.FieldType.int) } : Jvm.ClassFile.MethodDescriptor), captured := [(Jvm.ClassFile.FieldType.array Jvm.ClassFile.FieldType.int)], kind := 6, implClass := "SilkClerks", implName := "lambda$tally$9", implDesc := ({ parameters := [(Jvm.ClassFile.FieldType.array Jvm.ClassFile.FieldType.int), Jvm.ClassFile.FieldType.int], returnType := (Option.some Jvm.ClassFile.FieldType.int) } : Jvm.ClassFile.MethodDescriptor), implItf := false, inst := ({ parameters := [Jvm.ClassFile.FieldType.int], returnType := (Option.some Jvm.ClassFile.FieldType.int) } : Jvm.ClassFile.MethodDescriptor) }
def lsD_9 : ClassFile := (lsg_9.file "SilkClerks").getD noFile
def lsF_9 : Method := ((layoutMethods lsD_9).bind (·[1]?)).getD default
def lsL_9 : Array Field × Array FieldType × Array FieldType := (layoutFields lsD_9 0).getD (#[], #[], #[])
abbrev lsB_9 : ByteArray := ⟨#[42, 180, 0, 15, 27, 184, 0, 23, 172]⟩
def lsf_9 (i : Nat) : Nat := [15].getD i 0
def lsff_9 (i : Nat) : Field := (lsL_9.1[i]?).getD default
theorem lss_9 : sShp lsg_9 "SilkClerks" lsD_9 lsF_9 lsL_9 lsB_9 (some (if false = true then .boolean else .int)) := ⟨opt_getD (by decide +kernel), opt_getD (by decide +kernel), opt_getD (by decide +kernel), by decide +kernel, by decide +kernel⟩
theorem lsx_9 : sFlds lsD_9 lsL_9 lsB_9 lsf_9 lsff_9 1 := fun i hi => by
  match i, hi with
  | 0, _ => exact ⟨by decide +kernel, by decide +kernel, ⟨2, 14, "arg$1", "[I", by decide +kernel, by decide +kernel, by decide +kernel⟩, opt_getD (by decide +kernel), by decide +kernel, by decide +kernel⟩
  | i + 1, hi => exact absurd hi (by omega)
theorem lsm_9 : sMref lsD_9 yX0_lambda_tally_9 23 := ⟨19, 22, 18, by decide +kernel, by decide +kernel, by decide +kernel, by decide +kernel, by decide +kernel, by decide +kernel⟩
theorem lsk_9 : sFile (sSiteW 9) lsg_9 ⟨"SilkClerks", "tally", "(I)I"⟩ 84 646 lsD_9 lsF_9 lsL_9 lsB_9 false lsf_9 lsff_9 1 23 yX0_lambda_tally_9 false := ⟨rfl, lss_9, lsx_9, lsm_9, rfl, rfl, by decide +kernel, rfl, by decide +kernel, by decide +kernel, by decide +kernel, rfl⟩
theorem lst_9 : lsL_9.2.1.toList = [Jvm.ClassFile.FieldType.array Jvm.ClassFile.FieldType.int] := by decide +kernel
abbrev lsg_10 : Lambda.Shape := { iface := "SilkClerks$Condition", name := "holds", sam := ({ parameters := [Jvm.ClassFile.FieldType.int], returnType := (Option.some Jvm.ClassFile.FieldType.boolean) } : Jvm.ClassFile.MethodDescriptor), captured := [(Jvm.ClassFile.FieldType.object "SilkClerks"), Jvm.ClassFile.FieldType.int, Jvm.ClassFile.FieldType.int], kind := 5, implClass := "SilkClerks", implName := "lambda$pull$10", implDesc := ({ parameters := [Jvm.ClassFile.FieldType.int, Jvm.ClassFile.FieldType.int, Jvm.ClassFile.FieldType.int], returnType := (Option.some Jvm.ClassFile.FieldType.boolean) } : Jvm.ClassFile.MethodDescriptor), implItf := false, inst := ({ parameters := [Jvm.ClassFile.FieldType.int], returnType := (Option.some Jvm.ClassFile.FieldType.boolean) } : Jvm.ClassFile.MethodDescriptor) }
def lsD_10 : ClassFile := (lsg_10.file "SilkClerks").getD noFile
def lsF_10 : Method := ((layoutMethods lsD_10).bind (·[1]?)).getD default
def lsL_10 : Array Field × Array FieldType × Array FieldType := (layoutFields lsD_10 0).getD (#[], #[], #[])
abbrev lsB_10 : ByteArray := ⟨#[42, 180, 0, 18, 42, 180, 0, 20, 42, 180, 0, 22, 27, 182, 0, 30, 172]⟩
def lsf_10 (i : Nat) : Nat := [18, 20, 22].getD i 0
def lsff_10 (i : Nat) : Field := (lsL_10.1[i]?).getD default
theorem lss_10 : sShp lsg_10 "SilkClerks" lsD_10 lsF_10 lsL_10 lsB_10 (some (if true = true then .boolean else .int)) := ⟨opt_getD (by decide +kernel), opt_getD (by decide +kernel), opt_getD (by decide +kernel), by decide +kernel, by decide +kernel⟩
theorem lsx_10 : sFlds lsD_10 lsL_10 lsB_10 lsf_10 lsff_10 3 := fun i hi => by
  match i, hi with
  | 0, _ => exact ⟨by decide +kernel, by decide +kernel, ⟨2, 17, "arg$1", "LSilkClerks;", by decide +kernel, by decide +kernel, by decide +kernel⟩, opt_getD (by decide +kernel), by decide +kernel, by decide +kernel⟩
  | 1, _ => exact ⟨by decide +kernel, by decide +kernel, ⟨2, 19, "arg$2", "I", by decide +kernel, by decide +kernel, by decide +kernel⟩, opt_getD (by decide +kernel), by decide +kernel, by decide +kernel⟩
  | 2, _ => exact ⟨by decide +kernel, by decide +kernel, ⟨2, 21, "arg$3", "I", by decide +kernel, by decide +kernel, by decide +kernel⟩, opt_getD (by decide +kernel), by decide +kernel, by decide +kernel⟩
  | i + 3, hi => exact absurd hi (by omega)
theorem lsm_10 : sMref lsD_10 yX0_lambda_pull_10 30 := ⟨26, 29, 25, by decide +kernel, by decide +kernel, by decide +kernel, by decide +kernel, by decide +kernel, by decide +kernel⟩
theorem lsk_10 : sFile (sSiteW 10) lsg_10 ⟨"SilkClerks", "pull", "(I)I"⟩ 30 655 lsD_10 lsF_10 lsL_10 lsB_10 true lsf_10 lsff_10 3 30 yX0_lambda_pull_10 true := ⟨rfl, lss_10, lsx_10, lsm_10, rfl, rfl, by decide +kernel, rfl, by decide +kernel, by decide +kernel, by decide +kernel, rfl⟩
theorem lst_10 : lsL_10.2.1.toList = [Jvm.ClassFile.FieldType.object "SilkClerks", Jvm.ClassFile.FieldType.int, Jvm.ClassFile.FieldType.int] := by decide +kernel
