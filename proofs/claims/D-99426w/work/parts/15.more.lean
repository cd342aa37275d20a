/-! rows: statics, texts, nest mates, arrays of references, copying, throwing -/
set_option maxRecDepth 100000
def sAst (M : sMem) (a : Nat) (i : Int32) (v : Nat) : Option sMem := match sRfs M a, M.2.2.2 v with
  | some (k, n, f), some e => if sFit k e = true ∧ M.1 ≤ a ∧ ¬ (i < 0 ∨ n ≤ i.toNatClampNeg) then some (sUp M a (sArq k n (va_up f i.toNatClampNeg (some v)))) else none
  | _, _ => none
theorem sAst_spec {M M1 : sMem} {a v : Nat} {i : Int32} (h : sAst M a i v = some M1) : ∃ k n f e, M.2.2.2 a = some (sArq k n f) ∧ M.2.2.2 v = some e ∧ sFit k e = true ∧ M.1 ≤ a ∧ vp_in i n ∧ M1 = sUp M a (sArq k n (va_up f i.toNatClampNeg (some v))) := by
  unfold sAst at h
  split at h
  · rename_i k n f e h1 h2
    by_cases hc : sFit k e = true ∧ M.1 ≤ a ∧ ¬ (i < 0 ∨ n ≤ i.toNatClampNeg)
    · rw [if_pos hc] at h
      cases h
      exact ⟨k, n, f, e, (sRfs_spec h1).1, h2, hc.1, hc.2.1, hc.2.2, rfl⟩
    · rw [if_neg hc] at h
      cases h
  · cases h
/-- a text's bytes -/
def sStrV (M : sMem) (a : Nat) : Option Nat := match M.2.2.2 a with
  | some (.inr (.inr (.inr (.inl v)))) => some v
  | some (.inr (.inr (.inr (.inr (_, _, _, w))))) => w
  | _ => none
theorem sStrV_spec {M : sMem} {a v : Nat} (h : sStrV M a = some v) : ∀ {G : sG} {s : State} (H : Heap), sMod G s M H → sStrP v a M.1 s H := by
  intro G s H hM
  unfold sStrV at h
  split at h
  · rename_i w he
    cases h
    exact hM.2.2 a _ he
  · rename_i he
    exact (hM.2.2 a _ he).2 v h
  · cases h
def sChkS (M : sMem) (a : Nat) (o : Option (sRes × sMem)) : Option (sRes × sMem) := (sStrV M a).bind fun _ => o
def sNarC (x : Int32) (M : sMem) : Option (sRes × sMem) := if (x.toUInt32 % 65536).toInt32 = x then some (.inl (some (.int x)), M) else none
def sNarB (x : Int32) (M : sMem) : Option (sRes × sMem) := if x.toInt8.toInt32 = x then some (.inl (some (.int x)), M) else none
def sThrow (M : sMem) (q : Nat) : Option (sRes × sMem) := (sFs M 4 q).bind fun _ => some (.inr q, M)
/-- ints copied from one array to another -/
def sCpI (M : sMem) (a : Nat) (sp : Int32) (b : Nat) (dp n : Int32) : Option sMem := match M.2.2.2 a, M.2.2.2 b with
  | some (.inl (0, n0, .inl f)), some (.inl (0, n1, .inl g)) => if M.1 ≤ b ∧ ¬ sp < 0 ∧ ¬ dp < 0 ∧ ¬ n < 0 ∧ sp.toNatClampNeg + n.toNatClampNeg ≤ n0 ∧ dp.toNatClampNeg + n.toNatClampNeg ≤ n1 then some (sUp M b (sArr 0 n1 (va_cpy f g sp.toNatClampNeg dp.toNatClampNeg n.toNatClampNeg))) else none
  | _, _ => none
theorem sCpI_spec {M M1 : sMem} {a b : Nat} {sp dp n : Int32} (h : sCpI M a sp b dp n = some M1) : ∃ n0 f n1 g, M.2.2.2 a = some (sArr 0 n0 f) ∧ M.2.2.2 b = some (sArr 0 n1 g) ∧ (M.1 ≤ b ∧ ¬ sp < 0 ∧ ¬ dp < 0 ∧ ¬ n < 0 ∧ sp.toNatClampNeg + n.toNatClampNeg ≤ n0 ∧ dp.toNatClampNeg + n.toNatClampNeg ≤ n1) ∧ M1 = sUp M b (sArr 0 n1 (va_cpy f g sp.toNatClampNeg dp.toNatClampNeg n.toNatClampNeg)) := by
  unfold sCpI at h
  split at h
  · rename_i n0 f n1 g h1 h2
    split at h
    · rename_i hc
      cases h
      exact ⟨n0, f, n1, g, h1, h2, hc, rfl⟩
    · cases h
  · cases h
/-- Trays copied from one array to another -/
def sCpQ (M : sMem) (a : Nat) (sp : Int32) (b : Nat) (dp n : Int32) : Option sMem := match M.2.2.2 a, M.2.2.2 b with
  | some (.inl (7, n0, .inr (.inr (.inr (.inr f))))), some (.inl (7, n1, .inr (.inr (.inr (.inr g))))) => if M.1 ≤ b ∧ ¬ sp < 0 ∧ ¬ dp < 0 ∧ ¬ n < 0 ∧ sp.toNatClampNeg + n.toNatClampNeg ≤ n0 ∧ dp.toNatClampNeg + n.toNatClampNeg ≤ n1 ∧ (List.range n.toNatClampNeg).all (fun i => match f (sp.toNatClampNeg + i) with | none => true | some y => (sFs M 2 y).isSome) = true then some (sUp M b (sArq 7 n1 (va_cpy f g sp.toNatClampNeg dp.toNatClampNeg n.toNatClampNeg))) else none
  | _, _ => none
theorem sCpQ_spec {M M1 : sMem} {a b : Nat} {sp dp n : Int32} (h : sCpQ M a sp b dp n = some M1) : ∃ n0 f n1 g, M.2.2.2 a = some (sArq 7 n0 f) ∧ M.2.2.2 b = some (sArq 7 n1 g) ∧ (M.1 ≤ b ∧ ¬ sp < 0 ∧ ¬ dp < 0 ∧ ¬ n < 0 ∧ sp.toNatClampNeg + n.toNatClampNeg ≤ n0 ∧ dp.toNatClampNeg + n.toNatClampNeg ≤ n1 ∧ (List.range n.toNatClampNeg).all (fun i => match f (sp.toNatClampNeg + i) with | none => true | some y => (sFs M 2 y).isSome) = true) ∧ M1 = sUp M b (sArq 7 n1 (va_cpy f g sp.toNatClampNeg dp.toNatClampNeg n.toNatClampNeg)) := by
  unfold sCpQ at h
  split at h
  · rename_i n0 f n1 g h1 h2
    split at h
    · rename_i hc
      cases h
      exact ⟨n0, f, n1, g, h1, h2, hc, rfl⟩
    · cases h
  · cases h
section RM
variable {l : Launch} {G : sG} {own : String} {nm : MethodName} {cc : ByteArray} {mL : Nat} {ret : Option FieldType} {hh : List (Nat × Nat × Nat × Nat)} {d pc pc' : Nat} {L L' : List (Option Value)} {st st0 st' : List Value} {M : sMem} {o o1 o2 : Option (sRes × sMem)}
theorem r_tok {i : Nat} (k : Nat) (hk : k < 5) (hq : Cond.fieldLink own i "SilkClerks$Token" (sTokN k) "LSilkClerks$Token;" ∈ lw_all) (hd : decode cc pc = .ok (.getstatic i, 3)) (kk : AW l G own nm cc mL ret hh d (pc + 3) L (.ref (G.2.2.2 k) :: st) M o) : AW l G own nm cc mL ret hh d pc L st M o := by
  refine AW.step (fun p e9 R s m args below meth c H locs k9 n9 ls Q hE hM hS hl kk => ?_) kk
  obtain ⟨hx9, hb9, hml, -, -, hown, hmn, hts, -, hfr, hlo, hK⟩ := hE
  exact va_gets hx9 hb9 (hK.2.2.1.1 k hk) hS hown (hts _ hq) (fun _ h => h) hd (kk ls hl)
theorem r_compact {i : Nat} (hq : Cond.fieldLink own i "java/lang/String" "COMPACT_STRINGS" "Z" ∈ lw_all) (hd : decode cc pc = .ok (.getstatic i, 3)) (kk : AW l G own nm cc mL ret hh d (pc + 3) L (.int 1 :: st) M o) : AW l G own nm cc mL ret hh d pc L st M o := by
  refine AW.step (fun p e9 R s m args below meth c H locs k9 n9 ls Q hE hM hS hl kk => ?_) kk
  obtain ⟨hx9, hb9, hml, -, -, hown, hmn, hts, -, hfr, hlo, hK⟩ := hE
  exact va_gets hx9 hb9 hK.2.2.1.2.1 hS hown (hts _ hq) (fun _ h => h) hd (kk ls hl)
/-- a static of which only 'null or some reference' is said -/
theorem r_zq {i : Nat} {C n dd : String} (hz : ∀ (B : Nat) (s : State) (H : Heap), sKS G B s H → va_Zq C n dd (sA B) s H) (hq : Cond.fieldLink own i C n dd ∈ lw_all) (hd : decode cc pc = .ok (.getstatic i, 3)) (k0 : AW l G own nm cc mL ret hh d (pc + 3) L (.null :: st) M o) (k1 : ∀ t, AW l G own nm cc mL ret hh d (pc + 3) L (.ref t :: st) M o) : AW l G own nm cc mL ret hh d pc L st M o := by
  intro r M' ho
  obtain ⟨hm, k0⟩ := k0 r M' ho
  refine ⟨hm, fun p e9 R s m args below meth c H locs k9 n9 ls hE hM hS hl g1 g2 => ?_⟩
  have hE' := hE
  obtain ⟨hx9, hb9, hml, -, -, hown, hmn, hts, -, hfr, hlo, hK⟩ := hE
  rcases hz _ _ _ hK.2.2.1 with h | ⟨t, h⟩
  · exact va_gets hx9 hb9 h hS hown (hts _ hq) (fun _ h => h) hd (k0 p e9 R s m args below meth c H locs k9 n9 ls hE' hM hS hl g1 g2)
  · exact va_gets hx9 hb9 h hS hown (hts _ hq) (fun _ h => h) hd ((k1 t r M' ho).2 p e9 R s m args below meth c H locs k9 n9 ls hE' hM hS hl g1 g2)
theorem r_ldcS {i j : Nat} {tx : String} (hq : (own, i, tx, j) ∈ sStrs) (hd : decode cc pc = .ok (.ldc i, 2)) (kk : AW l G own nm cc mL ret hh d (pc + 2) L (.ref (G.2.2.2 (10 + j)) :: st) M o) : AW l G own nm cc mL ret hh d pc L st M o := by
  refine AW.step (fun p e9 R s m args below meth c H locs k9 n9 ls Q hE hM hS hl kk => ?_) kk
  obtain ⟨hx9, hb9, hml, -, -, hown, hmn, hts, -, hfr, hlo, hK⟩ := hE
  exact va_ldcS hx9 hb9 hown (hK.2.2.2.1 _ hq) hd (kk ls hl)
theorem r_ldcSw {i j : Nat} {tx : String} (hq : (own, i, tx, j) ∈ sStrs) (hd : decode cc pc = .ok (.ldc_w i, 3)) (kk : AW l G own nm cc mL ret hh d (pc + 3) L (.ref (G.2.2.2 (10 + j)) :: st) M o) : AW l G own nm cc mL ret hh d pc L st M o := by
  refine AW.step (fun p e9 R s m args below meth c H locs k9 n9 ls Q hE hM hS hl kk => ?_) kk
  obtain ⟨hx9, hb9, hml, -, -, hown, hmn, hts, -, hfr, hlo, hK⟩ := hE
  intro T hT X
  obtain ⟨t, a1, b1⟩ := kk ls hl T hT X
  exact ⟨t, X.ldcStringW hx9 hown (text := tx) (a := G.2.2.2 (10 + j)) (hK.2.2.2.1 _ hq).1 (hK.2.2.2.1 _ hq).2 (g := F0 m pc ls st) rfl (by rw [hb9]; exact hd) t a1, b1⟩
/-- a text's field 'value' -/
theorem r_strV {i a : Nat} {K : Nat → Option (sRes × sMem)} (hq : Cond.fieldLink own i "java/lang/String" "value" "[B" ∈ lw_all) (hd : decode cc pc = .ok (.getfield i, 3)) (kk : ∀ x, AW l G own nm cc mL ret hh d (pc + 3) L (.ref x :: st) M (K x)) : AW l G own nm cc mL ret hh d pc L (.ref a :: st) M ((sStrV M a).bind K) := by
  refine AW.bind fun v hv => ?_
  refine AW.step (fun p e9 R s m args below meth c H locs k9 n9 ls Q hE hM hS hl kk => ?_) (kk v)
  obtain ⟨hx9, hb9, hml, -, -, hown, hmn, hts, -, hfr, hlo, hK⟩ := hE
  obtain ⟨cf, k, fi, f, cell, h1, h2, h3, h4, h5, -⟩ := (sStrV_spec hv _ hM).2.2
  exact W.getf hx9 hb9 hown (hts _ hq) h1 h2 h3 h4 h5 rfl rfl hd (kk ls hl)
theorem r_strC {i a : Nat} (hq : Cond.fieldLink own i "java/lang/String" "coder" "B" ∈ lw_all) (hd : decode cc pc = .ok (.getfield i, 3)) (kk : AW l G own nm cc mL ret hh d (pc + 3) L (.int 0 :: st) M o) : AW l G own nm cc mL ret hh d pc L (.ref a :: st) M (sChkS M a o) := by
  refine AW.bind fun v hv => ?_
  refine AW.step (fun p e9 R s m args below meth c H locs k9 n9 ls Q hE hM hS hl kk => ?_) kk
  obtain ⟨hx9, hb9, hml, -, -, hown, hmn, hts, -, hfr, hlo, hK⟩ := hE
  obtain ⟨cf, k, fi, f, cell, h1, h2, h3, h4, h5, -⟩ := (sStrV_spec hv _ hM).2.1
  exact W.getf hx9 hb9 hown (hts _ hq) h1 h2 h3 h4 h5 rfl rfl hd (kk ls hl)
theorem r_cret {x : Int32} (hr : ret = some .char) (hd : decode cc pc = .ok (.ireturn, 1)) : AW l G own nm cc mL ret hh d pc L [.int x] M (sNarC x M) := by
  unfold sNarC
  by_cases h : (x.toUInt32 % 65536).toInt32 = x
  · rw [if_pos h]
    exact r_nret hr (by rw [← h]; exact pk_nc x) hd
  · rw [if_neg h]; exact AW.no
theorem r_bret {x : Int32} (hr : ret = some .byte) (hd : decode cc pc = .ok (.ireturn, 1)) : AW l G own nm cc mL ret hh d pc L [.int x] M (sNarB x M) := by
  unfold sNarB
  by_cases h : x.toInt8.toInt32 = x
  · rw [if_pos h]
    exact r_nret hr (by rw [← h]; exact pk_nb x) hd
  · rw [if_neg h]; exact AW.no
/-- fields of a nest mate -/
theorem r_getNe {i ci k a N : Nat} {C host : String} {T : u_T} {ty : Nat → FieldType} {v : Value} (hc : sCls ci C T N ty) (hk : k < N) (hq : Cond.fieldLinkNest own i (T k).1 (T k).2.1 (T k).2.2.1 host ∈ sNW) (hd : decode cc pc = .ok (.getfield i, 3)) (hv : sGet M ci k a = some v) (kk : AW l G own nm cc mL ret hh d (pc + 3) L (v :: st) M o) : AW l G own nm cc mL ret hh d pc L (.ref a :: st) M o := by
  obtain ⟨fs, h1, h2⟩ := sGet_spec hv
  exact AW.step (fun _ _ _ _ _ _ _ _ _ _ _ _ _ _ _ hE hM _ hl kk => va_getN (D := G.1) (ci := ci) (C := C) (T := T) (N := N) hE.1 hE.2.1 hE.2.2.2.2.2.2.2.1 hc.2.1 hE.2.2.2.2.2.1 hE.2.2.2.2.2.2.2.2.2.2.2.1 (hM.obj h1) 0 rfl hc.1 k hk (va_Nw.use rfl (hE.2.2.2.2.2.2.2.2.2.2.2.2.2.2.2.1 _ hq)) (fun _ h => h) h2 hd (kk _ hl)) kk
theorem r_getINe {i ci k a N : Nat} {C host : String} {T : u_T} {ty : Nat → FieldType} {K : Int32 → Option (sRes × sMem)} (hc : sCls ci C T N ty) (hk : k < N) (hq : Cond.fieldLinkNest own i (T k).1 (T k).2.1 (T k).2.2.1 host ∈ sNW) (hd : decode cc pc = .ok (.getfield i, 3)) (kk : ∀ x, AW l G own nm cc mL ret hh d (pc + 3) L (.int x :: st) M (K x)) : AW l G own nm cc mL ret hh d pc L (.ref a :: st) M ((sGetI M ci k a).bind K) :=
  AW.bind fun x hx => r_getNe hc hk hq hd (sGetI_spec hx) (kk x)
theorem r_getNNe {i ci k a N : Nat} {C host : String} {T : u_T} {ty : Nat → FieldType} {K : Nat → Option (sRes × sMem)} (hc : sCls ci C T N ty) (hk : k < N) (hq : Cond.fieldLinkNest own i (T k).1 (T k).2.1 (T k).2.2.1 host ∈ sNW) (hd : decode cc pc = .ok (.getfield i, 3)) (kk : ∀ x, AW l G own nm cc mL ret hh d (pc + 3) L (.ref x :: st) M (K x)) : AW l G own nm cc mL ret hh d pc L (.ref a :: st) M ((sGetN M ci k a).bind K) :=
  AW.bind fun x hx => r_getNe hc hk hq hd (sGetN_spec hx) (kk x)
/-- calls of a nest mate's private methods -/
theorem r_callVNe {K : Option Value → sMem → Option (sRes × sMem)} {i ci n d' a maxL : Nat} {C host : String} {T : u_T} {N : Nat} {ty : Nat → FieldType} {y : MethodName} {b : ByteArray} {rt : Option FieldType} (av : List Value) (hc : sCls ci C T N ty) (hw : GoodIn lw_all (ws_ y b maxL rt)) (hl9 : Cond.methodLinkNest own i y host ∈ sNW) (hini : Cond.initialized y.cls ∈ lw_all) (hin : Cond.instanceMethod y ∈ lw_all) (hsel : Cond.selects C y y ∈ lw_all) (hy : y.cls ≠ "java/lang/invoke/MethodHandle" ∧ y.cls ≠ "java/lang/invoke/VarHandle" ∧ (parseMethodDescriptor y.desc).map (fun q => q.parameters.length) = some n)
    (hEv : sEv l G y (ws_ y b maxL rt) d' (.ref a :: av) M o1) (hd' : d' + 1 ≤ d) (hmx : maxL ≤ 45) (hn : av.length = n) (hst : st0 = av.reverse ++ .ref a :: st) (hrm : (st.map fun v => v.category).sum ≤ 8) (hcov : sCov hh pc = true) (hd : decode cc pc = .ok (.invokevirtual i, 3))
    (kk : ∀ v M1, AW l G own nm cc mL ret hh d (pc + 3) L (v.toList ++ st) M1 (K v M1)) : AW l G own nm cc mL ret hh d pc L st0 M (sChk M ci a (sCall o1 K)) := by
  refine AW.bind fun fs hfs => ?_
  have hfs := sFs_spec hfs
  refine AW.call hEv hcov (fun p e9 R s m args below meth c H locs k n9 ls mc ms Qc XC hMet hE hM hl pre g1 g2 => ?_) kk
  obtain ⟨hx9, hb9, hml, -, -, hown, hmn, hts, -, hfr, hlo, hK⟩ := hE
  exact vq_runVN (As := av) (rest := st) ⟨hx9, hb9, hml, hown, hts⟩ hMet ⟨va_cnB n hts hw rfl rfl rfl (hK.2.2.2.2.1 _ hl9) (hts _ hini) hy ⟨by show d' + 1 ≤ _; omega, by show 8 + (maxL + 11) + (64 * d' + 3200) ≤ _; omega⟩, hts _ hin, hts _ hsel⟩ ⟨sPc_blind _, va_recv hK.1 (hM.obj hfs) hc.1 (q0 := 0) rfl, pre⟩ rfl hn hl.1 hst (by show 2 * 0 + _ ≤ 8; omega) hd ⟨g1, g2⟩
theorem r_callSNe {K : Option Value → sMem → Option (sRes × sMem)} {i n d' maxL : Nat} {host : String} {y : MethodName} {b : ByteArray} {rt : Option FieldType} (av : List Value) (hw : GoodIn lw_all (ws_ y b maxL rt)) (hl9 : Cond.methodLinkNest own i y host ∈ sNW) (hini : Cond.initialized y.cls ∈ lw_all) (hin : Cond.static y ∈ lw_all) (hy : y.cls ≠ "java/lang/invoke/MethodHandle" ∧ y.cls ≠ "java/lang/invoke/VarHandle" ∧ (parseMethodDescriptor y.desc).map (fun q => q.parameters.length) = some n)
    (hEv : sEv l G y (ws_ y b maxL rt) d' av M o1) (hd' : d' + 1 ≤ d) (hmx : maxL ≤ 45) (hn : av.length = n) (hst : st0 = av.reverse ++ st) (hrm : (st.map fun v => v.category).sum ≤ 8) (hcov : sCov hh pc = true) (hd : decode cc pc = .ok (.invokestatic i, 3))
    (kk : ∀ v M1, AW l G own nm cc mL ret hh d (pc + 3) L (v.toList ++ st) M1 (K v M1)) : AW l G own nm cc mL ret hh d pc L st0 M (sCall o1 K) := by
  refine AW.call hEv hcov (fun p e9 R s m args below meth c H locs k n9 ls mc ms Qc XC hMet hE hM hl pre g1 g2 => ?_) kk
  obtain ⟨hx9, hb9, hml, -, -, hown, hmn, hts, -, hfr, hlo, hK⟩ := hE
  exact vq_runSN (As := av) (rest := st) ⟨hx9, hb9, hml, hown, hts⟩ hMet ⟨va_cnB n hts hw rfl rfl rfl (hK.2.2.2.2.1 _ hl9) (hts _ hini) hy ⟨by show d' + 1 ≤ _; omega, by show 8 + (maxL + 11) + (64 * d' + 3200) ≤ _; omega⟩, hts _ hin, trivial⟩ ⟨sPc_blind _, pre⟩ rfl hn hl.1 hst (by show 2 * 0 + _ ≤ 8; omega) hd ⟨g1, g2⟩
theorem r_callINe {K : Option Value → sMem → Option (sRes × sMem)} {i n d' a maxL : Nat} {host : String} {y : MethodName} {b : ByteArray} (av : List Value) (hw : GoodIn lw_all (ws_ y b maxL none)) (hl9 : Cond.methodLinkNest own i y host ∈ sNW) (hini : Cond.initialized y.cls ∈ lw_all) (hin : Cond.instanceMethod y ∈ lw_all) (hy1 : y.name = "<init>") (hy : y.cls ≠ "java/lang/invoke/MethodHandle" ∧ y.cls ≠ "java/lang/invoke/VarHandle" ∧ (parseMethodDescriptor y.desc).map (fun q => q.parameters.length) = some n)
    (hEv : sEv l G y (ws_ y b maxL none) d' (.ref a :: av) M o1) (hd' : d' + 1 ≤ d) (hmx : maxL ≤ 45) (hn : av.length = n) (hst : st0 = av.reverse ++ .ref a :: st) (hrm : (st.map fun v => v.category).sum ≤ 8) (hcov : sCov hh pc = true) (hd : decode cc pc = .ok (.invokespecial i, 3))
    (kk : ∀ v M1, AW l G own nm cc mL ret hh d (pc + 3) L (v.toList ++ st) M1 (K v M1)) : AW l G own nm cc mL ret hh d pc L st0 M (sCall o1 K) := by
  refine AW.call hEv hcov (fun p e9 R s m args below meth c H locs k n9 ls mc ms Qc XC hMet hE hM hl pre g1 g2 => ?_) kk
  obtain ⟨hx9, hb9, hml, -, -, hown, hmn, hts, -, hfr, hlo, hK⟩ := hE
  exact vq_runIN (As := av) (rest := st) ⟨hx9, hb9, hml, hown, hts⟩ hMet ⟨va_cnB n hts hw rfl rfl rfl (hK.2.2.2.2.1 _ hl9) (hts _ hini) hy ⟨by show d' + 1 ≤ _; omega, by show 8 + (maxL + 11) + (64 * d' + 3200) ≤ _; omega⟩, hy1, hts _ hin⟩ ⟨sPc_blind _, pre⟩ rfl hn hl.1 hst (by show 2 * 0 + _ ≤ 8; omega) hd ⟨g1, g2⟩
/-- a method of a text -/
theorem r_callVS {K : Option Value → sMem → Option (sRes × sMem)} {i n d' a maxL : Nat} {y : MethodName} {b : ByteArray} {rt : Option FieldType} (av : List Value) (hw : GoodIn lw_all (wsV own i "java/lang/String" y (ws_ y b maxL rt))) (hy : y.cls = "java/lang/String" ∧ y.cls ≠ "java/lang/invoke/MethodHandle" ∧ y.cls ≠ "java/lang/invoke/VarHandle" ∧ (parseMethodDescriptor y.desc).map (fun q => q.parameters.length) = some n)
    (hEv : sEv l G y (ws_ y b maxL rt) d' (.ref a :: av) M o1) (hd' : d' + 1 ≤ d) (hmx : maxL ≤ 45) (hn : av.length = n) (hst : st0 = av.reverse ++ .ref a :: st) (hrm : (st.map fun v => v.category).sum ≤ 8) (hcov : sCov hh pc = true) (hd : decode cc pc = .ok (.invokevirtual i, 3))
    (kk : ∀ v M1, AW l G own nm cc mL ret hh d (pc + 3) L (v.toList ++ st) M1 (K v M1)) : AW l G own nm cc mL ret hh d pc L st0 M (sChkS M a (sCall o1 K)) := by
  refine AW.bind fun v hv => ?_
  refine AW.call hEv hcov (fun p e9 R s m args below meth c H locs k n9 ls mc ms Qc XC hMet hE hM hl pre g1 g2 => ?_) kk
  obtain ⟨hx9, hb9, hml, -, -, hown, hmn, hts, -, hfr, hlo, hK⟩ := hE
  obtain ⟨cell, q1, q2, q3, -⟩ := (sStrV_spec hv _ hM).1
  exact vq_runV (As := av) (rest := st) ⟨hx9, hb9, hml, hown, hts⟩ hMet (cwV n hts hw rfl rfl rfl hy ⟨by show d' + 1 ≤ _; omega, by show 8 + (maxL + 11) + (64 * d' + 3200) ≤ _; omega⟩) ⟨sPc_blind _, ⟨cell, q1, q2, q3⟩, pre⟩ rfl hn hl.1 hst (by show 2 * 0 + _ ≤ 8; omega) hd ⟨g1, g2⟩
/-- throw -/
theorem r_athrow {q : Nat} (hcov : sCov hh pc = true) (hd : decode cc pc = .ok (.athrow, 1)) : AW l G own nm cc mL ret hh d pc L (.ref q :: st) M (sThrow M q) := by
  refine AW.bind fun fs hfs => ?_
  have hfs := sFs_spec hfs
  intro r M' ho
  cases ho
  refine ⟨sMono.rf M, fun p e9 R s m args below meth c H locs k9 n9 ls hE hM hS hl g1 g2 => ?_⟩
  rw [Nat.sub_self, Nat.sub_self]
  have hK := hE.2.2.2.2.2.2.2.2.2.2.2
  obtain ⟨r9, h1', cell, q1, q2, q3, q4⟩ := hM.obj hfs 0 _ rfl
  have hr : r9 = (RX4, TX4, 8) := Option.some.inj (h1'.symm.trans rfl)
  subst hr
  exact vq_athrow hE.1 hE.2.1 hd (sThrow_out hcov hE hM hS q1 q3 (by rw [q2]; exact (hK.1.1 4 _ rfl).2.1))
theorem sNN {z : Int32} (hz : ¬ z < 0) : z.toInt = (z.toNatClampNeg : Int) := by
  have hz0 : (0 : Int) ≤ z.toInt := by
    have := Int32.not_lt.mp hz
    simpa using Int32.le_iff_toInt_le.mp this
  show z.toInt = ((z.toInt.toNat : Nat) : Int)
  omega
theorem sNativeW : nativeFrameWords "java/lang/System" "arraycopy" 5 ≤ 1000 := by decide +kernel
/-- System.arraycopy of ints -/
theorem r_copyI {i : Nat} {a b : Nat} {sp dp n : Int32} {K : sMem → Option (sRes × sMem)} (hq : Cond.methodLink own i arraycopyName ∈ lw_all) (hn1 : Cond.native arraycopyName ∈ lw_all) (hn2 : Cond.static arraycopyName ∈ lw_all) (hn3 : Cond.initialized "java/lang/System" ∈ lw_all) (h1d : 1 ≤ d) (hrm : (st.map fun v => v.category).sum ≤ 8) (hd : decode cc pc = .ok (.invokestatic i, 3)) (kk : ∀ M1, AW l G own nm cc mL ret hh d (pc + 3) L st M1 (K M1)) : AW l G own nm cc mL ret hh d pc L (.int n :: .int dp :: .ref b :: .int sp :: .ref a :: st) M ((sCpI M a sp b dp n).bind K) := by
  refine AW.bind fun M1 hx => ?_
  obtain ⟨n0, f, n1, g, ha, hb, ⟨hB, h1, h2, h3, h4, h5⟩, rfl⟩ := sCpI_spec hx
  refine AW.write hB (fun p e9 R s m args below meth c H locs k9 n9 ls Q hE hM hS hl kk => ?_) (kk _)
  obtain ⟨hx9, hb9, hml, -, -, hown, hmn, hts, -, hfr, hlo, hK, -⟩ := hE
  obtain ⟨t9, hPa⟩ := hM.arr ha
  obtain ⟨-, hPb⟩ := hM.arr hb
  have hc0 : H[a]? = some (vp_cell (G.2.1 0) (n0, .inl f)) := hPa 0 _ rfl
  have hc1 : H[b]? = some (vp_cell (G.2.1 0) (n1, .inl g)) := hPb 0 _ rfl
  obtain ⟨-, k0, hk0, cm0, hkk0⟩ := (hK.2 0 _ (sTys_at G t9)).1 n0 (fun j => .int (f j))
  have hnw := sNativeW
  intro T hT X
  obtain ⟨vm', X', step⟩ := X.arraycopy hx9 hown (hts _ hq) (hts _ hn1) (hts _ hn2) (hts _ hn3) (src := a) (dst := b) (cs := vp_cell (G.2.1 0) (n0, .inl f)) (cd := vp_cell (G.2.1 0) (n1, .inl g)) (srcPos := sp) (destPos := dp) (n := n) (by rw [hT]; exact hc0) (by rw [hT]; exact hc1)
    (fun _ h => by cases h) (fun _ h => by cases h) (fun h => by cases h) (fun h => by cases h) hk0 hk0 hkk0 hkk0 (by simp [sTy, refKind]) h1 h2 h3
    (by rw [sNN h1, sNN h3]; show ¬ _ > ((arrV (G.2.1 0) n0 (fun j => .int (f j))).slots.size : Int); rw [arrV_size]; omega)
    (by rw [sNN h2, sNN h3]; show ¬ _ > ((arrV (G.2.1 0) n1 (fun j => .int (g j))).slots.size : Int); rw [arrV_size]; omega)
    (fun vm₁ _ i hi => by
      have e : (vp_cell (G.2.1 0) (n0, .inl f)).slots.getD (sp.toNatClampNeg + i) .null = .int (f (sp.toNatClampNeg + i)) := by
        show (arrV (G.2.1 0) n0 (fun j => .int (f j))).slots.getD _ _ = _
        rw [Array.getD_eq_getD_getElem?, arrV_read _ _ (by omega)]
        rfl
      refine ⟨?_, ?_⟩
      · rw [e]
        rfl
      · rw [e]
        exact trivial)
    (g := F0 m pc ls (.int n :: .int dp :: .ref b :: .int sp :: .ref a :: st)) rfl (by rw [hml]; exact hl.1) (rest := st) rfl (by rw [hb9]; exact hd) (by omega) (by show 2 * 0 + _ + _ ≤ _; omega)
  have e1 : copied (vp_cell (G.2.1 0) (n0, .inl f)) (vp_cell (G.2.1 0) (n1, .inl g)) sp dp n = vp_cell (G.2.1 0) (n1, .inl (va_cpy f g sp.toNatClampNeg dp.toNatClampNeg n.toNatClampNeg)) := va_copied (fun z => .int z) (G.2.1 0) (G.2.1 0) f g h4
  rw [e1] at X' step
  have hl9 : b < H.size := (Array.getElem?_eq_some_iff.mp hc1).1
  have hheap : ((T.setVm vm').setCell b (vp_cell (G.2.1 0) (n1, .inl (va_cpy f g sp.toNatClampNeg dp.toNatClampNeg n.toNatClampNeg)))).heap = H.setIfInBounds b (vp_cell (G.2.1 0) (n1, .inl (va_cpy f g sp.toNatClampNeg dp.toNatClampNeg n.toNatClampNeg))) := by rw [← hT]; rfl
  have oq : ∀ q : Nat, q ≠ b → (H.setIfInBounds b (vp_cell (G.2.1 0) (n1, .inl (va_cpy f g sp.toNatClampNeg dp.toNatClampNeg n.toNatClampNeg))))[q]? = H[q]? := fun q hq => by simp [Array.getElem?_setIfInBounds, Ne.symm hq]
  obtain ⟨t, a1, b1⟩ := kk _ _ (by simp) oq (show _ ∧ _ from ⟨t9, show (H.setIfInBounds b _)[b]? = some _ by simp [Array.getElem?_setIfInBounds, hl9]⟩) ⟨by simp; exact hS.1, fun q g1 g2 => by
      rw [oq q (fun e => g2 (by rw [e]; exact hB))]
      exact hS.2.1 q g1 g2, fun q hq => by
      rcases List.mem_append.mp hq with h | h
      · exact hS.2.2 q h
      · obtain ⟨z, -, hz⟩ := List.mem_map.mp h
        rw [← hz]
        exact hB⟩ _ hheap X'
  exact ⟨t, step t a1, b1⟩
end RM
