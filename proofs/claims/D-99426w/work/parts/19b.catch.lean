/-! a method with handlers -/
set_option maxRecDepth 100000
def sCallX (o1 : Option (sRes × sMem)) (K : Option Value → sMem → Option (sRes × sMem)) (KX : Nat → sMem → Option (sRes × sMem)) : Option (sRes × sMem) := match o1 with
  | some (.inl v, M1) => K v M1
  | some (.inr q, M1) => KX q M1
  | none => none
section RX
variable {l : Launch} {G : sG} {own : String} {nm : MethodName} {cc : ByteArray} {mL : Nat} {ret : Option FieldType} {hh : List (Nat × Nat × Nat × Nat)} {d pc pc' : Nat} {L L' : List (Option Value)} {st st0 st' : List Value} {M : sMem} {o o1 o2 : Option (sRes × sMem)}
/-- a call at a covered place: what is thrown is caught -/
theorem AW.callX {K : Option Value → sMem → Option (sRes × sMem)} {KX : Nat → sMem → Option (sRes × sMem)} (x : ExceptionTableEntry) (suf : List ExceptionTableEntry) (hx : tableOf hh = x :: suf) (hc9 : covers x pc = true) (h09 : x.catchType ≠ 0) (hlk : Cond.classLink own x.catchType "SilkClerks$Fault" ∈ lw_all) {y : MethodName} {ws : List Cond} {d' : Nat} {av : List Value} (hEv : sEv l G y ws d' av M o1) 
    (h : ∀ (p : Program) (e : Env) (R : Room) (s : State) (m : MethodId) (args : Array Value) (below : List Frame) (meth : Method) (c : Code) (H : Heap) (locs : List Loc) (k n : Nat) (ls : Array Slot) (mc ms : Nat) (Qc : Array Value → State → Outcome → State → Prop) (XC : Nat → String → State → State → Prop),
      vq_Met l y ws { frames := d', cells := mc, slots := ms, locals := 64 * d' + 3200 } (sPc G M av) Qc XC mc ms (sA M.1) → sEnv G M.1 own nm cc mL ret hh d p R s m args meth c → sMod G s M H → lv_has ls mL (sL L) → (∀ U : State, U.heap = H → s.WarmedH U.vm → sPc G M av av.toArray U) → k + mc ≤ R.cells → n + ms ≤ R.slots →
      vq_Run p l e R s m args below meth c H locs k n mc ms (F0 m pc ls st0) st (Qc av.toArray) XC (sA M.1))
    (kk : ∀ v M1, AW l G own nm cc mL ret hh d (pc + 3) L (v.toList ++ st) M1 (K v M1)) (kx : ∀ q M1, AW l G own nm cc mL ret hh d x.handlerPc L [.ref q] M1 (KX q M1)) : AW l G own nm cc mL ret hh d pc L st0 M (sCallX o1 K KX) := by
  intro r M' ho
  cases h1 : o1 with
  | none => rw [h1] at ho; cases ho
  | some q1 =>
  obtain ⟨r1, M1⟩ := q1
  obtain ⟨hm1, hMet⟩ := hEv r1 M1 h1
  obtain ⟨b1, b2, b3⟩ := hm1
  have pre : ∀ (s : State) (H : Heap) (locs : List Loc), sK G M.1 s s.heap → sMod G s M H → va_S (sA M.1) s.heap H locs → ∀ U : State, U.heap = H → s.WarmedH U.vm → sPc G M av av.toArray U := by
    intro s H locs hK hM hS U hU hW
    refine ⟨rfl, ?_, ?_⟩
    · rw [hU]; exact hM.moved hW.alike
    · rw [hU]; exact (hK.warm hW).kept hS.2.1
  cases r1 with
  | inl v =>
    rw [h1] at ho
    have ho : K v M1 = some (r, M') := ho
    obtain ⟨hm2, kk⟩ := kk v M1 r M' ho
    obtain ⟨c1, c2, c3⟩ := hm2
    refine ⟨⟨c1.trans b1, Nat.le_trans b2 c2, Nat.le_trans b3 c3⟩, fun p e9 R s m args below meth c H locs k n ls hE hM hS hl g1 g2 => ?_⟩
    have hrun := h p e9 R s m args below meth c H locs k n ls _ _ _ _ hMet hE hM hl (pre s H locs hE.2.2.2.2.2.2.2.2.2.2.2 hM hS) (by omega) (by omega)
    intro T hT X
    rcases hrun T hT X with ⟨v9, st₀, t, T', L9, h0, X', hL, e1, e2, ⟨v8, hr8, ho8, hM8, hF8⟩, stp⟩ | ⟨q, st₀, t, T', L9, E, ce, h0, X', hL, e1, e2, ⟨hr8, -⟩, -⟩
    · cases hr8
      cases ho8
      rw [b1] at hF8
      obtain ⟨k1, k2, k3⟩ := vq_keep h0 e1 hS (fun q _ h => h) (fun q h => h) hL hF8
      have hal : t.vm.Alike s.vm := by
        have := X'.warmed.alike.symm
        rw [e2] at this
        exact this
      have hM9 : sMod G s M1 T'.heap := by rw [e1]; exact hM8.moved hal
      have hk := kk p e9 R s m args below meth c T'.heap (locs ++ L9) (k + (M1.2.1 - M.2.1)) (n + (M1.2.2.1 - M.2.2.1)) ls (by rw [b1]; exact hE) hM9 (by rw [b1]; exact k3) hl (by omega) (by omega)
      have x1 : k + (M1.2.1 - M.2.1) + (M'.2.1 - M1.2.1) = k + (M'.2.1 - M.2.1) := by omega
      have x2 : n + (M1.2.2.1 - M.2.2.1) + (M'.2.2.1 - M1.2.2.1) = n + (M'.2.2.1 - M.2.2.1) := by omega
      rw [x1, x2, b1] at hk
      obtain ⟨t2, a1, a2⟩ := hk T' rfl X'
      exact ⟨t2, stp t2 a1, a2⟩
    · cases hr8
  | inr q =>
    rw [h1] at ho
    have ho : KX q M1 = some (r, M') := ho
    obtain ⟨hm2, kx⟩ := kx q M1 r M' ho
    obtain ⟨c1, c2, c3⟩ := hm2
    refine ⟨⟨c1.trans b1, Nat.le_trans b2 c2, Nat.le_trans b3 c3⟩, fun p e9 R s m args below meth c H locs k n ls hE hM hS hl g1 g2 => ?_⟩
    have hrun := h p e9 R s m args below meth c H locs k n ls _ _ _ _ hMet hE hM hl (pre s H locs hE.2.2.2.2.2.2.2.2.2.2.2 hM hS) (by omega) (by omega)
    intro T hT X
    rcases hrun T hT X with ⟨v9, st₀, t, T', L9, h0, X', hL, e1, e2, ⟨v8, hr8, -⟩, -⟩ | ⟨q9, st₀, t, T', L9, E, ce, h0, X', hL, e1, e2, ⟨hr8, hE8, hM8, hF8⟩, hce, hcv, hcl, stp⟩
    · cases hr8
    · cases hr8
      subst hE8
      rw [b1] at hF8
      obtain ⟨k1, k2, k3⟩ := vq_keep h0 e1 hS (fun q _ h => h) (fun q h => h) hL hF8
      have hal : t.vm.Alike s.vm := by
        have := X'.warmed.alike.symm
        rw [e2] at this
        exact this
      have hM9 : sMod G s M1 T'.heap := by rw [e1]; exact hM8.moved hal
      have hk := kx p e9 R s m args below meth c T'.heap (locs ++ L9) (k + (M1.2.1 - M.2.1)) (n + (M1.2.2.1 - M.2.2.1)) ls (by rw [b1]; exact hE) hM9 (by rw [b1]; exact k3) hl (by omega) (by omega)
      have x1 : k + (M1.2.1 - M.2.1) + (M'.2.1 - M1.2.1) = k + (M'.2.1 - M.2.1) := by omega
      have x2 : n + (M1.2.2.1 - M.2.2.1) + (M'.2.2.1 - M1.2.2.1) = n + (M'.2.2.1 - M.2.2.1) := by omega
      rw [x1, x2, b1] at hk
      obtain ⟨-, -, -, -, -, hown, -, hts, htab, -, -, hK⟩ := hE
      have hcast : (Cond.castable "SilkClerks$Fault" "SilkClerks$Fault").before args s = true := va_Nw.use rfl (hK.2.2.2.2.1 _ nw_q681)
      obtain ⟨t2, a1, a2⟩ := vq_catch (rest := st) hown [] x suf (by rw [htab, hx]; rfl) (fun z hz => nomatch hz) hc9 h09 (hts _ hlk) hcast (by rw [e1]; exact hce) hcv hcl hk T' rfl X'
      exact ⟨t2, stp.trans a1, a2⟩
/-- x.m(..), the class of x known -/
theorem r_callVX {K : Option Value → sMem → Option (sRes × sMem)} {KX : Nat → sMem → Option (sRes × sMem)} (x : ExceptionTableEntry) (suf : List ExceptionTableEntry) (hx : tableOf hh = x :: suf) (hc9 : covers x pc = true) (h09 : x.catchType ≠ 0) (hlk : Cond.classLink own x.catchType "SilkClerks$Fault" ∈ lw_all) {i ci n d' a maxL : Nat} {C : String} {T : u_T} {N : Nat} {ty : Nat → FieldType} {y : MethodName} {b : ByteArray} {rt : Option FieldType} (av : List Value) (hc : sCls ci C T N ty) (hw : GoodIn lw_all (wsV own i C y (ws_ y b maxL rt))) (hy : y.cls = C ∧ y.cls ≠ "java/lang/invoke/MethodHandle" ∧ y.cls ≠ "java/lang/invoke/VarHandle" ∧ (parseMethodDescriptor y.desc).map (fun q => q.parameters.length) = some n)
    (hEv : sEv l G y (ws_ y b maxL rt) d' (.ref a :: av) M o1) (hd' : d' + 1 ≤ d) (hmx : maxL ≤ 45) (hn : av.length = n) (hst : st0 = av.reverse ++ .ref a :: st) (hrm : (st.map fun v => v.category).sum ≤ 8) (hd : decode cc pc = .ok (.invokevirtual i, 3))
    (kk : ∀ v M1, AW l G own nm cc mL ret hh d (pc + 3) L (v.toList ++ st) M1 (K v M1)) (kx : ∀ q M1, AW l G own nm cc mL ret hh d x.handlerPc L [.ref q] M1 (KX q M1)) : AW l G own nm cc mL ret hh d pc L st0 M (sChk M ci a (sCallX o1 K KX)) := by
  refine AW.bind fun fs hfs => ?_
  have hfs := sFs_spec hfs
  refine AW.callX x suf hx hc9 h09 hlk hEv (fun p e9 R s m args below meth c H locs k n9 ls mc ms Qc XC hMet hE hM hl pre g1 g2 => ?_) kk kx
  obtain ⟨hx9, hb9, hml, -, -, hown, hmn, hts, -, hfr, hlo, hK, -⟩ := hE
  exact vq_runV (As := av) (rest := st) ⟨hx9, hb9, hml, hown, hts⟩ hMet (cwV n hts hw rfl rfl rfl hy ⟨by show d' + 1 ≤ _; omega, by show 8 + (maxL + 11) + (64 * d' + 3200) ≤ _; omega⟩) ⟨sPc_blind _, va_recv hK (hM.obj hfs) hc.1 (q0 := 0) rfl, pre⟩ rfl hn hl.1 hst (by show 2 * 0 + _ ≤ 8; omega) hd ⟨g1, g2⟩
/-- a static method -/
theorem r_callSX {K : Option Value → sMem → Option (sRes × sMem)} {KX : Nat → sMem → Option (sRes × sMem)} (x : ExceptionTableEntry) (suf : List ExceptionTableEntry) (hx : tableOf hh = x :: suf) (hc9 : covers x pc = true) (h09 : x.catchType ≠ 0) (hlk : Cond.classLink own x.catchType "SilkClerks$Fault" ∈ lw_all) {i n d' maxL : Nat} {y : MethodName} {b : ByteArray} {rt : Option FieldType} (av : List Value) (hw : GoodIn lw_all (va_wsS own i y (ws_ y b maxL rt))) (hy : y.cls ≠ "java/lang/invoke/MethodHandle" ∧ y.cls ≠ "java/lang/invoke/VarHandle" ∧ (parseMethodDescriptor y.desc).map (fun q => q.parameters.length) = some n)
    (hEv : sEv l G y (ws_ y b maxL rt) d' av M o1) (hd' : d' + 1 ≤ d) (hmx : maxL ≤ 45) (hn : av.length = n) (hst : st0 = av.reverse ++ st) (hrm : (st.map fun v => v.category).sum ≤ 8) (hd : decode cc pc = .ok (.invokestatic i, 3))
    (kk : ∀ v M1, AW l G own nm cc mL ret hh d (pc + 3) L (v.toList ++ st) M1 (K v M1)) (kx : ∀ q M1, AW l G own nm cc mL ret hh d x.handlerPc L [.ref q] M1 (KX q M1)) : AW l G own nm cc mL ret hh d pc L st0 M (sCallX o1 K KX) := by
  refine AW.callX x suf hx hc9 h09 hlk hEv (fun p e9 R s m args below meth c H locs k n9 ls mc ms Qc XC hMet hE hM hl pre g1 g2 => ?_) kk kx
  obtain ⟨hx9, hb9, hml, -, -, hown, hmn, hts, -, hfr, hlo, hK, -⟩ := hE
  exact vq_runS (As := av) (rest := st) ⟨hx9, hb9, hml, hown, hts⟩ hMet (va_cwS n hts hw rfl rfl rfl hy ⟨by show d' + 1 ≤ _; omega, by show 8 + (maxL + 11) + (64 * d' + 3200) ≤ _; omega⟩) ⟨sPc_blind _, pre⟩ rfl hn hl.1 hst (by show 2 * 0 + _ ≤ 8; omega) hd ⟨g1, g2⟩
/-- a method's contract out of the walk of its body -/
theorem sEv.ofW {y : MethodName} {av : List Value} (L0 : List (Option Value)) (hy : plainName y.cls = true) (hsz : (lg_sl av).length ≤ mL) (hL : ∀ q ∈ sL L0, q ∈ lv_args 0 av) (kk : AW l G y.cls y cc mL ret hh d 0 L0 [] M o) : sEv l G y (wsW_ y cc mL ret hh) d av M o := by
  intro r M' ho
  obtain ⟨hm, kk⟩ := kk r M' ho
  refine ⟨hm, vq_ofWH hy rfl ?_⟩
  intro p e s m args below meth c s₁ B hml hP
  obtain ⟨rfl, hM, hK⟩ := hP
  have hts := atoms_spec (ws := wsW_ y cc mL ret hh) B.pre
  have hcw := hts _ List.mem_cons_self
  have hts : ∀ w ∈ lw_all, w.before _ s = true := fun w h => hts w (List.mem_cons_of_mem _ h)
  have hl := lv_entry av hsz
  rw [lg_entry_eq]
  generalize (lg_sl av ++ List.replicate (mL - (lg_sl av).length) Slot.unset).toArray = ls at hl ⊢
  have hl : lv_has ls mL (sL L0) := ⟨hl.1, hl.2.1, fun q hq => hl.2.2 q (hL q hq)⟩
  have ht : c.exceptionTable.toList = tableOf hh := by
    obtain ⟨m9, meth9, c9, hn9, h1, h2, h3, h4, h5, -⟩ := Cond.codeWith_spec hcw
    cases hn9.symm.trans B.named
    have hc := B.here.code
    rw [B.state] at hc
    have hc : s.code? m = some c := hc
    unfold Vm.method? at h1
    unfold State.code? at hc
    cases hk : s.vm.classes[m.cls]? with
    | none => rw [hk] at h1; cases h1
    | some k9 =>
    rw [hk] at h1 hc
    have h1 : k9.methods[m.idx]? = some meth9 := h1
    have hc : (k9.methods[m.idx]?).bind (fun q => q.code) = some c := hc
    rw [h1] at hc
    cases h2.symm.trans hc
    rw [← h5]
    exact (table_eq _).symm
  have g := kk p e ({ frames := d, cells := M'.2.1 - M.2.1, slots := M'.2.2.1 - M.2.2.1, locals := 64 * d + 3200 } : Room) s m av.toArray below meth c s.heap [] 0 0 ls ⟨B.exec, B.bytes, hml, B.returns, B.notSynchronized, findClass_of_methodNamed B.named, ⟨(name_of_methodNamed B.named B.method).1, B.named⟩, hts, ht, Nat.le_refl d, Nat.le_refl _, hK⟩ hM va_S.rf hl (by rw [Nat.zero_add]; exact Nat.le_refl _) (by rw [Nat.zero_add]; exact Nat.le_refl _)
  rw [Nat.zero_add, Nat.zero_add] at g
  exact g
end RX
