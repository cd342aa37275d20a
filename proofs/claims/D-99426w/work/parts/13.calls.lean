/-! rows: new objects and arrays, stores of references, answers, calls; a method's contract -/
set_option maxRecDepth 100000
/-- a made array of ints or bytes -/
def sNewA (M : sMem) (t : Nat) (n : Int32) (K : Nat → sMem → Option (sRes × sMem)) : Option (sRes × sMem) := if n < 0 ∨ 100000000 ≤ n.toNatClampNeg then none else K M.2.1 (sNew M (sArr t n.toNatClampNeg (fun _ => 0)) n.toNatClampNeg)
/-- a made array of references -/
def sNewQ (M : sMem) (t : Nat) (n : Int32) (K : Nat → sMem → Option (sRes × sMem)) : Option (sRes × sMem) := if n < 0 ∨ 100000000 ≤ n.toNatClampNeg then none else K M.2.1 (sNew M (sArq t n.toNatClampNeg (fun _ => none)) n.toNatClampNeg)
/-- a made object -/
def sNewO (M : sMem) (ci : Nat) (fs : List Value) (n : Nat) (K : Nat → sMem → Option (sRes × sMem)) : Option (sRes × sMem) := K M.2.1 (sNew M (sObj ci fs) n)
/-- may a reference to that cell be put into an array of the type t? -/
def sFit (t : Nat) (e : sCell) : Bool := match e with
  | .inl (k, _) => Nat.beq t 3 && Nat.beq k 2
  | .inr (.inl (ci, _)) => (Nat.beq t 4 && (Nat.beq ci 6 || Nat.beq ci 7 || Nat.beq ci 8 || Nat.beq ci 9)) || (Nat.beq t 5 && Nat.beq ci 5) || (Nat.beq t 6 && Nat.beq ci 10) || (Nat.beq t 7 && Nat.beq ci 2) || (Nat.beq t 8 && Nat.beq ci 11)
  | .inr (.inr (.inr (.inl _))) => Nat.beq t 2
  | .inr (.inr (.inr (.inr (_, _, _, some _)))) => Nat.beq t 2
  | _ => false
def sCall (o : Option (sRes × sMem)) (K : Option Value → sMem → Option (sRes × sMem)) : Option (sRes × sMem) := match o with
  | some (.inl v, M1) => K v M1
  | some (.inr q, M1) => some (.inr q, M1)
  | none => none
def sCI (K : Int32 → sMem → Option (sRes × sMem)) : Option Value → sMem → Option (sRes × sMem) := fun v M1 => match v with
  | some (.int x) => K x M1
  | _ => none
def sCN (K : Nat → sMem → Option (sRes × sMem)) : Option Value → sMem → Option (sRes × sMem) := fun v M1 => match v with
  | some (.ref x) => K x M1
  | _ => none
def sCV (K : sMem → Option (sRes × sMem)) : Option Value → sMem → Option (sRes × sMem) := fun v M1 => match v with
  | none => K M1
  | _ => none
abbrev sCallI (o : Option (sRes × sMem)) (K : Int32 → sMem → Option (sRes × sMem)) : Option (sRes × sMem) := sCall o (sCI K)
abbrev sCallN (o : Option (sRes × sMem)) (K : Nat → sMem → Option (sRes × sMem)) : Option (sRes × sMem) := sCall o (sCN K)
abbrev sCallV (o : Option (sRes × sMem)) (K : sMem → Option (sRes × sMem)) : Option (sRes × sMem) := sCall o (sCV K)
/-- the receiver is an object of that class -/
def sChk (M : sMem) (ci a : Nat) (o : Option (sRes × sMem)) : Option (sRes × sMem) := (sFs M ci a).bind fun _ => o
def sCov (hh : List (Nat × Nat × Nat × Nat)) (pc : Nat) : Bool := (tableOf hh).all fun x => !covers x pc
theorem sCov_spec {hh : List (Nat × Nat × Nat × Nat)} {pc : Nat} (h : sCov hh pc = true) : ∀ x ∈ tableOf hh, covers x pc = false := fun x hx => by
  have h1 := List.all_eq_true.mp h x hx
  cases h9 : covers x pc with
  | false => rfl
  | true => rw [h9] at h1; cases h1
def sPc (G : sG) (M : sMem) (av : List Value) : Array Value → State → Prop := va_Pc av (fun U => sMod G U M U.heap ∧ sK G M.1 U U.heap)
/-- a contract: what the method y does to the heap M, told by a function -/
def sEv (l : Launch) (G : sG) (y : MethodName) (ws : List Cond) (d : Nat) (av : List Value) (M : sMem) (o : Option (sRes × sMem)) : Prop := ∀ (r : sRes) (M' : sMem), o = some (r, M') → sMono M M' ∧
  vq_Met l y ws { frames := d, cells := M'.2.1 - M.2.1, slots := M'.2.2.1 - M.2.2.1, locals := 64 * d + 3200 } (sPc G M av) (sQ G r M') (sX G r M') (M'.2.1 - M.2.1) (M'.2.2.1 - M.2.2.1) (sA M.1)
theorem sMono.rf (M : sMem) : sMono M M := ⟨rfl, Nat.le_refl _, Nat.le_refl _⟩
theorem sMono.tr {M M1 M2 : sMem} (h : sMono M M1) (g : sMono M1 M2) : sMono M M2 := ⟨g.1.trans h.1, Nat.le_trans h.2.1 g.2.1, Nat.le_trans h.2.2 g.2.2⟩
section RC
variable {l : Launch} {G : sG} {own : String} {nm : MethodName} {cc : ByteArray} {mL : Nat} {ret : Option FieldType} {hh : List (Nat × Nat × Nat × Nat)} {d pc pc' : Nat} {L L' : List (Option Value)} {st st0 st' : List Value} {M : sMem} {o o1 o2 : Option (sRes × sMem)}
theorem sPc_blind (av : List Value) : FrameBlind (sPc G M av) := by
  intro a U g mk h
  obtain ⟨h1, h2, h3⟩ := h
  exact ⟨h1, sMod.moved (u := U) (U := U.calling g mk a) (Vm.Alike.refl U.vm) h2, sK.warm (u := U) (U := U.calling g mk a) (State.WarmedH.refl U) h3⟩
/-- a step that makes a cell -/
theorem AW.alloc {e : sCell} {w : Nat} (h : ∀ (p : Program) (e9 : Env) (R : Room) (s : State) (m : MethodId) (args : Array Value) (below : List Frame) (meth : Method) (c : Code) (H : Heap) (locs : List Loc) (k n : Nat) (ls : Array Slot) (Q : State → Prop),
      sEnv G M.1 own nm cc mL ret hh d p R s m args meth c → sMod G s M H → va_S (sA M.1) s.heap H locs → lv_has ls mL (sL L) → k + 1 ≤ R.cells → n + w ≤ R.slots →
      (∀ H1 : Heap, H1.size = H.size + 1 → (∀ q : Nat, q < H.size → H1[q]? = H[q]?) → sAt G M.1 s H.size e H1 → W p l e9 R s m args below meth c H1 locs (k + 1) (n + w) Q (F0 m pc' ls (.ref H.size :: st'))) → W p l e9 R s m args below meth c H locs k n Q (F0 m pc ls st))
    (kk : AW l G own nm cc mL ret hh d pc' L (.ref M.2.1 :: st') (sNew M e w) o) : AW l G own nm cc mL ret hh d pc L st M o := by
  intro r M' ho
  obtain ⟨⟨m1, m2, m3⟩, kk⟩ := kk r M' ho
  have m2 : M.2.1 + 1 ≤ M'.2.1 := m2
  have m3 : M.2.2.1 + w ≤ M'.2.2.1 := m3
  refine ⟨⟨m1, by omega, by omega⟩, fun p e9 R s m args below meth c H locs k n ls hE hM hS hl h1 h2 => h p e9 R s m args below meth c H locs k n ls _ hE hM hS hl (by omega) (by omega) (fun H1 z oq he => ?_)⟩
  have g := kk p e9 R s m args below meth c H1 locs (k + 1) (n + w) ls hE (hM.new z oq he) ⟨Nat.le_trans hS.1 (by omega), fun q g1 g2 => (oq q (Nat.lt_of_lt_of_le g1 hS.1)).trans (hS.2.1 q g1 g2), hS.2.2⟩ hl (by show k + 1 + (M'.2.1 - (M.2.1 + 1)) ≤ _; omega) (by show n + w + (M'.2.2.1 - (M.2.2.1 + w)) ≤ _; omega)
  have e1 : k + 1 + (M'.2.1 - (sNew M e w).2.1) = k + (M'.2.1 - M.2.1) := by show k + 1 + (M'.2.1 - (M.2.1 + 1)) = _; omega
  have e2 : n + w + (M'.2.2.1 - (sNew M e w).2.2.1) = n + (M'.2.2.1 - M.2.2.1) := by show n + w + (M'.2.2.1 - (M.2.2.1 + w)) = _; omega
  rw [e1, e2] at g
  rw [hM.1]
  exact g
theorem r_new {i ci N : Nat} {C : String} {T : u_T} {ty : Nat → FieldType} {fs : List Value} {K : Nat → sMem → Option (sRes × sMem)} (hc : sCls ci C T N ty) (hq : Cond.classLink own i C ∈ lw_all) (hi : Cond.instantiable C N ∈ lw_all) (hn : Cond.initialized C ∈ lw_all) (hfs : ∀ j, j < N → defaultValue (ty j) = vp_V fs j) (hd : decode cc pc = .ok (.new i, 3)) (kk : ∀ a M1, AW l G own nm cc mL ret hh d (pc + 3) L (.ref a :: st) M1 (K a M1)) : AW l G own nm cc mL ret hh d pc L st M (sNewO M ci fs N K) := by
  refine AW.alloc (fun p e9 R s m args below meth c H locs k9 n9 ls Q hE hM hS hl g1 g2 kk => ?_) (kk _ _)
  obtain ⟨hx9, hb9, -, -, -, hown, hmn, hts, -, -, -, hK, -⟩ := hE
  have hKn := hK.1 ci _ hc.1
  refine W.newcK hx9 hb9 hown (hts _ hq) (hts _ hi) (hts _ hn) rfl hd g1 g2 hKn.2.1 rfl fun H1 kC hkC e1 z1 o1 => ?_
  exact kk H1 z1 o1 ⟨_, hc.1, (u_born ty hts hc.2.1 hKn hkC e1 hc.2.2.1).to hfs⟩
theorem sBig {n : Int32} {w : Nat} (h : ¬ (n < 0 ∨ 100000000 ≤ n.toNatClampNeg)) (hw : w ≤ 4) : n.toNatClampNeg * w ≤ 536870912 := by
  have h1 : n.toNatClampNeg < 100000000 := Nat.not_le.mp fun q => h (Or.inr q)
  have h2 : n.toNatClampNeg * w ≤ 100000000 * 4 := Nat.mul_le_mul (Nat.le_of_lt h1) hw
  omega
theorem r_newi {n : Int32} {K : Nat → sMem → Option (sRes × sMem)} (hd : decode cc pc = .ok (.newarray .int, 2)) (kk : ∀ a M1, AW l G own nm cc mL ret hh d (pc + 2) L (.ref a :: st) M1 (K a M1)) : AW l G own nm cc mL ret hh d pc L (.int n :: st) M (sNewA M 0 n K) := by
  unfold sNewA
  by_cases h : n < 0 ∨ 100000000 ≤ n.toNatClampNeg
  · rw [if_pos h]; exact AW.no
  rw [if_neg h]
  refine AW.alloc (fun p e9 R s m args below meth c H locs k9 n9 ls Q hE hM hS hl g1 g2 kk => ?_) (kk _ _)
  obtain ⟨hx9, hb9, -, -, -, hown, hmn, hts, -, -, -, hK, -⟩ := hE
  refine va_newaK (atype := .int) hx9 hb9 (hts _ q244) rfl hd rfl (fun q => h (Or.inl q)) rfl (sBig h (Nat.le_refl 4)) g1 g2 rfl fun H1 cA e1 z1 o1 hAr hNm => ?_
  have hA := (hK.2 0 _ (sTys_at G (by decide))).2
  cases hA.symm.trans hNm
  exact kk H1 z1 o1 ⟨by decide, e1⟩
theorem r_newb {n : Int32} {K : Nat → sMem → Option (sRes × sMem)} (hd : decode cc pc = .ok (.newarray .byte, 2)) (kk : ∀ a M1, AW l G own nm cc mL ret hh d (pc + 2) L (.ref a :: st) M1 (K a M1)) : AW l G own nm cc mL ret hh d pc L (.int n :: st) M (sNewA M 1 n K) := by
  unfold sNewA
  by_cases h : n < 0 ∨ 100000000 ≤ n.toNatClampNeg
  · rw [if_pos h]; exact AW.no
  rw [if_neg h]
  refine AW.alloc (fun p e9 R s m args below meth c H locs k9 n9 ls Q hE hM hS hl g1 g2 kk => ?_) (kk _ _)
  obtain ⟨hx9, hb9, -, -, -, hown, hmn, hts, -, -, -, hK, -⟩ := hE
  refine va_newaK (atype := .byte) hx9 hb9 (hts _ q243) rfl hd rfl (fun q => h (Or.inl q)) rfl (sBig h (by decide)) g1 g2 rfl fun H1 cA e1 z1 o1 hAr hNm => ?_
  have hA := (hK.2 1 _ (sTys_at G (by decide))).2
  cases hA.symm.trans hNm
  exact kk H1 z1 o1 ⟨by decide, e1⟩
theorem r_newq {t i : Nat} {C : String} {n : Int32} {K : Nat → sMem → Option (sRes × sMem)} (ht : t < 9) (hC : sTy t = .object C) (hq : Cond.classLink own i C ∈ lw_all) (hA : ∀ s, sKA s → va_AO C s) (hd : decode cc pc = .ok (.anewarray i, 3)) (kk : ∀ a M1, AW l G own nm cc mL ret hh d (pc + 3) L (.ref a :: st) M1 (K a M1)) : AW l G own nm cc mL ret hh d pc L (.int n :: st) M (sNewQ M t n K) := by
  unfold sNewQ
  by_cases h : n < 0 ∨ 100000000 ≤ n.toNatClampNeg
  · rw [if_pos h]; exact AW.no
  rw [if_neg h]
  refine AW.alloc (fun p e9 R s m args below meth c H locs k9 n9 ls Q hE hM hS hl g1 g2 kk => ?_) (kk _ _)
  obtain ⟨hx9, hb9, -, -, -, hown, hmn, hts, -, -, -, hK, hKA, -⟩ := hE
  refine W.anew hx9 hb9 hown (hts _ hq) (va_AO.use (hA _ hKA)) rfl hd rfl (fun q => h (Or.inl q)) (sBig h (Nat.le_refl 4)) g1 g2 fun cA kA comp f1 f2 f3 f4 => ?_
  have hR := (hK.2 t _ (sTys_at G ht)).2
  simp only [hC] at hR
  obtain ⟨kA', comp', -, -, -, hnm⟩ := hR
  cases hnm.symm.trans f1
  refine kk _ (by rw [Array.size_push]) (fun q hq => by rw [Array.getElem?_push, if_neg (Nat.ne_of_lt hq)]) ⟨ht, ?_⟩
  rw [Array.getElem?_push_size, vp_cell_q]
  show _ = some (arrV _ _ _)
  rw [show (fun j => va_rf ((fun _ => none) j)) = (fun _ : Nat => Value.null) from rfl, ← arrV_new]
theorem r_ret {v : Option Value} (h : ∀ (p : Program) (e : Env) (R : Room) (s : State) (m : MethodId) (args : Array Value) (below : List Frame) (meth : Method) (c : Code) (H : Heap) (locs : List Loc) (k n : Nat) (ls : Array Slot) (Qc : Array Value → State → Outcome → State → Prop),
      sEnv G M.1 own nm cc mL ret hh d p R s m args meth c → (∀ t : State, t.heap = H → s.WarmedH t.vm → Qc args s (.returned v) t) → (∀ q ∈ locs, sA M.1 q.base) → W p l e R s m args below meth c H locs k n (MQ below Qc args s k n (sA M.1)) (F0 m pc ls st)) : AW l G own nm cc mL ret hh d pc L st M (some (.inl v, M)) := by
  intro r M' ho
  cases ho
  refine ⟨sMono.rf M, fun p e9 R s m args below meth c H locs k n ls hE hM hS hl h1 h2 => ?_⟩
  rw [Nat.sub_self, Nat.sub_self]
  exact vq_ret (h p e9 R s m args below meth c H locs k n ls _ hE (fun t ht hW => ⟨v, rfl, rfl, by rw [ht]; exact hM.moved hW.alike, hS.F ht⟩) hS.2.2)
theorem r_iret {x : Int32} (hr : ret = some .int) (hd : decode cc pc = .ok (.ireturn, 1)) : AW l G own nm cc mL ret hh d pc L [.int x] M (some (.inl (some (.int x)), M)) :=
  r_ret fun _ _ _ _ _ _ _ _ _ _ _ _ _ _ _ hE hq hf => W.iret hE.1 hE.2.1 (hE.2.2.2.1.trans hr) hq hf hd hE.2.2.2.2.1
/-- a boolean, byte, char: what is answered fits -/
theorem r_nret {x : Int32} {t : FieldType} (hr : ret = some t) (hn : narrow t (.int x) = .int x) (hd : decode cc pc = .ok (.ireturn, 1)) : AW l G own nm cc mL ret hh d pc L [.int x] M (some (.inl (some (.int x)), M)) :=
  r_ret fun _ _ _ _ _ _ _ _ _ _ _ _ _ _ _ hE hq hf => W.zret hE.1 hE.2.1 (hE.2.2.2.1.trans hr) hn hq hf hd hE.2.2.2.2.1
/-- a boolean that is known to be one by a test alone -/
def sBool (x : Int32) (M : sMem) : Option (sRes × sMem) := if x = 0 ∨ x = 1 then some (.inl (some (.int x)), M) else none
theorem r_zret {x : Int32} (hr : ret = some .boolean) (hd : decode cc pc = .ok (.ireturn, 1)) : AW l G own nm cc mL ret hh d pc L [.int x] M (sBool x M) := by
  unfold sBool
  by_cases h : x = 0 ∨ x = 1
  · rw [if_pos h]
    exact r_nret hr (by rcases h with h | h <;> subst h <;> rfl) hd
  · rw [if_neg h]; exact AW.no
theorem r_vret (hr : ret = none) (hd : decode cc pc = .ok (.return_, 1)) : AW l G own nm cc mL ret hh d pc L [] M (some (.inl none, M)) :=
  r_ret fun _ _ _ _ _ _ _ _ _ _ _ _ _ _ _ hE hq hf => W.vret hE.1 hE.2.1 (hE.2.2.2.1.trans hr) hq hf hd hE.2.2.2.2.1
theorem r_aret {x : Nat} {t : FieldType} (hr : ret = some t) (ht : (∃ n, t = .object n) ∨ ∃ t', t = .array t') (hd : decode cc pc = .ok (.areturn, 1)) : AW l G own nm cc mL ret hh d pc L [.ref x] M (some (.inl (some (.ref x)), M)) :=
  r_ret fun _ _ _ _ _ _ _ _ _ _ _ _ _ _ _ hE hq hf => W.aret hE.1 hE.2.1 (hE.2.2.2.1.trans hr) ht (Or.inr ⟨x, rfl⟩) hq hf hd hE.2.2.2.2.1
/-- thrown, and not caught here -/
theorem sThrow_out {p : Program} {e : Env} {R : Room} {s : State} {m : MethodId} {args : Array Value} {below : List Frame} {meth : Method} {c : Code} {H : Heap} {locs : List Loc} {k n : Nat} {ls : Array Slot} {q : Addr} {ce : Cell} (hcov : sCov hh pc = true) (hE : sEnv G M.1 own nm cc mL ret hh d p R s m args meth c) (hM : sMod G s M H) (hS : va_S (sA M.1) s.heap H locs) (hq : H[q]? = some ce) (hv : ce.vm = .none) (hcl : s.vm.findClass "SilkClerks$Fault" = some ce.cls) :
    vq_W p l e R s m args below meth c H locs k n (vq_MQ below (sQ G (.inr q) M) (sX G (.inr q) M) args s k n (sA M.1)) (F0 m pc ls st) q := by
  refine vq_out (E := "SilkClerks$Fault") (by rw [hE.2.2.2.2.2.2.2.2.1]; exact sCov_spec hcov) hE.2.2.2.2.1 hq hv hcl (fun t ht hvm => ⟨rfl, rfl, by rw [ht]; exact hM.moved hvm, hS.F ht⟩) hS.2.2 (Nat.le_refl _) (Nat.le_refl _)
/-- a call, by a contract -/
theorem AW.call {K : Option Value → sMem → Option (sRes × sMem)} {y : MethodName} {ws : List Cond} {d' : Nat} {av : List Value} (hEv : sEv l G y ws d' av M o1) (hcov : sCov hh pc = true)
    (h : ∀ (p : Program) (e : Env) (R : Room) (s : State) (m : MethodId) (args : Array Value) (below : List Frame) (meth : Method) (c : Code) (H : Heap) (locs : List Loc) (k n : Nat) (ls : Array Slot) (mc ms : Nat) (Qc : Array Value → State → Outcome → State → Prop) (XC : Nat → String → State → State → Prop),
      vq_Met l y ws { frames := d', cells := mc, slots := ms, locals := 64 * d' + 3200 } (sPc G M av) Qc XC mc ms (sA M.1) → sEnv G M.1 own nm cc mL ret hh d p R s m args meth c → sMod G s M H → lv_has ls mL (sL L) → (∀ U : State, U.heap = H → s.WarmedH U.vm → sPc G M av av.toArray U) → k + mc ≤ R.cells → n + ms ≤ R.slots →
      vq_Run p l e R s m args below meth c H locs k n mc ms (F0 m pc ls st0) st (Qc av.toArray) XC (sA M.1))
    (kk : ∀ v M1, AW l G own nm cc mL ret hh d (pc + 3) L (v.toList ++ st) M1 (K v M1)) : AW l G own nm cc mL ret hh d pc L st0 M (sCall o1 K) := by
  intro r M' ho
  cases h1 : o1 with
  | none => rw [h1] at ho; cases ho
  | some q1 =>
  obtain ⟨r1, M1⟩ := q1
  obtain ⟨hm1, hMet⟩ := hEv r1 M1 h1
  obtain ⟨b1, b2, b3⟩ := hm1
  have pre : ∀ (s : State) (H : Heap) (locs : List Loc), sK G M.1 s s.heap → sMod G s M H → va_S (sA M.1) s.heap H locs → ∀ U : State, U.heap = H → s.WarmedH U.vm → sPc G M av av.toArray U := by
    intro s H locs hK hM hS U hU hW
    refine ⟨rfl, ?_, ?_⟩
    · rw [hU]; exact hM.moved hW.alike
    · rw [hU]; exact (hK.warm hW).kept hS.2.1
  cases r1 with
  | inl v =>
    rw [h1] at ho
    have ho : K v M1 = some (r, M') := ho
    obtain ⟨hm2, kk⟩ := kk v M1 r M' ho
    obtain ⟨c1, c2, c3⟩ := hm2
    refine ⟨⟨c1.trans b1, Nat.le_trans b2 c2, Nat.le_trans b3 c3⟩, fun p e9 R s m args below meth c H locs k n ls hE hM hS hl g1 g2 => ?_⟩
    have hrun := h p e9 R s m args below meth c H locs k n ls _ _ _ _ hMet hE hM hl (pre s H locs hE.2.2.2.2.2.2.2.2.2.2.2 hM hS) (by omega) (by omega)
    intro T hT X
    rcases hrun T hT X with ⟨v9, st₀, t, T', L9, h0, X', hL, e1, e2, ⟨v8, hr8, ho8, hM8, hF8⟩, stp⟩ | ⟨q, st₀, t, T', L9, E, ce, h0, X', hL, e1, e2, ⟨hr8, -⟩, -⟩
    · cases hr8
      cases ho8
      rw [b1] at hF8
      obtain ⟨k1, k2, k3⟩ := vq_keep h0 e1 hS (fun q _ h => h) (fun q h => h) hL hF8
      have hal : t.vm.Alike s.vm := by
        have := X'.warmed.alike.symm
        rw [e2] at this
        exact this
      have hM9 : sMod G s M1 T'.heap := by rw [e1]; exact hM8.moved hal
      have hk := kk p e9 R s m args below meth c T'.heap (locs ++ L9) (k + (M1.2.1 - M.2.1)) (n + (M1.2.2.1 - M.2.2.1)) ls (by rw [b1]; exact hE) hM9 (by rw [b1]; exact k3) hl (by omega) (by omega)
      have x1 : k + (M1.2.1 - M.2.1) + (M'.2.1 - M1.2.1) = k + (M'.2.1 - M.2.1) := by omega
      have x2 : n + (M1.2.2.1 - M.2.2.1) + (M'.2.2.1 - M1.2.2.1) = n + (M'.2.2.1 - M.2.2.1) := by omega
      rw [x1, x2, b1] at hk
      obtain ⟨t2, a1, a2⟩ := hk T' rfl X'
      exact ⟨t2, stp t2 a1, a2⟩
    · cases hr8
  | inr q =>
    rw [h1] at ho
    have ho : some ((Sum.inr q : sRes), M1) = some (r, M') := ho
    cases ho
    refine ⟨⟨b1, b2, b3⟩, fun p e9 R s m args below meth c H locs k n ls hE hM hS hl g1 g2 => ?_⟩
    have hrun := h p e9 R s m args below meth c H locs k n ls _ _ _ _ hMet hE hM hl (pre s H locs hE.2.2.2.2.2.2.2.2.2.2.2 hM hS) (by omega) (by omega)
    intro T hT X
    rcases hrun T hT X with ⟨v9, st₀, t, T', L9, h0, X', hL, e1, e2, ⟨v8, hr8, -⟩, -⟩ | ⟨q9, st₀, t, T', L9, E, ce, h0, X', hL, e1, e2, ⟨hr8, hE8, hM8, hF8⟩, hce, hcv, hcl, stp⟩
    · cases hr8
    · cases hr8
      subst hE8
      rw [b1] at hF8
      obtain ⟨k1, k2, k3⟩ := vq_keep h0 e1 hS (fun q _ h => h) (fun q h => h) hL hF8
      have hal : t.vm.Alike s.vm := by
        have := X'.warmed.alike.symm
        rw [e2] at this
        exact this
      have hM9 : sMod G s M' T'.heap := by rw [e1]; exact hM8.moved hal
      have hk := sThrow_out (l := l) (e := e9) (below := below) (k := k + (M'.2.1 - M.2.1)) (n := n + (M'.2.2.1 - M.2.2.1)) (ls := ls) (st := st) (M := M') (pc := pc) hcov (by rw [b1]; exact hE) hM9 (by rw [b1]; exact k3) (by rw [e1]; exact hce) hcv hcl
      rw [b1] at hk
      obtain ⟨t2, a1, a2⟩ := hk T' rfl X'
      exact ⟨t2, stp.trans a1, a2⟩
/-- x.m(..), the class of x known -/
theorem r_callV {K : Option Value → sMem → Option (sRes × sMem)} {i ci n d' a maxL : Nat} {C : String} {T : u_T} {N : Nat} {ty : Nat → FieldType} {y : MethodName} {b : ByteArray} {rt : Option FieldType} (av : List Value) (hc : sCls ci C T N ty) (hw : GoodIn lw_all (wsV own i C y (ws_ y b maxL rt))) (hy : y.cls = C ∧ y.cls ≠ "java/lang/invoke/MethodHandle" ∧ y.cls ≠ "java/lang/invoke/VarHandle" ∧ (parseMethodDescriptor y.desc).map (fun q => q.parameters.length) = some n)
    (hEv : sEv l G y (ws_ y b maxL rt) d' (.ref a :: av) M o1) (hd' : d' + 1 ≤ d) (hmx : maxL ≤ 45) (hn : av.length = n) (hst : st0 = av.reverse ++ .ref a :: st) (hrm : (st.map fun v => v.category).sum ≤ 8) (hcov : sCov hh pc = true) (hd : decode cc pc = .ok (.invokevirtual i, 3))
    (kk : ∀ v M1, AW l G own nm cc mL ret hh d (pc + 3) L (v.toList ++ st) M1 (K v M1)) : AW l G own nm cc mL ret hh d pc L st0 M (sChk M ci a (sCall o1 K)) := by
  refine AW.bind fun fs hfs => ?_
  have hfs := sFs_spec hfs
  refine AW.call hEv hcov (fun p e9 R s m args below meth c H locs k n9 ls mc ms Qc XC hMet hE hM hl pre g1 g2 => ?_) kk
  obtain ⟨hx9, hb9, hml, -, -, hown, hmn, hts, -, hfr, hlo, hK, -⟩ := hE
  exact vq_runV (As := av) (rest := st) ⟨hx9, hb9, hml, hown, hts⟩ hMet (cwV n hts hw rfl rfl rfl hy ⟨by show d' + 1 ≤ _; omega, by show 8 + (maxL + 11) + (64 * d' + 3200) ≤ _; omega⟩) ⟨sPc_blind _, va_recv hK (hM.obj hfs) hc.1 (q0 := 0) rfl, pre⟩ rfl hn hl.1 hst (by show 2 * 0 + _ ≤ 8; omega) hd ⟨g1, g2⟩
/-- a static method -/
theorem r_callS {K : Option Value → sMem → Option (sRes × sMem)} {i n d' maxL : Nat} {y : MethodName} {b : ByteArray} {rt : Option FieldType} (av : List Value) (hw : GoodIn lw_all (va_wsS own i y (ws_ y b maxL rt))) (hy : y.cls ≠ "java/lang/invoke/MethodHandle" ∧ y.cls ≠ "java/lang/invoke/VarHandle" ∧ (parseMethodDescriptor y.desc).map (fun q => q.parameters.length) = some n)
    (hEv : sEv l G y (ws_ y b maxL rt) d' av M o1) (hd' : d' + 1 ≤ d) (hmx : maxL ≤ 45) (hn : av.length = n) (hst : st0 = av.reverse ++ st) (hrm : (st.map fun v => v.category).sum ≤ 8) (hcov : sCov hh pc = true) (hd : decode cc pc = .ok (.invokestatic i, 3))
    (kk : ∀ v M1, AW l G own nm cc mL ret hh d (pc + 3) L (v.toList ++ st) M1 (K v M1)) : AW l G own nm cc mL ret hh d pc L st0 M (sCall o1 K) := by
  refine AW.call hEv hcov (fun p e9 R s m args below meth c H locs k n9 ls mc ms Qc XC hMet hE hM hl pre g1 g2 => ?_) kk
  obtain ⟨hx9, hb9, hml, -, -, hown, hmn, hts, -, hfr, hlo, hK, -⟩ := hE
  exact vq_runS (As := av) (rest := st) ⟨hx9, hb9, hml, hown, hts⟩ hMet (va_cwS n hts hw rfl rfl rfl hy ⟨by show d' + 1 ≤ _; omega, by show 8 + (maxL + 11) + (64 * d' + 3200) ≤ _; omega⟩) ⟨sPc_blind _, pre⟩ rfl hn hl.1 hst (by show 2 * 0 + _ ≤ 8; omega) hd ⟨g1, g2⟩
/-- a constructor -/
theorem r_callI {K : Option Value → sMem → Option (sRes × sMem)} {i n d' a maxL : Nat} {y : MethodName} {b : ByteArray} (av : List Value) (hw : GoodIn lw_all (ws_ y b maxL none)) (hini : Cond.initialized y.cls ∈ lw_all) (hl9 : Cond.methodLink own i y ∈ lw_all) (hin : Cond.instanceMethod y ∈ lw_all) (hy1 : y.name = "<init>") (hy : y.cls ≠ "java/lang/invoke/MethodHandle" ∧ y.cls ≠ "java/lang/invoke/VarHandle" ∧ (parseMethodDescriptor y.desc).map (fun q => q.parameters.length) = some n)
    (hEv : sEv l G y (ws_ y b maxL none) d' (.ref a :: av) M o1) (hd' : d' + 1 ≤ d) (hmx : maxL ≤ 45) (hn : av.length = n) (hst : st0 = av.reverse ++ .ref a :: st) (hrm : (st.map fun v => v.category).sum ≤ 8) (hcov : sCov hh pc = true) (hd : decode cc pc = .ok (.invokespecial i, 3))
    (kk : ∀ v M1, AW l G own nm cc mL ret hh d (pc + 3) L (v.toList ++ st) M1 (K v M1)) : AW l G own nm cc mL ret hh d pc L st0 M (sCall o1 K) := by
  refine AW.call hEv hcov (fun p e9 R s m args below meth c H locs k n9 ls mc ms Qc XC hMet hE hM hl pre g1 g2 => ?_) kk
  obtain ⟨hx9, hb9, hml, -, -, hown, hmn, hts, -, hfr, hlo, hK, -⟩ := hE
  exact vq_runI (As := av) (rest := st) ⟨hx9, hb9, hml, hown, hts⟩ hMet (cwI n hts hw rfl rfl rfl (hts _ hini) (hts _ hl9) (hts _ hin) hy1 hy ⟨by show d' + 1 ≤ _; omega, by show 8 + (maxL + 11) + (64 * d' + 3200) ≤ _; omega⟩) ⟨sPc_blind _, pre⟩ rfl hn hl.1 hst (by show 2 * 0 + _ ≤ 8; omega) hd ⟨g1, g2⟩
theorem r_objInit {i a : Nat} (hl9 : Cond.methodLink own i objectInit ∈ lw_all) (hin : Cond.instanceMethod objectInit ∈ lw_all) (hco : Cond.code objectInit ⟨#[0xb1]⟩ 1 none ∈ lw_all) (h1 : 1 ≤ d) (hrm : (st.map fun v => v.category).sum ≤ 8) (hd : decode cc pc = .ok (.invokespecial i, 3)) (kk : AW l G own nm cc mL ret hh d (pc + 3) L st M o) : AW l G own nm cc mL ret hh d pc L (.ref a :: st) M o := by
  refine AW.step (fun p e9 R s m args below meth c H locs k9 n9 ls Q hE hM hS hl kk => ?_) kk
  obtain ⟨hx9, hb9, hml, -, -, hown, hmn, hts, -, hfr, hlo, hK, -⟩ := hE
  exact W.objInit hx9 hb9 hown (hts _ hl9) (hts _ hin) (hts _ hco) rfl (by rw [hml]; exact hl.1) rfl hd (by omega) (by show 2 * 0 + _ + 12 ≤ _; omega) (kk ls hl)
/-- a method's contract out of the walk of its body -/
theorem sEv.of {y : MethodName} {av : List Value} (L0 : List (Option Value)) (hy : plainName y.cls = true) (hsz : (lg_sl av).length ≤ mL) (hL : ∀ q ∈ sL L0, q ∈ lv_args 0 av) (kk : AW l G y.cls y cc mL ret [] d 0 L0 [] M o) : sEv l G y (ws_ y cc mL ret) d av M o := by
  intro r M' ho
  obtain ⟨hm, kk⟩ := kk r M' ho
  refine ⟨hm, vq_ofW hy rfl ?_⟩
  intro p e s m args below meth c s₁ B hml hnoh hP
  obtain ⟨rfl, hM, hK⟩ := hP
  have hts := atoms_spec (ws := ws_ y cc mL ret) B.pre
  have hts : ∀ w ∈ lw_all, w.before _ s = true := fun w h => hts w (List.mem_cons_of_mem _ h)
  have hl := lv_entry av hsz
  rw [lg_entry_eq]
  generalize (lg_sl av ++ List.replicate (mL - (lg_sl av).length) Slot.unset).toArray = ls at hl ⊢
  have hl : lv_has ls mL (sL L0) := ⟨hl.1, hl.2.1, fun q hq => hl.2.2 q (hL q hq)⟩
  have ht : c.exceptionTable.toList = tableOf [] := List.eq_nil_iff_forall_not_mem.mpr fun x hx => hnoh x hx
  have g := kk p e ({ frames := d, cells := M'.2.1 - M.2.1, slots := M'.2.2.1 - M.2.2.1, locals := 64 * d + 3200 } : Room) s m av.toArray below meth c s.heap [] 0 0 ls ⟨B.exec, B.bytes, hml, B.returns, B.notSynchronized, findClass_of_methodNamed B.named, ⟨(name_of_methodNamed B.named B.method).1, B.named⟩, hts, ht, Nat.le_refl d, Nat.le_refl _, hK⟩ hM va_S.rf hl (by rw [Nat.zero_add]; exact Nat.le_refl _) (by rw [Nat.zero_add]; exact Nat.le_refl _)
  rw [Nat.zero_add, Nat.zero_add] at g
  exact g
end RC
