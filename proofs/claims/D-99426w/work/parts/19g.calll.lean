/-! a call of a lambda's object -/
set_option maxRecDepth 100000
def sFlds (D : ClassFile) (laid : Array Field × Array FieldType × Array FieldType) (bytes : ByteArray) (fi : Nat → Nat) (ff : Nat → Field) (n : Nat) : Prop := ∀ i, i < n → decode bytes (4 * i) = .ok (.aload_n 0, 1) ∧ decode bytes (4 * i + 1) = .ok (.getfield (fi i), 3) ∧ (∃ (a b : Nat) (fname fdesc : String), D.constantPool[fi i]? = some (.fieldref a b) ∧ D.constantPool.nameAndType? b = some (fname, fdesc) ∧ laid.1.findIdx? (·.name == fname) = some i) ∧ laid.1[i]? = some (ff i) ∧ (ff i).isStatic = false ∧ (ff i).slot = i
def sMref (D : ClassFile) (y : MethodName) (mi : Nat) : Prop := ∃ (ci nt n : Nat), D.constantPool[mi]? = some (.methodref ci nt) ∧ D.constantPool.className? ci = some y.cls ∧ D.constantPool.nameAndType? nt = some (y.name, y.desc) ∧ D.constantPool[ci]? = some (.class_ n) ∧ D.constantPool.string? n = some y.cls ∧ ci ≠ D.thisClass
/-- all that is decided of a made class's file -/
def sFile (w : Cond) (σ : Lambda.Shape) (x : MethodName) (spc si : Nat) (D : ClassFile) (F : Method) (laid : Array Field × Array FieldType × Array FieldType) (bytes : ByteArray) (z : Bool) (fi : Nat → Nat) (ff : Nat → Field) (n mi : Nat) (y : MethodName) (vi : Bool) : Prop :=
  w = .lambdaSite x spc si σ ∧ sShp σ x.cls D F laid bytes (some (if z = true then .boolean else .int)) ∧ sFlds D laid bytes fi ff n ∧ sMref D y mi ∧ σ.implClass = y.cls ∧ σ.implName = y.name ∧ σ.implDesc.toString = y.desc ∧ σ.implItf = false ∧ decode bytes (4 * n) = .ok (.iload_n 1, 1) ∧ decode bytes (4 * n + 1) = .ok (if vi = true then .invokevirtual mi else .invokestatic mi, 3) ∧ decode bytes (4 * n + 1 + 3) = .ok (.ireturn, 1) ∧ x.cls = "SilkClerks"
def sCallL (z : Bool) (o1 : Option (sRes × sMem)) (K : Int32 → sMem → Option (sRes × sMem)) : Option (sRes × sMem) := match o1 with
  | some (.inl (some (.int v)), M1) => if z = false ∨ v = 0 ∨ v = 1 then K v M1 else none
  | _ => none
section RCL
variable {l : Launch} {G : sG} {own : String} {nm : MethodName} {cc : ByteArray} {mL : Nat} {ret : Option FieldType} {hh : List (Nat × Nat × Nat × Nat)} {d pc pc' : Nat} {L L' : List (Option Value)} {st st0 st' : List Value} {M : sMem} {o o1 o2 : Option (sRes × sMem)}
theorem r_callL {K : Int32 → sMem → Option (sRes × sMem)} {j : Nat} {σ : Lambda.Shape} {xs : MethodName} {spc si idx count n mi d' a maxL : Nat} {D : ClassFile} {F : Method} {laid : Array Field × Array FieldType × Array FieldType} {bytes : ByteArray} {z vi : Bool} {fi : Nat → Nat} {ff : Nat → Field} {y xi : MethodName} {vals : List Value} {x : Int32} {b : ByteArray} {rt : Option FieldType}
    (hj : j < 11) (hfile : sFile (sSiteW j) σ xs spc si D F laid bytes z fi ff n mi y vi) (ha : M.2.2.2 a = some (sLam j vals)) (hn : vals.length = n)
    (hxi : xi.cls = σ.iface ∧ xi.name = σ.name ∧ xi.desc = σ.sam.toString) (hxm : xi.cls ≠ "java/lang/invoke/MethodHandle" ∧ xi.cls ≠ "java/lang/invoke/VarHandle") (hxp : (parseMethodDescriptor xi.desc).map (fun q => q.parameters.length) = some 1) (hdecl : Cond.declares xi ∈ sNW) (hlink : Cond.methodLink own idx xi ∈ lw_all)
    (hym : y.cls ≠ "java/lang/invoke/MethodHandle" ∧ y.cls ≠ "java/lang/invoke/VarHandle") (hyp : (parseMethodDescriptor y.desc).map (fun q => q.parameters.length) = some (if vi = true then n else n + 1))
    (hcode : Cond.code y b maxL rt ∈ lw_all) (hini : Cond.initialized y.cls ∈ lw_all)
    (hk : (vi = true ∧ (∃ (c0 : Nat) (fs : List Value) (vals' : List Value), vals = .ref c0 :: vals' ∧ M.2.2.2 c0 = some (sObj 0 fs)) ∧ Cond.instanceMethod y ∈ lw_all ∧ Cond.selects RX0 y y ∈ lw_all) ∨ (vi = false ∧ Cond.static y ∈ lw_all))
    (hEv : sEv l G y (ws_ y b maxL rt) d' (vals ++ [.int x]) M o1) (hd' : d' + 2 ≤ d) (hmx : maxL ≤ 45) (hst : st0 = .int x :: .ref a :: st) (hrm : (st.map fun v => v.category).sum ≤ 8) (hd : decode cc pc = .ok (.invokeinterface idx count, 5))
    (kk : ∀ v M1, AW l G own nm cc mL ret hh d (pc + 5) L (.int v :: st) M1 (K v M1)) : AW l G own nm cc mL ret hh d pc L st0 M (sCallL z o1 K) := by
  intro r M' ho
  obtain ⟨hw, hS, hF, hMr, i1, i2, i3, i4, d1, d2, d3, hxs⟩ := hfile
  unfold sCallL at ho
  split at ho
  case h_2 => cases ho
  rename_i v M1
  split at ho
  case isFalse => cases ho
  rename_i hz
  obtain ⟨hm1, hMet⟩ := hEv _ _ rfl
  obtain ⟨b1, b2, b3⟩ := hm1
  obtain ⟨hm2, kk⟩ := kk v M1 r M' ho
  obtain ⟨c1, c2, c3⟩ := hm2
  refine ⟨⟨c1.trans b1, Nat.le_trans b2 c2, Nat.le_trans b3 c3⟩, fun p e R s m args below meth c H locs k n9 ls hE hM hSS hl g1 g2 => ?_⟩
  subst hst
  obtain ⟨hx9, hb9, hml, hrt, hlk, hown, hmn, hts, hex, hfr, hlo, hK⟩ := hE
  have hE : sEnv G M.1 own nm cc mL ret hh d p R s m args meth c := ⟨hx9, hb9, hml, hrt, hlk, hown, hmn, hts, hex, hfr, hlo, hK⟩
  have hcell : H[a]? = some { cls := G.2.2.1 j, slots := vals.toArray, vm := .none } := hM.2.2 a _ ha
  have hmade := hK.2.2.2.2.2.2 j hj
  rw [hw] at hmade
  obtain ⟨m1, hm1, md⟩ := md_of hts hS (State.WarmedH.refl s) hmade
  have hmade0 := hmade
  obtain ⟨m2, k2, cf, i0, p0, hm2, hk2, hcf, hsh, hfind, hmd, hcall, ifc, kI, hi1, hi2, hi3⟩ := hmade
  obtain ⟨kc, tk, file, methk, ck, tc, ic, target, fnd, q1, q2, -, -, q3, q4, q5, q6, q7, q8, -, -, -, -, -, -, -, -, q9, q10, q11, -⟩ := md
  cases hi1.symm.trans q9
  -- the interface's method
  obtain ⟨r0, rm, hr0, hrm0, hrst, hrsig⟩ := Cond.declares_spec (va_Nw.use (A := args) rfl (hK.2.2.2.2.1 _ hdecl))
  have hr0c : r0.cls = ifc := by
    have := findClass_of_methodNamed hr0
    rw [hxi.1] at this
    exact Option.some.inj (this.symm.trans hi1)
  have hr0f : fnd = r0 := by
    have := State.methodFound?_of_named hr0 hxm
    rw [hxi.1, hxi.2.1, hxi.2.2] at this
    simp only [State.methodFound?, hi1, hi2, hi3, Option.bind_eq_bind, Option.bind_some, q10] at this
    exact Option.some.inj this
  subst hr0f
  obtain ⟨hrn, hrd⟩ := name_of_methodNamed hr0 hrm0
  obtain ⟨i9, hi9, hasg, hway⟩ := State.lambdaCallable_spec hcall
  cases hi1.symm.trans hi9
  have hlen1 : rm.sig.parameters.length = 1 := by
    rw [hrsig] at hxp
    exact Option.some.inj hxp
  subst hn
  intro T hT X
  obtain ⟨vm₁, X₁, hstep⟩ := X.invokeinterface hx9 (own := own) (index := idx) (count := count) (x := xi) hown (hts _ hlink) hr0 hrm0 hrst (by rw [hr0c]; exact hi2) hi3 hxm (a := a) (by rw [hT]; exact hcell) (fun c h => by cases h) q1 (by rw [hr0c]; exact hasg) (by rw [Launch.admits_selectMethod X.admits]; exact q11) q3 (by rw [hrn, hrd, hxi.2.1, hxi.2.2]; exact hway) (by rw [q8]; decide) (by simp [Method.isAbstract, q8, hasFlag, Acc.abstract]) (g := F0 m pc ls (.int x :: .ref a :: st)) rfl (argsL := [.int x]) (rest := st) (by rw [hlen1]; rfl) rfl (by rw [hb9]; exact hd)
  have hadm := X₁.admits
  obtain ⟨m3, hm3, md1⟩ := md_of (U := T.setVm vm₁) hts hS X₁.warmed hmade0
  cases hm1.symm.trans hm3
  have md1' := md1
  obtain ⟨kc1, tk1, file1, methk1, ck1, tc1, ic1, target1, fnd1, u1, u2, -, -, u3, u4, u5, u6, u7, u8, u9, -⟩ := md1
  have hcall9 := hid_call (P := fun H1 => ∃ st0 t1 : State, st0.heap = H ∧ H1 = t1.heap ∧ va_F (sA M1.1) st0 t1 ∧ sMod G s M1 H1) (B := M.1) (v := v) (x := x) (a := a) (rest := st) (ls := ls) (mk := ⟨G.2.2.1 j, 1⟩) (R' := ({ frames := d' + 1, cells := M1.2.1 - M.2.1, slots := M1.2.2.1 - M.2.2.1, locals := 8 + (maxL + 11) + (64 * d' + 3200) } : Room)) (mc := M1.2.1 - M.2.1) (ms := M1.2.2.1 - M.2.2.1) X₁ (show (T.setVm vm₁).heap = H from hT) (hl.1.trans hml.symm) (by rw [hb9]; exact hd) u3 u4 u7
    (State.plainMethod.of_name (fun k' hk' => by cases u1.symm.trans hk'; rw [u2, hxs]; decide)) u6 (by show d' + 1 + 1 ≤ _; omega) (by rw [u6]; show _ + (2 + 11) + (8 + (maxL + 11) + (64 * d' + 3200)) ≤ _; omega) rfl rfl (by omega) (by omega) ?_
  · obtain ⟨T', L9, X', hfree, ⟨st0, t1, e0, e1, e2, e3⟩, hst9⟩ := hcall9
    obtain ⟨k1, k2', k3⟩ := vq_keep (free := sA M.1) e0 e1 hSS (fun q _ h => h) (fun q h => h) hfree (by rw [← b1]; exact e2)
    have g := kk p e R s m args below meth c T'.heap (locs ++ L9) (k + (M1.2.1 - M.2.1)) (n9 + (M1.2.2.1 - M.2.2.1)) ls (by rw [b1]; exact hE) e3 (by rw [b1]; exact k3) hl (by omega) (by omega)
    have x1 : k + (M1.2.1 - M.2.1) + (M'.2.1 - M1.2.1) = k + (M'.2.1 - M.2.1) := by omega
    have x2 : n9 + (M1.2.2.1 - M.2.2.1) + (M'.2.2.1 - M1.2.2.1) = n9 + (M'.2.2.1 - M.2.2.1) := by omega
    rw [x1, x2, b1] at g
    obtain ⟨t2, a1, a2⟩ := g T' rfl X'
    refine ⟨t2, hstep _ fun acts => ?_, a2⟩
    exact (hst9 acts).trans a1
  · intro sh hsh hvm
    have hws0 : s.WarmedH sh.vm := by rw [hvm]; exact X₁.warmed
    have hWs : ∀ vm', sh.WarmedH vm' → s.WarmedH vm' := fun vm' h => State.WarmedH.trans hws0 h
    have hpay : ∀ w ∈ ws_ y b maxL rt, ∀ (a' : Array Value) (U : State), sh.WarmedH U.vm → w.before a' U = true := fun w hw a' U hU => pay_in hts (lw_meth hcode) w hw a' U (hWs _ hU)
    have hall : ∀ w ∈ lw_all, ∀ (a' : Array Value) (U : State), sh.WarmedH U.vm → w.before a' U = true := fun w hw => hpay w (List.mem_cons_of_mem _ hw)
    have hmdv : ∀ vm', sh.WarmedH vm' → md_in vm' σ m1.cls (G.2.2.1 j) xs.cls D laid bytes (some (if z = true then .boolean else .int)) := fun vm' h => by
      obtain ⟨m4, hm4, md4⟩ := md_of (U := s.setVm vm') hts hS (hWs vm' h) hmade0
      cases hm1.symm.trans hm4
      exact md4
    obtain ⟨t, ht⟩ := Cond.code_named (hpay _ List.mem_cons_self args sh (State.WarmedH.refl sh))
    have htv : ∀ vm', sh.WarmedH vm' → (sh.setVm vm').methodNamed? y = some t := fun vm' h => by
      rw [State.methodNamed?_setVm h.alike y]
      exact ht
    have hB : vq_Back l ({ frames := d' + 1, cells := M1.2.1 - M.2.1, slots := M1.2.2.1 - M.2.2.1, locals := 8 + (maxL + 11) + (64 * d' + 3200) } : Room) p e (.java (F0 m pc ls st) :: below) sh #[.ref a, .int x] y 3 8 (PreOf ({ frames := d' + 1, cells := M1.2.1 - M.2.1, slots := M1.2.2.1 - M.2.2.1, locals := 8 + (maxL + 11) + (64 * d' + 3200) } : Room) (M1.2.1 - M.2.1) (M1.2.2.1 - M.2.2.1) (sPc G M (vals ++ [.int x]))) (PostOf (sQ G (.inl (some (.int v))) M1) (M1.2.1 - M.2.1) (M1.2.2.1 - M.2.2.1) (sA M.1)) (vq_Post (sX G (.inl (some (.int v))) M1) (M1.2.1 - M.2.1) (M1.2.2.1 - M.2.2.1) (sA M.1)) :=
      vq_back (bytes := b) (maxL := maxL) (ret := rt) hMet (sPc_blind _) rfl rfl (Nat.le_refl _) (Nat.le_refl _) hpay List.mem_cons_self (fun a' U hU => hall _ hini a' U hU)
    have hpre : ∀ U : State, U.heap = H → sh.WarmedH U.vm → sPc G M (vals ++ [.int x]) (vals ++ [Value.int x]).toArray U := fun U hU hW => by
      refine ⟨rfl, ?_, ?_⟩
      · rw [hU]; exact hM.moved (hWs _ hW).alike
      · rw [hU]; exact (hK.warm (hWs _ hW)).kept hSS.2.1
    have hcode9 : ∀ vm', sh.WarmedH vm' → ∃ metht, vm'.method? t = some metht ∧ parseMethodDescriptor y.desc = some metht.sig := fun vm' h => by
      obtain ⟨metht, cc9, w1, -, -, -, -, -, -, w2⟩ := Cond.code_spec (htv vm' h) (hpay _ List.mem_cons_self args (sh.setVm vm') h)
      exact ⟨metht, w1, w2⟩
    refine hid_loads (vals := vals) (cellK := { cls := G.2.2.1 j, slots := vals.toArray, vm := .none }) hx9 u5 hcell (fun q => by cases q) fi ff (fun i hi => ⟨(hF i hi).1, (hF i hi).2.1⟩) (fun i hi => ⟨fun vm' h => ?_, (hF i hi).2.2.2.2⟩) rfl ?_ vals.length 0 (by omega)
    · obtain ⟨-, -, ⟨a9, b9, fname, fdesc, y1, y2, y3⟩, y4, -⟩ := hF i hi
      exact md_field (hmdv vm' h) y1 y2 y3 y4
    · refine lv_iload_n hx9 u5 d1 rfl rfl ?_
      refine hid_fin (rt := some (if z = true then .boolean else .int)) hx9 u5 u9 u7 ?_ hWs d3 (av := (vals ++ [Value.int x]).toArray) ?_
      · cases z with
        | true =>
          refine Or.inr ⟨rfl, ?_⟩
          rcases hz with h | h | h
          · cases h
          · subst h; rfl
          · subst h; rfl
        | false => exact Or.inl rfl
      · have hfits : (0 : Nat) + (M1.2.1 - M.2.1) ≤ M1.2.1 - M.2.1 ∧ (0 : Nat) + (M1.2.2.1 - M.2.2.1) ≤ M1.2.2.1 - M.2.2.1 := by omega
        rcases hk with ⟨hvi, ⟨c0, fs, vals', hv0, hc0⟩, hin, hse⟩ | ⟨hvi, hsta⟩
        · subst hvi
          subst hv0
          obtain ⟨cellB, g1', g2', g3'⟩ := va_recv hK.1 (hM.obj hc0) sC0.1 (q0 := 0) rfl
          have := wh_virt (meth := methk1) (As := vals' ++ [Value.int x]) (rest := ([] : List Value)) (b := c0) (H := H) (locs := []) (cells := 0) (slots := 0) (ls := #[.val (.ref a), .val (.int x)]) (m := ⟨G.2.2.1 j, 1⟩) hx9 u5 (by rw [u6]; rfl) d2 hB ht (fun vm' h => ?_) g1' (fun k h => by rw [h] at g2'; cases g2') (Nat.zero_le _) hpre hfits
          · simpa using this
          · obtain ⟨metht, w1, w2⟩ := hcode9 vm' h
            obtain ⟨ci, nt, nn, z1, z2, z3, z4, z5, z6⟩ := hMr
            obtain ⟨tk9, y1, y2, y3, y4, y5, y6⟩ := md_meth (U := sh.setVm vm') (hmdv vm' h) (htv vm' h) hym i1 i2 i3 i4 z1 z2 z3 z4 z5 z6
            obtain ⟨m9, meth9, s1, s2, s3, s4⟩ := Cond.instanceMethod_spec (hall _ hin args (sh.setVm vm') h)
            cases (htv vm' h).symm.trans s1
            cases w1.symm.trans s2
            obtain ⟨c8, r8, m8, p1, p2, p3, p4, -⟩ := Cond.selects_spec (hall _ hse args (sh.setVm vm') h)
            cases (htv vm' h).symm.trans p3
            have hf8 := State.methodFound?_of_named (htv vm' h) hym
            cases hf8.symm.trans p2
            have hc8 : c8 = cellB.cls := by
              have : (sh.setVm vm').vm.findClass RX0 = s.vm.findClass RX0 := (hWs vm' h).alike.findClass _ _
              exact Option.some.inj (p1.symm.trans (this.trans g3'))
            subst hc8
            have hpar : (vals' ++ [Value.int x]).length = metht.sig.parameters.length := by
              rw [w2] at hyp
              simp at hyp
              rw [List.length_append]
              simpa using hyp.symm
            exact ⟨tk9, tk9, metht, y4, fun U hU => by subst hU; exact y5, y1, w1, by simp [signaturePolymorphic, y2, hym.1, hym.2], s3, hpar, by rw [Launch.admits_selectMethod hadm]; exact p4, s4, y3⟩
        · subst hvi
          have := wh_stat (meth := methk1) (As := vals ++ [Value.int x]) (rest := ([] : List Value)) (H := H) (locs := []) (cells := 0) (slots := 0) (ls := #[.val (.ref a), .val (.int x)]) (m := ⟨G.2.2.1 j, 1⟩) hx9 u5 (by rw [u6]; rfl) d2 hB ht (fun vm' h => ?_) (Nat.zero_le _) hpre hfits
          · simpa using this
          · obtain ⟨metht, w1, w2⟩ := hcode9 vm' h
            obtain ⟨ci, nt, nn, z1, z2, z3, z4, z5, z6⟩ := hMr
            obtain ⟨tk9, y1, y2, y3, y4, y5, y6⟩ := md_meth (U := sh.setVm vm') (hmdv vm' h) (htv vm' h) hym i1 i2 i3 i4 z1 z2 z3 z4 z5 z6
            have hst9 := Cond.static_spec (htv vm' h) w1 (hall _ hsta args (sh.setVm vm') h)
            have hin9 := Cond.initialized_spec (findClass_of_methodNamed (htv vm' h)) y1 (hall _ hini args (sh.setVm vm') h)
            have hpar : (vals ++ [Value.int x]).length = metht.sig.parameters.length := by
              rw [w2] at hyp
              simp at hyp
              rw [List.length_append]
              simpa using hyp.symm
            exact ⟨tk9, metht, y4, fun U hU => by subst hU; exact y6 e, y1, w1, by simp [signaturePolymorphic, y2, hym.1, hym.2], hst9, hpar, hin9⟩
end RCL
