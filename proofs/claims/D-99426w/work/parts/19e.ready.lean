/-! what is resolved in a made class -/
set_option maxRecDepth 100000
theorem md_field {vm : Vm} {σ : Lambda.Shape} {d c : ClassId} {own : String} {D : ClassFile} {laid : Array Field × Array FieldType × Array FieldType} {bytes : ByteArray} {rt : Option FieldType} (md : md_in vm σ d c own D laid bytes rt) {fi a b i : Nat} {fname fdesc : String} {f : Field} (h1 : D.constantPool[fi]? = some (.fieldref a b)) (h2 : D.constantPool.nameAndType? b = some (fname, fdesc)) (h3 : laid.1.findIdx? (·.name == fname) = some i) (h4 : laid.1[i]? = some f) : vm.fieldReady c fi c f := by
  obtain ⟨k, tk, file, methk, ck, tc, ic, target, fnd, c1, -, -, -, -, -, -, -, -, -, -, -, hf, hr, -⟩ := md
  exact ⟨k, i, k, c1, hr fi _ (Lambda.resolvedOf_field h1 h2 h3), c1, hf i f h4⟩
/-- the target is the method of that name -/
theorem md_meth {U : State} {σ : Lambda.Shape} {d c : ClassId} {own : String} {D : ClassFile} {laid : Array Field × Array FieldType × Array FieldType} {bytes : ByteArray} {rt : Option FieldType} (md : md_in U.vm σ d c own D laid bytes rt) {y : MethodName} {t : MethodId} (hn : U.methodNamed? y = some t) (hy : y.cls ≠ "java/lang/invoke/MethodHandle" ∧ y.cls ≠ "java/lang/invoke/VarHandle")
    (e1 : σ.implClass = y.cls) (e2 : σ.implName = y.name) (e3 : σ.implDesc.toString = y.desc) (hni : σ.implItf = false) {mi ci nt n : Nat} (h1 : D.constantPool[mi]? = some (.methodref ci nt)) (h2 : D.constantPool.className? ci = some y.cls) (h3 : D.constantPool.nameAndType? nt = some (y.name, y.desc)) (h4 : D.constantPool[ci]? = some (.class_ n)) (h5 : D.constantPool.string? n = some y.cls) (h6 : ci ≠ D.thisClass) :
    ∃ tk : Class, U.vm.classes[t.cls]? = some tk ∧ tk.name = y.cls ∧ tk.isInterface = false ∧ U.vm.methodReady c mi t ∧ namesAClass U c mi ∧ ∀ e : Env, plainRef U e c mi := by
  obtain ⟨k, tk, file, methk, ck, tc, ic, target, fnd, c1, -, c3, c4, -, -, -, -, -, -, -, -, hf, hr, c5, c6, c7, c8, -⟩ := md
  have hfound := State.methodFound?_of_named hn hy
  have hcls := findClass_of_methodNamed hn
  rw [e1] at c5
  cases hcls.symm.trans c5
  obtain ⟨k9, hk9, hname⟩ := className_of_methodNamed hn
  cases hk9.symm.trans c6
  have htgt : target = t := by
    rw [e2, e3] at c7
    simp only [State.methodFound?, hcls, hk9, Option.bind_eq_bind, Option.bind_some, c7] at hfound
    exact Option.some.inj hfound
  subst htgt
  have hi : tk.isInterface = false := c8.trans hni
  have hmr : U.vm.methodReady c mi target := ⟨k, c1, hr mi _ (Lambda.resolvedOf_method h1 h2 c5 c6 h3 (by rw [← e2, ← e3]; exact c7))⟩
  have hcr : U.vm.classReady c ci target.cls := ⟨k, c1, hr ci _ (Lambda.resolvedOf_class h4 h6 h5 c5)⟩
  refine ⟨tk, hk9, hname, hi, hmr, ⟨k, file, ci, nt, target.cls, tk, c1, c3, by rw [c4]; exact h1, hcr, hk9, hi⟩, fun e => ?_⟩
  obtain ⟨b, hb⟩ := memberRef_ask' (e := e) (vm := U.vm) (d := c) (index := mi) c1 c3 (Or.inl (by rw [c4]; exact h1)) (by rw [c4]; exact h3)
  refine ⟨ci, y.name, y.desc, b, target.cls, tk, hb, hcr, hk9, ?_⟩
  have hp : ∀ z, signaturePolymorphic tk z = false := fun z => by simp [signaturePolymorphic, hname, hy.1, hy.2]
  simp [hp]
section RHid2
variable {p : Program} {l : Launch} {e : Env} {R : Room} {s : State} {m : MethodId} {args : Array Value} {below : List Frame} {meth : Method} {c : Code} {H : Heap} {locs : List Loc} {cells slots : Nat} {Q : State → Prop}
/-- the captured values, one by one, onto the stack -/
theorem hid_loads {bytes : ByteArray} {a : Nat} {x : Int32} {cellK : Cell} {vals : List Value} (hexec : p.tables.exec = Jvm.exec) (hb : c.code = bytes) (hcell : H[a]? = some cellK) (hkn : cellK.vm ≠ .unknown) (fi : Nat → Nat) (ff : Nat → Field)
    (hdec : ∀ i, i < vals.length → decode bytes (4 * i) = .ok (.aload_n 0, 1) ∧ decode bytes (4 * i + 1) = .ok (.getfield (fi i), 3)) (hf : ∀ i, i < vals.length → (∀ vm', s.WarmedH vm' → vm'.fieldReady m.cls (fi i) m.cls (ff i)) ∧ (ff i).isStatic = false ∧ (ff i).slot = i) (hsl : cellK.slots = vals.toArray)
    (kk : W p l e R s m args below meth c H locs cells slots Q (F0 m (4 * vals.length) #[.val (.ref a), .val (.int x)] vals.reverse)) : ∀ k i, i + k = vals.length → W p l e R s m args below meth c H locs cells slots Q (F0 m (4 * i) #[.val (.ref a), .val (.int x)] (vals.take i).reverse) := by
  intro k
  induction k with
  | zero =>
    intro i hi
    have : i = vals.length := by omega
    subst this
    rw [List.take_length]
    exact kk
  | succ k ih =>
    intro i hi
    have hlt : i < vals.length := by omega
    obtain ⟨d1, d2⟩ := hdec i hlt
    obtain ⟨f1, f2, f3⟩ := hf i hlt
    refine lv_aload_n (x := a) hexec hb d1 rfl rfl ?_
    refine wh_get hexec hb d2 f1 f2 hcell hkn (v := vals[i]) (by rw [f3, hsl]; simp [hlt]) ?_
    have g := ih (i + 1) (by omega)
    rw [List.take_succ_eq_append_getElem hlt, List.reverse_append] at g
    exact g
end RHid2
