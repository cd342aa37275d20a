/-! what the class of a lambda's object holds, and its one method's walk -/
set_option maxRecDepth 100000
/-- the parts of a made class that a call of its object needs -/
def md_in (vm : Vm) (σ : Lambda.Shape) (d c : ClassId) (own : String) (D : ClassFile) (laid : Array Field × Array FieldType × Array FieldType) (bytes : ByteArray) (rt : Option FieldType) : Prop :=
  ∃ (k tk : Class) (file : ClassFile) (methk : Method) (ck : Code) (tc ic : ClassId) (target fnd : MethodId),
    vm.classes[c]? = some k ∧ k.name = own ++ "$$Lambda" ∧ k.cf = some file ∧ file.constantPool = D.constantPool ∧
    vm.method? ⟨c, 1⟩ = some methk ∧ methk.code = some ck ∧ ck.code = bytes ∧ ck.maxLocals = 2 ∧ methk.locks = false ∧ methk.accessFlags = 0x0001 ∧ methk.sig.returnType = rt ∧
    k.instanceTypes = laid.2.1 ∧ (∀ (i : Nat) a, laid.1[i]? = some a → k.fields[i]? = some a) ∧ (∀ (i : Nat) x, (Lambda.resolvedOf { classPath := fun _ => none } vm D laid.1 c)[i]? = some (some x) → k.resolved[i]? = some (some x)) ∧
    vm.findClass σ.implClass = some tc ∧ vm.classes[tc]? = some tk ∧ ((methodIn tc σ.implName σ.implDesc.toString tk.isInterface none).ask { classPath := fun _ => none } vm).1 = .ok target ∧ tk.isInterface = σ.implItf ∧
    vm.findClass σ.iface = some ic ∧ ((methodIn ic σ.name σ.sam.toString true none).ask { classPath := fun _ => none } vm).1 = .ok fnd ∧ selectMethod {} vm c fnd = .method ⟨c, 1⟩ ∧ k.kind = .ordinary ∧ k.accessFlags = D.accessFlags
theorem md_facts {vm : Vm} {σ : Lambda.Shape} {d c : ClassId} {own : String} {D : ClassFile} {F : Method} {laid : Array Field × Array FieldType × Array FieldType} {bytes : ByteArray} {rt : Option FieldType} {dk : Class}
    (hfile : σ.file own = some D) (hsec : (layoutMethods D).bind (·[1]?) = some F) (hlaid : layoutFields D 0 = some laid) (hcode : (F.code.map fun c => (c.code.data, c.maxLocals)) = some (bytes.data, 2)) (hflags : (F.accessFlags, F.sig.returnType) = (0x0001, rt))
    (hd : vm.classes[d]? = some dk) (hname : dk.name = own) (h : Lambda.isMade { classPath := fun _ => none } vm d σ c = true) (hO : ∀ o ok, vm.findClass "java/lang/Object" = some o → vm.classes[o]? = some ok → ok.instanceTypes.size = 0) : md_in vm σ d c own D laid bytes rt := by
  obtain ⟨dk', k, ok, tk, file, cf, object, iface, t, lay, methods, target, found, hd', hk, hf, hcf, hobj, hif, hok, hlay, hms, ht, htk, hg, hfound, hrec, -, -, -, hitf, hpool, hmeth, hfields, htypes, hres, hsel⟩ := Lambda.isMade_spec h
  cases hd.symm.trans hd'
  rw [hname, hfile] at hcf
  cases hcf
  have ho0 := hO object ok hobj hok
  rw [ho0, hlaid] at hlay
  cases hlay
  have h1 : methods[1]? = some F := by
    rw [hms] at hsec
    exact hsec
  obtain ⟨b, hb, hsame⟩ := hmeth 1 F h1
  obtain ⟨s1, s2, s3, s4, x, y, hx, hy, s5, s6, s7, s8⟩ := Lambda.sameMethod_spec hsame
  simp only [Prod.mk.injEq] at hflags
  rw [hx] at hcode
  simp only [Option.map_some, Option.some.injEq, Prod.mk.injEq] at hcode
  have hot : ok.instanceTypes = #[] := Array.eq_empty_of_size_eq_zero ho0
  refine ⟨k, tk, file, b, y, t, iface, target, found, hk, by rw [hrec.1, hname], hf, hpool.2.1, by simp [Vm.method?, hk, hb], hy, ?_, by rw [s6]; exact hcode.2, ?_, by rw [s4]; exact hflags.1, by rw [s3]; exact hflags.2, ?_, hfields, hres, ht, htk, hg, hitf, hif, hfound, hsel, hrec.2.1, hrec.2.2.1⟩
  · rw [s7]
    exact ByteArray.ext hcode.1
  · simp [Method.locks, Method.isSynchronized, s4, hflags.1, hasFlag, Acc.synchronized]
  · rw [htypes.1, hot]
    simp
def sShp (σ : Lambda.Shape) (own : String) (D : ClassFile) (F : Method) (laid : Array Field × Array FieldType × Array FieldType) (bytes : ByteArray) (rt : Option FieldType) : Prop := σ.file own = some D ∧ (layoutMethods D).bind (·[1]?) = some F ∧ layoutFields D 0 = some laid ∧ (F.code.map fun c => (c.code.data, c.maxLocals)) = some (bytes.data, 2) ∧ (F.accessFlags, F.sig.returnType) = (0x0001, rt)
theorem md_of {s U : State} {args : Array Value} {x : MethodName} {pc i : Nat} {σ : Lambda.Shape} {c : ClassId} {D : ClassFile} {F : Method} {laid : Array Field × Array FieldType × Array FieldType} {bytes : ByteArray} {rt : Option FieldType} (hts : ∀ w ∈ lw_all, w.before args s = true) (hS : sShp σ x.cls D F laid bytes rt) (hW : s.WarmedH U.vm) (hm : sMade c s (.lambdaSite x pc i σ)) :
    ∃ m, s.methodNamed? x = some m ∧ md_in U.vm σ m.cls c x.cls D laid bytes rt := by
  have hm0 := hm
  obtain ⟨m, k, cf, i0, p0, hm', -⟩ := hm
  refine ⟨m, hm', ?_⟩
  obtain ⟨m2, k2, cf2, i02, p02, hm2, hk2, hcf2, hsh2, hfind2, hmade2, hcall2, -⟩ := sMade.warm hW hm0
  have e1 : U.methodNamed? x = some m := by
    have := State.methodNamed?_setVm (s := s) hW.alike x
    rw [hm'] at this
    exact this
  cases hm2.symm.trans e1
  obtain ⟨kn, hkn, hname⟩ := className_of_methodNamed hm2
  cases hk2.symm.trans hkn
  refine md_facts hS.1 hS.2.1 hS.2.2.1 hS.2.2.2.1 hS.2.2.2.2 hk2 hname hmade2 fun o ok ho hok => ?_
  obtain ⟨c3, k3, g1, g2, -, -, -, g6⟩ := Cond.instantiable_spec (hts _ q2048)
  rw [hW.alike.findClass] at ho
  cases g1.symm.trans ho
  obtain ⟨k4, hk4, he⟩ := hW.alike.2.2 _ _ g2
  cases hok.symm.trans hk4
  rw [he]
  exact g6

def sFitL : List FieldType → List Value → Prop
  | t :: ts, v :: vs => fits t v = true ∧ sFitL ts vs
  | _, _ => True
theorem sFitL_at : ∀ (ts : List FieldType) (vs : List Value), sFitL ts vs → ∀ (k : Nat) (t : FieldType) (v : Value), ts[k]? = some t → vs[k]? = some v → fits t v = true
  | [], _, _, k, t, v, h1, _ => by simp at h1
  | _ :: _, [], _, k, t, v, _, h2 => by simp at h2
  | a :: ts, b :: vs, h, 0, t, v, h1, h2 => by
    simp at h1 h2
    rw [← h1, ← h2]
    exact h.1
  | a :: ts, b :: vs, h, k + 1, t, v, h1, h2 => by
    rw [List.getElem?_cons_succ] at h1 h2
    exact sFitL_at ts vs h.2 k t v h1 h2
def sNewL (M : sMem) (j : Nat) (vs : List Value) (K : Nat → sMem → Option (sRes × sMem)) : Option (sRes × sMem) := K M.2.1 (sNew M (sLam j vs) vs.length)
theorem ml_three {α : Type} {x : Array Nat} {f : Nat → Nat → Nat → Option α} {r : α} (h : Lambda.shapeOf?.match_15 (fun _ => Option α) x f (fun _ => none) = some r) : ∃ a0 a1 a2, f a0 a1 a2 = some r := by
  cases x with
  | mk LL =>
  match LL, h with
  | [], h => cases h
  | [_], h => cases h
  | [_, _], h => cases h
  | [a, b, c], h => exact ⟨a, b, c, h⟩
  | _ :: _ :: _ :: _ :: _, h => cases h
theorem ml_site {cf : ClassFile} {i : Nat} {σ : Lambda.Shape} (hsh : Lambda.shapeOf? cf i = some σ) : ∃ (bsm nt : Nat) (name desc : String) (sig : MethodDescriptor), cf.constantPool[i]? = some (.invokeDynamic bsm nt) ∧ cf.constantPool.nameAndType? nt = some (name, desc) ∧ parseMethodDescriptor desc = some sig ∧ sig.parameters = σ.captured := by
  unfold Lambda.shapeOf? at hsh
  split at hsh
  · rename_i b nt he
    obtain ⟨entries, -, hsh⟩ := Option.bind_eq_some_iff.mp hsh
    obtain ⟨bm, -, hsh⟩ := Option.bind_eq_some_iff.mp hsh
    split at hsh
    · obtain ⟨_, -, hsh⟩ := Option.bind_eq_some_iff.mp hsh
      obtain ⟨x0, x1, x2, hsh⟩ := ml_three hsh
      split at hsh
      · split at hsh
        · split at hsh
          · obtain ⟨⟨name, desc⟩, hnt, hsh⟩ := Option.bind_eq_some_iff.mp hsh
            obtain ⟨site, hsite, hsh⟩ := Option.bind_eq_some_iff.mp hsh
            split at hsh
            · obtain ⟨⟨_, _, _, _⟩, -, hsh⟩ := Option.bind_eq_some_iff.mp hsh
              obtain ⟨_, -, hsh⟩ := Option.bind_eq_some_iff.mp hsh
              obtain ⟨_, -, hsh⟩ := Option.bind_eq_some_iff.mp hsh
              obtain ⟨_, -, hsh⟩ := Option.bind_eq_some_iff.mp hsh
              obtain ⟨_, -, hsh⟩ := Option.bind_eq_some_iff.mp hsh
              obtain ⟨_, -, hsh⟩ := Option.bind_eq_some_iff.mp hsh
              cases hsh
              exact ⟨b, nt, name, desc, site, he, hnt, hsite, rfl⟩
            · cases hsh
          · cases hsh
        · cases hsh
      · cases hsh
    · cases hsh
  · cases hsh
section RL
variable {l : Launch} {G : sG} {own : String} {nm : MethodName} {cc : ByteArray} {mL : Nat} {ret : Option FieldType} {hh : List (Nat × Nat × Nat × Nat)} {d pc pc' : Nat} {L L' : List (Option Value)} {st st0 st' : List Value} {M : sMem} {o o1 o2 : Option (sRes × sMem)}
theorem r_lam {j i : Nat} {σ : Lambda.Shape} {D : ClassFile} {F : Method} {laid : Array Field × Array FieldType × Array FieldType} {bytes : ByteArray} {rt : Option FieldType} {K : Nat → sMem → Option (sRes × sMem)} (tys : List FieldType) (vals : List Value) (hj : j < 11) (hw : sSiteW j = .lambdaSite nm pc i σ) (hS : sShp σ nm.cls D F laid bytes rt) (hty : laid.2.1.toList = tys) (hn : vals.length = σ.captured.length)
    (hnar : (tys.zip vals).map (fun q => narrow q.1 q.2) = vals) (hfit : sFitL tys vals) (hst : st0 = vals.reverse ++ st) (hrm : (st0.map fun v => v.category).sum ≤ 64) (hd : decode cc pc = .ok (.invokedynamic i, 5)) (kk : ∀ a M1, AW l G own nm cc mL ret hh d (pc + 5) L (.ref a :: st) M1 (K a M1)) : AW l G own nm cc mL ret hh d pc L st0 M (sNewL M j vals K) := by
  subst hst
  refine AW.alloc (fun p e9 R s m args below meth c H locs k9 n9 ls Q hE hM hS9 hl g1 g2 kk => ?_) (kk _ _)
  obtain ⟨hx9, hb9, hml, -, -, hown, hmn, hts, -, hfr, hlo, hK⟩ := hE
  have hmade := hK.2.2.2.2.2.2 j hj
  rw [hw] at hmade
  obtain ⟨m1, hm1, md⟩ := md_of hts hS (State.WarmedH.refl s) hmade
  obtain ⟨m2, k, cf, i0, p0, hm2, hk, hcf, hsh, hfind, -⟩ := hmade
  cases hm1.symm.trans hm2
  cases hmn.2.symm.trans hm2
  obtain ⟨kc, tk, file, methk, ck, tc, ic, target, fnd, c1, -, -, -, -, -, -, -, -, -, -, c2, -, -, -, -, -, -, -, -, -, c3, -⟩ := md
  obtain ⟨bsm, nt, name, desc, sig, a1, a2, a3, a4⟩ := ml_site hsh
  have a3 := parseLong_of_parse a3
  have hz : ((kc.instanceTypes.toList.zip vals).map fun (t, v) => narrow t v) = vals := by rw [c2, hty]; exact hnar
  intro T hT X
  have hmk := X.lambdaMakes hx9 (g := F0 m pc ls (vals.reverse ++ st)) rfl (hl.1.trans hml.symm) (by rw [hb9]; exact hd) hk hfind hcf a1 a2 a3 (by rw [a4]; exact hn) rfl c1
    (by rw [X.admits.platform]; show 2 * 0 + _ + 3072 ≤ _; have : ((F0 m pc ls (vals.reverse ++ st)).stack.map fun v => v.category).sum ≤ 64 := hrm; omega) g1 (by rw [hz]; exact g2) (fun q v hv => by
      rw [hz] at hv
      have hv : vals[q]? = some v := by simpa using hv
      have hlt : q < vals.length := (List.getElem?_eq_some_iff.mp hv).1
      have hlen : vals.length ≤ tys.length := by
        have := congrArg List.length hnar
        rw [List.length_map, List.length_zip] at this
        omega
      have ht : tys[q]? = some tys[q] := List.getElem?_eq_getElem (by omega)
      have hi : kc.instanceTypes[q]? = some tys[q] := by
        rw [c2, ← Array.getElem?_toList, hty]
        exact ht
      have hsl : s.slotType? (G.2.2.1 j) .none q = some tys[q] := by
        unfold State.slotType?
        rw [c1]
        simp only [Option.bind_eq_bind, Option.bind_some, c3]
        exact hi
      unfold State.fitsSlot
      rw [hsl]
      exact sFitL_at tys vals hfit q _ v ht hv)
  rw [hz] at hmk
  obtain ⟨X', hst'⟩ := hmk
  obtain ⟨t, ht1, ht2⟩ := kk (T.heap.push { cls := G.2.2.1 j, slots := vals.toArray, vm := .none }) (by rw [Array.size_push, hT]) (fun q hq => by rw [← hT] at hq; rw [Array.getElem?_push, if_neg (Nat.ne_of_lt hq), hT]) (by
      show (_ : Heap)[H.size]? = _
      rw [← hT, Array.getElem?_push_size]) _ rfl (by simpa using X')
  refine ⟨t, hst' _ ?_, ht2⟩
  rw [← hT] at ht1
  exact ht1
end RL
