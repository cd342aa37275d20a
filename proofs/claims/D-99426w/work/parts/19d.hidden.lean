/-! a call of a lambda's object: the walk of the made class's method -/
set_option maxRecDepth 100000
section RHid
variable {p : Program} {l : Launch} {e : Env} {R : Room} {s : State} {m : MethodId} {args : Array Value} {below : List Frame} {meth : Method} {c : Code} {H : Heap} {locs : List Loc} {cells slots : Nat} {Q : State → Prop}
theorem wh_get {cc : ByteArray} {pc i a : Nat} {f : Field} {cell : Cell} {v : Value} {ls : Array Slot} {st : List Value} (hexec : p.tables.exec = Jvm.exec) (hb : c.code = cc) (hd : decode cc pc = .ok (.getfield i, 3)) (hf : ∀ vm', s.WarmedH vm' → vm'.fieldReady m.cls i m.cls f) (hst : f.isStatic = false) (hcell : H[a]? = some cell) (hkn : cell.vm ≠ .unknown) (hv : cell.slots[f.slot]? = some v)
    (kk : W p l e R s m args below meth c H locs cells slots Q (F0 m (pc + 3) ls (v :: st))) : W p l e R s m args below meth c H locs cells slots Q (F0 m pc ls (.ref a :: st)) := by
  intro T hT X
  obtain ⟨t, h1, h2⟩ := kk T hT X
  refine ⟨t, ?_, h2⟩
  jvm_step X.here [hexec, hb, hd, getfield.wp_ready (e := e) (s := T) (c := m.cls) (field := f) (a := a) (rest := st) (cell := cell) (v := v) (f := { method := m, pc := pc, locals := ls, stack := .ref a :: st, locked := none }) X.here.top (hf _ X.warmed) hst rfl (by rw [hT]; exact hcell) hkn hv]
  intros
  exact h1
theorem wh_virt {y : MethodName} {cc : ByteArray} {pc i mc ms b : Nat} {Pc : Array Value → State → Prop} {Qc : Array Value → State → Outcome → State → Prop} {XC : Nat → String → State → State → Prop} {free : Addr → Prop} {ls : Array Slot} {As rest : List Value} {cell : Cell} {t : MethodId}
    (hexec : p.tables.exec = Jvm.exec) (hb : c.code = cc) (hsize : ls.size = c.maxLocals) (hd : decode cc pc = .ok (.invokevirtual i, 3)) (hK : vq_Back l R p e below s args y 3 8 (PreOf R mc ms Pc) (PostOf Qc mc ms free) (vq_Post XC mc ms free))
    (hn : s.methodNamed? y = some t) (hfacts : ∀ vm', s.WarmedH vm' → ∃ (k k2 : Class) (metht : Method), vm'.methodReady m.cls i t ∧ (∀ U : State, U.vm = vm' → namesAClass U m.cls i) ∧ vm'.classes[t.cls]? = some k ∧ vm'.method? t = some metht ∧ signaturePolymorphic k metht = false ∧ metht.isStatic = false ∧ As.length = metht.sig.parameters.length ∧ selectMethod e.platform vm' cell.cls t = .method t ∧ metht.isAbstract = false ∧ k.isInterface = false)
    (hcell : H[b]? = some cell) (hobj : ∀ k, cell.vm ≠ .statics k) (hW : (rest.map fun v => v.category).sum ≤ 8) (hpre : ∀ U : State, U.heap = H → s.WarmedH U.vm → Pc (Value.ref b :: As).toArray U) (hf : cells + mc ≤ R.cells ∧ slots + ms ≤ R.slots) :
    vq_Run p l e R s m args below meth c H locs cells slots mc ms (F0 m pc ls (As.reverse ++ .ref b :: rest)) rest (Qc (Value.ref b :: As).toArray) XC free := by
  intro T hT X
  obtain ⟨k, k2, metht, f1, f2, f3, f4, f5, f6, f7, f8, f9, f10⟩ := hfacts _ X.warmed
  have hstep : ∀ target, (∀ acts, Steps p.tables e below (doInvoke e (T.setTop { method := m, pc := pc, locals := ls, stack := rest, locked := none }) acts t (Value.ref b :: As).toArray).1 target) → Steps p.tables e below (T.setTop (F0 m pc ls (As.reverse ++ .ref b :: rest))) target := by
    intro target hrest
    jvm_step X.here [hexec, hb, hd, invokevirtual.wp_ready (e := e) (s := T) (r := t) (m := t) (k := k) (mk := k) (rmeth := metht) (meth := metht) (a := b) (args := As) (rest := rest) (cell := cell) (f := { method := m, pc := pc, locals := ls, stack := As.reverse ++ .ref b :: rest, locked := none }) X.here.top (f2 T rfl) f1 f3 f4 f5 f6 f7 rfl (by rw [hT]; exact hcell) hobj f8 f4 f9 f3 f10]
    intro acts
    exact hrest acts
  rcases hK m meth c ⟨T, locs, cells, slots⟩ (F0 m pc ls rest) (.invokevirtual i) t (Value.ref b :: As).toArray X rfl hsize (by rw [hb]; exact hd) (by show 2 * 0 + (rest.map fun v => v.category).sum ≤ 8; omega) (X.named hn) ⟨hf.1, hf.2, hpre T hT X.warmed⟩ with ⟨v, ⟨U', l2, c2, s2⟩, X', ⟨g', mk, t9, L, e1, e2, hq, h1, hL, h2, h3⟩, st⟩ | ⟨q, ⟨U', l2, c2, s2⟩, X', ⟨g', mk, t9, L, E, ce, e1, e2, hq, hce, hcv, hcl, h1, hL, h2, h3⟩, st⟩
  · dsimp only [Pt.U, Pt.locs, Pt.cells, Pt.slots] at X' e1 e2 h1 h2 h3 st
    subst h1; subst h2; subst h3
    exact Or.inl ⟨v, T.calling g' mk (Value.ref b :: As).toArray, t9, U', L, hT, X', hL, e1, e2, hq, fun target h => hstep _ fun acts => by rw [doInvoke_state]; exact st.trans h⟩
  · dsimp only [Pt.U, Pt.locs, Pt.cells, Pt.slots] at X' e1 e2 h1 h2 h3 st hcl
    subst h1; subst h2; subst h3
    exact Or.inr ⟨q, T.calling g' mk (Value.ref b :: As).toArray, t9, U', L, E, ce, hT, X', hL, e1, e2, hq, hce, hcv, vq_cls X.warmed hcl, hstep _ fun acts => by rw [doInvoke_state]; exact st⟩
theorem wh_stat {y : MethodName} {cc : ByteArray} {pc i mc ms : Nat} {Pc : Array Value → State → Prop} {Qc : Array Value → State → Outcome → State → Prop} {XC : Nat → String → State → State → Prop} {free : Addr → Prop} {ls : Array Slot} {As rest : List Value} {t : MethodId}
    (hexec : p.tables.exec = Jvm.exec) (hb : c.code = cc) (hsize : ls.size = c.maxLocals) (hd : decode cc pc = .ok (.invokestatic i, 3)) (hK : vq_Back l R p e below s args y 3 8 (PreOf R mc ms Pc) (PostOf Qc mc ms free) (vq_Post XC mc ms free))
    (hn : s.methodNamed? y = some t) (hfacts : ∀ vm', s.WarmedH vm' → ∃ (k : Class) (metht : Method), vm'.methodReady m.cls i t ∧ (∀ U : State, U.vm = vm' → plainRef U e m.cls i) ∧ vm'.classes[t.cls]? = some k ∧ vm'.method? t = some metht ∧ signaturePolymorphic k metht = false ∧ metht.isStatic = true ∧ As.length = metht.sig.parameters.length ∧ k.init = .initialized)
    (hW : (rest.map fun v => v.category).sum ≤ 8) (hpre : ∀ U : State, U.heap = H → s.WarmedH U.vm → Pc As.toArray U) (hf : cells + mc ≤ R.cells ∧ slots + ms ≤ R.slots) :
    vq_Run p l e R s m args below meth c H locs cells slots mc ms (F0 m pc ls (As.reverse ++ rest)) rest (Qc As.toArray) XC free := by
  intro T hT X
  obtain ⟨k, metht, f1, f2, f3, f4, f5, f6, f7, f8⟩ := hfacts _ X.warmed
  have hstep : ∀ target, (∀ acts, Steps p.tables e below (doInvoke e (T.setTop { method := m, pc := pc, locals := ls, stack := rest, locked := none }) acts t As.toArray).1 target) → Steps p.tables e below (T.setTop (F0 m pc ls (As.reverse ++ rest))) target := by
    intro target hrest
    jvm_step X.here [hexec, hb, hd, invokestatic.wp_ready (e := e) (s := T) (m := t) (k := k) (meth := metht) (args := As) (rest := rest) (f := { method := m, pc := pc, locals := ls, stack := As.reverse ++ rest, locked := none }) X.here.top (f2 T rfl) f1 f3 f4 f5 f6 f8 f7 rfl]
    intro acts
    exact hrest acts
  rcases hK m meth c ⟨T, locs, cells, slots⟩ (F0 m pc ls rest) (.invokestatic i) t As.toArray X rfl hsize (by rw [hb]; exact hd) (by show 2 * 0 + (rest.map fun v => v.category).sum ≤ 8; omega) (X.named hn) ⟨hf.1, hf.2, hpre T hT X.warmed⟩ with ⟨v, ⟨U', l2, c2, s2⟩, X', ⟨g', mk, t9, L, e1, e2, hq, h1, hL, h2, h3⟩, st⟩ | ⟨q, ⟨U', l2, c2, s2⟩, X', ⟨g', mk, t9, L, E, ce, e1, e2, hq, hce, hcv, hcl, h1, hL, h2, h3⟩, st⟩
  · dsimp only [Pt.U, Pt.locs, Pt.cells, Pt.slots] at X' e1 e2 h1 h2 h3 st
    subst h1; subst h2; subst h3
    exact Or.inl ⟨v, T.calling g' mk As.toArray, t9, U', L, hT, X', hL, e1, e2, hq, fun target h => hstep _ fun acts => by rw [doInvoke_state]; exact st.trans h⟩
  · dsimp only [Pt.U, Pt.locs, Pt.cells, Pt.slots] at X' e1 e2 h1 h2 h3 st hcl
    subst h1; subst h2; subst h3
    exact Or.inr ⟨q, T.calling g' mk As.toArray, t9, U', L, E, ce, hT, X', hL, e1, e2, hq, hce, hcv, vq_cls X.warmed hcl, hstep _ fun acts => by rw [doInvoke_state]; exact st⟩
end RHid
