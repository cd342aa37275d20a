/-! the law out of a walk over the abstract heap (the definitions began as the skeleton's) -/
set_option maxRecDepth 100000
def R_law : String := "SilkClerksLaw"
def lw_P (b : Addr) (xs : List Int32) (args : Array Value) (s : State) : Prop := args = #[.ref b] ∧ s.IntsAt b xs ∧ xs.length ≤ 384 ∧ (Jvm.Cond.and given_1 narrow_1).before args s = true
def lw_Q (_ : Array Value) (s : State) (o : Outcome) (t : State) : Prop := o = .returned (some (.int 1)) ∧ Framed s o t [] 1200128 5501098
def lw_Z (below : List Frame) (a : Array Value) (s : State) : State → Prop := fun t => ∃ o, t.status = .running ∧ Ended t below o ∧ lw_Q a s o t
/-- the law's own end, with 1 on the stack, nothing written that was there before, its room as the claim has it -/
theorem lw_ret {p : Program} {l : Launch} {e : Env} {s : State} {m : MethodId} {below : List Frame} {meth : Method} {c : Code} {b : Nat} (hx : p.tables.exec = Jvm.exec) (hb : c.code = code) (hr : meth.sig.returnType = ret) (hlocks : meth.locks = false) {pc : Nat} {H : Heap} {ls : Array Slot} (hdg : decode code pc = .ok (.ireturn, 1)) : W p l e room_1 s m #[Value.ref b] below meth c H [] 1200128 5501098 (lw_Z below #[Value.ref b] s) (F0 m pc ls [.int 1]) := by
  intro T hT X
  obtain ⟨fs, hret, hrun, hended, hW, hframe⟩ := X.leave (v := some (.int 1)) (hlocks := hlocks) (fun h => by rw [hr] at h; cases h)
  have hmeth' : T.vm.method? m = some meth := X.method'
  refine ⟨T.setFrames fs, ?_, .returned (some (.int 1)), hrun, hended, rfl, ⟨_, rfl⟩, hW, hframe⟩
  jvm_step X.here [X.here.top, hx, hb, hdg, hmeth', hr, ret, narrow_b1]
  (try refine ⟨rfl, ?_⟩); (try refine ⟨rfl, ?_⟩)
  first | (intro acts; rw [hret _ acts rfl rfl rfl]) | rw [hret _ _ rfl rfl rfl]
  exact Steps.refl _
/-- what holds at the law's entry: the machine, the code, the tables' words (any of lw_tbl by 'hts w (by decide +kernel)'), the script of L ints xs at the cell b, what the Statement gives of the start (any of its parts by flat_of_before) -/
def lw_At (p : Program) (s : State) (m : MethodId) (meth : Method) (c : Code) (b L : Nat) (xs : Nat → Int32) : Prop :=
  p.tables.exec = Jvm.exec ∧ c.code = code ∧ meth.sig.returnType = ret ∧ c.maxLocals = 4 ∧ s.vm.findClass R_law = some m.cls ∧ (∀ w ∈ lw_tbl, w.before #[Value.ref b] s = true) ∧ va_X b L xs s s.heap ∧ b < s.heap.size ∧ meth.locks = false ∧ (Jvm.Cond.and given_1 narrow_1).before #[Value.ref b] s = true ∧ s.methodNamed? x = some m ∧ s.vm.method? m = some meth ∧ c.exceptionTable.toList = []
abbrev RL : String := "SilkClerksLaw"
abbrev yL_law : MethodName := x
theorem whole_of {p : Program} {e : Env} {s : State} {m : MethodId} {below : List Frame} {meth : Method} {c : Code} (l : Launch) {b L : Nat} {xs : Nat → Int32} (C0 : lw_At p s m meth c b L xs) {G : sG} {M M' : sMem} {d : Nat} (hd : d ≤ 1500) (hK : sK G s.heap.size s s.heap) (hM : sMod G s M s.heap) (hB : M.1 = s.heap.size)
    (hAW : AW l G RL yL_law code 4 (some .boolean) [] d 0 [some (.ref b), none, none, none] [] M (some (.inl (some (.int 1)), M'))) (hc : M'.2.1 - M.2.1 ≤ 1200128) (hs : M'.2.2.1 - M.2.2.1 ≤ 5501098) : W p l e room_1 s m #[Value.ref b] below meth c s.heap [] 0 0 (lw_Z below #[Value.ref b] s) (entryFrame m ([Value.ref b] : List Value).toArray 4) := by
  obtain ⟨hx, hb, hr, hml, hown, hts, hX, hbl, hlocks, hgv, hnm, hmth, htab⟩ := C0
  obtain ⟨hm, kk⟩ := hAW _ _ rfl
  have hl := lv_entry ([.ref b]) (n := 4) (Nat.le_of_ble_eq_true rfl)
  rw [lg_entry_eq]
  generalize (lg_sl ([.ref b]) ++ List.replicate (4 - (lg_sl ([.ref b])).length) Slot.unset).toArray = ls at hl ⊢
  have hl : lv_has ls 4 (sL [some (.ref b), none, none, none]) := hl
  have g := kk p e room_1 s m #[Value.ref b] below meth c s.heap [] 0 0 ls ⟨hx, hb, hml, hr, hlocks, hown, ⟨(name_of_methodNamed hnm hmth).1, hnm⟩, fun w h => hts w (lw_all_tbl h), htab, by show d ≤ 8192; omega, by show 64 * d + 3200 ≤ 104096; omega, by rw [hB]; exact hK⟩ hM va_S.rf hl (by show 0 + _ ≤ 1200128; omega) (by show 0 + _ ≤ 5501098; omega)
  intro T hT X
  obtain ⟨t, st, o, hrun, hend, hq⟩ := g T hT X
  refine ⟨t, st, o, hrun, hend, ?_⟩
  rcases hq with ⟨⟨v, hv, ho, -⟩, L9, ⟨hret, hW, hsame⟩, hf⟩ | ⟨q, ho, E, ce, L9, ⟨hr9, -⟩, -⟩
  · cases hv
    refine ⟨ho, hret, hW, ?_⟩
    refine hsame.weaken (fun y hy hlt => ?_) (by omega) (by omega)
    have := hf y hy
    rw [hB] at this
    exact absurd hlt (Nat.not_lt.mpr this)
  · cases hr9
