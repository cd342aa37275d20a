/-! the made class's method: in, through, and out -/
set_option maxRecDepth 100000
section RHid3
variable {p : Program} {l : Launch} {e : Env} {R : Room} {s : State} {m : MethodId} {args : Array Value} {below : List Frame} {meth : Method} {c : Code} {H : Heap} {locs : List Loc} {cells slots : Nat} {Q : State → Prop}
def sQH (P : Heap → Prop) (v : Int32) : Array Value → State → Outcome → State → Prop := fun _ _ o t => o = .returned (some (.int v)) ∧ P t.heap
theorem hid_fin {bytes : ByteArray} {G : sG} {M1 : sMem} {B : Nat} {v : Int32} {rt : Option FieldType} {mc ms pcI : Nat} {ls : Array Slot} {st : List Value} {av : Array Value} {S0 : State} (hexec : p.tables.exec = Jvm.exec) (hb : c.code = bytes) (hrt : meth.sig.returnType = rt) (hlk : meth.locks = false)
    (hr : (rt = some .int) ∨ (rt = some .boolean ∧ narrow .boolean (.int v) = .int v)) (hS0 : ∀ vm', s.WarmedH vm' → S0.WarmedH vm') (hdr : decode bytes (pcI + 3) = .ok (.ireturn, 1))
    (hinv : vq_Run p l e R s m args below meth c H [] 0 0 mc ms (F0 m pcI ls st) [] (sQ G (.inl (some (.int v))) M1 av) (sX G (.inl (some (.int v))) M1) (sA B)) :
    W p l e R s m args below meth c H [] 0 0 (MQ below (sQH (fun H1 => ∃ st0 t1 : State, st0.heap = H ∧ H1 = t1.heap ∧ va_F (sA M1.1) st0 t1 ∧ sMod G S0 M1 H1) v) args s mc ms (sA B)) (F0 m pcI ls st) := by
  intro T hT X
  rcases hinv T hT X with ⟨v9, st₀, t, T', L9, h0, X', hL, e1, e2, ⟨v8, hr8, ho8, hM8, hF8⟩, stp⟩ | ⟨q, st₀, t, T', L9, E, ce, h0, X', hL, e1, e2, ⟨hr8, -⟩, -⟩
  · cases hr8
    cases ho8
    have hal : t.vm.Alike S0.vm := by
      have := (hS0 _ X'.warmed).alike.symm
      rw [e2] at this
      exact this
    have hM9 : sMod G S0 M1 T'.heap := by rw [e1]; exact hM8.moved hal
    have hk : W p l e R s m args below meth c T'.heap ([] ++ L9) (0 + mc) (0 + ms) (MQ below (sQH (fun H1 => ∃ st0 t1 : State, st0.heap = H ∧ H1 = t1.heap ∧ va_F (sA M1.1) st0 t1 ∧ sMod G S0 M1 H1) v) args s (0 + mc) (0 + ms) (sA B)) (F0 m (pcI + 3) ls [.int v]) := by
      have hq : ∀ t9 : State, t9.heap = T'.heap → s.WarmedH t9.vm → sQH (fun H1 => ∃ st0 t1 : State, st0.heap = H ∧ H1 = t1.heap ∧ va_F (sA M1.1) st0 t1 ∧ sMod G S0 M1 H1) v args s (.returned (some (.int v))) t9 := fun t9 h9 _ => ⟨rfl, st₀, t, h0, by rw [h9, e1], hF8, by rw [h9]; exact hM9⟩
      rcases hr with hr | ⟨hr, hn⟩
      · exact W.iret hexec hb (hrt.trans hr) hq (fun q hq => hL q (by simpa using hq)) hdr hlk
      · exact W.zret hexec hb (hrt.trans hr) hn hq (fun q hq => hL q (by simpa using hq)) hdr hlk
    obtain ⟨t2, a1, a2⟩ := hk T' rfl X'
    rw [Nat.zero_add, Nat.zero_add] at a2
    exact ⟨t2, stp t2 a1, a2⟩
  · cases hr8
theorem hid_call {T : State} {mc ms index count pc a : Nat} {x v : Int32} {R' : Room} {P : Heap → Prop} {B : Nat} {mk : MethodId} {methk : Method} {ck : Code} {ls : Array Slot} {rest : List Value} (X : Stand p l e R s m args below meth c T locs cells slots) (hT : T.heap = H) (hsize : ls.size = c.maxLocals) (hd : decode c.code pc = .ok (.invokeinterface index count, 5))
    (hmk : T.vm.method? mk = some methk) (hck : methk.code = some ck) (hlk : methk.locks = false) (hpk : T.plainMethod mk) (hml : ck.maxLocals = 2)
    (hframes : R'.frames + 1 ≤ R.frames) (hlocals : (rest.map fun v => v.category).sum + (ck.maxLocals + 11) + R'.locals ≤ R.locals) (hc9 : R'.cells = mc) (hs9 : R'.slots = ms) (hcells : cells + mc ≤ R.cells) (hslots : slots + ms ≤ R.slots)
    (hW : ∀ sh : State, sh.heap = H → sh.vm = T.vm → W p l e R' sh mk #[.ref a, .int x] (.java (F0 m pc ls rest) :: below) methk ck H [] 0 0 (MQ (.java (F0 m pc ls rest) :: below) (sQH P v) #[.ref a, .int x] sh mc ms (sA B)) (F0 mk 0 #[.val (.ref a), .val (.int x)] [])) :
    ∃ (T' : State) (L : List Loc), Stand p l e R s m args below meth c T' (locs ++ L) (cells + mc) (slots + ms) ∧ (∀ q ∈ L, sA B q.base) ∧ P T'.heap ∧ ∀ acts, Steps p.tables e below (doInvoke e (T.setTop (F0 m pc ls rest)) acts mk #[.ref a, .int x]).1 (T'.setTop (F0 m (pc + 5) ls (.int v :: rest))) := by
  obtain ⟨Y₀, hin⟩ := X.into (g := F0 m pc ls rest) rfl hsize hd #[.ref a, .int x] (R' := R') hmk hck hlk hpk hframes (by show 2 * 0 + _ + _ + _ ≤ _; rw [Nat.mul_zero, Nat.zero_add]; exact hlocals) (by rw [hc9]; exact hcells) (by rw [hs9]; exact hslots)
  obtain ⟨t, hst, o, -, hended, ⟨ho, hP⟩, L, ⟨-, hWe, hsame⟩, hfree⟩ := hW (T.calling (F0 m pc ls rest) mk #[.ref a, .int x]) hT rfl ((T.setTop (F0 m pc ls rest)).pushFrame (.java (entryFrame mk #[.ref a, .int x] ck.maxLocals))) hT Y₀
  subst ho
  obtain ⟨T', X', -, -, ht⟩ := X.outOf (g := F0 m pc ls rest) rfl hd hended hWe hsame
  refine ⟨T', L, X', hfree, ?_, fun acts => ?_⟩
  · rw [ht] at hP
    exact hP
  · rw [hin acts]
    have hloc : entryFrame mk #[.ref a, .int x] ck.maxLocals = F0 mk 0 #[.val (.ref a), .val (.int x)] [] := by rw [hml]; rfl
    rw [hloc] at hst ⊢
    rw [ht] at hst
    exact Steps.weaken (mid := [.java (F0 m pc ls rest)]) hst
end RHid3
