/-! rows: arithmetic, branches, the stack -/
set_option maxRecDepth 100000
section RW2
variable {l : Launch} {G : sG} {own : String} {nm : MethodName} {cc : ByteArray} {mL : Nat} {ret : Option FieldType} {hh : List (Nat × Nat × Nat × Nat)} {d pc pc' : Nat} {L L' : List (Option Value)} {st st' : List Value} {M : sMem} {o o1 o2 : Option (sRes × sMem)}
theorem r_iadd {x y : Int32} (hd : decode cc pc = .ok (.iadd, 1)) (k : AW l G own nm cc mL ret hh d (pc + 1) L (.int (x + y) :: st) M o) : AW l G own nm cc mL ret hh d pc L (.int y :: .int x :: st) M o :=
  AW.step (fun _ _ _ _ _ _ _ _ _ _ _ _ _ _ _ hE _ _ hl kk => lv_iadd hE.1 hE.2.1 hd (kk _ hl)) k
theorem r_isub {x y : Int32} (hd : decode cc pc = .ok (.isub, 1)) (k : AW l G own nm cc mL ret hh d (pc + 1) L (.int (x - y) :: st) M o) : AW l G own nm cc mL ret hh d pc L (.int y :: .int x :: st) M o :=
  AW.step (fun _ _ _ _ _ _ _ _ _ _ _ _ _ _ _ hE _ _ hl kk => lv_isub hE.1 hE.2.1 hd (kk _ hl)) k
theorem r_imul {x y : Int32} (hd : decode cc pc = .ok (.imul, 1)) (k : AW l G own nm cc mL ret hh d (pc + 1) L (.int (x * y) :: st) M o) : AW l G own nm cc mL ret hh d pc L (.int y :: .int x :: st) M o :=
  AW.step (fun _ _ _ _ _ _ _ _ _ _ _ _ _ _ _ hE _ _ hl kk => lv_imul hE.1 hE.2.1 hd (kk _ hl)) k
theorem r_iand {x y : Int32} (hd : decode cc pc = .ok (.iand, 1)) (k : AW l G own nm cc mL ret hh d (pc + 1) L (.int (x &&& y) :: st) M o) : AW l G own nm cc mL ret hh d pc L (.int y :: .int x :: st) M o :=
  AW.step (fun _ _ _ _ _ _ _ _ _ _ _ _ _ _ _ hE _ _ hl kk => lv_iand hE.1 hE.2.1 hd (kk _ hl)) k
theorem r_ior {x y : Int32} (hd : decode cc pc = .ok (.ior, 1)) (k : AW l G own nm cc mL ret hh d (pc + 1) L (.int (x ||| y) :: st) M o) : AW l G own nm cc mL ret hh d pc L (.int y :: .int x :: st) M o :=
  AW.step (fun _ _ _ _ _ _ _ _ _ _ _ _ _ _ _ hE _ _ hl kk => lv_ior hE.1 hE.2.1 hd (kk _ hl)) k
theorem r_ixor {x y : Int32} (hd : decode cc pc = .ok (.ixor, 1)) (k : AW l G own nm cc mL ret hh d (pc + 1) L (.int (x ^^^ y) :: st) M o) : AW l G own nm cc mL ret hh d pc L (.int y :: .int x :: st) M o :=
  AW.step (fun _ _ _ _ _ _ _ _ _ _ _ _ _ _ _ hE _ _ hl kk => lv_ixor hE.1 hE.2.1 hd (kk _ hl)) k
theorem r_ishl {x y : Int32} (hd : decode cc pc = .ok (.ishl, 1)) (k : AW l G own nm cc mL ret hh d (pc + 1) L (.int (x <<< (y &&& 31)) :: st) M o) : AW l G own nm cc mL ret hh d pc L (.int y :: .int x :: st) M o :=
  AW.step (fun _ _ _ _ _ _ _ _ _ _ _ _ _ _ _ hE _ _ hl kk => lv_ishl hE.1 hE.2.1 hd (kk _ hl)) k
theorem r_ishr {x y : Int32} (hd : decode cc pc = .ok (.ishr, 1)) (k : AW l G own nm cc mL ret hh d (pc + 1) L (.int (x >>> (y &&& 31)) :: st) M o) : AW l G own nm cc mL ret hh d pc L (.int y :: .int x :: st) M o :=
  AW.step (fun _ _ _ _ _ _ _ _ _ _ _ _ _ _ _ hE _ _ hl kk => lv_ishr hE.1 hE.2.1 hd (kk _ hl)) k
theorem r_iushr {x y : Int32} (hd : decode cc pc = .ok (.iushr, 1)) (k : AW l G own nm cc mL ret hh d (pc + 1) L (.int ((x.toUInt32 >>> (y.toUInt32 &&& Int32.toUInt32 31)).toInt32) :: st) M o) : AW l G own nm cc mL ret hh d pc L (.int y :: .int x :: st) M o :=
  AW.step (fun _ _ _ _ _ _ _ _ _ _ _ _ _ _ _ hE _ _ hl kk => lv_iushr hE.1 hE.2.1 hd rfl (kk _ hl)) k
theorem r_ineg {x : Int32} (hd : decode cc pc = .ok (.ineg, 1)) (k : AW l G own nm cc mL ret hh d (pc + 1) L (.int (-x) :: st) M o) : AW l G own nm cc mL ret hh d pc L (.int x :: st) M o :=
  AW.step (fun _ _ _ _ _ _ _ _ _ _ _ _ _ _ _ hE _ _ hl kk => lv_ineg hE.1 hE.2.1 hd (kk _ hl)) k
theorem r_ladd {x y : Int64} (hd : decode cc pc = .ok (.ladd, 1)) (k : AW l G own nm cc mL ret hh d (pc + 1) L (.long (x + y) :: st) M o) : AW l G own nm cc mL ret hh d pc L (.long y :: .long x :: st) M o :=
  AW.step (fun _ _ _ _ _ _ _ _ _ _ _ _ _ _ _ hE _ _ hl kk => lv_ladd hE.1 hE.2.1 hd (kk _ hl)) k
theorem r_lsub {x y : Int64} (hd : decode cc pc = .ok (.lsub, 1)) (k : AW l G own nm cc mL ret hh d (pc + 1) L (.long (x - y) :: st) M o) : AW l G own nm cc mL ret hh d pc L (.long y :: .long x :: st) M o :=
  AW.step (fun _ _ _ _ _ _ _ _ _ _ _ _ _ _ _ hE _ _ hl kk => lv_lsub hE.1 hE.2.1 hd (kk _ hl)) k
theorem r_lmul {x y : Int64} (hd : decode cc pc = .ok (.lmul, 1)) (k : AW l G own nm cc mL ret hh d (pc + 1) L (.long (x * y) :: st) M o) : AW l G own nm cc mL ret hh d pc L (.long y :: .long x :: st) M o :=
  AW.step (fun _ _ _ _ _ _ _ _ _ _ _ _ _ _ _ hE _ _ hl kk => lv_lmul hE.1 hE.2.1 hd (kk _ hl)) k
theorem r_i2l {x : Int32} (hd : decode cc pc = .ok (.i2l, 1)) (k : AW l G own nm cc mL ret hh d (pc + 1) L (.long x.toInt64 :: st) M o) : AW l G own nm cc mL ret hh d pc L (.int x :: st) M o :=
  AW.step (fun _ _ _ _ _ _ _ _ _ _ _ _ _ _ _ hE _ _ hl kk => lv_i2l hE.1 hE.2.1 hd rfl (kk _ hl)) k
theorem r_l2i {x : Int64} (hd : decode cc pc = .ok (.l2i, 1)) (k : AW l G own nm cc mL ret hh d (pc + 1) L (.int x.toInt32 :: st) M o) : AW l G own nm cc mL ret hh d pc L (.long x :: st) M o :=
  AW.step (fun _ _ _ _ _ _ _ _ _ _ _ _ _ _ _ hE _ _ hl kk => lv_l2i hE.1 hE.2.1 hd rfl (kk _ hl)) k
theorem r_i2b {x : Int32} (hd : decode cc pc = .ok (.i2b, 1)) (k : AW l G own nm cc mL ret hh d (pc + 1) L (.int x.toInt8.toInt32 :: st) M o) : AW l G own nm cc mL ret hh d pc L (.int x :: st) M o :=
  AW.step (fun _ _ _ _ _ _ _ _ _ _ _ _ _ _ _ hE _ _ hl kk => lv_i2b hE.1 hE.2.1 hd rfl (kk _ hl)) k
theorem r_i2c {x : Int32} (hd : decode cc pc = .ok (.i2c, 1)) (k : AW l G own nm cc mL ret hh d (pc + 1) L (.int (x.toUInt32 % 65536).toInt32 :: st) M o) : AW l G own nm cc mL ret hh d pc L (.int x :: st) M o :=
  AW.step (fun _ _ _ _ _ _ _ _ _ _ _ _ _ _ _ hE _ _ hl kk => lv_i2c hE.1 hE.2.1 hd rfl (kk _ hl)) k
theorem r_dup {v : Value} (hd : decode cc pc = .ok (.dup, 1)) (hv : v.category = 1) (k : AW l G own nm cc mL ret hh d (pc + 1) L (v :: v :: st) M o) : AW l G own nm cc mL ret hh d pc L (v :: st) M o :=
  AW.step (fun _ _ _ _ _ _ _ _ _ _ _ _ _ _ _ hE _ _ hl kk => lv_dup hE.1 hE.2.1 hd hv (kk _ hl)) k
theorem r_pop {v : Value} (hd : decode cc pc = .ok (.pop, 1)) (hv : v.category = 1) (k : AW l G own nm cc mL ret hh d (pc + 1) L st M o) : AW l G own nm cc mL ret hh d pc L (v :: st) M o :=
  AW.step (fun _ _ _ _ _ _ _ _ _ _ _ _ _ _ _ hE _ _ hl kk => lv_pop hE.1 hE.2.1 hd hv (kk _ hl)) k
theorem r_dup2 {v w : Value} (hd : decode cc pc = .ok (.dup2, 1)) (hv : v.category = 1) (hw : w.category = 1) (k : AW l G own nm cc mL ret hh d (pc + 1) L (v :: w :: v :: w :: st) M o) : AW l G own nm cc mL ret hh d pc L (v :: w :: st) M o :=
  AW.step (fun _ _ _ _ _ _ _ _ _ _ _ _ _ _ _ hE _ _ hl kk => lv_dup2_11 hE.1 hE.2.1 hd hv hw (kk _ hl)) k
theorem r_dup_x1 {v w : Value} (hd : decode cc pc = .ok (.dup_x1, 1)) (hv : v.category = 1) (hw : w.category = 1) (k : AW l G own nm cc mL ret hh d (pc + 1) L (v :: w :: v :: st) M o) : AW l G own nm cc mL ret hh d pc L (v :: w :: st) M o :=
  AW.step (fun _ _ _ _ _ _ _ _ _ _ _ _ _ _ _ hE _ _ hl kk => lv_dup_x1 hE.1 hE.2.1 hd hv hw (kk _ hl)) k
theorem r_goto {off : Int} (tgt : Nat) (hd : decode cc pc = .ok (.goto off, 3)) (ht : (pc : Int) + off = (tgt : Int)) (k : AW l G own nm cc mL ret hh d tgt L st M o) : AW l G own nm cc mL ret hh d pc L st M o :=
  AW.step (fun _ _ _ _ _ _ _ _ _ _ _ _ _ _ _ hE _ _ hl kk => lv_goto hE.1 hE.2.1 hd ht (kk _ hl)) k
/-- two ways to go on -/
theorem AW.br {c : Prop} [Decidable c] {p1 p2 : Nat} (h : ∀ (p : Program) (e : Env) (R : Room) (s : State) (m : MethodId) (args : Array Value) (below : List Frame) (meth : Method) (c' : Code) (H : Heap) (locs : List Loc) (k n : Nat) (ls : Array Slot) (Q : State → Prop),
      sEnv G M.1 own nm cc mL ret hh d p R s m args meth c' → lv_has ls mL (sL L) → (c → W p l e R s m args below meth c' H locs k n Q (F0 m p1 ls st')) → (¬ c → W p l e R s m args below meth c' H locs k n Q (F0 m p2 ls st')) → W p l e R s m args below meth c' H locs k n Q (F0 m pc ls st))
    (k1 : AW l G own nm cc mL ret hh d p1 L st' M o1) (k2 : AW l G own nm cc mL ret hh d p2 L st' M o2) : AW l G own nm cc mL ret hh d pc L st M (if c then o1 else o2) := by
  by_cases hc : c
  · rw [if_pos hc]
    exact AW.step (L' := L) (pc' := p1) (st' := st') (fun p e R s m args below meth c' H locs k n ls Q hE _ _ hl kk => h p e R s m args below meth c' H locs k n ls Q hE hl (fun _ => kk ls hl) (fun h => absurd hc h)) k1
  · rw [if_neg hc]
    exact AW.step (L' := L) (pc' := p2) (st' := st') (fun p e R s m args below meth c' H locs k n ls Q hE _ _ hl kk => h p e R s m args below meth c' H locs k n ls Q hE hl (fun h => absurd h hc) (fun _ => kk ls hl)) k2
/-- two short roads that meet again, with one value more on the stack -/
theorem AW.tern {c : Prop} [Decidable c] (a b : Int32) (j : Nat) (L2 : List (Option Value)) (st2 : List Value) (h : ∀ o1 o2, AW l G own nm cc mL ret hh d j L2 (.int a :: st2) M o1 → AW l G own nm cc mL ret hh d j L2 (.int b :: st2) M o2 → AW l G own nm cc mL ret hh d pc L st M (if c then o1 else o2)) (k : AW l G own nm cc mL ret hh d j L2 (.int (if c then a else b) :: st2) M o) : AW l G own nm cc mL ret hh d pc L st M o := by
  by_cases hc : c
  · rw [if_pos hc] at k
    have h1 := h o none k AW.no
    rwa [if_pos hc] at h1
  · rw [if_neg hc] at k
    have h1 := h none o AW.no k
    rwa [if_neg hc] at h1
theorem r_if_eq {x : Int32} {off : Int} (tgt : Nat) (hd : decode cc pc = .ok (.ifCond .eq off, 3)) (ht : (pc : Int) + off = (tgt : Int)) (k1 : AW l G own nm cc mL ret hh d tgt L st M o1) (k2 : AW l G own nm cc mL ret hh d (pc + 3) L st M o2) : AW l G own nm cc mL ret hh d pc L (.int x :: st) M (if x = 0 then o1 else o2) :=
  AW.br (fun _ _ _ _ _ _ _ _ _ _ _ _ _ _ _ hE hl k1 k2 => lv_if_eq hE.1 hE.2.1 hd ht k1 k2) k1 k2
theorem r_icmp_eq {x y : Int32} {off : Int} (tgt : Nat) (hd : decode cc pc = .ok (.if_icmp .eq off, 3)) (ht : (pc : Int) + off = (tgt : Int)) (k1 : AW l G own nm cc mL ret hh d tgt L st M o1) (k2 : AW l G own nm cc mL ret hh d (pc + 3) L st M o2) : AW l G own nm cc mL ret hh d pc L (.int y :: .int x :: st) M (if x = y then o1 else o2) :=
  AW.br (fun _ _ _ _ _ _ _ _ _ _ _ _ _ _ _ hE hl k1 k2 => lv_icmp_eq hE.1 hE.2.1 hd ht k1 k2) k1 k2
theorem r_if_ne {x : Int32} {off : Int} (tgt : Nat) (hd : decode cc pc = .ok (.ifCond .ne off, 3)) (ht : (pc : Int) + off = (tgt : Int)) (k1 : AW l G own nm cc mL ret hh d (pc + 3) L st M o1) (k2 : AW l G own nm cc mL ret hh d tgt L st M o2) : AW l G own nm cc mL ret hh d pc L (.int x :: st) M (if x = 0 then o1 else o2) :=
  AW.br (fun _ _ _ _ _ _ _ _ _ _ _ _ _ _ _ hE hl k1 k2 => lv_if_ne hE.1 hE.2.1 hd ht k2 k1) k1 k2
theorem r_icmp_ne {x y : Int32} {off : Int} (tgt : Nat) (hd : decode cc pc = .ok (.if_icmp .ne off, 3)) (ht : (pc : Int) + off = (tgt : Int)) (k1 : AW l G own nm cc mL ret hh d (pc + 3) L st M o1) (k2 : AW l G own nm cc mL ret hh d tgt L st M o2) : AW l G own nm cc mL ret hh d pc L (.int y :: .int x :: st) M (if x = y then o1 else o2) :=
  AW.br (fun _ _ _ _ _ _ _ _ _ _ _ _ _ _ _ hE hl k1 k2 => lv_icmp_ne hE.1 hE.2.1 hd ht k2 k1) k1 k2
theorem r_if_lt {x : Int32} {off : Int} (tgt : Nat) (hd : decode cc pc = .ok (.ifCond .lt off, 3)) (ht : (pc : Int) + off = (tgt : Int)) (k1 : AW l G own nm cc mL ret hh d tgt L st M o1) (k2 : AW l G own nm cc mL ret hh d (pc + 3) L st M o2) : AW l G own nm cc mL ret hh d pc L (.int x :: st) M (if x < 0 then o1 else o2) :=
  AW.br (fun _ _ _ _ _ _ _ _ _ _ _ _ _ _ _ hE hl k1 k2 => lv_if_lt hE.1 hE.2.1 hd ht k1 k2) k1 k2
theorem r_icmp_lt {x y : Int32} {off : Int} (tgt : Nat) (hd : decode cc pc = .ok (.if_icmp .lt off, 3)) (ht : (pc : Int) + off = (tgt : Int)) (k1 : AW l G own nm cc mL ret hh d tgt L st M o1) (k2 : AW l G own nm cc mL ret hh d (pc + 3) L st M o2) : AW l G own nm cc mL ret hh d pc L (.int y :: .int x :: st) M (if x < y then o1 else o2) :=
  AW.br (fun _ _ _ _ _ _ _ _ _ _ _ _ _ _ _ hE hl k1 k2 => lv_icmp_lt hE.1 hE.2.1 hd ht k1 k2) k1 k2
theorem r_if_ge {x : Int32} {off : Int} (tgt : Nat) (hd : decode cc pc = .ok (.ifCond .ge off, 3)) (ht : (pc : Int) + off = (tgt : Int)) (k1 : AW l G own nm cc mL ret hh d tgt L st M o1) (k2 : AW l G own nm cc mL ret hh d (pc + 3) L st M o2) : AW l G own nm cc mL ret hh d pc L (.int x :: st) M (if 0 ≤ x then o1 else o2) :=
  AW.br (fun _ _ _ _ _ _ _ _ _ _ _ _ _ _ _ hE hl k1 k2 => lv_if_ge hE.1 hE.2.1 hd ht k1 k2) k1 k2
theorem r_icmp_ge {x y : Int32} {off : Int} (tgt : Nat) (hd : decode cc pc = .ok (.if_icmp .ge off, 3)) (ht : (pc : Int) + off = (tgt : Int)) (k1 : AW l G own nm cc mL ret hh d tgt L st M o1) (k2 : AW l G own nm cc mL ret hh d (pc + 3) L st M o2) : AW l G own nm cc mL ret hh d pc L (.int y :: .int x :: st) M (if y ≤ x then o1 else o2) :=
  AW.br (fun _ _ _ _ _ _ _ _ _ _ _ _ _ _ _ hE hl k1 k2 => lv_icmp_ge hE.1 hE.2.1 hd ht k1 k2) k1 k2
theorem r_if_gt {x : Int32} {off : Int} (tgt : Nat) (hd : decode cc pc = .ok (.ifCond .gt off, 3)) (ht : (pc : Int) + off = (tgt : Int)) (k1 : AW l G own nm cc mL ret hh d tgt L st M o1) (k2 : AW l G own nm cc mL ret hh d (pc + 3) L st M o2) : AW l G own nm cc mL ret hh d pc L (.int x :: st) M (if 0 < x then o1 else o2) :=
  AW.br (fun _ _ _ _ _ _ _ _ _ _ _ _ _ _ _ hE hl k1 k2 => lv_if_gt hE.1 hE.2.1 hd ht k1 k2) k1 k2
theorem r_icmp_gt {x y : Int32} {off : Int} (tgt : Nat) (hd : decode cc pc = .ok (.if_icmp .gt off, 3)) (ht : (pc : Int) + off = (tgt : Int)) (k1 : AW l G own nm cc mL ret hh d tgt L st M o1) (k2 : AW l G own nm cc mL ret hh d (pc + 3) L st M o2) : AW l G own nm cc mL ret hh d pc L (.int y :: .int x :: st) M (if y < x then o1 else o2) :=
  AW.br (fun _ _ _ _ _ _ _ _ _ _ _ _ _ _ _ hE hl k1 k2 => lv_icmp_gt hE.1 hE.2.1 hd ht k1 k2) k1 k2
theorem r_if_le {x : Int32} {off : Int} (tgt : Nat) (hd : decode cc pc = .ok (.ifCond .le off, 3)) (ht : (pc : Int) + off = (tgt : Int)) (k1 : AW l G own nm cc mL ret hh d tgt L st M o1) (k2 : AW l G own nm cc mL ret hh d (pc + 3) L st M o2) : AW l G own nm cc mL ret hh d pc L (.int x :: st) M (if x ≤ 0 then o1 else o2) :=
  AW.br (fun _ _ _ _ _ _ _ _ _ _ _ _ _ _ _ hE hl k1 k2 => lv_if_le hE.1 hE.2.1 hd ht k1 k2) k1 k2
theorem r_icmp_le {x y : Int32} {off : Int} (tgt : Nat) (hd : decode cc pc = .ok (.if_icmp .le off, 3)) (ht : (pc : Int) + off = (tgt : Int)) (k1 : AW l G own nm cc mL ret hh d tgt L st M o1) (k2 : AW l G own nm cc mL ret hh d (pc + 3) L st M o2) : AW l G own nm cc mL ret hh d pc L (.int y :: .int x :: st) M (if x ≤ y then o1 else o2) :=
  AW.br (fun _ _ _ _ _ _ _ _ _ _ _ _ _ _ _ hE hl k1 k2 => lv_icmp_le hE.1 hE.2.1 hd ht k1 k2) k1 k2
theorem r_acmp_eq {x y : Nat} {off : Int} (tgt : Nat) (hd : decode cc pc = .ok (.if_acmp .eq off, 3)) (ht : (pc : Int) + off = (tgt : Int)) (k1 : AW l G own nm cc mL ret hh d tgt L st M o1) (k2 : AW l G own nm cc mL ret hh d (pc + 3) L st M o2) : AW l G own nm cc mL ret hh d pc L (.ref y :: .ref x :: st) M (if x = y then o1 else o2) :=
  AW.br (fun _ _ _ _ _ _ _ _ _ _ _ _ _ _ _ hE hl k1 k2 => lv_acmp_eq (rx := some x) (ry := some y) hE.1 hE.2.1 hd ht (fun h => k1 (Option.some.inj h)) (fun h => k2 (fun e => h (congrArg some e)))) k1 k2
theorem r_acmp_ne {x y : Nat} {off : Int} (tgt : Nat) (hd : decode cc pc = .ok (.if_acmp .ne off, 3)) (ht : (pc : Int) + off = (tgt : Int)) (k1 : AW l G own nm cc mL ret hh d (pc + 3) L st M o1) (k2 : AW l G own nm cc mL ret hh d tgt L st M o2) : AW l G own nm cc mL ret hh d pc L (.ref y :: .ref x :: st) M (if x = y then o1 else o2) :=
  AW.br (fun _ _ _ _ _ _ _ _ _ _ _ _ _ _ _ hE hl k1 k2 => lv_acmp_ne (rx := some x) (ry := some y) hE.1 hE.2.1 hd ht (fun h => k2 (fun e => h (congrArg some e))) (fun h => k1 (Option.some.inj h))) k1 k2
theorem r_ifnonnull {x : Nat} {off : Int} (tgt : Nat) (hd : decode cc pc = .ok (.ifnonnull off, 3)) (ht : (pc : Int) + off = (tgt : Int)) (k : AW l G own nm cc mL ret hh d tgt L st M o) : AW l G own nm cc mL ret hh d pc L (.ref x :: st) M o :=
  AW.step (fun _ _ _ _ _ _ _ _ _ _ _ _ _ _ _ hE _ _ hl kk => lv_ifnonnull hE.1 hE.2.1 hd ht (kk _ hl)) k
theorem r_ifnonnullN {off : Int} (hd : decode cc pc = .ok (.ifnonnull off, 3)) (k : AW l G own nm cc mL ret hh d (pc + 3) L st M o) : AW l G own nm cc mL ret hh d pc L (.null :: st) M o :=
  AW.step (fun _ _ _ _ _ _ _ _ _ _ _ _ _ _ _ hE _ _ hl kk => lv_ifnonnullN hE.1 hE.2.1 hd (kk _ hl)) k
theorem r_idiv {x y : Int32} (hd : decode cc pc = .ok (.idiv, 1)) (k : AW l G own nm cc mL ret hh d (pc + 1) L (.int (x / y) :: st) M o) : AW l G own nm cc mL ret hh d pc L (.int y :: .int x :: st) M (if y = 0 then none else o) := by
  by_cases h : y = 0
  · rw [if_pos h]; exact AW.no
  · rw [if_neg h]
    exact AW.step (fun _ _ _ _ _ _ _ _ _ _ _ _ _ _ _ hE _ _ hl kk => lv_idiv hE.1 hE.2.1 hd h (kk _ hl)) k
theorem r_irem {x y : Int32} (hd : decode cc pc = .ok (.irem, 1)) (k : AW l G own nm cc mL ret hh d (pc + 1) L (.int (x - x / y * y) :: st) M o) : AW l G own nm cc mL ret hh d pc L (.int y :: .int x :: st) M (if y = 0 then none else o) := by
  by_cases h : y = 0
  · rw [if_pos h]; exact AW.no
  · rw [if_neg h]
    exact AW.step (fun _ _ _ _ _ _ _ _ _ _ _ _ _ _ _ hE _ _ hl kk => lv_irem hE.1 hE.2.1 hd h (kk _ hl)) k
theorem r_ldiv {x y : Int64} (hd : decode cc pc = .ok (.ldiv, 1)) (k : AW l G own nm cc mL ret hh d (pc + 1) L (.long (x / y) :: st) M o) : AW l G own nm cc mL ret hh d pc L (.long y :: .long x :: st) M (if y = 0 then none else o) := by
  by_cases h : y = 0
  · rw [if_pos h]; exact AW.no
  · rw [if_neg h]
    exact AW.step (fun _ _ _ _ _ _ _ _ _ _ _ _ _ _ _ hE _ _ hl kk => lv_ldiv hE.1 hE.2.1 hd h (kk _ hl)) k
theorem r_lrem {x y : Int64} (hd : decode cc pc = .ok (.lrem, 1)) (k : AW l G own nm cc mL ret hh d (pc + 1) L (.long (x - x / y * y) :: st) M o) : AW l G own nm cc mL ret hh d pc L (.long y :: .long x :: st) M (if y = 0 then none else o) := by
  by_cases h : y = 0
  · rw [if_pos h]; exact AW.no
  · rw [if_neg h]
    exact AW.step (fun _ _ _ _ _ _ _ _ _ _ _ _ _ _ _ hE _ _ hl kk => lv_lrem hE.1 hE.2.1 hd h (kk _ hl)) k
theorem r_ldc {i : Nat} {v : Int32} (hd : decode cc pc = .ok (.ldc i, 2)) (hq : Jvm.Cond.constant own i v ∈ lw_all) (k : AW l G own nm cc mL ret hh d (pc + 2) L (.int v :: st) M o) : AW l G own nm cc mL ret hh d pc L st M o :=
  AW.step (fun _ _ _ _ _ _ _ _ _ _ _ _ _ _ _ hE _ _ hl kk => lv_ldc hE.1 hE.2.1 hE.2.2.2.2.2.1 (hE.2.2.2.2.2.2.2.1 _ hq) hd (kk _ hl)) k
theorem r_ldc_w {i : Nat} {v : Int32} (hd : decode cc pc = .ok (.ldc_w i, 3)) (hq : Jvm.Cond.constant own i v ∈ lw_all) (k : AW l G own nm cc mL ret hh d (pc + 3) L (.int v :: st) M o) : AW l G own nm cc mL ret hh d pc L st M o :=
  AW.step (fun _ _ _ _ _ _ _ _ _ _ _ _ _ _ _ hE _ _ hl kk => lv_ldcw hE.1 hE.2.1 hE.2.2.2.2.2.1 (hE.2.2.2.2.2.2.2.1 _ hq) hd (kk _ hl)) k
theorem r_ldc2 {i : Nat} {v : Int64} (hd : decode cc pc = .ok (.ldc2_w i, 3)) (hq : Jvm.Cond.constantLong own i v ∈ lw_all) (k : AW l G own nm cc mL ret hh d (pc + 3) L (.long v :: st) M o) : AW l G own nm cc mL ret hh d pc L st M o :=
  AW.step (fun _ _ _ _ _ _ _ _ _ _ _ _ _ _ _ hE _ _ hl kk => lv_ldc2 hE.1 hE.2.1 hE.2.2.2.2.2.1 (hE.2.2.2.2.2.2.2.1 _ hq) hd (kk _ hl)) k
theorem r_tableOut {dflt lo hi : Int} {offs : Array Int} {len : Nat} {x : Int32} (tgt : Nat) (hd : decode cc pc = .ok (.tableswitch dflt lo hi offs, len)) (h : x.toInt < lo ∨ hi < x.toInt) (ht : (pc : Int) + dflt = (tgt : Int)) (k : AW l G own nm cc mL ret hh d tgt L st M o) : AW l G own nm cc mL ret hh d pc L (.int x :: st) M o :=
  AW.step (fun _ _ _ _ _ _ _ _ _ _ _ _ _ _ _ hE _ _ hl kk => lv_tableOut hE.1 hE.2.1 hd h ht (kk _ hl)) k
theorem r_tableIn {dflt lo hi : Int} {offs : Array Int} {len : Nat} {x : Int32} {off : Int} (tgt : Nat) (hd : decode cc pc = .ok (.tableswitch dflt lo hi offs, len)) (h1 : ¬ x.toInt < lo) (h2 : ¬ hi < x.toInt) (ho : offs[(x.toInt - lo).toNat]? = some off) (ht : (pc : Int) + off = (tgt : Int)) (k : AW l G own nm cc mL ret hh d tgt L st M o) : AW l G own nm cc mL ret hh d pc L (.int x :: st) M o :=
  AW.step (fun _ _ _ _ _ _ _ _ _ _ _ _ _ _ _ hE _ _ hl kk => lv_tableIn hE.1 hE.2.1 hd h1 h2 ho ht (kk _ hl)) k
theorem r_lookup {dflt : Int} {ps : Array (Int × Int)} {len : Nat} {x : Int32} {off : Int} (tgt : Nat) (hd : decode cc pc = .ok (.lookupswitch dflt ps, len)) (hp : (ps.toList.zip (ps.toList.drop 1)).all (fun (a, next) => a.1 < next.1) = true) (ho : Op.lookupswitch.offset ps.toList dflt x.toInt = off) (ht : (pc : Int) + off = (tgt : Int)) (k : AW l G own nm cc mL ret hh d tgt L st M o) : AW l G own nm cc mL ret hh d pc L (.int x :: st) M o :=
  AW.step (fun _ _ _ _ _ _ _ _ _ _ _ _ _ _ _ hE _ _ hl kk => lv_lookup hE.1 hE.2.1 hd hp ho ht (kk _ hl)) k
end RW2
