/-! rows: fields, arrays, new objects, answers, calls; a method's contract -/
set_option maxRecDepth 100000
def sCls (ci : Nat) (C : String) (T : u_T) (N : Nat) (ty : Nat → FieldType) : Prop := sCL[ci]? = some (C, T, N) ∧ (∀ w ∈ u_ws C T N, w ∈ lw_all) ∧ (∀ k, k < N → parseFieldDescriptor (T k).2.2.1 = some (ty k)) ∧ ∀ a, a < N → ∀ b, b < N → a ≠ b → (T a).2.1 ≠ (T b).2.1
theorem sC0 : sCls 0 RX0 TX0 47 tyX0 := ⟨rfl, in_X0, tyX0_ok, nmX0⟩
theorem sC1 : sCls 1 RX1 TX1 4 tyX1 := ⟨rfl, in_X1, tyX1_ok, nmX1⟩
theorem sC2 : sCls 2 RX2 TX2 19 tyX2 := ⟨rfl, in_X2, tyX2_ok, nmX2⟩
theorem sC3 : sCls 3 RX3 TX3 33 tyX3 := ⟨rfl, in_X3, tyX3_ok, nmX3⟩
theorem sC4 : sCls 4 RX4 TX4 8 tyX4 := ⟨rfl, in_X4, tyX4_ok, nmX4⟩
theorem sC5 : sCls 5 RX5 TX5 3 tyX5 := ⟨rfl, in_X5, tyX5_ok, nmX5⟩
theorem sC6 : sCls 6 RX7 TX7 1 tyX7 := ⟨rfl, in_X7, tyX7_ok, nmX7⟩
theorem sC7 : sCls 7 RX8 TX8 1 tyX8 := ⟨rfl, in_X8, tyX8_ok, nmX8⟩
theorem sC8 : sCls 8 RX9 TX9 3 tyX9 := ⟨rfl, in_X9, tyX9_ok, nmX9⟩
theorem sC9 : sCls 9 RX10 TX10 1 tyX10 := ⟨rfl, in_X10, tyX10_ok, nmX10⟩
theorem sC10 : sCls 10 RX11 TX11 4 tyX11 := ⟨rfl, in_X11, tyX11_ok, nmX11⟩
theorem sC11 : sCls 11 RX12 TX12 2 tyX12 := ⟨rfl, in_X12, tyX12_ok, nmX12⟩
def sFs (M : sMem) (ci a : Nat) : Option (List Value) := match M.2.2.2 a with
  | some (.inr (.inl (c, fs))) => if c = ci then some fs else none
  | _ => none
theorem sFs_spec {M : sMem} {ci a : Nat} {fs : List Value} (h : sFs M ci a = some fs) : M.2.2.2 a = some (sObj ci fs) := by
  unfold sFs at h
  split at h
  · rename_i c fs' he
    by_cases hc : c = ci
    · rw [if_pos hc] at h
      cases h
      rw [he, hc]
    · rw [if_neg hc] at h
      cases h
  · cases h
def sGet (M : sMem) (ci k a : Nat) : Option Value := (sFs M ci a).bind fun fs => fs[k]?
theorem sGet_spec {M : sMem} {ci k a : Nat} {v : Value} (h : sGet M ci k a = some v) : ∃ fs, M.2.2.2 a = some (sObj ci fs) ∧ fs[k]? = some v := by
  obtain ⟨fs, h1, h2⟩ := Option.bind_eq_some_iff.mp h
  exact ⟨fs, sFs_spec h1, h2⟩
def sGetI (M : sMem) (ci k a : Nat) : Option Int32 := match sGet M ci k a with
  | some (.int x) => some x
  | _ => none
def sGetN (M : sMem) (ci k a : Nat) : Option Nat := match sGet M ci k a with
  | some (.ref x) => some x
  | _ => none
def sGetR (M : sMem) (ci k a : Nat) : Option (Option Nat) := match sGet M ci k a with
  | some (.ref x) => some (some x)
  | some .null => some none
  | _ => none
theorem sGetI_spec {M : sMem} {ci k a : Nat} {x : Int32} (h : sGetI M ci k a = some x) : sGet M ci k a = some (.int x) := by
  unfold sGetI at h
  split at h
  · rename_i y he
    cases h
    exact he
  · cases h
theorem sGetN_spec {M : sMem} {ci k a : Nat} {x : Nat} (h : sGetN M ci k a = some x) : sGet M ci k a = some (.ref x) := by
  unfold sGetN at h
  split at h
  · rename_i y he
    cases h
    exact he
  · cases h
theorem sGetR_spec {M : sMem} {ci k a : Nat} {x : Option Nat} (h : sGetR M ci k a = some x) : sGet M ci k a = some (va_rf x) := by
  unfold sGetR at h
  split at h
  · rename_i y he
    cases h
    exact he
  · rename_i he
    cases h
    exact he
  · cases h
def sPut (M : sMem) (ci k a : Nat) (v : Value) : Option sMem := match sFs M ci a with
  | some fs => if M.1 ≤ a ∧ k < fs.length then some (sUp M a (sObj ci (fs.set k v))) else none
  | none => none
theorem sPut_spec {M M1 : sMem} {ci k a : Nat} {v : Value} (h : sPut M ci k a v = some M1) : ∃ fs, M.2.2.2 a = some (sObj ci fs) ∧ M.1 ≤ a ∧ k < fs.length ∧ M1 = sUp M a (sObj ci (fs.set k v)) := by
  unfold sPut at h
  split at h
  · rename_i fs he
    by_cases hc : M.1 ≤ a ∧ k < fs.length
    · rw [if_pos hc] at h
      cases h
      exact ⟨fs, sFs_spec he, hc.1, hc.2, rfl⟩
    · rw [if_neg hc] at h
      cases h
  · cases h
/-- ints of an array, or of one that nobody writes -/
def sInts (M : sMem) (t a : Nat) : Option (Nat × (Nat → Int32)) := match M.2.2.2 a with
  | some (.inl (k, n, .inl f)) => if k = t then some (n, f) else none
  | some (.inr (.inr (.inr (.inr (k, n, f, _))))) => if k = t then some (n, f) else none
  | _ => none
def sXld (M : sMem) (t a : Nat) (i : Int32) : Option Int32 := (sInts M t a).bind fun q => if i < 0 ∨ q.1 ≤ i.toNatClampNeg then none else some (q.2 i.toNatClampNeg)
abbrev sIald (M : sMem) (a : Nat) (i : Int32) : Option Int32 := sXld M 0 a i
abbrev sBald (M : sMem) (a : Nat) (i : Int32) : Option Int32 := sXld M 1 a i
def sXst (M : sMem) (t a : Nat) (i x : Int32) : Option sMem := match M.2.2.2 a with
  | some (.inl (k, n, .inl f)) => if k = t ∧ M.1 ≤ a ∧ ¬ (i < 0 ∨ n ≤ i.toNatClampNeg) then some (sUp M a (sArr t n (upd f i.toNatClampNeg x))) else none
  | _ => none
abbrev sIast (M : sMem) (a : Nat) (i x : Int32) : Option sMem := sXst M 0 a i x
abbrev sBast (M : sMem) (a : Nat) (i x : Int32) : Option sMem := sXst M 1 a i (vp_nar .byte x)
theorem sXst_spec {M M1 : sMem} {t a : Nat} {i x : Int32} (h : sXst M t a i x = some M1) : ∃ n f, M.2.2.2 a = some (sArr t n f) ∧ M.1 ≤ a ∧ vp_in i n ∧ M1 = sUp M a (sArr t n (upd f i.toNatClampNeg x)) := by
  unfold sXst at h
  split at h
  · rename_i k n f he
    by_cases hc : k = t ∧ M.1 ≤ a ∧ ¬ (i < 0 ∨ n ≤ i.toNatClampNeg)
    · rw [if_pos hc] at h
      cases h
      exact ⟨n, f, by rw [he, hc.1], hc.2.1, hc.2.2, rfl⟩
    · rw [if_neg hc] at h
      cases h
  · cases h
/-- an array's length -/
def sLen (M : sMem) (a : Nat) : Option Int32 := match M.2.2.2 a with
  | some (.inl (_, n, _)) => some (nI n)
  | some (.inr (.inr (.inr (.inr (_, n, _))))) => some (nI n)
  | _ => none
/-- references of an array -/
def sRfs (M : sMem) (a : Nat) : Option (Nat × Nat × (Nat → Option Nat)) := match M.2.2.2 a with
  | some (.inl (k, n, .inr (.inr (.inr (.inr f))))) => if 2 ≤ k then some (k, n, f) else none
  | _ => none
theorem sRfs_spec {M : sMem} {a k n : Nat} {f : Nat → Option Nat} (h : sRfs M a = some (k, n, f)) : M.2.2.2 a = some (sArq k n f) ∧ 2 ≤ k := by
  unfold sRfs at h
  split at h
  · rename_i k' n' f' he
    by_cases hc : 2 ≤ k'
    · rw [if_pos hc] at h
      cases h
      exact ⟨he, hc⟩
    · rw [if_neg hc] at h
      cases h
  · cases h
def sAldR (M : sMem) (a : Nat) (i : Int32) : Option (Option Nat) := (sRfs M a).bind fun q => if i < 0 ∨ q.2.1 ≤ i.toNatClampNeg then none else some (q.2.2 i.toNatClampNeg)
def sAldN (M : sMem) (a : Nat) (i : Int32) : Option Nat := (sAldR M a i).bind id
section RH
variable {l : Launch} {G : sG} {own : String} {nm : MethodName} {cc : ByteArray} {mL : Nat} {ret : Option FieldType} {hh : List (Nat × Nat × Nat × Nat)} {d pc pc' : Nat} {L L' : List (Option Value)} {st st' : List Value} {M : sMem} {o o1 o2 : Option (sRes × sMem)}
theorem AW.bind {α : Type} {x : Option α} {K : α → Option (sRes × sMem)} (h : ∀ v, x = some v → AW l G own nm cc mL ret hh d pc L st M (K v)) : AW l G own nm cc mL ret hh d pc L st M (x.bind K) := by
  cases hx : x with
  | none => exact AW.no
  | some v => exact h v hx
theorem sMod.obj {s : State} {H : Heap} {ci a : Nat} {fs : List Value} (hM : sMod G s M H) (h : M.2.2.2 a = some (sObj ci fs)) : va_P G.1 sCL [(a, .inr (ci, fs))] H := by
  intro k q hk
  have hz : k < 1 := (List.getElem?_eq_some_iff.mp hk).1
  rw [show k = 0 by omega] at hk
  cases hk
  exact hM.2.2 a _ h
theorem sMod.arr {s : State} {H : Heap} {t a : Nat} {x : vp_A} (hM : sMod G s M H) (h : M.2.2.2 a = some (.inl (t, x))) : t < 9 ∧ va_P G.1 sCL [(a, .inl (G.2.1 t, x))] H := by
  have h9 := hM.2.2 a _ h
  refine ⟨h9.1, ?_⟩
  intro k q hk
  have hz : k < 1 := (List.getElem?_eq_some_iff.mp hk).1
  rw [show k = 0 by omega] at hk
  cases hk
  exact h9.2
theorem r_get {i ci k a N : Nat} {C : String} {T : u_T} {ty : Nat → FieldType} {v : Value} (hc : sCls ci C T N ty) (hk : k < N) (hq : Cond.fieldLink own i (T k).1 (T k).2.1 (T k).2.2.1 ∈ lw_all) (hd : decode cc pc = .ok (.getfield i, 3)) (hv : sGet M ci k a = some v) (kk : AW l G own nm cc mL ret hh d (pc + 3) L (v :: st) M o) : AW l G own nm cc mL ret hh d pc L (.ref a :: st) M o := by
  obtain ⟨fs, h1, h2⟩ := sGet_spec hv
  exact AW.step (fun _ _ _ _ _ _ _ _ _ _ _ _ _ _ _ hE hM _ hl kk => va_get (D := G.1) (ci := ci) (C := C) (T := T) (N := N) hE.1 hE.2.1 hE.2.2.2.2.2.2.2.1 hc.2.1 hE.2.2.2.2.2.1 hE.2.2.2.2.2.2.2.2.2.2.2.1 (hM.obj h1) 0 rfl hc.1 k hk (hE.2.2.2.2.2.2.2.1 _ hq) (fun _ h => h) h2 hd (kk _ hl)) kk
theorem r_getI {i ci k a N : Nat} {C : String} {T : u_T} {ty : Nat → FieldType} {K : Int32 → Option (sRes × sMem)} (hc : sCls ci C T N ty) (hk : k < N) (hq : Cond.fieldLink own i (T k).1 (T k).2.1 (T k).2.2.1 ∈ lw_all) (hd : decode cc pc = .ok (.getfield i, 3)) (kk : ∀ x, AW l G own nm cc mL ret hh d (pc + 3) L (.int x :: st) M (K x)) : AW l G own nm cc mL ret hh d pc L (.ref a :: st) M ((sGetI M ci k a).bind K) :=
  AW.bind fun x hx => r_get hc hk hq hd (sGetI_spec hx) (kk x)
theorem r_getN {i ci k a N : Nat} {C : String} {T : u_T} {ty : Nat → FieldType} {K : Nat → Option (sRes × sMem)} (hc : sCls ci C T N ty) (hk : k < N) (hq : Cond.fieldLink own i (T k).1 (T k).2.1 (T k).2.2.1 ∈ lw_all) (hd : decode cc pc = .ok (.getfield i, 3)) (kk : ∀ x, AW l G own nm cc mL ret hh d (pc + 3) L (.ref x :: st) M (K x)) : AW l G own nm cc mL ret hh d pc L (.ref a :: st) M ((sGetN M ci k a).bind K) :=
  AW.bind fun x hx => r_get hc hk hq hd (sGetN_spec hx) (kk x)
/-- a field that may hold null -/
theorem r_getR {i ci k a N : Nat} {C : String} {T : u_T} {ty : Nat → FieldType} {K : Option Nat → Option (sRes × sMem)} (hc : sCls ci C T N ty) (hk : k < N) (hq : Cond.fieldLink own i (T k).1 (T k).2.1 (T k).2.2.1 ∈ lw_all) (hd : decode cc pc = .ok (.getfield i, 3)) (k1 : ∀ x, AW l G own nm cc mL ret hh d (pc + 3) L (.ref x :: st) M (K (some x))) (k0 : AW l G own nm cc mL ret hh d (pc + 3) L (.null :: st) M (K none)) : AW l G own nm cc mL ret hh d pc L (.ref a :: st) M ((sGetR M ci k a).bind K) := by
  refine AW.bind fun x hx => ?_
  cases x with
  | none => exact r_get hc hk hq hd (sGetR_spec hx) k0
  | some x => exact r_get hc hk hq hd (sGetR_spec hx) (k1 x)
theorem r_getNest {i ci k a N : Nat} {C host : String} {T : u_T} {ty : Nat → FieldType} {v : Value} (hc : sCls ci C T N ty) (hk : k < N) (hq : ∀ (args : Array Value) (s : State), (∀ w ∈ lw_all, w.before args s = true) → (Cond.fieldLinkNest own i (T k).1 (T k).2.1 (T k).2.2.1 host).before args s = true) (hd : decode cc pc = .ok (.getfield i, 3)) (hv : sGet M ci k a = some v) (kk : AW l G own nm cc mL ret hh d (pc + 3) L (v :: st) M o) : AW l G own nm cc mL ret hh d pc L (.ref a :: st) M o := by
  obtain ⟨fs, h1, h2⟩ := sGet_spec hv
  exact AW.step (fun _ _ _ _ _ _ _ _ _ _ _ _ _ _ _ hE hM _ hl kk => va_getN (D := G.1) (ci := ci) (C := C) (T := T) (N := N) hE.1 hE.2.1 hE.2.2.2.2.2.2.2.1 hc.2.1 hE.2.2.2.2.2.1 hE.2.2.2.2.2.2.2.2.2.2.2.1 (hM.obj h1) 0 rfl hc.1 k hk (hq _ _ hE.2.2.2.2.2.2.2.1) (fun _ h => h) h2 hd (kk _ hl)) kk
/-- a step that writes one old cell -/
theorem AW.write {a : Nat} {e : sCell} (hb : M.1 ≤ a) (h : ∀ (p : Program) (e9 : Env) (R : Room) (s : State) (m : MethodId) (args : Array Value) (below : List Frame) (meth : Method) (c : Code) (H : Heap) (locs : List Loc) (k n : Nat) (ls : Array Slot) (Q : State → Prop),
      sEnv G M.1 own nm cc mL ret hh d p R s m args meth c → sMod G s M H → va_S (sA M.1) s.heap H locs → lv_has ls mL (sL L) →
      (∀ (H1 : Heap) (locs1 : List Loc), H1.size = H.size → (∀ q : Nat, q ≠ a → H1[q]? = H[q]?) → sAt G M.1 s a e H1 → va_S (sA M.1) s.heap H1 locs1 → W p l e9 R s m args below meth c H1 locs1 k n Q (F0 m pc' ls st')) → W p l e9 R s m args below meth c H locs k n Q (F0 m pc ls st))
    (kk : AW l G own nm cc mL ret hh d pc' L st' (sUp M a e) o) : AW l G own nm cc mL ret hh d pc L st M o := by
  intro r M' ho
  obtain ⟨hm, kk⟩ := kk r M' ho
  exact ⟨hm, fun p e9 R s m args below meth c H locs k n ls hE hM hS hl h1 h2 => h p e9 R s m args below meth c H locs k n ls _ hE hM hS hl (fun H1 locs1 z oq he hS1 => kk p e9 R s m args below meth c H1 locs1 k n ls hE (hM.up hb z oq he) hS1 hl h1 h2)⟩
theorem r_put {i ci k a N : Nat} {C : String} {T : u_T} {ty : Nat → FieldType} {v : Value} {K : sMem → Option (sRes × sMem)} (hc : sCls ci C T N ty) (hk : k < N) (hq : Cond.fieldLink own i (T k).1 (T k).2.1 (T k).2.2.1 ∈ lw_all) (hfin : (T k).2.2.2 = false) (hn : narrow (ty k) v = v) (hfit : fits (ty k) v = true) (hd : decode cc pc = .ok (.putfield i, 3)) (kk : ∀ M1, AW l G own nm cc mL ret hh d (pc + 3) L st M1 (K M1)) : AW l G own nm cc mL ret hh d pc L (v :: .ref a :: st) M ((sPut M ci k a v).bind K) := by
  refine AW.bind fun M1 hx => ?_
  obtain ⟨fs, h1, hb, hlen, rfl⟩ := sPut_spec hx
  refine AW.write hb (fun p e9 R s m args below meth c H locs k9 n9 ls Q hE hM hS hl kk => ?_) (kk _)
  obtain ⟨hx9, hb9, -, -, -, hown, -, hts, -, -, -, hK, -⟩ := hE
  have hap := va_apart (own := own) hts hc.2.1 ty hc.2.2.1 hc.2.2.2 hK hc.1
  have hP := hM.obj h1
  obtain ⟨r, h1', cell, q1, q2, q3, q4⟩ := hP 0 _ rfl
  have hr : r = (C, T, N) := Option.some.inj (h1'.symm.trans hc.1)
  subst hr
  obtain ⟨hS9, hfc, kC, hkC, hkind⟩ := hK.1 ci _ hc.1
  obtain ⟨cf, kf, fi, f, hi, hsl⟩ := hS9 k hk
  have hlay := hts _ (hc.2.1 _ (u_in_lay hk))
  unfold u_lay at hlay
  rw [if_neg (by rw [hfin]; decide)] at hlay
  have hst := (u_facts hfc hkC (u_lays hts hc.2.1 hk) hi).1
  have h6 := u_store hfc hkC hkind hlay hi (hc.2.2.1 k hk) hn hfit
  refine W.putK hx9 hb9 (f := f) ⟨hown, hts _ hq, ⟨_, _, _, hi⟩, hst⟩ (by rw [q2]; exact h6) q1 q3 (by rw [hsl]; exact k2_hasslot (q4 k hk)) rfl rfl hd fun H' e1 e2 e3 => ?_
  rw [hsl] at e1 ⊢
  exact kk H' _ e2 e3 ⟨_, hc.1, t_OB.to (V := updV (vp_V fs) k v) ⟨_, e1, q2, q3, t_set q4 hap hk v⟩ (fun j _ => vp_updV_set hlen v j)⟩ (hS.put e2 e3 hb)
/-- a final field, in a constructor -/
theorem r_putF {i ci k a N : Nat} {C : String} {T : u_T} {ty : Nat → FieldType} {v : Value} {K : sMem → Option (sRes × sMem)} (hc : sCls ci C T N ty) (hk : k < N) (hq : Cond.fieldLink own i (T k).1 (T k).2.1 (T k).2.2.1 ∈ lw_all) (hfin : (T k).2.2.2 = true) (hnm : nm.name = "<init>") (hdecl : (T k).1 = own) (hn : narrow (ty k) v = v) (hfit : fits (ty k) v = true) (hd : decode cc pc = .ok (.putfield i, 3)) (kk : ∀ M1, AW l G own nm cc mL ret hh d (pc + 3) L st M1 (K M1)) : AW l G own nm cc mL ret hh d pc L (v :: .ref a :: st) M ((sPut M ci k a v).bind K) := by
  refine AW.bind fun M1 hx => ?_
  obtain ⟨fs, h1, hb, hlen, rfl⟩ := sPut_spec hx
  refine AW.write hb (fun p e9 R s m args below meth c H locs k9 n9 ls Q hE hM hS hl kk => ?_) (kk _)
  obtain ⟨hx9, hb9, -, -, -, hown, hmn, hts, -, -, -, hK, -⟩ := hE
  have hap := va_apart (own := own) hts hc.2.1 ty hc.2.2.1 hc.2.2.2 hK hc.1
  have hP := hM.obj h1
  obtain ⟨r, h1', cell, q1, q2, q3, q4⟩ := hP 0 _ rfl
  have hr : r = (C, T, N) := Option.some.inj (h1'.symm.trans hc.1)
  subst hr
  obtain ⟨hS9, hfc, kC, hkC, hkind⟩ := hK.1 ci _ hc.1
  obtain ⟨cf, kf, fi, f, hi, hsl⟩ := hS9 k hk
  have hlay := hts _ (hc.2.1 _ (u_in_lay hk))
  unfold u_lay at hlay
  rw [if_pos hfin] at hlay
  have hst := (u_facts hfc hkC (u_lays hts hc.2.1 hk) hi).1
  have hcf : m.cls = cf := by
    obtain ⟨_, _, c', _, _, _, -, -, hf', -, -, -, hown2, -⟩ := Cond.laysFinal_spec hlay
    have e1 : c' = cf := by have := hi.symm.trans hf'; simp at this; exact this.1.symm
    rw [hdecl] at hown2
    rw [← e1]; exact Option.some.inj (hown.symm.trans hown2)
  have h6 := u_fits hfc hkC hkind (Or.inr hlay) hi (hc.2.2.1 k hk) hn hfit
  refine W.putFinK hx9 hb9 hown (hts _ hq) hi hst hcf (hmn.1.trans hnm) (by rw [q2]; exact h6) q1 q3 (by rw [hsl]; exact k2_hasslot (q4 k hk)) rfl rfl hd fun H' e1 e2 e3 => ?_
  rw [hsl] at e1 ⊢
  exact kk H' _ e2 e3 ⟨_, hc.1, t_OB.to (V := updV (vp_V fs) k v) ⟨_, e1, q2, q3, t_set q4 hap hk v⟩ (fun j _ => vp_updV_set hlen v j)⟩ (hS.put e2 e3 hb)
theorem sInts_P {s : State} {H : Heap} {t a n : Nat} {f : Nat → Int32} (ht : t = 0 ∨ t = 1) (hK : va_K G.1 sCL (sTys G) s) (hM : sMod G s M H) (h : sInts M t a = some (n, f)) : ∃ cell : Cell, H[a]? = some cell ∧ s.isArrayOf cell (sTy t) ∧ cell.vm ≠ .unknown ∧ n ≤ cell.slots.size ∧ cell.slots.size.toInt32 = nI n ∧ ∀ j : Nat, j < n → cell.slots[j]? = some (.int (f j)) := by
  unfold sInts at h
  split at h
  · rename_i k n' f' he
    by_cases hc : k = t
    · rw [if_pos hc] at h
      cases h
      subst hc
      obtain ⟨h9, hP⟩ := hM.arr he
      have hz : (vp_cell (G.2.1 k) (n, .inl f)).slots.size = n := by rw [vp_cell_i, arrV_size]
      refine ⟨_, hP 0 _ rfl, (hK.2 k _ (sTys_at G h9)).1 n (fun j => .int (f j)), (fun q => by cases q), by rw [hz]; exact Nat.le_refl _, by rw [hz]; rfl, fun j hj => ?_⟩
      rw [vp_cell_i, arrV_read _ _ hj]
    · rw [if_neg hc] at h
      cases h
  · rename_i k n' f' w9 he
    by_cases hc : k = t
    · rw [if_pos hc] at h
      cases h
      subst hc
      obtain ⟨cell, q1, q2, q3, q4, q5, q6, -⟩ := (hM.2.2 a _ he).1
      exact ⟨cell, q1, q2, q3, q4, q5, q6⟩
    · rw [if_neg hc] at h
      cases h
  · cases h
theorem sXld_spec {t a : Nat} {i x : Int32} (h : sXld M t a i = some x) : ∃ n f, sInts M t a = some (n, f) ∧ vp_in i n ∧ x = f i.toNatClampNeg := by
  obtain ⟨⟨n, f⟩, h1, h2⟩ := Option.bind_eq_some_iff.mp h
  by_cases hc : i < 0 ∨ n ≤ i.toNatClampNeg
  · rw [if_pos hc] at h2
    cases h2
  · rw [if_neg hc] at h2
    cases h2
    exact ⟨n, f, h1, hc, rfl⟩
theorem sIn_sz {i : Int32} {n z : Nat} (h : vp_in i n) (hz : n ≤ z) : ¬ (i < 0 ∨ z ≤ i.toNatClampNeg) := fun q => by
  rcases q with q | q
  · exact h (Or.inl q)
  · exact h (Or.inr (Nat.le_trans hz q))
theorem r_iald {a : Nat} {i : Int32} {K : Int32 → Option (sRes × sMem)} (hd : decode cc pc = .ok (.iaload, 1)) (kk : ∀ x, AW l G own nm cc mL ret hh d (pc + 1) L (.int x :: st) M (K x)) : AW l G own nm cc mL ret hh d pc L (.int i :: .ref a :: st) M ((sIald M a i).bind K) := by
  refine AW.bind fun x hx => ?_
  obtain ⟨n, f, h1, h2, rfl⟩ := sXld_spec hx
  refine AW.step (fun p e9 R s m args below meth c H locs k9 n9 ls Q hE hM hS hl kk => ?_) (kk _)
  obtain ⟨cell, q1, q2, q3, q4, -, q5⟩ := sInts_P (Or.inl rfl) hE.2.2.2.2.2.2.2.2.2.2.2.1 hM h1
  exact W.iald (v := .int (f i.toNatClampNeg)) hE.1 hE.2.1 q1 q2 q3 (sIn_sz h2 q4) (q5 _ (Nat.not_le.mp fun q => h2 (Or.inr q))) rfl rfl hd (kk ls hl)
theorem r_bald {a : Nat} {i : Int32} {K : Int32 → Option (sRes × sMem)} (hd : decode cc pc = .ok (.baload, 1)) (kk : ∀ x, AW l G own nm cc mL ret hh d (pc + 1) L (.int x :: st) M (K x)) : AW l G own nm cc mL ret hh d pc L (.int i :: .ref a :: st) M ((sBald M a i).bind K) := by
  refine AW.bind fun x hx => ?_
  obtain ⟨n, f, h1, h2, rfl⟩ := sXld_spec hx
  refine AW.step (fun p e9 R s m args below meth c H locs k9 n9 ls Q hE hM hS hl kk => ?_) (kk _)
  obtain ⟨cell, q1, q2, q3, q4, -, q5⟩ := sInts_P (Or.inr rfl) hE.2.2.2.2.2.2.2.2.2.2.2.1 hM h1
  exact W.bald (v := .int (f i.toNatClampNeg)) hE.1 hE.2.1 q1 q2 q3 (sIn_sz h2 q4) (q5 _ (Nat.not_le.mp fun q => h2 (Or.inr q))) rfl rfl hd (kk ls hl)
theorem s_store (cA : ClassId) {n : Nat} {f : Nat → Int32} {i : Nat} {x : Int32} : (vp_cell cA (n, .inl f)).setSlot i (.int x) = vp_cell cA (n, .inl (upd f i x)) := by
  rw [vp_cell_i, vp_cell_i, arrV_store]
  congr 2
  funext q
  by_cases hq : q = i
  · subst hq
    simp [updV, upd]
  · simp [updV, upd, hq]
theorem s_storeq (cA : ClassId) {n : Nat} {f : Nat → Option Nat} {i : Nat} {x : Option Nat} : (vp_cell cA (n, .inr (.inr (.inr (.inr f))))).setSlot i (va_rf x) = vp_cell cA (n, .inr (.inr (.inr (.inr (va_up f i x))))) := by
  rw [vp_cell_q, vp_cell_q, arrV_store]
  congr 2
  funext q
  by_cases hq : q = i
  · subst hq
    simp [updV, va_up]
  · simp [updV, va_up, hq]
theorem r_iast {a : Nat} {i x : Int32} {K : sMem → Option (sRes × sMem)} (hd : decode cc pc = .ok (.iastore, 1)) (kk : ∀ M1, AW l G own nm cc mL ret hh d (pc + 1) L st M1 (K M1)) : AW l G own nm cc mL ret hh d pc L (.int x :: .int i :: .ref a :: st) M ((sIast M a i x).bind K) := by
  refine AW.bind fun M1 hx => ?_
  obtain ⟨n, f, h1, hb, h2, rfl⟩ := sXst_spec hx
  refine AW.write hb (fun p e9 R s m args below meth c H locs k9 n9 ls Q hE hM hS hl kk => ?_) (kk _)
  obtain ⟨h9, hP⟩ := hM.arr h1
  have hK := hE.2.2.2.2.2.2.2.2.2.2.2.1
  refine W.iast hE.1 hE.2.1 (hP 0 _ rfl) ((hK.2 0 _ (sTys_at G h9)).1 n (fun j => .int (f j))) (fun q => by cases q) (by show ¬ (i < 0 ∨ (arrV _ _ _).slots.size ≤ _); rw [arrV_size]; exact h2) rfl rfl hd fun H1 e z oq => ?_
  exact kk H1 _ z oq ⟨h9, by rw [e, s_store]⟩ (hS.put z oq hb)
theorem r_bast {a : Nat} {i x : Int32} {K : sMem → Option (sRes × sMem)} (hd : decode cc pc = .ok (.bastore, 1)) (kk : ∀ M1, AW l G own nm cc mL ret hh d (pc + 1) L st M1 (K M1)) : AW l G own nm cc mL ret hh d pc L (.int x :: .int i :: .ref a :: st) M ((sBast M a i x).bind K) := by
  refine AW.bind fun M1 hx => ?_
  obtain ⟨n, f, h1, hb, h2, rfl⟩ := sXst_spec hx
  refine AW.write hb (fun p e9 R s m args below meth c H locs k9 n9 ls Q hE hM hS hl kk => ?_) (kk _)
  obtain ⟨h9, hP⟩ := hM.arr h1
  have hK := hE.2.2.2.2.2.2.2.2.2.2.2.1
  refine W.bast hE.1 hE.2.1 (hP 0 _ rfl) ((hK.2 1 _ (sTys_at G h9)).1 n (fun j => .int (f j))) (fun q => by cases q) (by show ¬ (i < 0 ∨ (arrV _ _ _).slots.size ≤ _); rw [arrV_size]; exact h2) rfl rfl hd fun H1 e z oq => ?_
  exact kk H1 _ z oq ⟨h9, by rw [e, vp_nar_byte, ← s_store]; rfl⟩ (hS.put z oq hb)
theorem r_alen {a : Nat} {K : Int32 → Option (sRes × sMem)} (hd : decode cc pc = .ok (.arraylength, 1)) (kk : ∀ x, AW l G own nm cc mL ret hh d (pc + 1) L (.int x :: st) M (K x)) : AW l G own nm cc mL ret hh d pc L (.ref a :: st) M ((sLen M a).bind K) := by
  refine AW.bind fun x hx => ?_
  refine AW.step (fun p e9 R s m args below meth c H locs k9 n9 ls Q hE hM hS hl kk => ?_) (kk _)
  have hK := hE.2.2.2.2.2.2.2.2.2.2.2.1
  unfold sLen at hx
  split at hx
  · rename_i t n y he
    cases hx
    obtain ⟨h9, hP⟩ := hM.arr he
    exact va_alen (x := (n, y)) (v := nI n) hE.1 hE.2.1 hK hP 0 t rfl (sTys_at G h9) rfl hd (kk ls hl)
  · rename_i t n f he
    cases hx
    obtain ⟨cell, q1, q2, q3, q4, q5, q6, -⟩ := (hM.2.2 a _ he).1
    exact W.alen hE.1 hE.2.1 q1 q2 q5 rfl rfl hd (kk ls hl)
  · cases hx
theorem sTy_ref {k : Nat} (h : 2 ≤ k) : (sTy k).isReference = true := by
  match k, h with
  | 2, _ => rfl
  | 3, _ => rfl
  | 4, _ => rfl
  | 5, _ => rfl
  | 6, _ => rfl
  | 7, _ => rfl
  | k + 8, _ => rfl
theorem sAldR_spec {a : Nat} {i : Int32} {x : Option Nat} (h : sAldR M a i = some x) : ∃ k n f, M.2.2.2 a = some (sArq k n f) ∧ 2 ≤ k ∧ vp_in i n ∧ x = f i.toNatClampNeg := by
  obtain ⟨⟨k, n, f⟩, h1, h2⟩ := Option.bind_eq_some_iff.mp h
  by_cases hc : i < 0 ∨ n ≤ i.toNatClampNeg
  · rw [if_pos hc] at h2
    cases h2
  · rw [if_neg hc] at h2
    cases h2
    exact ⟨k, n, f, (sRfs_spec h1).1, (sRfs_spec h1).2, hc, rfl⟩
theorem r_ald {a : Nat} {i : Int32} {x : Option Nat} (hd : decode cc pc = .ok (.aaload, 1)) (hx : sAldR M a i = some x) (kk : AW l G own nm cc mL ret hh d (pc + 1) L (va_rf x :: st) M o) : AW l G own nm cc mL ret hh d pc L (.int i :: .ref a :: st) M o := by
  obtain ⟨t, n, f, h1, ht, h2, rfl⟩ := sAldR_spec hx
  refine AW.step (fun p e9 R s m args below meth c H locs k9 n9 ls Q hE hM hS hl kk => ?_) kk
  have hK := hE.2.2.2.2.2.2.2.2.2.2.2.1
  obtain ⟨h9, hP⟩ := hM.arr h1
  have hlt : i.toNatClampNeg < n := Nat.not_le.mp fun q => h2 (Or.inr q)
  exact W.aald (v := va_rf (f i.toNatClampNeg)) (ty := sTy t) hE.1 hE.2.1 (hP 0 _ rfl) ((hK.2 t _ (sTys_at G h9)).1 n (fun j => va_rf (f j))) (sTy_ref ht) (fun q => by cases q) (by show ¬ (i < 0 ∨ (arrV _ _ _).slots.size ≤ _); rw [arrV_size]; exact h2) (by show (arrV _ _ _).slots[_]? = _; rw [arrV_read _ _ hlt]) rfl rfl hd (kk ls hl)
theorem r_aldN {a : Nat} {i : Int32} {K : Nat → Option (sRes × sMem)} (hd : decode cc pc = .ok (.aaload, 1)) (kk : ∀ x, AW l G own nm cc mL ret hh d (pc + 1) L (.ref x :: st) M (K x)) : AW l G own nm cc mL ret hh d pc L (.int i :: .ref a :: st) M ((sAldN M a i).bind K) := by
  refine AW.bind fun x hx => ?_
  obtain ⟨y, h1, h2⟩ := Option.bind_eq_some_iff.mp hx
  cases h2
  exact r_ald hd h1 (kk x)
theorem r_aldR {a : Nat} {i : Int32} {K : Option Nat → Option (sRes × sMem)} (hd : decode cc pc = .ok (.aaload, 1)) (k1 : ∀ x, AW l G own nm cc mL ret hh d (pc + 1) L (.ref x :: st) M (K (some x))) (k0 : AW l G own nm cc mL ret hh d (pc + 1) L (.null :: st) M (K none)) : AW l G own nm cc mL ret hh d pc L (.int i :: .ref a :: st) M ((sAldR M a i).bind K) := by
  refine AW.bind fun x hx => ?_
  cases x with
  | none => exact r_ald hd hx k0
  | some x => exact r_ald hd hx (k1 x)
end RH
