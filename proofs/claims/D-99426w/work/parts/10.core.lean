/-! THE ABSTRACT HEAP: a machine heap seen as a function from addresses to cells; a method's walk over it ('AW'), a method's contract ('sEv'), rows. -/
set_option maxRecDepth 100000
abbrev sCell : Type := (Nat × vp_A) ⊕ ((Nat × List Value) ⊕ ((Nat × List Value) ⊕ (Nat ⊕ (Nat × Nat × (Nat → Int32) × Option Nat))))
/-- base (below it nothing is written), size, slots made, the cells -/
abbrev sMem : Type := Nat × Nat × Nat × (Nat → Option sCell)
abbrev sRes : Type := Option Value ⊕ Nat
/-- class ids and slots of the known classes; array classes; lambda classes; addresses of constants -/
abbrev sG : Type := va_G × (Nat → ClassId) × (Nat → ClassId) × (Nat → Nat)
abbrev sArr (k n : Nat) (f : Nat → Int32) : sCell := .inl (k, n, .inl f)
abbrev sArq (k n : Nat) (f : Nat → Option Nat) : sCell := .inl (k, n, .inr (.inr (.inr (.inr f))))
abbrev sObj (ci : Nat) (fs : List Value) : sCell := .inr (.inl (ci, fs))
abbrev sLam (k : Nat) (vs : List Value) : sCell := .inr (.inr (.inl (k, vs)))
abbrev sStr (v : Nat) : sCell := .inr (.inr (.inr (.inl v)))
abbrev sRw (k n : Nat) (f : Nat → Int32) (w : Option Nat) : sCell := .inr (.inr (.inr (.inr (k, n, f, w))))
abbrev sRo (k n : Nat) (f : Nat → Int32) : sCell := sRw k n f none
/-- a text whose bytes are at v -/
def sStrP (v a B : Nat) (s : State) (H : Heap) : Prop := va_O "java/lang/String" a (fun q => B ≤ q) s H ∧ va_OF "java/lang/String" "coder" "B" (.int 0) a (fun q => B ≤ q) s H ∧ va_OF "java/lang/String" "value" "[B" (.ref v) a (fun q => B ≤ q) s H
theorem sStrP.moved {v a B : Nat} {u U : State} {H : Heap} (hvm : u.vm.Alike U.vm) (h : sStrP v a B u H) : sStrP v a B U H := ⟨va_O.moved hvm h.1, va_OF.moved hvm h.2.1, va_OF.moved hvm h.2.2⟩
theorem sStrP.kept {v a B : Nat} {s : State} {H H1 : Heap} (hq : ∀ q : Nat, q < H.size → ¬ B ≤ q → H1[q]? = H[q]?) (h : sStrP v a B s H) : sStrP v a B s H1 := ⟨h.1.kept hq, h.2.1.kept hq, h.2.2.kept hq⟩
def sTy (k : Nat) : FieldType := match k with
  | 0 => .int
  | 1 => .byte
  | 2 => .object "java/lang/String"
  | 3 => .array (.object "java/lang/String")
  | 4 => .object "SilkClerks$Term"
  | 5 => .object "SilkClerks$Fact"
  | 6 => .object "SilkClerks$Meal"
  | 7 => .object "SilkClerks$Trays"
  | _ => .object "SilkClerks$Read"
def sTys (G : sG) : List (ClassId × FieldType) := (List.range 9).map (fun k => (G.2.1 k, sTy k))
theorem sTys_at (G : sG) {k : Nat} (h : k < 9) : (sTys G)[k]? = some (G.2.1 k, sTy k) := by simp [sTys, h]
abbrev sCL : List vw_C := [(RX0, TX0, 47), (RX1, TX1, 4), (RX2, TX2, 19), (RX3, TX3, 33), (RX4, TX4, 8), (RX5, TX5, 3), (RX7, TX7, 1), (RX8, TX8, 1), (RX9, TX9, 3), (RX10, TX10, 1), (RX11, TX11, 4), (RX12, TX12, 2)]
abbrev sA (B : Nat) : Nat → Prop := fun q => B ≤ q
/-! ## which real heap is meant -/
def sAt (G : sG) (B : Nat) (s : State) (a : Nat) (e : sCell) (H : Heap) : Prop := match e with
  | .inl (k, x) => k < 9 ∧ H[a]? = some (vp_cell (G.2.1 k) x)
  | .inr (.inl (ci, fs)) => va_at G.1 sCL (a, .inr (ci, fs)) H
  | .inr (.inr (.inl (k, vs))) => H[a]? = some { cls := G.2.2.1 k, slots := vs.toArray, vm := .none }
  | .inr (.inr (.inr (.inl v))) => sStrP v a B s H
  | .inr (.inr (.inr (.inr (k, n, f, w)))) => va_T (sTy k) a n (fun j => .int (f j)) (sA B) s H ∧ ∀ v : Nat, w = some v → sStrP v a B s H
def sMod (G : sG) (s : State) (M : sMem) (H : Heap) : Prop := H.size = M.2.1 ∧ M.1 ≤ M.2.1 ∧ ∀ (a : Nat) (e : sCell), M.2.2.2 a = some e → sAt G M.1 s a e H
theorem sAt.moved {G : sG} {B : Nat} {u U : State} (hvm : u.vm.Alike U.vm) {a : Nat} {e : sCell} {H : Heap} (h : sAt G B u a e H) : sAt G B U a e H := by
  rcases e with x | x | x | x | x
  · exact h
  · exact h
  · exact h
  · exact sStrP.moved hvm h
  · exact ⟨va_T.moved hvm h.1, fun v hv => (h.2 v hv).moved hvm⟩
theorem sAt.lt {G : sG} {B : Nat} {s : State} {a : Nat} {e : sCell} {H : Heap} (h : sAt G B s a e H) : a < H.size := by
  rcases e with x | x | x | x | x
  · exact (Array.getElem?_eq_some_iff.mp h.2).1
  · exact va_at.lt (show va_at G.1 sCL (a, .inr x) H from h)
  · exact (Array.getElem?_eq_some_iff.mp h).1
  · obtain ⟨c, h1, -⟩ := h.1
    exact (Array.getElem?_eq_some_iff.mp h1).1
  · obtain ⟨⟨c, h1, -⟩, -⟩ := h
    exact (Array.getElem?_eq_some_iff.mp h1).1
/-- nothing changed but at a0, which may be written -/
theorem sAt.kept {G : sG} {B : Nat} {s : State} {a : Nat} {e : sCell} {H H1 : Heap} (h : sAt G B s a e H) (h0 : H1[a]? = H[a]?) (hq : ∀ q : Nat, q < H.size → ¬ sA B q → H1[q]? = H[q]?) : sAt G B s a e H1 := by
  rcases e with x | x | x | x | x
  · exact ⟨h.1, h0.trans h.2⟩
  · exact va_at.kept (show va_at G.1 sCL (a, .inr x) H from h) h0
  · exact h0.trans h
  · exact sStrP.kept hq h
  · exact ⟨va_T.kept h.1 hq, fun v hv => (h.2 v hv).kept hq⟩
theorem sMod.moved {G : sG} {u U : State} (hvm : u.vm.Alike U.vm) {M : sMem} {H : Heap} (h : sMod G u M H) : sMod G U M H := ⟨h.1, h.2.1, fun a e he => (h.2.2 a e he).moved hvm⟩
def sUp (M : sMem) (a : Nat) (e : sCell) : sMem := (M.1, M.2.1, M.2.2.1, fun q => if q = a then some e else M.2.2.2 q)
def sNew (M : sMem) (e : sCell) (n : Nat) : sMem := (M.1, M.2.1 + 1, M.2.2.1 + n, fun q => if q = M.2.1 then some e else M.2.2.2 q)
theorem sMod.up {G : sG} {s : State} {M : sMem} {H H1 : Heap} {a : Nat} {e : sCell} (h : sMod G s M H) (hb : M.1 ≤ a) (z : H1.size = H.size) (oq : ∀ q : Nat, q ≠ a → H1[q]? = H[q]?) (he : sAt G M.1 s a e H1) : sMod G s (sUp M a e) H1 := by
  refine ⟨z.trans h.1, h.2.1, fun q x hx => ?_⟩
  simp only [sUp] at hx
  by_cases hq : q = a
  · subst hq
    rw [if_pos rfl] at hx
    cases hx
    exact he
  · rw [if_neg hq] at hx
    exact (h.2.2 q x hx).kept (oq q hq) (fun r _ hr => oq r (fun e => hr (by rw [e]; exact hb)))
theorem sMod.new {G : sG} {s : State} {M : sMem} {H H1 : Heap} {e : sCell} {n : Nat} (h : sMod G s M H) (z : H1.size = H.size + 1) (oq : ∀ q : Nat, q < H.size → H1[q]? = H[q]?) (he : sAt G M.1 s H.size e H1) : sMod G s (sNew M e n) H1 := by
  refine ⟨by rw [z, h.1]; rfl, Nat.le_trans h.2.1 (Nat.le_succ _), fun q x hx => ?_⟩
  simp only [sNew] at hx
  by_cases hq : q = M.2.1
  · subst hq
    rw [if_pos rfl] at hx
    cases hx
    rw [← h.1]
    exact he
  · rw [if_neg hq] at hx
    have hc := h.2.2 q x hx
    exact hc.kept (oq q hc.lt) (fun r hr _ => oq r hr)
def sNW : List Cond := [Jvm.Cond.methodLinkNest "SilkClerks" (133 : Nat) ({ cls := "SilkClerks$Text", name := "<init>", desc := "()V" } : Jvm.MethodName) "SilkClerks", Jvm.Cond.methodLinkNest "SilkClerks" (161 : Nat) ({ cls := "SilkClerks$Trays", name := "<init>", desc := "(LSilkClerks;)V" } : Jvm.MethodName) "SilkClerks", Jvm.Cond.methodLinkNest "SilkClerks" (386 : Nat) ({ cls := "SilkClerks$Fact", name := "<init>", desc := "([III)V" } : Jvm.MethodName) "SilkClerks", Jvm.Cond.methodLinkNest "SilkClerks" (395 : Nat) ({ cls := "SilkClerks$Meal", name := "<init>", desc := "(IIII)V" } : Jvm.MethodName) "SilkClerks", Jvm.Cond.methodLinkNest "SilkClerks" (552 : Nat) ({ cls := "SilkClerks$Read", name := "<init>", desc := "(II)V" } : Jvm.MethodName) "SilkClerks", Jvm.Cond.methodLinkNest "SilkClerks$Not" (1 : Nat) ({ cls := "SilkClerks$Term", name := "<init>", desc := "()V" } : Jvm.MethodName) "SilkClerks", Jvm.Cond.castable "SilkClerks$Not" "SilkClerks$Term", Jvm.Cond.fieldLinkNest "SilkClerks$Trays" (82 : Nat) "SilkClerks" "lawHas" "[I" "SilkClerks", Jvm.Cond.fieldLinkNest "SilkClerks$Trays" (96 : Nat) "SilkClerks" "facts" "[LSilkClerks$Fact;" "SilkClerks", Jvm.Cond.fieldLinkNest "SilkClerks$Trays" (147 : Nat) "SilkClerks" "meals" "[LSilkClerks$Meal;" "SilkClerks", Jvm.Cond.fieldLinkNest "SilkClerks$Trays" (171 : Nat) "SilkClerks" "worms" "I" "SilkClerks", Jvm.Cond.fieldLinkNest "SilkClerks$Trays" (85 : Nat) "SilkClerks" "tray" "[I" "SilkClerks", Jvm.Cond.methodLinkNest "SilkClerks$Trays" (41 : Nat) ({ cls := "SilkClerks", name := "copies", desc := "([I[I)V" } : Jvm.MethodName) "SilkClerks", Jvm.Cond.methodLinkNest "SilkClerks$Trays" (106 : Nat) ({ cls := "SilkClerks", name := "has", desc := "(II)Z" } : Jvm.MethodName) "SilkClerks", Jvm.Cond.methodLinkNest "SilkClerks$Trays" (92 : Nat) ({ cls := "SilkClerks", name := "tells", desc := "(III)I" } : Jvm.MethodName) "SilkClerks", Jvm.Cond.methodLinkNest "SilkClerks$Trays" (124 : Nat) ({ cls := "SilkClerks", name := "spunOf", desc := "(II)[I" } : Jvm.MethodName) "SilkClerks", Jvm.Cond.methodLinkNest "SilkClerks$Trays" (184 : Nat) ({ cls := "SilkClerks", name := "writes", desc := "(III)V" } : Jvm.MethodName) "SilkClerks", Jvm.Cond.castable "SilkClerks$Fault" "SilkClerks$Fault", Jvm.Cond.declares ({ cls := "SilkClerks$Term", name := "of", desc := "([I)I" } : Jvm.MethodName), Jvm.Cond.methodLinkNest "SilkClerks$Number" (1 : Nat) ({ cls := "SilkClerks$Term", name := "<init>", desc := "()V" } : Jvm.MethodName) "SilkClerks", Jvm.Cond.castable "SilkClerks$Number" "SilkClerks$Term", Jvm.Cond.methodLinkNest "SilkClerks$Word" (1 : Nat) ({ cls := "SilkClerks$Term", name := "<init>", desc := "()V" } : Jvm.MethodName) "SilkClerks", Jvm.Cond.castable "SilkClerks$Word" "SilkClerks$Term", Jvm.Cond.methodLinkNest "SilkClerks$Two" (1 : Nat) ({ cls := "SilkClerks$Term", name := "<init>", desc := "()V" } : Jvm.MethodName) "SilkClerks", Jvm.Cond.castable "SilkClerks$Two" "SilkClerks$Term", Jvm.Cond.declares ({ cls := "SilkClerks$Condition", name := "holds", desc := "(I)Z" } : Jvm.MethodName), Jvm.Cond.declares ({ cls := "SilkClerks$Measure", name := "of", desc := "(I)I" } : Jvm.MethodName)]
theorem sNW_tbl : ∀ w ∈ sNW, w ∈ lw_tbl := List.forall_mem_cons.mpr ⟨q221, List.forall_mem_cons.mpr ⟨q251, List.forall_mem_cons.mpr ⟨q780, List.forall_mem_cons.mpr ⟨q903, List.forall_mem_cons.mpr ⟨q1156, List.forall_mem_cons.mpr ⟨q881, List.forall_mem_cons.mpr ⟨q2045, List.forall_mem_cons.mpr ⟨q364, List.forall_mem_cons.mpr ⟨q367, List.forall_mem_cons.mpr ⟨q369, List.forall_mem_cons.mpr ⟨q371, List.forall_mem_cons.mpr ⟨q373, List.forall_mem_cons.mpr ⟨q932, List.forall_mem_cons.mpr ⟨q964, List.forall_mem_cons.mpr ⟨q975, List.forall_mem_cons.mpr ⟨q1013, List.forall_mem_cons.mpr ⟨q1044, List.forall_mem_cons.mpr ⟨q681, List.forall_mem_cons.mpr ⟨q980, List.forall_mem_cons.mpr ⟨q826, List.forall_mem_cons.mpr ⟨q2042, List.forall_mem_cons.mpr ⟨q839, List.forall_mem_cons.mpr ⟨q2043, List.forall_mem_cons.mpr ⟨q849, List.forall_mem_cons.mpr ⟨q2044, List.forall_mem_cons.mpr ⟨q1139, List.forall_mem_cons.mpr ⟨q1203, fun _ h => absurd h List.not_mem_nil⟩⟩⟩⟩⟩⟩⟩⟩⟩⟩⟩⟩⟩⟩⟩⟩⟩⟩⟩⟩⟩⟩⟩⟩⟩⟩⟩
theorem sNW_warm {s U : State} (hW : s.WarmedH U.vm) : ∀ w ∈ sNW, va_Nw w s → va_Nw w U := List.forall_mem_cons.mpr ⟨fun h => va_Nw.warmM hW h, List.forall_mem_cons.mpr ⟨fun h => va_Nw.warmM hW h, List.forall_mem_cons.mpr ⟨fun h => va_Nw.warmM hW h, List.forall_mem_cons.mpr ⟨fun h => va_Nw.warmM hW h, List.forall_mem_cons.mpr ⟨fun h => va_Nw.warmM hW h, List.forall_mem_cons.mpr ⟨fun h => va_Nw.warmM hW h, List.forall_mem_cons.mpr ⟨fun h => va_Nw.warmC hW h, List.forall_mem_cons.mpr ⟨fun h => va_Nw.warmF hW h, List.forall_mem_cons.mpr ⟨fun h => va_Nw.warmF hW h, List.forall_mem_cons.mpr ⟨fun h => va_Nw.warmF hW h, List.forall_mem_cons.mpr ⟨fun h => va_Nw.warmF hW h, List.forall_mem_cons.mpr ⟨fun h => va_Nw.warmF hW h, List.forall_mem_cons.mpr ⟨fun h => va_Nw.warmM hW h, List.forall_mem_cons.mpr ⟨fun h => va_Nw.warmM hW h, List.forall_mem_cons.mpr ⟨fun h => va_Nw.warmM hW h, List.forall_mem_cons.mpr ⟨fun h => va_Nw.warmM hW h, List.forall_mem_cons.mpr ⟨fun h => va_Nw.warmM hW h, List.forall_mem_cons.mpr ⟨fun h => va_Nw.warmC hW h, List.forall_mem_cons.mpr ⟨fun h => va_Nw.warmD hW h, List.forall_mem_cons.mpr ⟨fun h => va_Nw.warmM hW h, List.forall_mem_cons.mpr ⟨fun h => va_Nw.warmC hW h, List.forall_mem_cons.mpr ⟨fun h => va_Nw.warmM hW h, List.forall_mem_cons.mpr ⟨fun h => va_Nw.warmC hW h, List.forall_mem_cons.mpr ⟨fun h => va_Nw.warmM hW h, List.forall_mem_cons.mpr ⟨fun h => va_Nw.warmC hW h, List.forall_mem_cons.mpr ⟨fun h => va_Nw.warmD hW h, List.forall_mem_cons.mpr ⟨fun h => va_Nw.warmD hW h, fun _ h => absurd h List.not_mem_nil⟩⟩⟩⟩⟩⟩⟩⟩⟩⟩⟩⟩⟩⟩⟩⟩⟩⟩⟩⟩⟩⟩⟩⟩⟩⟩⟩
theorem sNW_tabs : ∀ w ∈ sNW, w.onTables = true := List.forall_mem_cons.mpr ⟨rfl, List.forall_mem_cons.mpr ⟨rfl, List.forall_mem_cons.mpr ⟨rfl, List.forall_mem_cons.mpr ⟨rfl, List.forall_mem_cons.mpr ⟨rfl, List.forall_mem_cons.mpr ⟨rfl, List.forall_mem_cons.mpr ⟨rfl, List.forall_mem_cons.mpr ⟨rfl, List.forall_mem_cons.mpr ⟨rfl, List.forall_mem_cons.mpr ⟨rfl, List.forall_mem_cons.mpr ⟨rfl, List.forall_mem_cons.mpr ⟨rfl, List.forall_mem_cons.mpr ⟨rfl, List.forall_mem_cons.mpr ⟨rfl, List.forall_mem_cons.mpr ⟨rfl, List.forall_mem_cons.mpr ⟨rfl, List.forall_mem_cons.mpr ⟨rfl, List.forall_mem_cons.mpr ⟨rfl, List.forall_mem_cons.mpr ⟨rfl, List.forall_mem_cons.mpr ⟨rfl, List.forall_mem_cons.mpr ⟨rfl, List.forall_mem_cons.mpr ⟨rfl, List.forall_mem_cons.mpr ⟨rfl, List.forall_mem_cons.mpr ⟨rfl, List.forall_mem_cons.mpr ⟨rfl, List.forall_mem_cons.mpr ⟨rfl, List.forall_mem_cons.mpr ⟨rfl, fun _ h => absurd h List.not_mem_nil⟩⟩⟩⟩⟩⟩⟩⟩⟩⟩⟩⟩⟩⟩⟩⟩⟩⟩⟩⟩⟩⟩⟩⟩⟩⟩⟩
theorem nw_q221 : (Jvm.Cond.methodLinkNest "SilkClerks" (133 : Nat) ({ cls := "SilkClerks$Text", name := "<init>", desc := "()V" } : Jvm.MethodName) "SilkClerks") ∈ sNW := List.mem_of_getElem? (i := 0) rfl
theorem nw_q251 : (Jvm.Cond.methodLinkNest "SilkClerks" (161 : Nat) ({ cls := "SilkClerks$Trays", name := "<init>", desc := "(LSilkClerks;)V" } : Jvm.MethodName) "SilkClerks") ∈ sNW := List.mem_of_getElem? (i := 1) rfl
theorem nw_q780 : (Jvm.Cond.methodLinkNest "SilkClerks" (386 : Nat) ({ cls := "SilkClerks$Fact", name := "<init>", desc := "([III)V" } : Jvm.MethodName) "SilkClerks") ∈ sNW := List.mem_of_getElem? (i := 2) rfl
theorem nw_q903 : (Jvm.Cond.methodLinkNest "SilkClerks" (395 : Nat) ({ cls := "SilkClerks$Meal", name := "<init>", desc := "(IIII)V" } : Jvm.MethodName) "SilkClerks") ∈ sNW := List.mem_of_getElem? (i := 3) rfl
theorem nw_q1156 : (Jvm.Cond.methodLinkNest "SilkClerks" (552 : Nat) ({ cls := "SilkClerks$Read", name := "<init>", desc := "(II)V" } : Jvm.MethodName) "SilkClerks") ∈ sNW := List.mem_of_getElem? (i := 4) rfl
theorem nw_q881 : (Jvm.Cond.methodLinkNest "SilkClerks$Not" (1 : Nat) ({ cls := "SilkClerks$Term", name := "<init>", desc := "()V" } : Jvm.MethodName) "SilkClerks") ∈ sNW := List.mem_of_getElem? (i := 5) rfl
theorem nw_q2045 : (Jvm.Cond.castable "SilkClerks$Not" "SilkClerks$Term") ∈ sNW := List.mem_of_getElem? (i := 6) rfl
theorem nw_q364 : (Jvm.Cond.fieldLinkNest "SilkClerks$Trays" (82 : Nat) "SilkClerks" "lawHas" "[I" "SilkClerks") ∈ sNW := List.mem_of_getElem? (i := 7) rfl
theorem nw_q367 : (Jvm.Cond.fieldLinkNest "SilkClerks$Trays" (96 : Nat) "SilkClerks" "facts" "[LSilkClerks$Fact;" "SilkClerks") ∈ sNW := List.mem_of_getElem? (i := 8) rfl
theorem nw_q369 : (Jvm.Cond.fieldLinkNest "SilkClerks$Trays" (147 : Nat) "SilkClerks" "meals" "[LSilkClerks$Meal;" "SilkClerks") ∈ sNW := List.mem_of_getElem? (i := 9) rfl
theorem nw_q371 : (Jvm.Cond.fieldLinkNest "SilkClerks$Trays" (171 : Nat) "SilkClerks" "worms" "I" "SilkClerks") ∈ sNW := List.mem_of_getElem? (i := 10) rfl
theorem nw_q373 : (Jvm.Cond.fieldLinkNest "SilkClerks$Trays" (85 : Nat) "SilkClerks" "tray" "[I" "SilkClerks") ∈ sNW := List.mem_of_getElem? (i := 11) rfl
theorem nw_q932 : (Jvm.Cond.methodLinkNest "SilkClerks$Trays" (41 : Nat) ({ cls := "SilkClerks", name := "copies", desc := "([I[I)V" } : Jvm.MethodName) "SilkClerks") ∈ sNW := List.mem_of_getElem? (i := 12) rfl
theorem nw_q964 : (Jvm.Cond.methodLinkNest "SilkClerks$Trays" (106 : Nat) ({ cls := "SilkClerks", name := "has", desc := "(II)Z" } : Jvm.MethodName) "SilkClerks") ∈ sNW := List.mem_of_getElem? (i := 13) rfl
theorem nw_q975 : (Jvm.Cond.methodLinkNest "SilkClerks$Trays" (92 : Nat) ({ cls := "SilkClerks", name := "tells", desc := "(III)I" } : Jvm.MethodName) "SilkClerks") ∈ sNW := List.mem_of_getElem? (i := 14) rfl
theorem nw_q1013 : (Jvm.Cond.methodLinkNest "SilkClerks$Trays" (124 : Nat) ({ cls := "SilkClerks", name := "spunOf", desc := "(II)[I" } : Jvm.MethodName) "SilkClerks") ∈ sNW := List.mem_of_getElem? (i := 15) rfl
theorem nw_q1044 : (Jvm.Cond.methodLinkNest "SilkClerks$Trays" (184 : Nat) ({ cls := "SilkClerks", name := "writes", desc := "(III)V" } : Jvm.MethodName) "SilkClerks") ∈ sNW := List.mem_of_getElem? (i := 16) rfl
theorem nw_q681 : (Jvm.Cond.castable "SilkClerks$Fault" "SilkClerks$Fault") ∈ sNW := List.mem_of_getElem? (i := 17) rfl
theorem nw_q980 : (Jvm.Cond.declares ({ cls := "SilkClerks$Term", name := "of", desc := "([I)I" } : Jvm.MethodName)) ∈ sNW := List.mem_of_getElem? (i := 18) rfl
theorem nw_q826 : (Jvm.Cond.methodLinkNest "SilkClerks$Number" (1 : Nat) ({ cls := "SilkClerks$Term", name := "<init>", desc := "()V" } : Jvm.MethodName) "SilkClerks") ∈ sNW := List.mem_of_getElem? (i := 19) rfl
theorem nw_q2042 : (Jvm.Cond.castable "SilkClerks$Number" "SilkClerks$Term") ∈ sNW := List.mem_of_getElem? (i := 20) rfl
theorem nw_q839 : (Jvm.Cond.methodLinkNest "SilkClerks$Word" (1 : Nat) ({ cls := "SilkClerks$Term", name := "<init>", desc := "()V" } : Jvm.MethodName) "SilkClerks") ∈ sNW := List.mem_of_getElem? (i := 21) rfl
theorem nw_q2043 : (Jvm.Cond.castable "SilkClerks$Word" "SilkClerks$Term") ∈ sNW := List.mem_of_getElem? (i := 22) rfl
theorem nw_q849 : (Jvm.Cond.methodLinkNest "SilkClerks$Two" (1 : Nat) ({ cls := "SilkClerks$Term", name := "<init>", desc := "()V" } : Jvm.MethodName) "SilkClerks") ∈ sNW := List.mem_of_getElem? (i := 23) rfl
theorem nw_q2044 : (Jvm.Cond.castable "SilkClerks$Two" "SilkClerks$Term") ∈ sNW := List.mem_of_getElem? (i := 24) rfl
theorem nw_q1139 : (Jvm.Cond.declares ({ cls := "SilkClerks$Condition", name := "holds", desc := "(I)Z" } : Jvm.MethodName)) ∈ sNW := List.mem_of_getElem? (i := 25) rfl
theorem nw_q1203 : (Jvm.Cond.declares ({ cls := "SilkClerks$Measure", name := "of", desc := "(I)I" } : Jvm.MethodName)) ∈ sNW := List.mem_of_getElem? (i := 26) rfl
/-- texts by a class and its entry: the text and its number -/
def sStrs : List (String × Nat × String × Nat) := [("SilkClerks", 101, "day", 0), ("SilkClerks", 106, "when", 1), ("SilkClerks", 108, "or", 2), ("SilkClerks", 110, "not", 3), ("SilkClerks", 284, ";+-*/()<=>", 4), ("SilkClerks", 55, "fact", 5), ("SilkClerks", 57, "leaf", 6), ("SilkClerks", 59, "worth", 7), ("SilkClerks", 61, "eats", 8), ("SilkClerks", 63, "slips", 9), ("SilkClerks", 65, "strong", 10), ("SilkClerks", 67, "on", 11), ("SilkClerks", 69, "feed", 12), ("SilkClerks", 71, "with", 13), ("SilkClerks", 73, "query", 14), ("SilkClerks", 75, "by", 15), ("SilkClerks", 77, "and", 16), ("SilkClerks", 83, "worm", 17), ("SilkClerks", 85, "tray", 18), ("SilkClerks", 87, "lazy", 19), ("SilkClerks", 89, "eaten", 20), ("SilkClerks", 91, "long", 21), ("SilkClerks", 93, "noise", 22), ("SilkClerks", 95, "leaves", 23), ("SilkClerks", 97, "mark", 24), ("SilkClerks", 99, "place", 25), ("SilkClerksModel", 100, "tray", 18), ("SilkClerksModel", 102, "lazy", 19), ("SilkClerksModel", 104, "eaten", 20), ("SilkClerksModel", 106, "long", 21), ("SilkClerksModel", 108, "noise", 22), ("SilkClerksModel", 110, "leaves", 23), ("SilkClerksModel", 112, "mark", 24), ("SilkClerksModel", 114, "place", 25), ("SilkClerksModel", 116, "day", 0), ("SilkClerksModel", 118, "when", 1), ("SilkClerksModel", 120, "or", 2), ("SilkClerksModel", 122, "and", 16), ("SilkClerksModel", 124, "not", 3), ("SilkClerksModel", 126, "eats", 8), ("SilkClerksModel", 128, "slips", 9), ("SilkClerksModel", 130, "strong", 10), ("SilkClerksModel", 138, "fact", 5), ("SilkClerksModel", 140, "leaf", 6), ("SilkClerksModel", 142, "worth", 7), ("SilkClerksModel", 147, "on", 11), ("SilkClerksModel", 149, "feed", 12), ("SilkClerksModel", 151, "with", 13), ("SilkClerksModel", 153, "query", 14), ("SilkClerksModel", 155, "by", 15), ("SilkClerksModel", 94, "worm", 17)]
theorem st_q215 : (("SilkClerks", 101, "day", 0) : String × Nat × String × Nat) ∈ sStrs := List.mem_of_getElem? (i := 0) rfl
theorem st_q216 : (("SilkClerks", 106, "when", 1) : String × Nat × String × Nat) ∈ sStrs := List.mem_of_getElem? (i := 1) rfl
theorem st_q217 : (("SilkClerks", 108, "or", 2) : String × Nat × String × Nat) ∈ sStrs := List.mem_of_getElem? (i := 2) rfl
theorem st_q218 : (("SilkClerks", 110, "not", 3) : String × Nat × String × Nat) ∈ sStrs := List.mem_of_getElem? (i := 3) rfl
theorem st_q604 : (("SilkClerks", 284, ";+-*/()<=>", 4) : String × Nat × String × Nat) ∈ sStrs := List.mem_of_getElem? (i := 4) rfl
theorem st_q194 : (("SilkClerks", 55, "fact", 5) : String × Nat × String × Nat) ∈ sStrs := List.mem_of_getElem? (i := 5) rfl
theorem st_q195 : (("SilkClerks", 57, "leaf", 6) : String × Nat × String × Nat) ∈ sStrs := List.mem_of_getElem? (i := 6) rfl
theorem st_q196 : (("SilkClerks", 59, "worth", 7) : String × Nat × String × Nat) ∈ sStrs := List.mem_of_getElem? (i := 7) rfl
theorem st_q197 : (("SilkClerks", 61, "eats", 8) : String × Nat × String × Nat) ∈ sStrs := List.mem_of_getElem? (i := 8) rfl
theorem st_q198 : (("SilkClerks", 63, "slips", 9) : String × Nat × String × Nat) ∈ sStrs := List.mem_of_getElem? (i := 9) rfl
theorem st_q199 : (("SilkClerks", 65, "strong", 10) : String × Nat × String × Nat) ∈ sStrs := List.mem_of_getElem? (i := 10) rfl
theorem st_q200 : (("SilkClerks", 67, "on", 11) : String × Nat × String × Nat) ∈ sStrs := List.mem_of_getElem? (i := 11) rfl
theorem st_q201 : (("SilkClerks", 69, "feed", 12) : String × Nat × String × Nat) ∈ sStrs := List.mem_of_getElem? (i := 12) rfl
theorem st_q202 : (("SilkClerks", 71, "with", 13) : String × Nat × String × Nat) ∈ sStrs := List.mem_of_getElem? (i := 13) rfl
theorem st_q203 : (("SilkClerks", 73, "query", 14) : String × Nat × String × Nat) ∈ sStrs := List.mem_of_getElem? (i := 14) rfl
theorem st_q204 : (("SilkClerks", 75, "by", 15) : String × Nat × String × Nat) ∈ sStrs := List.mem_of_getElem? (i := 15) rfl
theorem st_q205 : (("SilkClerks", 77, "and", 16) : String × Nat × String × Nat) ∈ sStrs := List.mem_of_getElem? (i := 16) rfl
theorem st_q206 : (("SilkClerks", 83, "worm", 17) : String × Nat × String × Nat) ∈ sStrs := List.mem_of_getElem? (i := 17) rfl
theorem st_q207 : (("SilkClerks", 85, "tray", 18) : String × Nat × String × Nat) ∈ sStrs := List.mem_of_getElem? (i := 18) rfl
theorem st_q208 : (("SilkClerks", 87, "lazy", 19) : String × Nat × String × Nat) ∈ sStrs := List.mem_of_getElem? (i := 19) rfl
theorem st_q209 : (("SilkClerks", 89, "eaten", 20) : String × Nat × String × Nat) ∈ sStrs := List.mem_of_getElem? (i := 20) rfl
theorem st_q210 : (("SilkClerks", 91, "long", 21) : String × Nat × String × Nat) ∈ sStrs := List.mem_of_getElem? (i := 21) rfl
theorem st_q211 : (("SilkClerks", 93, "noise", 22) : String × Nat × String × Nat) ∈ sStrs := List.mem_of_getElem? (i := 22) rfl
theorem st_q212 : (("SilkClerks", 95, "leaves", 23) : String × Nat × String × Nat) ∈ sStrs := List.mem_of_getElem? (i := 23) rfl
theorem st_q213 : (("SilkClerks", 97, "mark", 24) : String × Nat × String × Nat) ∈ sStrs := List.mem_of_getElem? (i := 24) rfl
theorem st_q214 : (("SilkClerks", 99, "place", 25) : String × Nat × String × Nat) ∈ sStrs := List.mem_of_getElem? (i := 25) rfl
theorem st_q1579 : (("SilkClerksModel", 100, "tray", 18) : String × Nat × String × Nat) ∈ sStrs := List.mem_of_getElem? (i := 26) rfl
theorem st_q1580 : (("SilkClerksModel", 102, "lazy", 19) : String × Nat × String × Nat) ∈ sStrs := List.mem_of_getElem? (i := 27) rfl
theorem st_q1581 : (("SilkClerksModel", 104, "eaten", 20) : String × Nat × String × Nat) ∈ sStrs := List.mem_of_getElem? (i := 28) rfl
theorem st_q1582 : (("SilkClerksModel", 106, "long", 21) : String × Nat × String × Nat) ∈ sStrs := List.mem_of_getElem? (i := 29) rfl
theorem st_q1583 : (("SilkClerksModel", 108, "noise", 22) : String × Nat × String × Nat) ∈ sStrs := List.mem_of_getElem? (i := 30) rfl
theorem st_q1584 : (("SilkClerksModel", 110, "leaves", 23) : String × Nat × String × Nat) ∈ sStrs := List.mem_of_getElem? (i := 31) rfl
theorem st_q1585 : (("SilkClerksModel", 112, "mark", 24) : String × Nat × String × Nat) ∈ sStrs := List.mem_of_getElem? (i := 32) rfl
theorem st_q1586 : (("SilkClerksModel", 114, "place", 25) : String × Nat × String × Nat) ∈ sStrs := List.mem_of_getElem? (i := 33) rfl
theorem st_q1587 : (("SilkClerksModel", 116, "day", 0) : String × Nat × String × Nat) ∈ sStrs := List.mem_of_getElem? (i := 34) rfl
theorem st_q1567 : (("SilkClerksModel", 118, "when", 1) : String × Nat × String × Nat) ∈ sStrs := List.mem_of_getElem? (i := 35) rfl
theorem st_q1568 : (("SilkClerksModel", 120, "or", 2) : String × Nat × String × Nat) ∈ sStrs := List.mem_of_getElem? (i := 36) rfl
theorem st_q1569 : (("SilkClerksModel", 122, "and", 16) : String × Nat × String × Nat) ∈ sStrs := List.mem_of_getElem? (i := 37) rfl
theorem st_q1570 : (("SilkClerksModel", 124, "not", 3) : String × Nat × String × Nat) ∈ sStrs := List.mem_of_getElem? (i := 38) rfl
theorem st_q1571 : (("SilkClerksModel", 126, "eats", 8) : String × Nat × String × Nat) ∈ sStrs := List.mem_of_getElem? (i := 39) rfl
theorem st_q1572 : (("SilkClerksModel", 128, "slips", 9) : String × Nat × String × Nat) ∈ sStrs := List.mem_of_getElem? (i := 40) rfl
theorem st_q1573 : (("SilkClerksModel", 130, "strong", 10) : String × Nat × String × Nat) ∈ sStrs := List.mem_of_getElem? (i := 41) rfl
theorem st_q1554 : (("SilkClerksModel", 138, "fact", 5) : String × Nat × String × Nat) ∈ sStrs := List.mem_of_getElem? (i := 42) rfl
theorem st_q1561 : (("SilkClerksModel", 140, "leaf", 6) : String × Nat × String × Nat) ∈ sStrs := List.mem_of_getElem? (i := 43) rfl
theorem st_q1562 : (("SilkClerksModel", 142, "worth", 7) : String × Nat × String × Nat) ∈ sStrs := List.mem_of_getElem? (i := 44) rfl
theorem st_q1588 : (("SilkClerksModel", 147, "on", 11) : String × Nat × String × Nat) ∈ sStrs := List.mem_of_getElem? (i := 45) rfl
theorem st_q1589 : (("SilkClerksModel", 149, "feed", 12) : String × Nat × String × Nat) ∈ sStrs := List.mem_of_getElem? (i := 46) rfl
theorem st_q1590 : (("SilkClerksModel", 151, "with", 13) : String × Nat × String × Nat) ∈ sStrs := List.mem_of_getElem? (i := 47) rfl
theorem st_q1591 : (("SilkClerksModel", 153, "query", 14) : String × Nat × String × Nat) ∈ sStrs := List.mem_of_getElem? (i := 48) rfl
theorem st_q1592 : (("SilkClerksModel", 155, "by", 15) : String × Nat × String × Nat) ∈ sStrs := List.mem_of_getElem? (i := 49) rfl
theorem st_q1578 : (("SilkClerksModel", 94, "worm", 17) : String × Nat × String × Nat) ∈ sStrs := List.mem_of_getElem? (i := 50) rfl
/-! ## what the tables and the statics say all through a run -/
def sAO (t : FieldType) (U : State) : Prop := (Cond.arrayOver t).before #[] U = true
def sKA (U : State) : Prop := va_AO "java/lang/String" U ∧ va_AO "SilkClerks$Term" U ∧ va_AO "SilkClerks$Fact" U ∧ va_AO "SilkClerks$Meal" U ∧ va_AO "SilkClerks$Trays" U ∧ va_AO "SilkClerks$Read" U
def sTokN (k : Nat) : String := match k with
  | 0 => "END"
  | 1 => "NONE"
  | 2 => "WORD"
  | 3 => "NUMBER"
  | _ => "SIGN"
def sKS (G : sG) (B : Nat) (s : State) (H : Heap) : Prop := (∀ k : Nat, k < 5 → va_Z "SilkClerks$Token" (sTokN k) "LSilkClerks$Token;" (.ref (G.2.2.2 k)) (sA B) s H) ∧ va_Z "java/lang/String" "COMPACT_STRINGS" "Z" (.int 1) (sA B) s H ∧ va_Zq "jdk/internal/util/Preconditions" "SIOOBE_FORMATTER" "Ljava/util/function/BiFunction;" (sA B) s H ∧ va_Zq "java/lang/Throwable" "UNASSIGNED_STACK" "[Ljava/lang/StackTraceElement;" (sA B) s H ∧ va_Zq "java/lang/Throwable" "SUPPRESSED_SENTINEL" "Ljava/util/List;" (sA B) s H
def sKR (G : sG) (s : State) : Prop := ∀ q ∈ sStrs, vk_R q.1 q.2.1 q.2.2.1 (G.2.2.2 (10 + q.2.2.2)) s
/-- what the tables say of a lambda's site, and of the class c that it makes objects of -/
def sMade (c : ClassId) (s : State) (w : Cond) : Prop := match w with
  | .lambdaSite x pc index σ => ∃ (m : MethodId) (k : Class) (cf : ClassFile) (i0 p0 : Nat), s.methodNamed? x = some m ∧ s.vm.classes[m.cls]? = some k ∧ k.cf = some cf ∧ Lambda.shapeOf? cf index = some σ ∧ (k.callSites.find? fun y => y.1 == m.idx && y.2.1 == pc) = some (i0, p0, .makes c) ∧ Lambda.isMade { classPath := fun _ => none } s.vm m.cls σ c = true ∧ s.lambdaCallable σ c = true ∧ ∃ (iface : ClassId) (kI : Class), s.vm.findClass σ.iface = some iface ∧ s.vm.classes[iface]? = some kI ∧ kI.isInterface = true
  | _ => False
theorem sMade.warm {c : ClassId} {s U : State} {w : Cond} (hW : s.WarmedH U.vm) (h : sMade c s w) : sMade c U w := by
  unfold sMade at h ⊢
  split at h
  · rename_i x pc index σ
    obtain ⟨m, k, cf, i0, p0, hm, hk, hcf, hsh, hfind, hmade, hcall, iface, kI, hi1, hi2, hi3⟩ := h
    obtain ⟨kI', hkI', hI⟩ := hW.alike.2.2 _ _ hi2
    obtain ⟨kc', hk', he⟩ := hW.alike.2.2 _ _ hk
    have hm' : U.methodNamed? x = some m := by
      have := State.methodNamed?_setVm (s := s) hW.alike x
      rw [hm] at this
      exact this
    have hcall' : U.lambdaCallable σ c = true := by
      have hA := hW.alike
      simp only [State.lambdaCallable, hA.findClass, hA.assignable, hA.superclasses, hA.declaredIn] at hcall ⊢
      exact hcall
    exact ⟨m, kc', cf, i0, p0, hm', hk', by rw [he]; exact hcf, hsh, by rw [he]; exact hfind, Lambda.isMade_warmer hW hmade, hcall', iface, kI', by rw [hW.alike.findClass]; exact hi1, hkI', by rw [hI]; exact hi3⟩
  · exact h.elim
def sSiteW (j : Nat) : Cond := match j with
  | 0 => siteWord_1_1
  | 1 => siteWord_1_2
  | 2 => siteWord_1_3
  | 3 => siteWord_1_4
  | 4 => siteWord_1_5
  | 5 => siteWord_1_6
  | 6 => siteWord_1_7
  | 7 => siteWord_1_8
  | 8 => siteWord_1_9
  | 9 => siteWord_1_10
  | _ => siteWord_1_11
def sKL (G : sG) (s : State) : Prop := ∀ j : Nat, j < 11 → sMade (G.2.2.1 j) s (sSiteW j)
def sKN (s : State) : Prop := ∀ w ∈ sNW, va_Nw w s
def sK (G : sG) (B : Nat) (s : State) (H : Heap) : Prop := va_K G.1 sCL (sTys G) s ∧ sKA s ∧ sKS G B s H ∧ sKR G s ∧ sKN s ∧ sAO (.array (.object "java/lang/String")) s ∧ sKL G s
theorem sKA.moved {u U : State} (hvm : u.vm.Alike U.vm) (h : sKA u) : sKA U := ⟨h.1.moved hvm, h.2.1.moved hvm, h.2.2.1.moved hvm, h.2.2.2.1.moved hvm, h.2.2.2.2.1.moved hvm, h.2.2.2.2.2.moved hvm⟩
theorem sAO.moved {t : FieldType} {u U : State} (hvm : u.vm.Alike U.vm) (h : sAO (.array t) u) : sAO (.array t) U := by
  obtain ⟨comp, c, k, h1, h2, h3, h4, h5⟩ := arrayOverA_spec h
  obtain ⟨k', hk', he⟩ := hvm.2.2 _ _ h3
  have hi : (U.vm.classes.findIdx? fun (x : Class) => match x.kind with | .array component _ => component == comp | _ => false) = some c := by
    rw [hvm.findIdx?_eq _ (fun _ => rfl)]
    exact h2
  have hkind : k'.kind = .array comp (.array t) := by rw [he]; exact h4
  have f1 : U.vm.findClass (FieldType.array t).toString = some comp := by rw [hvm.findClass]; exact h1
  have f2 : U.vm.findClass ("[" ++ (FieldType.array t).toString) = some c := by rw [hvm.findClass]; exact h5
  unfold sAO Cond.before Cond.holds
  simp only [Cond.value]
  rw [f1, Option.bind_some]
  refine (congrArg (fun o : Option Nat => (o.bind (fun c => (U.vm.classes[c]?).map fun (k : Class) => match k.kind with | .array _ ty => decide (ty = FieldType.array t) && decide (U.vm.findClass ("[" ++ (FieldType.array t).toString) = some c) | _ => false) == some true)) hi).trans ?_
  simp [hk', hkind, f2]
theorem sKS.moved {G : sG} {B : Nat} {u U : State} {H : Heap} (hvm : u.vm.Alike U.vm) (h : sKS G B u H) : sKS G B U H := ⟨fun k hk => (h.1 k hk).moved hvm, h.2.1.moved hvm, h.2.2.1.moved hvm, h.2.2.2.1.moved hvm, h.2.2.2.2.moved hvm⟩
theorem sKS.kept {G : sG} {B : Nat} {s : State} {H H1 : Heap} (hq : ∀ a : Nat, a < H.size → ¬ sA B a → H1[a]? = H[a]?) (h : sKS G B s H) : sKS G B s H1 := ⟨fun k hk => (h.1 k hk).kept hq, h.2.1.kept hq, h.2.2.1.kept hq, h.2.2.2.1.kept hq, h.2.2.2.2.kept hq⟩
theorem sK.warm {G : sG} {B : Nat} {u U : State} {H : Heap} (hW : u.WarmedH U.vm) (h : sK G B u H) : sK G B U H := ⟨va_K.moved hW.alike h.1, h.2.1.moved hW.alike, h.2.2.1.moved hW.alike, fun q hq => vk_R.warm hW (h.2.2.2.1 q hq), fun w hw => sNW_warm hW w hw (h.2.2.2.2.1 w hw), h.2.2.2.2.2.1.moved hW.alike, fun j hj => (h.2.2.2.2.2.2 j hj).warm hW⟩
theorem sK.kept {G : sG} {B : Nat} {s : State} {H H1 : Heap} (hq : ∀ a : Nat, a < H.size → ¬ sA B a → H1[a]? = H[a]?) (h : sK G B s H) : sK G B s H1 := ⟨h.1, h.2.1, h.2.2.1.kept hq, h.2.2.2⟩
/-! ## locals as a list -/
def sLf : Nat → List (Option Value) → List (Nat × Value)
  | _, [] => []
  | i, none :: t => sLf (i + 1) t
  | i, some v :: t => (i, v) :: sLf (i + 1) t
abbrev sL (L : List (Option Value)) : List (Nat × Value) := sLf 0 L
theorem sLf_mem : ∀ (L : List (Option Value)) (i j : Nat) (v : Value), (j, v) ∈ sLf i L ↔ ∃ k, j = i + k ∧ L[k]? = some (some v)
  | [], i, j, v => by simp [sLf]
  | none :: t, i, j, v => by
    simp only [sLf]
    rw [sLf_mem t (i + 1) j v]
    constructor
    · rintro ⟨k, rfl, h⟩
      exact ⟨k + 1, by omega, by simpa using h⟩
    · rintro ⟨k, rfl, h⟩
      cases k with
      | zero => simp at h
      | succ k => exact ⟨k, by omega, by simpa using h⟩
  | some w :: t, i, j, v => by
    simp only [sLf, List.mem_cons, Prod.mk.injEq]
    rw [sLf_mem t (i + 1) j v]
    constructor
    · rintro (⟨rfl, rfl⟩ | ⟨k, rfl, h⟩)
      · exact ⟨0, by omega, by simp⟩
      · exact ⟨k + 1, by omega, by simpa using h⟩
    · rintro ⟨k, rfl, h⟩
      cases k with
      | zero =>
        simp at h
        exact Or.inl ⟨by omega, h.symm⟩
      | succ k => exact Or.inr ⟨k, by omega, by simpa using h⟩
theorem sL_mem {L : List (Option Value)} {j : Nat} {v : Value} : (j, v) ∈ sL L ↔ L[j]? = some (some v) := by
  rw [sLf_mem]
  constructor
  · rintro ⟨k, rfl, h⟩
    simpa using h
  · intro h
    exact ⟨j, by omega, h⟩
theorem sL_at {ls : Array Slot} {n : Nat} {L : List (Option Value)} (h : lv_has ls n (sL L)) {i : Nat} {v : Value} (hi : L[i]? = some (some v)) : ls[i]? = some (.val v) := h.2.2 (i, v) (sL_mem.mpr hi)
def sCat (x : Option Value) : Nat := match x with
  | some v => v.category
  | none => 0
def sStf (i : Nat) (v : Value) : Nat → List (Option Value) → List (Option Value)
  | _, [] => []
  | j, x :: t => (bif Nat.beq j i then some v else bif Nat.beq (j + 1) i && Nat.beq (sCat x) 2 then none else bif Nat.beq j (i + 1) && Nat.beq v.category 2 then none else x) :: sStf i v (j + 1) t
abbrev sSt (L : List (Option Value)) (i : Nat) (v : Value) : List (Option Value) := sStf i v 0 L
theorem sStf_at (i : Nat) (v : Value) : ∀ (L : List (Option Value)) (j k : Nat), (sStf i v j L)[k]? = (L[k]?).map fun x => bif Nat.beq (j + k) i then some v else bif Nat.beq (j + k + 1) i && Nat.beq (sCat x) 2 then none else bif Nat.beq (j + k) (i + 1) && Nat.beq v.category 2 then none else x
  | [], j, k => by simp [sStf]
  | x :: t, j, k => by
    cases k with
    | zero => simp [sStf]
    | succ k =>
      simp only [sStf, List.getElem?_cons_succ]
      rw [sStf_at i v t (j + 1) k]
      have e : j + 1 + k = j + (k + 1) := by omega
      rw [e]
theorem sSt_mem {L : List (Option Value)} {i j : Nat} {v w : Value} (h : (sSt L i v)[j]? = some (some w)) : (j = i ∧ w = v) ∨ (j ≠ i ∧ L[j]? = some (some w) ∧ ¬ (j + 1 = i ∧ w.category = 2) ∧ ¬ (j = i + 1 ∧ v.category = 2)) := by
  rw [sStf_at] at h
  simp only [Nat.zero_add, Option.map_eq_some_iff] at h
  obtain ⟨x, hx, h⟩ := h
  by_cases h1 : j = i
  · subst h1
    rw [show Nat.beq j j = true from Nat.beq_refl j] at h
    simp at h
    exact Or.inl ⟨rfl, h.symm⟩
  · have e1 : Nat.beq j i = false := by
      cases hb : Nat.beq j i with
      | true => exact absurd (Nat.eq_of_beq_eq_true hb) h1
      | false => rfl
    rw [e1, cond_false] at h
    cases hb : (Nat.beq (j + 1) i && Nat.beq (sCat x) 2) with
    | true => rw [hb] at h; simp at h
    | false =>
      rw [hb, cond_false] at h
      cases hb2 : (Nat.beq j (i + 1) && Nat.beq v.category 2) with
      | true => rw [hb2] at h; simp at h
      | false =>
        rw [hb2, cond_false] at h
        subst h
        refine Or.inr ⟨h1, hx, ?_, ?_⟩
        · rintro ⟨h2, h3⟩
          rw [h2, show sCat (some w) = 2 from h3, show Nat.beq i i = true from Nat.beq_refl i] at hb
          cases hb
        · rintro ⟨h2, h3⟩
          rw [h2, h3, show Nat.beq (i + 1) (i + 1) = true from Nat.beq_refl _] at hb2
          cases hb2
theorem sSt_1 {ls : Array Slot} {n : Nat} {L : List (Option Value)} {i : Nat} {v : Value} (h : lv_has ls n ((i, v) :: (sL L).filter (fun q => !(q.1 == i) && !(q.1 + 1 == i && q.2.category == 2)))) : lv_has ls n (sL (sSt L i v)) := by
  refine ⟨h.1, h.2.1, fun q hq => h.2.2 q ?_⟩
  obtain ⟨j, w⟩ := q
  rcases sSt_mem (sL_mem.mp hq) with ⟨rfl, rfl⟩ | ⟨h1, h2, h3, -⟩
  · exact List.mem_cons_self
  · refine List.mem_cons_of_mem _ (List.mem_filter.mpr ⟨sL_mem.mpr h2, ?_⟩)
    have e1 : (j == i) = false := by simpa using h1
    have e2 : (j + 1 == i && w.category == 2) = false := by
      cases hb : (j + 1 == i && w.category == 2) with
      | false => rfl
      | true => simp at hb; exact absurd hb h3
    simp only [e1, e2]
    rfl
theorem sSt_2 {ls : Array Slot} {n : Nat} {L : List (Option Value)} {i : Nat} {v : Value} (hc : v.category = 2) (h : lv_has ls n ((i, v) :: (sL L).filter (fun q => !(q.1 == i) && (!(q.1 == i + 1) && !(q.1 + 1 == i && q.2.category == 2))))) : lv_has ls n (sL (sSt L i v)) := by
  refine ⟨h.1, h.2.1, fun q hq => h.2.2 q ?_⟩
  obtain ⟨j, w⟩ := q
  rcases sSt_mem (sL_mem.mp hq) with ⟨rfl, rfl⟩ | ⟨h1, h2, h3, h4⟩
  · exact List.mem_cons_self
  · refine List.mem_cons_of_mem _ (List.mem_filter.mpr ⟨sL_mem.mpr h2, ?_⟩)
    have e1 : (j == i) = false := by simpa using h1
    have e3 : (j == i + 1) = false := by
      have : ¬ j = i + 1 := fun q => h4 ⟨q, hc⟩
      simpa using this
    have e2 : (j + 1 == i && w.category == 2) = false := by
      cases hb : (j + 1 == i && w.category == 2) with
      | false => rfl
      | true => simp at hb; exact absurd hb h3
    simp only [e1, e2, e3]
    rfl
/-! ## a walk over the abstract heap -/
def sEnv (G : sG) (B : Nat) (own : String) (nm : MethodName) (cc : ByteArray) (mL : Nat) (ret : Option FieldType) (hh : List (Nat × Nat × Nat × Nat)) (d : Nat) (p : Program) (R : Room) (s : State) (m : MethodId) (args : Array Value) (meth : Method) (c : Code) : Prop :=
  p.tables.exec = Jvm.exec ∧ c.code = cc ∧ c.maxLocals = mL ∧ meth.sig.returnType = ret ∧ meth.locks = false ∧ s.vm.findClass own = some m.cls ∧ (meth.name = nm.name ∧ s.methodNamed? nm = some m) ∧ (∀ w ∈ lw_all, w.before args s = true) ∧ c.exceptionTable.toList = tableOf hh ∧ d ≤ R.frames ∧ 64 * d + 3200 ≤ R.locals ∧ sK G B s s.heap
def sQ (G : sG) (r : sRes) (M' : sMem) : Array Value → State → Outcome → State → Prop := fun _ st oc t => ∃ v : Option Value, r = .inl v ∧ oc = .returned v ∧ sMod G t M' t.heap ∧ va_F (sA M'.1) st t
def sX (G : sG) (r : sRes) (M' : sMem) : Nat → String → State → State → Prop := fun q E st t => r = .inr q ∧ E = "SilkClerks$Fault" ∧ sMod G t M' t.heap ∧ va_F (sA M'.1) st t
def sMono (M M' : sMem) : Prop := M'.1 = M.1 ∧ M.2.1 ≤ M'.2.1 ∧ M.2.2.1 ≤ M'.2.2.1
def AW (l : Launch) (G : sG) (own : String) (nm : MethodName) (cc : ByteArray) (mL : Nat) (ret : Option FieldType) (hh : List (Nat × Nat × Nat × Nat)) (d : Nat) (pc : Nat) (L : List (Option Value)) (st : List Value) (M : sMem) (o : Option (sRes × sMem)) : Prop :=
  ∀ (r : sRes) (M' : sMem), o = some (r, M') → sMono M M' ∧
    ∀ (p : Program) (e : Env) (R : Room) (s : State) (m : MethodId) (args : Array Value) (below : List Frame) (meth : Method) (c : Code) (H : Heap) (locs : List Loc) (k n : Nat) (ls : Array Slot),
      sEnv G M.1 own nm cc mL ret hh d p R s m args meth c → sMod G s M H → va_S (sA M.1) s.heap H locs → lv_has ls mL (sL L) → k + (M'.2.1 - M.2.1) ≤ R.cells → n + (M'.2.2.1 - M.2.2.1) ≤ R.slots →
      W p l e R s m args below meth c H locs k n (vq_MQ below (sQ G r M') (sX G r M') args s (k + (M'.2.1 - M.2.1)) (n + (M'.2.2.1 - M.2.2.1)) (sA M.1)) (F0 m pc ls st)
section RW
variable {l : Launch} {G : sG} {own : String} {nm : MethodName} {cc : ByteArray} {mL : Nat} {ret : Option FieldType} {hh : List (Nat × Nat × Nat × Nat)} {d pc pc' : Nat} {L L' : List (Option Value)} {st st' : List Value} {M : sMem} {o : Option (sRes × sMem)}
theorem AW.no : AW l G own nm cc mL ret hh d pc L st M none := fun _ _ h => by cases h
/-- a step that leaves the heap alone -/
theorem AW.step (h : ∀ (p : Program) (e : Env) (R : Room) (s : State) (m : MethodId) (args : Array Value) (below : List Frame) (meth : Method) (c : Code) (H : Heap) (locs : List Loc) (k n : Nat) (ls : Array Slot) (Q : State → Prop),
      sEnv G M.1 own nm cc mL ret hh d p R s m args meth c → sMod G s M H → va_S (sA M.1) s.heap H locs → lv_has ls mL (sL L) → (∀ ls' : Array Slot, lv_has ls' mL (sL L') → W p l e R s m args below meth c H locs k n Q (F0 m pc' ls' st')) → W p l e R s m args below meth c H locs k n Q (F0 m pc ls st))
    (kk : AW l G own nm cc mL ret hh d pc' L' st' M o) : AW l G own nm cc mL ret hh d pc L st M o := by
  intro r M' ho
  obtain ⟨hm, kk⟩ := kk r M' ho
  exact ⟨hm, fun p e R s m args below meth c H locs k n ls hE hM hS hl h1 h2 => h p e R s m args below meth c H locs k n ls _ hE hM hS hl (fun ls' hl' => kk p e R s m args below meth c H locs k n ls' hE hM hS hl' h1 h2)⟩
theorem r_iconst {n : Int} (v : Int32) (hd : decode cc pc = .ok (.iconst n, 1)) (hv : Int32.ofInt n = v) (k : AW l G own nm cc mL ret hh d (pc + 1) L (.int v :: st) M o) : AW l G own nm cc mL ret hh d pc L st M o :=
  AW.step (fun _ _ _ _ _ _ _ _ _ _ _ _ _ _ _ hE _ _ hl kk => lv_iconst hE.1 hE.2.1 hd hv (kk _ hl)) k
theorem r_bipush {n : Int} (v : Int32) (hd : decode cc pc = .ok (.bipush n, 2)) (hv : (Int8.ofInt n).toInt32 = v) (k : AW l G own nm cc mL ret hh d (pc + 2) L (.int v :: st) M o) : AW l G own nm cc mL ret hh d pc L st M o :=
  AW.step (fun _ _ _ _ _ _ _ _ _ _ _ _ _ _ _ hE _ _ hl kk => lv_bipush hE.1 hE.2.1 hd hv (kk _ hl)) k
theorem r_sipush {n : Int} (v : Int32) (hd : decode cc pc = .ok (.sipush n, 3)) (hv : (Int16.ofInt n).toInt32 = v) (k : AW l G own nm cc mL ret hh d (pc + 3) L (.int v :: st) M o) : AW l G own nm cc mL ret hh d pc L st M o :=
  AW.step (fun _ _ _ _ _ _ _ _ _ _ _ _ _ _ _ hE _ _ hl kk => lv_sipush hE.1 hE.2.1 hd hv (kk _ hl)) k
theorem r_lconst {n : Fin 2} (v : Int64) (hd : decode cc pc = .ok (.lconst n, 1)) (hv : Int64.ofNat (n : Nat) = v) (k : AW l G own nm cc mL ret hh d (pc + 1) L (.long v :: st) M o) : AW l G own nm cc mL ret hh d pc L st M o :=
  AW.step (fun _ _ _ _ _ _ _ _ _ _ _ _ _ _ _ hE _ _ hl kk => lv_lconst hE.1 hE.2.1 hd hv (kk _ hl)) k
theorem r_null (hd : decode cc pc = .ok (.aconst_null, 1)) (k : AW l G own nm cc mL ret hh d (pc + 1) L (.null :: st) M o) : AW l G own nm cc mL ret hh d pc L st M o :=
  AW.step (fun _ _ _ _ _ _ _ _ _ _ _ _ _ _ _ hE _ _ hl kk => lv_null hE.1 hE.2.1 hd (kk _ hl)) k
theorem r_iload_n {i : Fin 4} {x : Int32} (hd : decode cc pc = .ok (.iload_n i, 1)) (hl : L[(i : Nat)]? = some (some (.int x))) (k : AW l G own nm cc mL ret hh d (pc + 1) L (.int x :: st) M o) : AW l G own nm cc mL ret hh d pc L st M o :=
  AW.step (fun _ _ _ _ _ _ _ _ _ _ _ _ _ _ _ hE _ _ hs kk => lv_iload_n hE.1 hE.2.1 hd rfl (sL_at hs hl) (kk _ hs)) k
theorem r_iload {i : Nat} {x : Int32} (hd : decode cc pc = .ok (.iload i, 2)) (hl : L[i]? = some (some (.int x))) (k : AW l G own nm cc mL ret hh d (pc + 2) L (.int x :: st) M o) : AW l G own nm cc mL ret hh d pc L st M o :=
  AW.step (fun _ _ _ _ _ _ _ _ _ _ _ _ _ _ _ hE _ _ hs kk => lv_iload hE.1 hE.2.1 hd (sL_at hs hl) (kk _ hs)) k
theorem r_lload_n {i : Fin 4} {x : Int64} (hd : decode cc pc = .ok (.lload_n i, 1)) (hl : L[(i : Nat)]? = some (some (.long x))) (k : AW l G own nm cc mL ret hh d (pc + 1) L (.long x :: st) M o) : AW l G own nm cc mL ret hh d pc L st M o :=
  AW.step (fun _ _ _ _ _ _ _ _ _ _ _ _ _ _ _ hE _ _ hs kk => lv_lload_n hE.1 hE.2.1 hd rfl (sL_at hs hl) (kk _ hs)) k
theorem r_lload {i : Nat} {x : Int64} (hd : decode cc pc = .ok (.lload i, 2)) (hl : L[i]? = some (some (.long x))) (k : AW l G own nm cc mL ret hh d (pc + 2) L (.long x :: st) M o) : AW l G own nm cc mL ret hh d pc L st M o :=
  AW.step (fun _ _ _ _ _ _ _ _ _ _ _ _ _ _ _ hE _ _ hs kk => lv_lload hE.1 hE.2.1 hd (sL_at hs hl) (kk _ hs)) k
theorem r_aload_n {i : Fin 4} {x : Nat} (hd : decode cc pc = .ok (.aload_n i, 1)) (hl : L[(i : Nat)]? = some (some (.ref x))) (k : AW l G own nm cc mL ret hh d (pc + 1) L (.ref x :: st) M o) : AW l G own nm cc mL ret hh d pc L st M o :=
  AW.step (fun _ _ _ _ _ _ _ _ _ _ _ _ _ _ _ hE _ _ hs kk => lv_aload_n hE.1 hE.2.1 hd rfl (sL_at hs hl) (kk _ hs)) k
theorem r_aload {i : Nat} {x : Nat} (hd : decode cc pc = .ok (.aload i, 2)) (hl : L[i]? = some (some (.ref x))) (k : AW l G own nm cc mL ret hh d (pc + 2) L (.ref x :: st) M o) : AW l G own nm cc mL ret hh d pc L st M o :=
  AW.step (fun _ _ _ _ _ _ _ _ _ _ _ _ _ _ _ hE _ _ hs kk => lv_aload hE.1 hE.2.1 hd (sL_at hs hl) (kk _ hs)) k
theorem r_aload_nN {i : Fin 4} (hd : decode cc pc = .ok (.aload_n i, 1)) (hl : L[(i : Nat)]? = some (some .null)) (k : AW l G own nm cc mL ret hh d (pc + 1) L (.null :: st) M o) : AW l G own nm cc mL ret hh d pc L st M o :=
  AW.step (fun _ _ _ _ _ _ _ _ _ _ _ _ _ _ _ hE _ _ hs kk => lv_aload_nN hE.1 hE.2.1 hd rfl (sL_at hs hl) (kk _ hs)) k
theorem r_istore_n {i : Fin 4} {x : Int32} (L' : List (Option Value)) (hd : decode cc pc = .ok (.istore_n i, 1)) (hi : (i : Nat) < mL) (hl : sSt L (i : Nat) (.int x) = L') (k : AW l G own nm cc mL ret hh d (pc + 1) L' st M o) : AW l G own nm cc mL ret hh d pc L (.int x :: st) M o := by
  subst hl
  exact AW.step (fun _ _ _ _ _ _ _ _ _ _ _ _ _ _ _ hE _ _ hs kk => lv_istore_n hE.1 hE.2.1 hd rfl hs hi rfl (fun ls' h => kk ls' (sSt_1 h))) k
theorem r_istore {i : Nat} {x : Int32} (L' : List (Option Value)) (hd : decode cc pc = .ok (.istore i, 2)) (hi : i < mL) (hl : sSt L i (.int x) = L') (k : AW l G own nm cc mL ret hh d (pc + 2) L' st M o) : AW l G own nm cc mL ret hh d pc L (.int x :: st) M o := by
  subst hl
  exact AW.step (fun _ _ _ _ _ _ _ _ _ _ _ _ _ _ _ hE _ _ hs kk => lv_istore hE.1 hE.2.1 hd hs hi rfl (fun ls' h => kk ls' (sSt_1 h))) k
theorem r_astore_n {i : Fin 4} {x : Nat} (L' : List (Option Value)) (hd : decode cc pc = .ok (.astore_n i, 1)) (hi : (i : Nat) < mL) (hl : sSt L (i : Nat) (.ref x) = L') (k : AW l G own nm cc mL ret hh d (pc + 1) L' st M o) : AW l G own nm cc mL ret hh d pc L (.ref x :: st) M o := by
  subst hl
  exact AW.step (fun _ _ _ _ _ _ _ _ _ _ _ _ _ _ _ hE _ _ hs kk => lv_astore_n hE.1 hE.2.1 hd rfl hs hi rfl (fun ls' h => kk ls' (sSt_1 h))) k
theorem r_astore {i : Nat} {x : Nat} (L' : List (Option Value)) (hd : decode cc pc = .ok (.astore i, 2)) (hi : i < mL) (hl : sSt L i (.ref x) = L') (k : AW l G own nm cc mL ret hh d (pc + 2) L' st M o) : AW l G own nm cc mL ret hh d pc L (.ref x :: st) M o := by
  subst hl
  exact AW.step (fun _ _ _ _ _ _ _ _ _ _ _ _ _ _ _ hE _ _ hs kk => lv_astore hE.1 hE.2.1 hd hs hi rfl (fun ls' h => kk ls' (sSt_1 h))) k
theorem r_lstore_n {i : Fin 4} {x : Int64} (L' : List (Option Value)) (hd : decode cc pc = .ok (.lstore_n i, 1)) (hi : (i : Nat) + 1 < mL) (hl : sSt L (i : Nat) (.long x) = L') (k : AW l G own nm cc mL ret hh d (pc + 1) L' st M o) : AW l G own nm cc mL ret hh d pc L (.long x :: st) M o := by
  subst hl
  exact AW.step (fun _ _ _ _ _ _ _ _ _ _ _ _ _ _ _ hE _ _ hs kk => lv_lstore_n hE.1 hE.2.1 hd rfl hs hi rfl (fun ls' h => kk ls' (sSt_2 rfl h))) k
theorem r_lstore {i : Nat} {x : Int64} (L' : List (Option Value)) (hd : decode cc pc = .ok (.lstore i, 2)) (hi : i + 1 < mL) (hl : sSt L i (.long x) = L') (k : AW l G own nm cc mL ret hh d (pc + 2) L' st M o) : AW l G own nm cc mL ret hh d pc L (.long x :: st) M o := by
  subst hl
  exact AW.step (fun _ _ _ _ _ _ _ _ _ _ _ _ _ _ _ hE _ _ hs kk => lv_lstore hE.1 hE.2.1 hd hs hi rfl (fun ls' h => kk ls' (sSt_2 rfl h))) k
theorem r_iinc {i : Nat} {n : Int} {x : Int32} (v : Int32) (L' : List (Option Value)) (hd : decode cc pc = .ok (.iinc i n, 3)) (hx : L[i]? = some (some (.int x))) (hv : x + Int32.ofInt n = v) (hi : i < mL) (hl : sSt L i (.int v) = L') (k : AW l G own nm cc mL ret hh d (pc + 3) L' st M o) : AW l G own nm cc mL ret hh d pc L st M o := by
  subst hl
  refine AW.step (fun _ _ _ _ _ _ _ _ _ _ _ _ _ _ _ hE _ _ hs kk => ?_) k
  obtain ⟨q, hq⟩ := List.getElem?_of_mem (sL_mem.mpr hx)
  exact lv_iinc hE.1 hE.2.1 hd hs hq hv hi rfl (fun ls' h => kk ls' (sSt_1 h))
/-- fewer known locals -/
theorem r_weak (L' : List (Option Value)) (h : ∀ (j : Nat) (v : Value), L'[j]? = some (some v) → L[j]? = some (some v)) (k : AW l G own nm cc mL ret hh d pc L' st M o) : AW l G own nm cc mL ret hh d pc L st M o :=
  AW.step (fun _ _ _ _ _ _ _ _ _ _ _ _ _ _ _ _ _ _ hs kk => kk _ ⟨hs.1, hs.2.1, fun q hq => hs.2.2 q (sL_mem.mpr (h q.1 q.2 (sL_mem.mp hq)))⟩) k
end RW
