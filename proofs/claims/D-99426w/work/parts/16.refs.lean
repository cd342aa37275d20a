/-! rows: stores and copies of references, arrays of arrays, null tests -/
set_option maxRecDepth 100000
section RQ
variable {l : Launch} {G : sG} {own : String} {nm : MethodName} {cc : ByteArray} {mL : Nat} {ret : Option FieldType} {hh : List (Nat × Nat × Nat × Nat)} {d pc pc' : Nat} {L L' : List (Option Value)} {st st0 st' : List Value} {M : sMem} {o o1 o2 : Option (sRes × sMem)}
theorem r_ifnull {x : Nat} {off : Int} (hd : decode cc pc = .ok (.ifnull off, 3)) (k : AW l G own nm cc mL ret hh d (pc + 3) L st M o) : AW l G own nm cc mL ret hh d pc L (.ref x :: st) M o :=
  AW.step (fun _ _ _ _ _ _ _ _ _ _ _ _ _ _ _ hE _ _ hl kk => lv_ifnull hE.1 hE.2.1 hd (kk _ hl)) k
theorem r_ifnullN {off : Int} (tgt : Nat) (hd : decode cc pc = .ok (.ifnull off, 3)) (ht : (pc : Int) + off = (tgt : Int)) (k : AW l G own nm cc mL ret hh d tgt L st M o) : AW l G own nm cc mL ret hh d pc L (.null :: st) M o :=
  AW.step (fun _ _ _ _ _ _ _ _ _ _ _ _ _ _ _ hE _ _ hl kk => lv_ifnullN hE.1 hE.2.1 hd ht (kk _ hl)) k
/-- an object's cell, its class -/
theorem s_objCell {s : State} {H : Heap} {ci v N : Nat} {C : String} {T : u_T} {fs : List Value} (hK : va_K G.1 sCL (sTys G) s) (hM : sMod G s M H) (h : M.2.2.2 v = some (sObj ci fs)) (hc : sCL[ci]? = some (C, T, N)) : ∃ cell : Cell, H[v]? = some cell ∧ cell.vm.isStatics = false ∧ s.vm.findClass C = some cell.cls := va_recv hK (hM.obj h) hc (q0 := 0) rfl
theorem s_fit {s : State} {H : Heap} {v t : Nat} {e : sCell} {kA : Class} {comp : ClassId} (hK : sK G M.1 s s.heap) (hM : sMod G s M H) (he : M.2.2.2 v = some e) (ht : t < 9) (hf : sFit t e = true) (hkA : s.vm.classes[G.2.1 t]? = some kA) (hkd : kA.kind = .array comp (sTy t)) : ∃ cellV : Cell, H[v]? = some cellV ∧ cellV.vm.isStatics = false ∧ (∃ kC : Class, s.vm.classes[cellV.cls]? = some kC) ∧ s.vm.assignable cellV.cls comp = true ∧ ∃ kE : Class, s.vm.classes[comp]? = some kE := by
  have hcl : ∀ {E : String}, sTy t = .object E → s.vm.findClass E = some comp := by
    intro E hE
    have hR := (hK.1.2 t _ (sTys_at G ht)).2
    simp only [hE] at hR
    obtain ⟨kA', comp', h1, h2, h3, -⟩ := hR
    cases hkA.symm.trans h1
    rw [hE] at hkd
    cases hkd.symm.trans h2
    exact h3
  have fin : ∀ {E C : String} {cell : Cell}, sTy t = .object E → H[v]? = some cell → cell.vm.isStatics = false → s.vm.findClass C = some cell.cls → (C = E ∨ va_Nw (.castable C E) s) → ∃ cellV : Cell, H[v]? = some cellV ∧ cellV.vm.isStatics = false ∧ (∃ kC : Class, s.vm.classes[cellV.cls]? = some kC) ∧ s.vm.assignable cellV.cls comp = true ∧ ∃ kE : Class, s.vm.classes[comp]? = some kE := by
    intro E C cell hE h1 h2 h3 h4
    have hco := hcl hE
    obtain ⟨kC, hkC, -⟩ := Vm.findClass_spec h3
    obtain ⟨kE, hkE, -⟩ := Vm.findClass_spec hco
    refine ⟨cell, h1, h2, ⟨kC, hkC⟩, ?_, kE, hkE⟩
    rcases h4 with h4 | h4
    · subst h4
      cases h3.symm.trans hco
      exact va_asg _ _
    · exact vb_asgC h4 comp cell.cls hco h3
  have nw := hK.2.2.2.2.1
  rcases e with ⟨k, x⟩ | ⟨ci, fs⟩ | x | w | x
  · simp only [sFit, Bool.and_eq_true] at hf
    have h3 := Nat.eq_of_beq_eq_true hf.1
    have h2 := Nat.eq_of_beq_eq_true hf.2
    subst h3
    subst h2
    obtain ⟨-, hv⟩ := hM.2.2 v _ he
    have hvm : (vp_cell (G.2.1 2) x).vm = .none ∧ (vp_cell (G.2.1 2) x).cls = G.2.1 2 := by
      obtain ⟨n, f | f | f | f | f⟩ := x <;> exact ⟨rfl, rfl⟩
    have hR3 := (hK.1.2 3 _ (sTys_at G (by decide))).2
    have hR2 := (hK.1.2 2 _ (sTys_at G (by decide))).2
    obtain ⟨kA2, comp2, g1, g2, g3, g4⟩ := hR2
    obtain ⟨comp', c, k, h1, h2, h3, h4, h5⟩ := arrayOverA_spec hK.2.2.2.2.2.1
    have e3 : c = G.2.1 3 := Option.some.inj (h5.symm.trans hR3)
    subst e3
    cases hkA.symm.trans h3
    have e4 : comp' = comp := by
      have := h4.symm.trans hkd
      simp [sTy] at this
      exact this
    subst e4
    have e5 : comp' = G.2.1 2 := Option.some.inj (h1.symm.trans g4)
    refine ⟨_, hv, by rw [hvm.1]; rfl, ⟨kA2, by rw [hvm.2]; exact g1⟩, ?_, kA2, by rw [e5]; exact g1⟩
    rw [hvm.2, e5]
    exact va_asg _ _
  · have hci : (t = 4 ∧ (ci = 6 ∨ ci = 7 ∨ ci = 8 ∨ ci = 9)) ∨ (t = 5 ∧ ci = 5) ∨ (t = 6 ∧ ci = 10) ∨ (t = 7 ∧ ci = 2) ∨ (t = 8 ∧ ci = 11) := by
      simp only [sFit, Bool.or_eq_true, Bool.and_eq_true, Nat.beq_eq] at hf
      omega
    rcases hci with ⟨rfl, hci⟩ | ⟨rfl, rfl⟩ | ⟨rfl, rfl⟩ | ⟨rfl, rfl⟩ | ⟨rfl, rfl⟩
    · rcases hci with rfl | rfl | rfl | rfl
      · obtain ⟨cell, a1, a2, a3⟩ := s_objCell hK.1 hM he rfl
        exact fin rfl a1 a2 a3 (Or.inr (nw _ nw_q2042))
      · obtain ⟨cell, a1, a2, a3⟩ := s_objCell hK.1 hM he rfl
        exact fin rfl a1 a2 a3 (Or.inr (nw _ nw_q2043))
      · obtain ⟨cell, a1, a2, a3⟩ := s_objCell hK.1 hM he rfl
        exact fin rfl a1 a2 a3 (Or.inr (nw _ nw_q2044))
      · obtain ⟨cell, a1, a2, a3⟩ := s_objCell hK.1 hM he rfl
        exact fin rfl a1 a2 a3 (Or.inr (nw _ nw_q2045))
    · obtain ⟨cell, a1, a2, a3⟩ := s_objCell hK.1 hM he rfl
      exact fin rfl a1 a2 a3 (Or.inl rfl)
    · obtain ⟨cell, a1, a2, a3⟩ := s_objCell hK.1 hM he rfl
      exact fin rfl a1 a2 a3 (Or.inl rfl)
    · obtain ⟨cell, a1, a2, a3⟩ := s_objCell hK.1 hM he rfl
      exact fin rfl a1 a2 a3 (Or.inl rfl)
    · obtain ⟨cell, a1, a2, a3⟩ := s_objCell hK.1 hM he rfl
      exact fin rfl a1 a2 a3 (Or.inl rfl)
  · cases hf
  · have h2 : t = 2 := Nat.eq_of_beq_eq_true hf
    subst h2
    obtain ⟨cell, a1, a2, a3, -⟩ := (hM.2.2 v _ he).1
    exact fin rfl a1 a2 a3 (Or.inl rfl)
  · obtain ⟨k, n, f, w⟩ := x
    cases w with
    | none => cases hf
    | some w =>
      have h2 : t = 2 := Nat.eq_of_beq_eq_true hf
      subst h2
      obtain ⟨cell, a1, a2, a3, -⟩ := ((hM.2.2 v _ he).2 w rfl).1
      exact fin rfl a1 a2 a3 (Or.inl rfl)
theorem r_ast {a v : Nat} {i : Int32} {K : sMem → Option (sRes × sMem)} (hd : decode cc pc = .ok (.aastore, 1)) (kk : ∀ M1, AW l G own nm cc mL ret hh d (pc + 1) L st M1 (K M1)) : AW l G own nm cc mL ret hh d pc L (.ref v :: .int i :: .ref a :: st) M ((sAst M a i v).bind K) := by
  refine AW.bind fun M1 hx => ?_
  obtain ⟨t, n, f, e, h1, he, hf, hb, hin, rfl⟩ := sAst_spec hx
  refine AW.write hb (fun p e9 R s m args below meth c H locs k9 n9 ls Q hE hM hS hl kk => ?_) (kk _)
  obtain ⟨hx9, hb9, hml, -, -, hown, hmn, hts, -, hfr, hlo, hK⟩ := hE
  obtain ⟨t9, hP⟩ := hM.arr h1
  have hlt : i.toNatClampNeg < n := Nat.not_le.mp fun q => hin (Or.inr q)
  have h0 : ¬ i < 0 := fun q => hin (Or.inl q)
  obtain ⟨-, kA, hkA, comp, hkd⟩ := (hK.1.2 t _ (sTys_at G t9)).1 n (fun j => va_rf (f j))
  have ht2 : 2 ≤ t := by
    unfold sAst at hx
    split at hx
    · rename_i k n' f' e' q1 q2
      obtain ⟨z1, z2⟩ := sRfs_spec q1
      cases h1.symm.trans z1
      exact z2
    · cases hx
  obtain ⟨cellV, g1, g2, ⟨kC, hkC⟩, hasg, kE, hkE⟩ := s_fit hK hM he t9 hf hkA hkd
  refine W.aast hx9 hb9 (hP 0 _ rfl) (fun q h => by cases h) (fun h => by cases h) hkA hkd (sTy_ref ht2) hkE ⟨h0, by show _ < (arrV _ _ _).slots.size; rw [arrV_size]; exact hlt⟩ g1 (fun q h => by rw [h] at g2; cases g2) hkC hasg rfl rfl hd fun H1 e1 z oq => ?_
  exact kk H1 _ z oq ⟨t9, by rw [e1]; exact congrArg some (s_storeq (G.2.1 t) (x := some v))⟩ (hS.put z oq hb)
theorem sAO.use {t : FieldType} {A : Array Value} {U : State} (h : sAO t U) : (Cond.arrayOver t).before A U = true := h
theorem sArrName : (FieldType.array (.object "java/lang/String")).toString = "[Ljava/lang/String;" := by decide +kernel
/-- 'new String[n][]' -/
theorem r_newqq {i : Nat} {n : Int32} {K : Nat → sMem → Option (sRes × sMem)} (hq : Cond.classLink own i "[Ljava/lang/String;" ∈ lw_all) (hd : decode cc pc = .ok (.anewarray i, 3)) (kk : ∀ a M1, AW l G own nm cc mL ret hh d (pc + 3) L (.ref a :: st) M1 (K a M1)) : AW l G own nm cc mL ret hh d pc L (.int n :: st) M (sNewQ M 3 n K) := by
  unfold sNewQ
  by_cases h : n < 0 ∨ 100000000 ≤ n.toNatClampNeg
  · rw [if_pos h]; exact AW.no
  rw [if_neg h]
  refine AW.alloc (fun p e9 R s m args below meth c H locs k9 n9 ls Q hE hM hS hl g1 g2 kk => ?_) (kk _ _)
  obtain ⟨hx9, hb9, -, -, -, hown, hmn, hts, -, -, -, hK⟩ := hE
  have hao := sAO.use (A := args) hK.2.2.2.2.2.1
  have hlk := hts _ hq
  rw [← sArrName] at hlk
  refine W.anewA (t := .object "java/lang/String") hx9 hb9 hown hlk hao rfl hd rfl (fun q => h (Or.inl q)) (sBig h (Nat.le_refl 4)) g1 g2 fun cA kA comp f1 f2 f3 f4 => ?_
  have hR : s.vm.findClass ("[" ++ (FieldType.array (.object "java/lang/String")).toString) = some (G.2.1 3) := (hK.1.2 3 _ (sTys_at G (by decide))).2
  have hcA : G.2.1 3 = cA := Option.some.inj (hR.symm.trans f1)
  clear f1 hR
  subst hcA
  refine kk _ (by rw [Array.size_push]) (fun q hq => by rw [Array.getElem?_push, if_neg (Nat.ne_of_lt hq)]) ⟨by decide, ?_⟩
  rw [Array.getElem?_push_size, vp_cell_q]
  show _ = some (arrV _ _ _)
  rw [show (fun j => va_rf ((fun _ => none) j)) = (fun _ : Nat => Value.null) from rfl, ← arrV_new]
/-- System.arraycopy of Trays -/
theorem r_copyQ {i : Nat} {a b : Nat} {sp dp n : Int32} {K : sMem → Option (sRes × sMem)} (hq : Cond.methodLink own i arraycopyName ∈ lw_all) (hn1 : Cond.native arraycopyName ∈ lw_all) (hn2 : Cond.static arraycopyName ∈ lw_all) (hn3 : Cond.initialized "java/lang/System" ∈ lw_all) (h1d : 1 ≤ d) (hrm : (st.map fun v => v.category).sum ≤ 8) (hd : decode cc pc = .ok (.invokestatic i, 3)) (kk : ∀ M1, AW l G own nm cc mL ret hh d (pc + 3) L st M1 (K M1)) : AW l G own nm cc mL ret hh d pc L (.int n :: .int dp :: .ref b :: .int sp :: .ref a :: st) M ((sCpQ M a sp b dp n).bind K) := by
  refine AW.bind fun M1 hx => ?_
  obtain ⟨n0, f, n1, g, ha, hb, ⟨hB, h1, h2, h3, h4, h5, hall⟩, rfl⟩ := sCpQ_spec hx
  refine AW.write hB (fun p e9 R s m args below meth c H locs k9 n9 ls Q hE hM hS hl kk => ?_) (kk _)
  obtain ⟨hx9, hb9, hml, -, -, hown, hmn, hts, -, hfr, hlo, hKK⟩ := hE
  have hK := hKK.1
  obtain ⟨t9, hPa⟩ := hM.arr ha
  obtain ⟨-, hPb⟩ := hM.arr hb
  have hc0 : H[a]? = some (vp_cell (G.2.1 7) (n0, .inr (.inr (.inr (.inr f))))) := hPa 0 _ rfl
  have hc1 : H[b]? = some (vp_cell (G.2.1 7) (n1, .inr (.inr (.inr (.inr g))))) := hPb 0 _ rfl
  obtain ⟨-, k0, hk0, cm0, hkk0⟩ := (hK.2 7 _ (sTys_at G t9)).1 n0 (fun j => va_rf (f j))
  have hnw := sNativeW
  intro T hT X
  obtain ⟨vm', X', step⟩ := X.arraycopy hx9 hown (hts _ hq) (hts _ hn1) (hts _ hn2) (hts _ hn3) (src := a) (dst := b) (cs := vp_cell (G.2.1 7) (n0, .inr (.inr (.inr (.inr f))))) (cd := vp_cell (G.2.1 7) (n1, .inr (.inr (.inr (.inr g))))) (srcPos := sp) (destPos := dp) (n := n) (by rw [hT]; exact hc0) (by rw [hT]; exact hc1)
    (fun _ h => by cases h) (fun _ h => by cases h) (fun h => by cases h) (fun h => by cases h) hk0 hk0 hkk0 hkk0 rfl h1 h2 h3
    (by rw [sNN h1, sNN h3]; show ¬ _ > ((arrV (G.2.1 7) n0 (fun j => va_rf (f j))).slots.size : Int); rw [arrV_size]; omega)
    (by rw [sNN h2, sNN h3]; show ¬ _ > ((arrV (G.2.1 7) n1 (fun j => va_rf (g j))).slots.size : Int); rw [arrV_size]; omega)
    (fun vm₁ hal i hi => by
      have e : (vp_cell (G.2.1 7) (n0, .inr (.inr (.inr (.inr f))))).slots.getD (sp.toNatClampNeg + i) .null = va_rf (f (sp.toNatClampNeg + i)) := by
        show (arrV (G.2.1 7) n0 (fun j => va_rf (f j))).slots.getD _ _ = _
        rw [Array.getD_eq_getD_getElem?, arrV_read _ _ (by omega)]
        rfl
      rw [e]
      have hz := List.all_eq_true.mp hall i (List.mem_range.mpr hi)
      cases hy : f (sp.toNatClampNeg + i) with
      | none => exact ⟨rfl, trivial⟩
      | some y =>
        rw [hy] at hz
        obtain ⟨fs, hfs⟩ := Option.isSome_iff_exists.mp hz
        obtain ⟨cellV, g1, g2, ⟨kC, hkC⟩, hasg, kE, hkE⟩ := s_fit (t := 7) hKK hM (sFs_spec hfs) t9 rfl hk0 hkk0
        obtain ⟨kC', hkC', -⟩ := hal.2.2 _ _ hkC
        obtain ⟨kE', hkE', -⟩ := hal.2.2 _ _ hkE
        refine ⟨rfl, cellV, (show T.heap[y]? = some cellV by rw [hT]; exact g1), (fun q h => by rw [h] at g2; cases g2), ⟨kC', hkC'⟩, ?_, ?_⟩
        · exact ⟨kE', hkE'⟩
        · show vm₁.assignable _ _ = true
          rw [hal.assignable]
          exact hasg)
    (g := F0 m pc ls (.int n :: .int dp :: .ref b :: .int sp :: .ref a :: st)) rfl (by rw [hml]; exact hl.1) (rest := st) rfl (by rw [hb9]; exact hd) (by omega) (by show 2 * 0 + _ + _ ≤ _; omega)
  have e1 : copied (vp_cell (G.2.1 7) (n0, .inr (.inr (.inr (.inr f))))) (vp_cell (G.2.1 7) (n1, .inr (.inr (.inr (.inr g))))) sp dp n = vp_cell (G.2.1 7) (n1, .inr (.inr (.inr (.inr (va_cpy f g sp.toNatClampNeg dp.toNatClampNeg n.toNatClampNeg))))) := by
    rw [vp_cell_q, vp_cell_q, vp_cell_q]
    exact va_copied (fun z => va_rf z) (G.2.1 7) (G.2.1 7) f g h4
  rw [e1] at X' step
  have hl9 : b < H.size := (Array.getElem?_eq_some_iff.mp hc1).1
  generalize hcw : vp_cell (G.2.1 7) (n1, .inr (.inr (.inr (.inr (va_cpy f g sp.toNatClampNeg dp.toNatClampNeg n.toNatClampNeg))))) = cw at X' step
  have hheap : ((T.setVm vm').setCell b cw).heap = H.setIfInBounds b cw := by rw [← hT]; rfl
  have oq : ∀ q : Nat, q ≠ b → (H.setIfInBounds b cw)[q]? = H[q]? := fun q hq => by simp [Array.getElem?_setIfInBounds, Ne.symm hq]
  obtain ⟨t, a1, b1⟩ := kk _ _ (by simp) oq (show _ ∧ _ from ⟨t9, show (H.setIfInBounds b cw)[b]? = some _ by simp [Array.getElem?_setIfInBounds, hl9, hcw]⟩) ⟨by simp; exact hS.1, fun q g1 g2 => by
      rw [oq q (fun e => g2 (by rw [e]; exact hB))]
      exact hS.2.1 q g1 g2, fun q hq => by
      rcases List.mem_append.mp hq with h | h
      · exact hS.2.2 q h
      · obtain ⟨z, -, hz⟩ := List.mem_map.mp h
        rw [← hz]
        exact hB⟩ _ hheap X'
  exact ⟨t, step t a1, b1⟩
end RQ
