/-! the context at the start; printed by mkstart.py -/
set_option maxRecDepth 100000
theorem st_made {args : Array Value} {s : State} {x : MethodName} {pc i : Nat} {σ : Lambda.Shape} {nm ds : String} (h : (Cond.lambdaSite x pc i σ).before args s = true) (hcap : σ.captured ≠ []) (hif : (Cond.interfaceMethod σ.iface σ.iface nm ds).before args s = true) : ∃ c : ClassId, sMade c s (.lambdaSite x pc i σ) := by
  obtain ⟨c, one, hat⟩ := Cond.lambdaSite_spec h
  obtain ⟨m, k, cf, i0, p0, lk, hm, hk, hcf, hsh, -, hfind, hmade, hcall, hl⟩ := State.lambdaAt?_spec hat
  obtain ⟨cL, kL, r1, hcL, hkL, hiL, -, -⟩ := Cond.interfaceMethod_spec hif
  rcases hl with ⟨-, -, -, -, hc, -⟩ | ⟨rfl, -, -⟩
  · exact absurd hc hcap
  · exact ⟨c, m, k, cf, i0, p0, hm, hk, hcf, hsh, hfind, hmade, hcall, cL, kL, hcL, hkL, hiL⟩
theorem st_eq {args : Array Value} {s : State} {a b : Term} {r : Nat} (h : (Cond.eq a b).before args s = true) (ha : a.eval args s none [] s = some (.ref r)) : b.eval args s none [] s = some (.ref r) := by
  cases hb : b.eval args s none [] s with
  | none => simp [Cond.before, Cond.holds, Cond.value, ha, hb] at h
  | some v =>
    simp only [Cond.before, Cond.holds, Cond.value, ha, hb] at h
    cases v <;> simp at h
    rw [h]
theorem st_eq' {args : Array Value} {s : State} {a b : Term} {r : Nat} (h : (Cond.eq a b).before args s = true) (hb : b.eval args s none [] s = some (.ref r)) : a.eval args s none [] s = some (.ref r) := by
  cases ha : a.eval args s none [] s with
  | none => simp [Cond.before, Cond.holds, Cond.value, ha, hb] at h
  | some v =>
    simp only [Cond.before, Cond.holds, Cond.value, ha, hb] at h
    cases v <;> simp at h
    rw [h]
theorem st_ne {args : Array Value} {s : State} {a b : Term} {r q : Nat} (h : (Cond.not (Cond.eq a b)).before args s = true) (ha : a.eval args s none [] s = some (.ref r)) (hb : b.eval args s none [] s = some (.ref q)) : r ≠ q := by
  intro e
  subst e
  simp [Cond.before, Cond.holds, Cond.value, ha, hb] at h
def lsi (j : Nat) : Prop := True
theorem st_cls {args : Array Value} {s : State} (hts : ∀ w ∈ lw_all, w.before args s = true) : ∃ D : va_G, ∀ (c : Nat) (q : vw_C), sCL[c]? = some q → u_Kn s q.1 q.2.1 q.2.2 (D.1 c) (D.2 c) := by
  have h : ∀ ci : Nat, ∃ (cC : ClassId), ∃ (iS : Nat → Nat), ∀ q, sCL[ci]? = some q → u_Kn s q.1 q.2.1 q.2.2 cC iS := by
    intro ci
    match ci with
    | 0 => obtain ⟨c, i, h⟩ := u_known (C := RX0) (T := TX0) (N := 47) hts in_X0 (hts _ q183); exact ⟨c, i, fun q hq => by cases hq; exact h⟩
    | 1 => obtain ⟨c, i, h⟩ := u_known (C := RX1) (T := TX1) (N := 4) hts in_X1 (hts _ q220); exact ⟨c, i, fun q hq => by cases hq; exact h⟩
    | 2 => obtain ⟨c, i, h⟩ := u_known (C := RX2) (T := TX2) (N := 19) hts in_X2 (hts _ q250); exact ⟨c, i, fun q hq => by cases hq; exact h⟩
    | 3 => obtain ⟨c, i, h⟩ := u_known (C := RX3) (T := TX3) (N := 33) hts in_X3 (hts _ q1399); exact ⟨c, i, fun q hq => by cases hq; exact h⟩
    | 4 => obtain ⟨c, i, h⟩ := u_known (C := RX4) (T := TX4) (N := 8) hts in_X4 (hts _ q680); exact ⟨c, i, fun q hq => by cases hq; exact h⟩
    | 5 => obtain ⟨c, i, h⟩ := u_known (C := RX5) (T := TX5) (N := 3) hts in_X5 (hts _ q779); exact ⟨c, i, fun q hq => by cases hq; exact h⟩
    | 6 => obtain ⟨c, i, h⟩ := u_known (C := RX7) (T := TX7) (N := 1) hts in_X7 (hts _ q822); exact ⟨c, i, fun q hq => by cases hq; exact h⟩
    | 7 => obtain ⟨c, i, h⟩ := u_known (C := RX8) (T := TX8) (N := 1) hts in_X8 (hts _ q835); exact ⟨c, i, fun q hq => by cases hq; exact h⟩
    | 8 => obtain ⟨c, i, h⟩ := u_known (C := RX9) (T := TX9) (N := 3) hts in_X9 (hts _ q845); exact ⟨c, i, fun q hq => by cases hq; exact h⟩
    | 9 => obtain ⟨c, i, h⟩ := u_known (C := RX10) (T := TX10) (N := 1) hts in_X10 (hts _ q877); exact ⟨c, i, fun q hq => by cases hq; exact h⟩
    | 10 => obtain ⟨c, i, h⟩ := u_known (C := RX11) (T := TX11) (N := 4) hts in_X11 (hts _ q902); exact ⟨c, i, fun q hq => by cases hq; exact h⟩
    | 11 => obtain ⟨c, i, h⟩ := u_known (C := RX12) (T := TX12) (N := 2) hts in_X12 (hts _ q1155); exact ⟨c, i, fun q hq => by cases hq; exact h⟩
    | k + 12 => exact ⟨0, fun _ => 0, fun q hq => by simp [sCL] at hq⟩
  obtain ⟨dC, h⟩ := Classical.axiomOfChoice h
  obtain ⟨dI, h⟩ := Classical.axiomOfChoice h
  exact ⟨(dC, dI), h⟩
theorem st_arr {s : State} {args : Array Value} {t : FieldType} (h : (Cond.arrayClass t).before args s = true) (ht : ∀ C, t ≠ .object C) : ∃ c : ClassId, ArrOfT s c t ∧ va_RA s c t := by
  obtain ⟨c, k, comp, h1, h2, h3⟩ := Cond.arrayClass_spec h
  refine ⟨c, fun n z => ⟨(fun k h => by cases h), k, h2, comp, h3⟩, ?_⟩
  cases t with
  | object C => exact absurd rfl (ht C)
  | _ => exact h1
theorem st_aro {s : State} {args : Array Value} {C : String} (h : (Cond.arrayOver (.object C)).before args s = true) : ∃ c : ClassId, ArrOfT s c (.object C) ∧ va_RA s c (.object C) := by
  obtain ⟨comp, c, k, h1, -, h3, h4, h5⟩ := Cond.arrayOver_spec h
  exact ⟨c, fun n z => ⟨(fun k h => by cases h), k, h3, comp, h4⟩, k, comp, h3, h4, h1, h5⟩
theorem st_ara {s : State} {args : Array Value} {t : FieldType} (h : (Cond.arrayOver (.array t)).before args s = true) : ∃ c : ClassId, ArrOfT s c (.array t) ∧ va_RA s c (.array t) := by
  obtain ⟨comp, c, k, -, -, h3, h4, h5⟩ := arrayOverA_spec h
  exact ⟨c, fun n z => ⟨(fun k h => by cases h), k, h3, comp, h4⟩, h5⟩
theorem st_tys {args : Array Value} {s : State} (hts : ∀ w ∈ lw_tbl, w.before args s = true) : ∃ ta : Nat → ClassId, ∀ k : Nat, k < 9 → ArrOfT s (ta k) (sTy k) ∧ va_RA s (ta k) (sTy k) := by
  have h : ∀ k : Nat, ∃ c : ClassId, k < 9 → ArrOfT s c (sTy k) ∧ va_RA s c (sTy k) := by
    intro k
    match k with
    | 0 => obtain ⟨c, h⟩ := st_arr (hts _ (lw_all_tbl q244)) (fun C h => by cases h); exact ⟨c, fun _ => h⟩
    | 1 => obtain ⟨c, h⟩ := st_arr (hts _ (lw_all_tbl q243)) (fun C h => by cases h); exact ⟨c, fun _ => h⟩
    | 2 => obtain ⟨c, h⟩ := st_aro (hts _ q192); exact ⟨c, fun _ => h⟩
    | 3 => obtain ⟨c, h⟩ := st_ara (hts _ q191); exact ⟨c, fun _ => h⟩
    | 4 => obtain ⟨c, h⟩ := st_aro (hts _ q226); exact ⟨c, fun _ => h⟩
    | 5 => obtain ⟨c, h⟩ := st_aro (hts _ q246); exact ⟨c, fun _ => h⟩
    | 6 => obtain ⟨c, h⟩ := st_aro (hts _ q248); exact ⟨c, fun _ => h⟩
    | 7 => obtain ⟨c, h⟩ := st_aro (hts _ q329); exact ⟨c, fun _ => h⟩
    | 8 => obtain ⟨c, h⟩ := st_aro (hts _ q331); exact ⟨c, fun _ => h⟩
    | k + 9 => exact ⟨0, fun h => absurd h (by omega)⟩
  exact Classical.axiomOfChoice h
theorem st_lam {args : Array Value} {s : State} (hts : ∀ w ∈ lw_tbl, w.before args s = true) (hs : ∀ w ∈ nvL, w.before args s = true) : ∃ lc : Nat → ClassId, ∀ j : Nat, j < 11 → sMade (lc j) s (sSiteW j) := by
  have h : ∀ j : Nat, ∃ c : ClassId, j < 11 → sMade c s (sSiteW j) := by
    intro j
    match j with
    | 0 => obtain ⟨c, h⟩ := st_made (hs _ nv_553) (by decide) (hts _ q1202); exact ⟨c, fun _ => h⟩
    | 1 => obtain ⟨c, h⟩ := st_made (hs _ nv_554) (by decide) (hts _ q1202); exact ⟨c, fun _ => h⟩
    | 2 => obtain ⟨c, h⟩ := st_made (hs _ nv_555) (by decide) (hts _ q1138); exact ⟨c, fun _ => h⟩
    | 3 => obtain ⟨c, h⟩ := st_made (hs _ nv_556) (by decide) (hts _ q1202); exact ⟨c, fun _ => h⟩
    | 4 => obtain ⟨c, h⟩ := st_made (hs _ nv_557) (by decide) (hts _ q1138); exact ⟨c, fun _ => h⟩
    | 5 => obtain ⟨c, h⟩ := st_made (hs _ nv_558) (by decide) (hts _ q1138); exact ⟨c, fun _ => h⟩
    | 6 => obtain ⟨c, h⟩ := st_made (hs _ nv_559) (by decide) (hts _ q1138); exact ⟨c, fun _ => h⟩
    | 7 => obtain ⟨c, h⟩ := st_made (hs _ nv_560) (by decide) (hts _ q1138); exact ⟨c, fun _ => h⟩
    | 8 => obtain ⟨c, h⟩ := st_made (hs _ nv_561) (by decide) (hts _ q1202); exact ⟨c, fun _ => h⟩
    | 9 => obtain ⟨c, h⟩ := st_made (hs _ nv_562) (by decide) (hts _ q1202); exact ⟨c, fun _ => h⟩
    | 10 => obtain ⟨c, h⟩ := st_made (hs _ nv_563) (by decide) (hts _ q1138); exact ⟨c, fun _ => h⟩
    | j + 11 => exact ⟨0, fun h => absurd h (by omega)⟩
  exact Classical.axiomOfChoice h
abbrev tkTm (k : Nat) : Term := .static "SilkClerks$Token" (sTokN k) "LSilkClerks$Token;"
theorem st_tok {args : Array Value} {s : State} (hs : ∀ w ∈ nvL, w.before args s = true) : ∃ tk : Nat → Nat, ∀ k : Nat, k < 5 → (tkTm k).eval args s none [] s = some (.ref (tk k)) := by
  have h : ∀ k : Nat, ∃ a : Nat, k < 5 → (tkTm k).eval args s none [] s = some (.ref a) := by
    intro k
    match k with
    | 0 => obtain ⟨a, c, cA, kA, q1, -⟩ := Cond.exactly_spec (hs _ nv_2); exact ⟨a, fun _ => q1⟩
    | 1 => obtain ⟨a, c, cA, kA, q1, -⟩ := Cond.exactly_spec (hs _ nv_4); exact ⟨a, fun _ => q1⟩
    | 2 => obtain ⟨a, c, cA, kA, q1, -⟩ := Cond.exactly_spec (hs _ nv_7); exact ⟨a, fun _ => q1⟩
    | 3 => obtain ⟨a, c, cA, kA, q1, -⟩ := Cond.exactly_spec (hs _ nv_16); exact ⟨a, fun _ => q1⟩
    | 4 => obtain ⟨a, c, cA, kA, q1, -⟩ := Cond.exactly_spec (hs _ nv_21); exact ⟨a, fun _ => q1⟩
    | k + 5 => exact ⟨0, fun h => absurd h (by omega)⟩
  exact Classical.axiomOfChoice h
theorem st_txt {args : Array Value} {s : State} (hts : ∀ w ∈ lw_tbl, w.before args s = true) (hs : ∀ w ∈ nvL, w.before args s = true) {ad : Nat → Nat × Nat} (hok : ∀ j : Nat, j < 26 → txOk j args s (ad j)) : ∀ q ∈ sStrs, vk_R q.1 q.2.1 q.2.2.1 (ad q.2.2.2).1 s := List.forall_mem_cons.mpr ⟨vk_R.of (hts _ q215) ((hok 0 (by decide)).1), List.forall_mem_cons.mpr ⟨vk_R.of (hts _ q216) ((hok 1 (by decide)).1), List.forall_mem_cons.mpr ⟨vk_R.of (hts _ q217) ((hok 2 (by decide)).1), List.forall_mem_cons.mpr ⟨vk_R.of (hts _ q218) ((hok 3 (by decide)).1), List.forall_mem_cons.mpr ⟨vk_R.of (hts _ q604) ((hok 4 (by decide)).1), List.forall_mem_cons.mpr ⟨vk_R.of (hts _ q194) ((hok 5 (by decide)).1), List.forall_mem_cons.mpr ⟨vk_R.of (hts _ q195) ((hok 6 (by decide)).1), List.forall_mem_cons.mpr ⟨vk_R.of (hts _ q196) ((hok 7 (by decide)).1), List.forall_mem_cons.mpr ⟨vk_R.of (hts _ q197) ((hok 8 (by decide)).1), List.forall_mem_cons.mpr ⟨vk_R.of (hts _ q198) ((hok 9 (by decide)).1), List.forall_mem_cons.mpr ⟨vk_R.of (hts _ q199) ((hok 10 (by decide)).1), List.forall_mem_cons.mpr ⟨vk_R.of (hts _ q200) ((hok 11 (by decide)).1), List.forall_mem_cons.mpr ⟨vk_R.of (hts _ q201) ((hok 12 (by decide)).1), List.forall_mem_cons.mpr ⟨vk_R.of (hts _ q202) ((hok 13 (by decide)).1), List.forall_mem_cons.mpr ⟨vk_R.of (hts _ q203) ((hok 14 (by decide)).1), List.forall_mem_cons.mpr ⟨vk_R.of (hts _ q204) ((hok 15 (by decide)).1), List.forall_mem_cons.mpr ⟨vk_R.of (hts _ q205) ((hok 16 (by decide)).1), List.forall_mem_cons.mpr ⟨vk_R.of (hts _ q206) ((hok 17 (by decide)).1), List.forall_mem_cons.mpr ⟨vk_R.of (hts _ q207) ((hok 18 (by decide)).1), List.forall_mem_cons.mpr ⟨vk_R.of (hts _ q208) ((hok 19 (by decide)).1), List.forall_mem_cons.mpr ⟨vk_R.of (hts _ q209) ((hok 20 (by decide)).1), List.forall_mem_cons.mpr ⟨vk_R.of (hts _ q210) ((hok 21 (by decide)).1), List.forall_mem_cons.mpr ⟨vk_R.of (hts _ q211) ((hok 22 (by decide)).1), List.forall_mem_cons.mpr ⟨vk_R.of (hts _ q212) ((hok 23 (by decide)).1), List.forall_mem_cons.mpr ⟨vk_R.of (hts _ q213) ((hok 24 (by decide)).1), List.forall_mem_cons.mpr ⟨vk_R.of (hts _ q214) ((hok 25 (by decide)).1), List.forall_mem_cons.mpr ⟨vk_R.of (hts _ q1579) (st_eq (hs _ nv_434) (hok 18 (by decide)).1), List.forall_mem_cons.mpr ⟨vk_R.of (hts _ q1580) (st_eq (hs _ nv_443) (hok 19 (by decide)).1), List.forall_mem_cons.mpr ⟨vk_R.of (hts _ q1581) (st_eq (hs _ nv_453) (hok 20 (by decide)).1), List.forall_mem_cons.mpr ⟨vk_R.of (hts _ q1582) (st_eq (hs _ nv_462) (hok 21 (by decide)).1), List.forall_mem_cons.mpr ⟨vk_R.of (hts _ q1583) (st_eq (hs _ nv_472) (hok 22 (by decide)).1), List.forall_mem_cons.mpr ⟨vk_R.of (hts _ q1584) (st_eq (hs _ nv_483) (hok 23 (by decide)).1), List.forall_mem_cons.mpr ⟨vk_R.of (hts _ q1585) (st_eq (hs _ nv_492) (hok 24 (by decide)).1), List.forall_mem_cons.mpr ⟨vk_R.of (hts _ q1586) (st_eq (hs _ nv_502) (hok 25 (by decide)).1), List.forall_mem_cons.mpr ⟨vk_R.of (hts _ q1587) (st_eq (hs _ nv_510) (hok 0 (by decide)).1), List.forall_mem_cons.mpr ⟨vk_R.of (hts _ q1567) (st_eq (hs _ nv_363) (hok 1 (by decide)).1), List.forall_mem_cons.mpr ⟨vk_R.of (hts _ q1568) (st_eq (hs _ nv_370) (hok 2 (by decide)).1), List.forall_mem_cons.mpr ⟨vk_R.of (hts _ q1569) (st_eq (hs _ nv_378) (hok 16 (by decide)).1), List.forall_mem_cons.mpr ⟨vk_R.of (hts _ q1570) (st_eq (hs _ nv_386) (hok 3 (by decide)).1), List.forall_mem_cons.mpr ⟨vk_R.of (hts _ q1571) (st_eq (hs _ nv_395) (hok 8 (by decide)).1), List.forall_mem_cons.mpr ⟨vk_R.of (hts _ q1572) (st_eq (hs _ nv_405) (hok 9 (by decide)).1), List.forall_mem_cons.mpr ⟨vk_R.of (hts _ q1573) (st_eq (hs _ nv_416) (hok 10 (by decide)).1), List.forall_mem_cons.mpr ⟨vk_R.of (hts _ q1554) (st_eq (hs _ nv_335) (hok 5 (by decide)).1), List.forall_mem_cons.mpr ⟨vk_R.of (hts _ q1561) (st_eq (hs _ nv_344) (hok 6 (by decide)).1), List.forall_mem_cons.mpr ⟨vk_R.of (hts _ q1562) (st_eq (hs _ nv_354) (hok 7 (by decide)).1), List.forall_mem_cons.mpr ⟨vk_R.of (hts _ q1588) (st_eq (hs _ nv_517) (hok 11 (by decide)).1), List.forall_mem_cons.mpr ⟨vk_R.of (hts _ q1589) (st_eq (hs _ nv_526) (hok 12 (by decide)).1), List.forall_mem_cons.mpr ⟨vk_R.of (hts _ q1590) (st_eq (hs _ nv_535) (hok 13 (by decide)).1), List.forall_mem_cons.mpr ⟨vk_R.of (hts _ q1591) (st_eq (hs _ nv_545) (hok 14 (by decide)).1), List.forall_mem_cons.mpr ⟨vk_R.of (hts _ q1592) (st_eq (hs _ nv_552) (hok 15 (by decide)).1), List.forall_mem_cons.mpr ⟨vk_R.of (hts _ q1578) (st_eq (hs _ nv_425) (hok 17 (by decide)).1), fun _ h => nomatch h⟩⟩⟩⟩⟩⟩⟩⟩⟩⟩⟩⟩⟩⟩⟩⟩⟩⟩⟩⟩⟩⟩⟩⟩⟩⟩⟩⟩⟩⟩⟩⟩⟩⟩⟩⟩⟩⟩⟩⟩⟩⟩⟩⟩⟩⟩⟩⟩⟩⟩⟩
theorem st_ctx {args : Array Value} {s : State} (hts : ∀ w ∈ lw_tbl, w.before args s = true) (hs : ∀ w ∈ nvL, w.before args s = true) : ∃ (G : sG) (ad : Nat → Nat × Nat), sK G s.heap.size s s.heap ∧ (∀ j : Nat, j < 26 → txOk j args s (ad j) ∧ G.2.2.2 (10 + j) = (ad j).1) ∧ ∀ a b : Nat, a < 5 → b < 5 → G.2.2.2 a = G.2.2.2 b → a = b := by
  have hta : ∀ w ∈ lw_all, w.before args s = true := fun w h => hts w (lw_all_tbl h)
  have hA : ∀ a : Nat, a < s.heap.size → ¬ sA s.heap.size a := fun a h => Nat.not_le.mpr h
  obtain ⟨D, hD⟩ := st_cls hta
  obtain ⟨ta, hT⟩ := st_tys hts
  obtain ⟨lc, hL⟩ := st_lam hts hs
  obtain ⟨tk, htk⟩ := st_tok hs
  obtain ⟨ad, hok⟩ := tx_all hs
  refine ⟨(D, ta, lc, fun n => if n < 10 then tk n else (ad (n - 10)).1), ad, ⟨⟨hD, fun k q hk => ?_⟩, ⟨va_AO.of (A := args) (hts _ q192), va_AO.of (A := args) (hts _ q226), va_AO.of (A := args) (hts _ q246), va_AO.of (A := args) (hts _ q248), va_AO.of (A := args) (hts _ q329), va_AO.of (A := args) (hts _ q331)⟩, ⟨fun k hk => ?_, va_Zof (hts _ q556) (hta _ q164) (va_eqt (hs _ nv_11)) hA, va_Zqof (hts _ q572) (hta _ q166) (hs _ nv_12) hA, va_Zqof (hts _ q704) (hta _ q169) (hs _ nv_27) hA, va_Zqof (hts _ q706) (hta _ q169) (hs _ nv_28) hA⟩, fun q hq => ?_, fun w hw => va_Nw.of (sNW_tabs w hw) (hts w (sNW_tbl w hw)), hts _ q191, hL⟩, fun j hj => ⟨hok j hj, ?_⟩, fun a b ha hb h => ?_⟩
  · have hk9 : k < 9 := by
      have := (List.getElem?_eq_some_iff.mp hk).1
      simpa [sTys] using this
    rw [sTys_at _ hk9] at hk
    cases hk
    exact hT k hk9
  · show va_Z _ _ _ (.ref (if k < 10 then tk k else (ad (k - 10)).1)) _ _ _
    rw [if_pos (by omega)]
    match k, hk with
    | 0, _ => exact va_Zof (hts _ q531) (hta _ q163) (htk 0 (by decide)) hA
    | 1, _ => exact va_Zof (hts _ q533) (hta _ q163) (htk 1 (by decide)) hA
    | 2, _ => exact va_Zof (hts _ q538) (hta _ q163) (htk 2 (by decide)) hA
    | 3, _ => exact va_Zof (hts _ q603) (hta _ q163) (htk 3 (by decide)) hA
    | 4, _ => exact va_Zof (hts _ q663) (hta _ q163) (htk 4 (by decide)) hA
    | k + 5, hk => exact absurd hk (by omega)
  · have := st_txt hts hs hok q hq
    show vk_R _ _ _ (if 10 + q.2.2.2 < 10 then tk (10 + q.2.2.2) else (ad (10 + q.2.2.2 - 10)).1) s
    rw [if_neg (by omega), Nat.add_sub_cancel_left]
    exact this
  · show (if 10 + j < 10 then tk (10 + j) else (ad (10 + j - 10)).1) = _
    rw [if_neg (by omega), Nat.add_sub_cancel_left]
  · have h : tk a = tk b := by
      have e1 : ((if a < 10 then tk a else (ad (a - 10)).1) = if b < 10 then tk b else (ad (b - 10)).1) := h
      rw [if_pos (by omega), if_pos (by omega)] at e1
      exact e1
    exact match a, b, ha, hb, h with
    | 0, 0, _, _, h => rfl
    | 0, 1, _, _, h => absurd h (st_ne (hs _ nv_6) (htk 0 (by decide)) (htk 1 (by decide)))
    | 0, 2, _, _, h => absurd h (st_ne (hs _ nv_9) (htk 0 (by decide)) (htk 2 (by decide)))
    | 0, 3, _, _, h => absurd h (st_ne (hs _ nv_18) (htk 0 (by decide)) (htk 3 (by decide)))
    | 0, 4, _, _, h => absurd h (st_ne (hs _ nv_23) (htk 0 (by decide)) (htk 4 (by decide)))
    | 1, 0, _, _, h => absurd h.symm (st_ne (hs _ nv_6) (htk 0 (by decide)) (htk 1 (by decide)))
    | 1, 1, _, _, h => rfl
    | 1, 2, _, _, h => absurd h (st_ne (hs _ nv_10) (htk 1 (by decide)) (htk 2 (by decide)))
    | 1, 3, _, _, h => absurd h (st_ne (hs _ nv_19) (htk 1 (by decide)) (htk 3 (by decide)))
    | 1, 4, _, _, h => absurd h (st_ne (hs _ nv_24) (htk 1 (by decide)) (htk 4 (by decide)))
    | 2, 0, _, _, h => absurd h.symm (st_ne (hs _ nv_9) (htk 0 (by decide)) (htk 2 (by decide)))
    | 2, 1, _, _, h => absurd h.symm (st_ne (hs _ nv_10) (htk 1 (by decide)) (htk 2 (by decide)))
    | 2, 2, _, _, h => rfl
    | 2, 3, _, _, h => absurd h (st_ne (hs _ nv_20) (htk 2 (by decide)) (htk 3 (by decide)))
    | 2, 4, _, _, h => absurd h (st_ne (hs _ nv_25) (htk 2 (by decide)) (htk 4 (by decide)))
    | 3, 0, _, _, h => absurd h.symm (st_ne (hs _ nv_18) (htk 0 (by decide)) (htk 3 (by decide)))
    | 3, 1, _, _, h => absurd h.symm (st_ne (hs _ nv_19) (htk 1 (by decide)) (htk 3 (by decide)))
    | 3, 2, _, _, h => absurd h.symm (st_ne (hs _ nv_20) (htk 2 (by decide)) (htk 3 (by decide)))
    | 3, 3, _, _, h => rfl
    | 3, 4, _, _, h => absurd h (st_ne (hs _ nv_26) (htk 3 (by decide)) (htk 4 (by decide)))
    | 4, 0, _, _, h => absurd h.symm (st_ne (hs _ nv_23) (htk 0 (by decide)) (htk 4 (by decide)))
    | 4, 1, _, _, h => absurd h.symm (st_ne (hs _ nv_24) (htk 1 (by decide)) (htk 4 (by decide)))
    | 4, 2, _, _, h => absurd h.symm (st_ne (hs _ nv_25) (htk 2 (by decide)) (htk 4 (by decide)))
    | 4, 3, _, _, h => absurd h.symm (st_ne (hs _ nv_26) (htk 3 (by decide)) (htk 4 (by decide)))
    | 4, 4, _, _, h => rfl
    | a + 5, _, ha, _, _ => absurd ha (by omega)
    | _, b + 5, _, hb, _ => absurd hb (by omega)
