/-! fits: both sides -/
set_option maxRecDepth 100000
def fI (l : List Nat) : Int32 := match l with
  | [] => -1
  | y :: _ => nI y
theorem fI_app (l : List Nat) (y : Nat) (h : ∀ z, z ∈ l → z < 2 ^ 30) : fI (l ++ [y]) = if fI l = -1 then nI y else fI l := by
  cases l with
  | nil => rfl
  | cons z l =>
    have := h z (List.mem_cons_self ..)
    show nI z = if nI z = -1 then nI y else nI z
    rw [if_neg (nI_m1 z (by omega))]
theorem fI_0 {l : List Nat} (h : 0 < l.length) : fI l = nI (l.getD 0 0) := by
  cases l with
  | nil => cases h
  | cons z l => rfl
theorem px_yard {t : Nat → Int32} (hw : wAct t) (m : Nat) (s : mSt) (hs0 : s.2 0 = t) : ∃ G, p_X3_yard m s = some (some (.int (nI (lbV (fun p => nI (mvF t (clL t (11 * hFc t)) p)) 12))), mRowSet s 10 G) := by
  have hs : sFuel = 1000000 := rfl
  generalize hg9 : (fun p => nI (mvF t (clL t (11 * hFc t)) p)) = gg
  have eg : ∀ p, gg p = nI (mvF t (clL t (11 * hFc t)) p) := fun p => by rw [← hg9]
  have ma := fun G p (hp : p < 12) => px_mostAlike hw m (mRowSet s 10 G) (by rw [mrs_ne _ _ (by omega)]; exact hs0) (p := p) hp
  simp only [mrs_mrs, ← eg] at ma
  have J := lkS (α := Nat → Int32) (fun _ _ _ => none) (fun f k G => p_X3_yard_L4 m f (nI (lbV gg k)) (nI k) (mRowSet s 10 G)) 12 (fun k _ => 0 < k) (fun _ o => ∃ G, o = some (some (.int (nI (lbV gg 12))), mRowSet s 10 G)) ?_ ?_ 11 1 sFuel sFuel (s.2 10) (by omega) (by omega) (by omega) (by omega)
  · obtain ⟨G, e⟩ := J
    have e' : p_X3_yard_L4 m sFuel 0 1 (mRowSet s 10 (s.2 10)) = _ := e
    rw [mrs_self] at e'
    exact ⟨G, e'⟩
  · intro f f' k G hk k0
    have c0 : ¬ (12 : Int32) ≤ nI k := fun e => by have := (nI_leI (a := 12) (by omega) (by omega)).mp e; omega
    have lt := lbV_lt gg k0
    obtain ⟨G1, m1⟩ := ma G k hk
    obtain ⟨G2, m2⟩ := ma G1 (lbV gg k) (by omega)
    refine Or.inl ⟨G2, by omega, rfl, ?_⟩
    rw [lbV_s gg k0]
    by_cases c : gg (lbV gg k) ≤ gg k
    · rw [if_pos c]
      simp (disch := omega) only [p_X3_yard_L4, if_neg c0, m1, m2, pcI, if_pos c, nI_1]
    · rw [if_neg c]
      simp (disch := omega) only [p_X3_yard_L4, if_neg c0, m1, m2, pcI, if_neg c, nI_1]
  · intro f f' G _
    have c0 : (12 : Int32) ≤ nI 12 := by decide
    refine ⟨G, ?_⟩
    simp only [p_X3_yard_L4, if_pos c0]
theorem px_fits {t : Nat → Int32} (hw : wAct t) (m : Nat) (v : Int32) (s : mSt) (hs0 : s.2 0 = t) : ∃ f, p_X3_fits_L18 m v sFuel 0 (-1) 0 s = p_X3_fits_L18 m v (f + 1) (nI (clL t (11 * hFc t)).length) (fI (clL t (11 * hFc t))) (nI (hFc t)) s := by
  have wf := hw.1.2.1
  have h10 : hFc t ≤ 10 := wf.1.2
  have e572 : t 572 = nI (hFc t) := wf.1.1
  have mem := fun x z (hz : z ∈ clL t x) => (clL_mem t x z hz).1
  have cbe := fun a q (ha : a < hFc t) (hq : q ≤ hFc t) => px_couldBe hw m s hs0 (a := a) (q := q) ha hq
  refine lk (fun _ _ (_ : Unit) => none) (fun f a (_ : Unit) => p_X3_fits_L18 m v f (nI (clL t (11 * a)).length) (fI (clL t (11 * a))) (nI a) s) (hFc t) (fun _ _ => True) (fun _ o => ∃ f, o = p_X3_fits_L18 m v (f + 1) (nI (clL t (11 * hFc t)).length) (fI (clL t (11 * hFc t))) (nI (hFc t)) s) ?_ (fun f f' _ _ => ⟨f', rfl⟩) (by omega) () trivial
  intro f f' a _ ha _
  have c0 : ¬ hFc t ≤ a := by omega
  have K := lk (fun _ _ (_ : Unit) => none) (fun q z (_ : Unit) => p_X3_fits_L34 (p_X3_fits_L18 m v f') m v (nI a) q (nI (clL t (11 * a + z)).length) (fI (clL t (11 * a + z))) (bI (bq z)) s) (hFc t + 1) (fun _ _ => True) (fun _ o => o = p_X3_fits_L18 m v f' (nI (clL t (11 * (a + 1))).length) (fI (clL t (11 * (a + 1)))) (nI (a + 1)) s) ?_ ?_ (by omega) () trivial
  · refine Or.inl ⟨(), trivial, rfl, ?_⟩
    have K' : p_X3_fits_L34 (p_X3_fits_L18 m v f') m v (nI a) sFuel (nI (clL t (11 * a)).length) (fI (clL t (11 * a))) (-1) s = _ := K
    rw [← K']
    simp (disch := omega) only [p_X3_fits_L18, mRow_0, obS, qld_572, hs0, e572, nI_leI, c0, ↓reduceIte]
  · intro q q' z _ hz _
    have z10 : z ≤ hFc t := by omega
    have bl := bq_le (n := hFc t) (q := z) (by omega) (by omega)
    have c1 : ¬ nI (hFc t) ≤ bI (bq z) := fun e => by have := Eq.mp bl e; omega
    have cs := clL_s t (11 * a + z)
    have cb9 := cbe a z ha z10
    refine Or.inl ⟨(), trivial, rfl, ?_⟩
    cases cc : coB t (11 * a + z) with
    | false =>
      rw [cc] at cb9 cs
      have e0 : clL t (11 * a + (z + 1)) = clL t (11 * a + z) := by
        rw [show 11 * a + (z + 1) = 11 * a + z + 1 by omega, cs]
        simp
      rw [e0]
      simp (disch := omega) only [p_X3_fits_L34, mRow_0, obS, qld_572, hs0, e572, if_neg c1, cb9, pcI, b01_f, ↓reduceIte, bq_s]
    | true =>
      rw [cc] at cb9 cs
      have e0 : clL t (11 * a + (z + 1)) = clL t (11 * a + z) ++ [11 * a + z] := by
        rw [show 11 * a + (z + 1) = 11 * a + z + 1 by omega, cs]
        simp
      have ev : (11 : Int32) * nI a + bI (bq z) + 1 = nI (11 * a + z) := by
        rw [Int32.add_assoc, bI_bq]
        show nI 11 * nI a + _ = _
        rw [pk_mul, nI_add]
      have el : (clL t (11 * a + z) ++ [11 * a + z]).length = (clL t (11 * a + z)).length + 1 := by rw [List.length_append]; rfl
      rw [e0, el, fI_app _ _ (fun y hy => by have := mem _ _ hy; omega)]
      simp (disch := omega) only [p_X3_fits_L34, mRow_0, obS, qld_572, hs0, e572, if_neg c1, cb9, pcI, b01_t, ↓reduceIte, ev, bq_s, nI_1]
  · intro q q' _ _
    have bl := bq_le (n := hFc t) (q := hFc t + 1) (by omega) (by omega)
    have c1 : nI (hFc t) ≤ bI (bq (hFc t + 1)) := Eq.mpr bl (Nat.le_refl _)
    have sk := clL_skip (t := t) (a := a) (11 - (hFc t + 1)) (by omega)
    rw [show hFc t + 1 + (11 - (hFc t + 1)) = 11 by omega, show 11 * a + 11 = 11 * (a + 1) by omega] at sk
    show p_X3_fits_L34 _ _ _ _ _ _ _ _ _ = _
    rw [sk]
    simp (disch := omega) only [p_X3_fits_L34, mRow_0, obS, qld_572, hs0, e572, if_pos c1, nI_1]
theorem j_fits {A : hA} {R : sMem} {S : hS} {g : Nat → Nat} {b L : Nat} {xs : Nat → Int32} (h : hInv A R S g b L xs) (v : Int32) : hOp A R S g b L xs (f_X0_fits (hX A) v) (f_X3_fits (A.2.1 9) v) := by
  have hg := h.1.1
  have hc := h.1.2.1
  have ht := h.t0
  have hw := h.act
  have wf := hw.1.2.1
  have h10 : hFc (S.2.2.2.1 0) ≤ 10 := wf.1.2
  have e572 : S.2.2.2.1 0 572 = nI (hFc (S.2.2.2.1 0)) := wf.1.1
  have hq : ∀ (R : sMem), R.1 ≤ A.2.1 9 → ∀ s : mSt, f_X3_fits (A.2.1 9) v (mPut R (A.2.1 9) s) = lft R (A.2.1 9) (p_X3_fits (A.2.1 9) v s) := fun R hR s => q_X3_fits R _ hR v s
  cases hv : inB v 0 3 with
  | false =>
    refine hOp.read0 h hq (v := -1) ?_ ?_
    · simp only [f_X0_fits, fx_isIn, hv, eq_self, ↓reduceIte, hcI, hcN, hcV, obS, if_true, if_false, b01_f]
    · simp only [p_X3_fits, px_isIn, hv, pcI, b01_f, ↓reduceIte]
  | true =>
    obtain ⟨R1, r, F, fc, x1, hc1, a1, hF⟩ := f_couples h
    have h1 := h.more x1.1 hc1
    obtain ⟨f9, pe⟩ := px_fits hw (A.2.1 9) v S.2.2.2.2.2 ht
    have len := clL_len (S.2.2.2.1 0) (11 * hFc (S.2.2.2.1 0))
    have memv : ∀ y, y ∈ clL (S.2.2.2.1 0) (11 * hFc (S.2.2.2.1 0)) → y < 110 ∧ y / 11 < hFc (S.2.2.2.1 0) ∧ y % 11 ≤ hFc (S.2.2.2.1 0) := fun y hy => by
      obtain ⟨m1, m2⟩ := clL_mem _ _ _ hy
      unfold coB at m2
      simp only [Bool.and_eq_true, decide_eq_true_eq] at m2
      exact ⟨by omega, by omega, m2.1⟩
    have yd := px_yard hw (A.2.1 9) S.2.2.2.2.2 ht
    have mvl := fun p => mvF_le (S.2.2.2.1 0) (clL (S.2.2.2.1 0) (11 * hFc (S.2.2.2.1 0))) p
    have l1 := hR_len hc1 S a1
    have c0 : hFc (S.2.2.2.1 0) ≤ hFc (S.2.2.2.1 0) := Nat.le_refl _
    have ma := fun (R3 : sMem) (hI3 : hInv A R3 S g b L xs) (p : Nat) (hp : p < 12) (a3 : R3.2.2.2 r = some (sArr 0 (clL (S.2.2.2.1 0) (11 * hFc (S.2.2.2.1 0))).length F)) => f_mostAlike hI3 (l := clL (S.2.2.2.1 0) (11 * hFc (S.2.2.2.1 0))) (by omega) memv hp a3 hF
    have f0 := fI_0 (l := clL (S.2.2.2.1 0) (11 * hFc (S.2.2.2.1 0)))
    have m0 : 0 < (clL (S.2.2.2.1 0) (11 * hFc (S.2.2.2.1 0))).length → (clL (S.2.2.2.1 0) (11 * hFc (S.2.2.2.1 0))).getD 0 0 < 110 := fun hl => by
      refine (memv _ ?_).1
      rw [List.getD_eq_getElem?_getD, List.getElem?_eq_getElem hl]
      exact List.getElem_mem hl
    have fn : (clL (S.2.2.2.1 0) (11 * hFc (S.2.2.2.1 0))).length = 0 → fI (clL (S.2.2.2.1 0) (11 * hFc (S.2.2.2.1 0))) = -1 := fun hl => by
      rw [List.length_eq_zero_iff.mp hl]
      rfl
    generalize clL (S.2.2.2.1 0) (11 * hFc (S.2.2.2.1 0)) = l at *
    have n11 : ¬ (11 : Int32) = 0 := by decide
    have pst : ∀ x : Int32, p_X3_fits_L18 (A.2.1 9) v (f9 + 1) (nI l.length) (fI l) (nI (hFc (S.2.2.2.1 0))) S.2.2.2.2.2 = some (some (.int x), S.2.2.2.2.2) → p_X3_fits (A.2.1 9) v S.2.2.2.2.2 = some (some (.int x), S.2.2.2.2.2) := fun x e => by
      simp only [p_X3_fits, px_isIn, hv, pcI, b01_t, ↓reduceIte]
      rw [pe, e]
    by_cases v0 : v = 0
    · refine hOp.read h hq (v := nI l.length) (R' := R1) (S' := S) (s' := S.2.2.2.2.2) ?_ (hSame.refl S) (x1.le (by omega) (by omega)) hc1 (pst _ ?_) (Sw.refl _)
      · simp only [f_X0_fits, fx_isIn, hv, eq_self, ↓reduceIte, hcI, hcN, hcV, obS, if_true, if_false, b01_t, hx_chk hg, fc, if_pos v0, l1]
      · simp (disch := omega) only [p_X3_fits_L18, mRow_0, obS, qld_572, ht, e572, nI_leI, c0, ↓reduceIte, if_pos v0]
    · by_cases v3 : v = 3
      · have v1 : ¬ v = 1 := by rw [v3]; decide
        have v2 : ¬ v = 2 := by rw [v3]; decide
        by_cases l2 : 2 ≤ l.length
        · have c2 : (2 : Int32) ≤ nI l.length := (nI_leI (a := 2) (by omega) (by omega)).mpr l2
          have hc2 := hc1.new (sLam 3 [.ref (hX A), .ref r]) 2
          have x2 := hEx.new hc1 (sLam 3 [.ref (hX A), .ref r]) 2
          have a2 := sNew_at R1 (sLam 3 [.ref (hX A), .ref r]) 2
          have nL : ∀ K, sNewL (hMem A R1 S) 3 [.ref (hX A), .ref r] K = K R1.2.1 (hMem A (sNew R1 (sLam 3 [.ref (hX A), .ref r]) 2) S) := fun K => by rw [hNewL hc1 S]; rfl
          generalize hR2 : sNew R1 (sLam 3 [.ref (hX A), .ref r]) 2 = R2 at *
          obtain ⟨M', lb1, R3, lb2, hc3, x3⟩ := f_leastBy (a := R1.2.1) (n := 12) (fun p => nI (mvF (S.2.2.2.1 0) l p)) (fun c M => ∃ R3, M = hMem A R3 S ∧ hCl A R3 ∧ hEx (111 * c) (1329 * c) R2 R3) (fun c k M hk ⟨R3, hM, hc3, x3⟩ => by
            subst hM
            have hI3 := h1.more (fun a e ha => x3.1 _ _ (x2.1 _ _ ha)) hc3
            obtain ⟨R4, e4, x4, hc4⟩ := ma R3 hI3 k hk (x3.1 _ _ (x2.1 _ _ a1))
            refine ⟨hMem A R4 S, ?_, R4, rfl, hc4, (x3.trans x4).le (by omega) (by omega)⟩
            have e : f_meas R1.2.1 (nI k) (hMem A R3 S) = sChk (hMem A R3 S) 0 (hX A) (f_X0_lambda_fits_1 (hX A) r (nI k) (hMem A R3 S)) := by
              unfold f_meas
              rw [hR_at hc3 S (x3.1 _ _ a2)]
              rfl
            rw [e, hx_chk hg]
            simp only [f_X0_lambda_fits_1, hx_chk hg, e4, hcI]) (by omega) (by omega) (M := hMem A R2 S) ⟨R2, rfl, hc2, (hEx.refl R2).le (by omega) (by omega)⟩
          subst lb2
          have lb1' : f_X0_leastBy 12 R1.2.1 (hMem A R2 S) = some (.inl (some (.int (nI (lbV (fun p => nI (mvF (S.2.2.2.1 0) l p)) 12)))), hMem A R3 S) := lb1
          obtain ⟨G, ye⟩ := yd
          refine hOp.read h hq (v := nI (lbV (fun p => nI (mvF (S.2.2.2.1 0) l p)) 12)) (R' := R3) (S' := S) (s' := mRowSet S.2.2.2.2.2 10 G) ?_ (hSame.refl S) (((x1.trans x2).trans x3).le (by omega) (by omega)) hc3 ?_ ((Sw.refl _).row G (by omega))
          · simp only [f_X0_fits, fx_isIn, hv, eq_self, ↓reduceIte, hcI, hcN, hcV, obS, if_true, if_false, b01_t, hx_chk hg, fc, if_neg v0, if_pos v3, l1, if_pos c2, nL, lb1']
          · simp only [p_X3_fits, px_isIn, hv, pcI, b01_t, ↓reduceIte]
            rw [pe]
            simp (disch := omega) only [p_X3_fits_L18, mRow_0, obS, qld_572, ht, e572, nI_leI, c0, ↓reduceIte, if_neg v0, if_neg v1, if_neg v2, if_pos c2, ye, pcI]
        · have c2 : ¬ (2 : Int32) ≤ nI l.length := fun e => l2 ((nI_leI (a := 2) (by omega) (by omega)).mp e)
          refine hOp.read h hq (v := -1) (R' := R1) (S' := S) (s' := S.2.2.2.2.2) ?_ (hSame.refl S) (x1.le (by omega) (by omega)) hc1 (pst _ ?_) (Sw.refl _)
          · simp only [f_X0_fits, fx_isIn, hv, eq_self, ↓reduceIte, hcI, hcN, hcV, obS, if_true, if_false, b01_t, hx_chk hg, fc, if_neg v0, if_pos v3, l1, if_neg c2]
          · simp (disch := omega) only [p_X3_fits_L18, mRow_0, obS, qld_572, ht, e572, nI_leI, c0, ↓reduceIte, if_neg v0, if_neg v1, if_neg v2, if_neg c2]
      · by_cases l0 : l.length = 0
        · have z : nI l.length = 0 := by rw [l0]; rfl
          have fz := fn l0
          refine hOp.read h hq (v := -1) (R' := R1) (S' := S) (s' := S.2.2.2.2.2) ?_ (hSame.refl S) (x1.le (by omega) (by omega)) hc1 (pst _ ?_) (Sw.refl _)
          · simp only [f_X0_fits, fx_isIn, hv, eq_self, ↓reduceIte, hcI, hcN, hcV, obS, if_true, if_false, b01_t, hx_chk hg, fc, if_neg v0, if_neg v3, l1, if_pos z]
          · have v12 : v = 1 ∨ v = 2 := by
              obtain ⟨j, hj, rfl⟩ := inB_lit (k := 3) (by omega) hv
              have : j = 0 ∨ j = 1 ∨ j = 2 ∨ j = 3 := by omega
              rcases this with rfl | rfl | rfl | rfl
              · exact absurd rfl v0
              · exact Or.inl rfl
              · exact Or.inr rfl
              · exact absurd rfl v3
            rcases v12 with v1 | v2
            · simp (disch := omega) only [p_X3_fits_L18, mRow_0, obS, qld_572, ht, e572, nI_leI, c0, ↓reduceIte, if_neg v0, if_pos v1, if_pos fz]
            · have v1 : ¬ v = 1 := by rw [v2]; decide
              simp (disch := omega) only [p_X3_fits_L18, mRow_0, obS, qld_572, ht, e572, nI_leI, c0, ↓reduceIte, if_neg v0, if_neg v1, if_pos v2, if_pos fz]
        · have z : ¬ nI l.length = 0 := fun e => l0 ((nI_eq (b := 0) (by omega) (by omega)).mp e)
          have lp : 0 < l.length := by omega
          have fz := f0 lp
          have mz := m0 lp
          have nm : ¬ nI (l.getD 0 0) = -1 := nI_m1 _ (by omega)
          have ld := hR_ld hc1 S a1 (p := 0) lp (by omega)
          rw [hF 0 lp] at ld
          have ld' : sXld (hMem A R1 S) 0 r 0 = some (nI (l.getD 0 0)) := ld
          by_cases v1 : v = 1
          · refine hOp.read h hq (v := nI (l.getD 0 0) / 11) (R' := R1) (S' := S) (s' := S.2.2.2.2.2) ?_ (hSame.refl S) (x1.le (by omega) (by omega)) hc1 (pst _ ?_) (Sw.refl _)
            · simp only [f_X0_fits, fx_isIn, hv, eq_self, ↓reduceIte, hcI, hcN, hcV, obS, if_true, if_false, b01_t, hx_chk hg, fc, if_neg v0, if_neg v3, l1, if_neg z, if_pos v1, ld', n11]
            · simp (disch := omega) only [p_X3_fits_L18, mRow_0, obS, qld_572, ht, e572, nI_leI, c0, ↓reduceIte, if_neg v0, if_pos v1, fz, if_neg nm, n11]
          · have v2 : v = 2 := by
              obtain ⟨j, hj, rfl⟩ := inB_lit (k := 3) (by omega) hv
              have : j = 0 ∨ j = 1 ∨ j = 2 ∨ j = 3 := by omega
              rcases this with rfl | rfl | rfl | rfl
              · exact absurd rfl v0
              · exact absurd rfl v1
              · rfl
              · exact absurd rfl v3
            refine hOp.read h hq (v := nI (l.getD 0 0) - nI (l.getD 0 0) / 11 * 11 - 1) (R' := R1) (S' := S) (s' := S.2.2.2.2.2) ?_ (hSame.refl S) (x1.le (by omega) (by omega)) hc1 (pst _ ?_) (Sw.refl _)
            · simp only [f_X0_fits, fx_isIn, hv, eq_self, ↓reduceIte, hcI, hcN, hcV, obS, if_true, if_false, b01_t, hx_chk hg, fc, if_neg v0, if_neg v3, l1, if_neg z, if_neg v1, ld', n11]
            · simp (disch := omega) only [p_X3_fits_L18, mRow_0, obS, qld_572, ht, e572, nI_leI, c0, ↓reduceIte, if_neg v0, if_neg v1, if_pos v2, fz, if_neg nm, n11]
