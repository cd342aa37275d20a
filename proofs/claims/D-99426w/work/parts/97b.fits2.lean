/-! couples alike, both sides -/
set_option maxRecDepth 100000
theorem bI_sub (q : Nat) : nI q - 1 = bI (bq q) := by
  rw [← bI_bq, Int32.add_sub_cancel]
def mkI (t : Nat → Int32) (y p : Nat) : Nat := if p < wMany t (y / 11) (bq (y % 11)) then cv (wMark t (y / 11) (bq (y % 11)) p) + 1 else 0
theorem mkI_of {t : Nat → Int32} (hw : wFac t) {y p : Nat} (h1 : y / 11 < hFc t) (h2 : y % 11 ≤ hFc t) : wMark t (y / 11) (bq (y % 11)) p + 1 = nI (mkI t y p) ∧ mkI t y p ≤ 8 := by
  unfold mkI
  by_cases c : p < wMany t (y / 11) (bq (y % 11))
  · obtain ⟨k, hk, e⟩ := wMark_7 hw h1 (bq_ok h2) c
    rw [if_pos c, e, cv_nI (by omega), nI_1]
    exact ⟨rfl, by omega⟩
  · rw [if_neg c]
    refine ⟨?_, by omega⟩
    unfold wMark
    rw [if_neg c]
    rfl
def cA (t : Nat → Int32) (l : List Nat) (p m : Nat) : Nat := l.countP (fun y => decide (mkI t y p = m))
theorem cA_app (t : Nat → Int32) (l : List Nat) (y p m : Nat) : cA t (l ++ [y]) p m = cA t l p m + (if mkI t y p = m then 1 else 0) := by
  unfold cA
  rw [List.countP_append, List.countP_cons, List.countP_nil]
  by_cases c : mkI t y p = m <;> simp [c]
theorem cA_le (t : Nat → Int32) (l : List Nat) (p m : Nat) : cA t l p m ≤ l.length := List.countP_le_length
theorem lgA_bump {c c' : Nat → Nat} {j : Nat} (h : ∀ m, m ≠ j → c' m = c m) (hj : c j ≤ c' j) : ∀ {n : Nat}, (j < n → lgA c' n = max (lgA c n) (c' j)) ∧ (n ≤ j → lgA c' n = lgA c n)
  | 0 => ⟨fun h => by omega, fun _ => rfl⟩
  | n + 1 => by
    obtain ⟨h1, h2⟩ := lgA_bump h hj (n := n)
    constructor
    · intro hn
      rw [lgA_s, lgA_s]
      by_cases e : n = j
      · subst e
        rw [h2 (Nat.le_refl _)]
        omega
      · rw [h1 (by omega), h n e]
        omega
    · intro hn
      rw [lgA_s, lgA_s, h2 (by omega), h n (by omega)]
def mvF (t : Nat → Int32) (l : List Nat) (p : Nat) : Nat := lgA (cA t l p) 9
theorem mvF_le (t : Nat → Int32) (l : List Nat) (p : Nat) : mvF t l p ≤ l.length := lgA_le (fun m _ => cA_le t l p m)
theorem mvF_app {t : Nat → Int32} (l : List Nat) {y p : Nat} (h : mkI t y p ≤ 8) : mvF t (l ++ [y]) p = max (mvF t l p) (cA t l p (mkI t y p) + 1) := by
  have := (lgA_bump (c := cA t l p) (c' := cA t (l ++ [y]) p) (j := mkI t y p) (fun m hm => by rw [cA_app, if_neg (fun e => hm e.symm)]; rfl) (by rw [cA_app]; omega) (n := 9)).1 (by omega)
  unfold mvF
  rw [this, cA_app, if_pos rfl]
theorem mvF_nil (t : Nat → Int32) (p : Nat) : mvF t [] p = 0 := by
  have z : ∀ n, lgA (cA t [] p) n = 0 := by
    intro n
    induction n with
    | zero => rfl
    | succ n ih => rw [lgA_s, ih]; rfl
  exact z 9
theorem f_mostAlike {A : hA} {R : sMem} {S : hS} {g : Nat → Nat} {b L : Nat} {xs : Nat → Int32} (h : hInv A R S g b L xs) {l : List Nat} (hl : l.length ≤ 110) (hv : ∀ y, y ∈ l → y < 110 ∧ y / 11 < hFc (S.2.2.2.1 0) ∧ y % 11 ≤ hFc (S.2.2.2.1 0)) {r4 p : Nat} (hp : p < 12) {F : Nat → Int32} (h4 : R.2.2.2 r4 = some (sArr 0 l.length F)) (hF : ∀ k, k < l.length → F k = nI (l.getD k 0)) : ∃ R', f_X0_mostAlike (hX A) r4 (nI p) (hMem A R S) = some (.inl (some (.int (nI (mvF (S.2.2.2.1 0) l p)))), hMem A R' S) ∧ hEx 111 1329 R R' ∧ hCl A R' := by
  have hg := h.1.1
  have hc := h.1.2.1
  have hw := h.act
  have wf := hw.1.2.1
  have hb := hc.base hg
  have hc1 := hc.new (sArr 0 9 (fun _ => 0)) 9
  have x1 := hEx.new hc (sArr 0 9 (fun _ => 0)) 9
  have a1 := sNew_at R (sArr 0 9 (fun _ => 0)) 9
  have nA : ∀ K, sNewA (hMem A R S) 0 9 K = K R.2.1 (hMem A (sNew R (sArr 0 9 (fun _ => 0)) 9) S) := fun K => hNewA hc S (n := 9) (by omega) K
  generalize hR1 : sNew R (sArr 0 9 (fun _ => 0)) 9 = R1 at *
  have J := lk (α := sMem × (Nat → Int32)) (fun f k y => f_X0_mostAlike_L11 (hX A) r4 (nI p) R.2.1 f (nI (mvF (S.2.2.2.1 0) (l.take k) p)) (nI k) (hMem A y.1 S)) (fun _ _ _ => none) l.length (fun k y => hCl A y.1 ∧ hEx (1 + k) (9 + 12 * k) R y.1 ∧ y.1.2.2.2 R.2.1 = some (sArr 0 9 y.2) ∧ ∀ m, m < 9 → y.2 m = nI (cA (S.2.2.2.1 0) (l.take k) p m)) (fun o _ => ∃ R', o = some (.inl (some (.int (nI (mvF (S.2.2.2.1 0) l p)))), hMem A R' S) ∧ hEx 111 1329 R R' ∧ hCl A R') ?_ ?_ (by omega) (R1, fun _ => 0) ⟨hc1, x1, a1, fun m _ => rfl⟩
  · obtain ⟨R', e, e2, e3⟩ := J
    refine ⟨R', ?_, e2, e3⟩
    have e' : f_X0_mostAlike_L11 (hX A) r4 (nI p) R.2.1 sFuel (nI (mvF (S.2.2.2.1 0) (l.take 0) p)) 0 (hMem A R1 S) = _ := e
    rw [List.take_zero, mvF_nil] at e'
    simp only [f_X0_mostAlike, nA]
    exact e'
  · intro f f' k y hk ⟨y1, y2, y3, y4⟩
    have c0 : ¬ l.length ≤ k := by omega
    have hI1 := h.more y2.1 y1
    have l4 := y2.1 _ _ h4
    have ln := hR_len y1 S l4
    have ld := hR_ld y1 S l4 (p := k) hk (by omega)
    rw [hF k hk] at ld
    have mem : l.getD k 0 ∈ l := by
      rw [List.getD_eq_getElem?_getD, List.getElem?_eq_getElem hk]
      exact List.getElem_mem hk
    have tk : l.take (k + 1) = l.take k ++ [l.getD k 0] := by
      rw [List.take_succ, List.getElem?_eq_getElem hk, List.getD_eq_getElem?_getD, List.getElem?_eq_getElem hk]
      rfl
    obtain ⟨v1, v2, v3⟩ := hv _ mem
    rw [tk]
    have tl : (l.take k).length ≤ 110 := by rw [List.length_take]; omega
    generalize l.getD k 0 = z at *
    obtain ⟨mi, m8⟩ := mkI_of wf (p := p) v2 v3
    have dv : nI z / 11 = nI (z / 11) := pk_div (d := 11) (by omega) (by omega) (by omega)
    have rm : nI z - nI (z / 11) * 11 - 1 = bI (bq (z % 11)) := by
      have := pk_rem (a := z) (d := 11) (by omega) (by omega) (by omega)
      rw [show nI z / nI 11 = nI (z / 11) from dv] at this
      rw [show nI z - nI (z / 11) * 11 = nI (z % 11) from this]
      exact bI_sub _
    have n11 : ¬ (11 : Int32) = 0 := by decide
    obtain ⟨R2, r2, f2, s1, x2, hc2, a2, k2⟩ := f_spunOf (S := S) hg y1 hI1.fa wf (a := z / 11) (b := bq (z % 11)) v2 (bq_ok v3)
    obtain ⟨lm, lm1⟩ := wMany_le wf v2 (bq_ok v3)
    have lr := hR_len hc2 S a2
    have mo : f_X0_markOf r2 (nI p) (hMem A R2 S) = some (.inl (some (.int (wMark (S.2.2.2.1 0) (z / 11) (bq (z % 11)) p))), hMem A R2 S) := by
      by_cases c : wMany (S.2.2.2.1 0) (z / 11) (bq (z % 11)) ≤ p
      · have e : wMark (S.2.2.2.1 0) (z / 11) (bq (z % 11)) p = -1 := by unfold wMark; rw [if_neg (by omega)]
        rw [e]
        simp (disch := omega) only [f_X0_markOf, lr, obS, nI_leI, c, ↓reduceIte]
      · have ld := hR_ld hc2 S a2 (p := p) (by omega) (by omega)
        rw [k2 p (by omega)] at ld
        simp (disch := omega) only [f_X0_markOf, lr, obS, nI_leI, c, ↓reduceIte, ld]
    have a3 := x2.1 _ _ y3
    have cl := cA_le (S.2.2.2.1 0) (l.take k) p (mkI (S.2.2.2.1 0) z p)
    have lg := hR_ld hc2 S a3 (p := mkI (S.2.2.2.1 0) z p) (by omega) (by omega)
    rw [y4 _ (by omega)] at lg
    have st := hR_st hg hc2 S a3 hb (p := mkI (S.2.2.2.1 0) z p) (by omega) (by omega) (nI (cA (S.2.2.2.1 0) (l.take k) p (mkI (S.2.2.2.1 0) z p) + 1))
    have hc3 := hc2.up (e := sArr 0 9 (upd y.2 (mkI (S.2.2.2.1 0) z p) (nI (cA (S.2.2.2.1 0) (l.take k) p (mkI (S.2.2.2.1 0) z p) + 1)))) a3
    have lg2 := hR_ld hc3 S (sUp_at R2 R.2.1 (sArr 0 9 (upd y.2 (mkI (S.2.2.2.1 0) z p) (nI (cA (S.2.2.2.1 0) (l.take k) p (mkI (S.2.2.2.1 0) z p) + 1))))) (p := mkI (S.2.2.2.1 0) z p) (by omega) (by omega)
    rw [upd_same] at lg2
    have mf := mvF_le (S.2.2.2.1 0) (l.take k) p
    have mx := mx2 (a := mvF (S.2.2.2.1 0) (l.take k) p) (b := cA (S.2.2.2.1 0) (l.take k) p (mkI (S.2.2.2.1 0) z p) + 1) (by omega) (by omega)
    refine Or.inl ⟨(sUp R2 R.2.1 (sArr 0 9 (upd y.2 (mkI (S.2.2.2.1 0) z p) (nI (cA (S.2.2.2.1 0) (l.take k) p (mkI (S.2.2.2.1 0) z p) + 1)))), upd y.2 (mkI (S.2.2.2.1 0) z p) (nI (cA (S.2.2.2.1 0) (l.take k) p (mkI (S.2.2.2.1 0) z p) + 1))), ⟨hc3, hEx.up hc ((y2.trans x2).le (by omega) (by omega)) (Nat.le_refl _) _, sUp_at _ _ _, fun m hm => ?_⟩, ?_, rfl⟩
    · dsimp only
      rw [cA_app]
      by_cases c : m = mkI (S.2.2.2.1 0) z p
      · subst c; rw [upd_same, if_pos rfl]
      · rw [upd_ne _ _ c, y4 m hm, if_neg (fun e => c e.symm)]
        rfl
    · rw [mvF_app _ m8, ← mx]
      simp (disch := omega) only [f_X0_mostAlike_L11, ln, obS, nI_leI, c0, ↓reduceIte, ld, n11, dv, rm, hx_chk hg, s1, hcN, mo, hcI, mi, lg, nI_1, st, lg2]
  · intro f f' y ⟨y1, y2, y3, y4⟩
    have c0 : l.length ≤ l.length := Nat.le_refl _
    have ln := hR_len y1 S (y2.1 _ _ h4)
    refine ⟨y.1, ?_, y2.le (by omega) (by omega), y1⟩
    rw [List.take_length]
    simp (disch := omega) only [f_X0_mostAlike_L11, ln, obS, nI_leI, c0, ↓reduceIte]
theorem px_mostAlike {t : Nat → Int32} (hw : wAct t) (m : Nat) (s : mSt) (hs0 : s.2 0 = t) {p : Nat} (hp : p < 12) : ∃ G, p_X3_mostAlike m (nI p) s = some (some (.int (nI (mvF t (clL t (11 * hFc t)) p))), mRowSet s 10 G) := by
  have wf := hw.1.2.1
  have h10 : hFc t ≤ 10 := wf.1.2
  have e572 : t 572 = nI (hFc t) := wf.1.1
  have r0 : ∀ G, (mRowSet s 10 G).2 0 = t := fun G => by rw [mrs_ne _ _ (by omega), hs0]
  have cbe := fun G a q (ha : a < hFc t) (hq : q ≤ hFc t) => px_couldBe hw m (mRowSet s 10 G) (r0 G) (a := a) (q := q) ha hq
  have pm := fun G a q (ha : a < hFc t) (hq : q ≤ hFc t) => px_mark m (mRowSet s 10 G) (a := a) (b := bq q) (i := p) (by rw [r0]; exact wf) (by rw [r0]; exact ha) (by rw [r0]; exact bq_ok hq) (by omega)
  simp only [r0] at pm
  have J3 : ∀ G : Nat → Int32, (∀ x, x < 9 → G x = nI (cA t (clL t (11 * hFc t)) p x)) → p_X3_mostAlike_L92 m sFuel 0 0 (mRowSet s 10 G) = some (some (.int (nI (mvF t (clL t (11 * hFc t)) p))), mRowSet s 10 G) := by
    intro G hG
    have len := clL_len t (11 * hFc t)
    have lb := fun k => lgA_le (c := cA t (clL t (11 * hFc t)) p) (b := 110) (n := k) (fun q _ => Nat.le_trans (cA_le _ _ _ _) (by omega))
    have cb := fun q => cA_le t (clL t (11 * hFc t)) p q
    refine lk (fun _ _ (_ : Unit) => none) (fun f k (_ : Unit) => p_X3_mostAlike_L92 m f (nI (lgA (cA t (clL t (11 * hFc t)) p) k)) (nI k) (mRowSet s 10 G)) 9 (fun _ _ => True) (fun _ o => o = some (some (.int (nI (mvF t (clL t (11 * hFc t)) p))), mRowSet s 10 G)) ?_ ?_ (by omega) () trivial
    · intro f f' k _ hk _
      have c0 : ¬ (8 : Int32) < nI k := fun e => by have := (nI_ltI (a := 8) (by omega) (by omega)).mp e; omega
      have q10 : qAld (mRowSet s 10 G) 10 (nI k) = some (nI (cA t (clL t (11 * hFc t)) p k)) := by rw [qld_10 _ (by omega), mrs_same, hG k hk]
      have mx := mx2' (a := lgA (cA t (clL t (11 * hFc t)) p) k) (b := cA t (clL t (11 * hFc t)) p k) (by have := lb k; omega) (by have := cb k; omega)
      refine Or.inl ⟨(), trivial, rfl, ?_⟩
      rw [lgA_s, ← mx]
      simp (disch := omega) only [p_X3_mostAlike_L92, if_neg c0, mRow_28, obS, q10, px_greater, pcI, nI_1]
    · intro f f' _ _
      have c0 : (8 : Int32) < nI 9 := by decide
      show p_X3_mostAlike_L92 _ _ _ _ _ = _
      simp only [p_X3_mostAlike_L92, if_pos c0]
      rfl
  have J2 : ∀ G : Nat → Int32, (∀ x, x < 9 → G x = 0) → ∃ G', p_X3_mostAlike_L23 m (nI p) sFuel 0 (mRowSet s 10 G) = some (some (.int (nI (mvF t (clL t (11 * hFc t)) p))), mRowSet s 10 G') := by
    intro G0 hG0
    refine lk (α := Nat → Int32) (fun _ _ _ => none) (fun f a G => p_X3_mostAlike_L23 m (nI p) f (nI a) (mRowSet s 10 G)) (hFc t) (fun a G => ∀ x, x < 9 → G x = nI (cA t (clL t (11 * a)) p x)) (fun _ o => ∃ G', o = some (some (.int (nI (mvF t (clL t (11 * hFc t)) p))), mRowSet s 10 G')) ?_ ?_ (by omega) G0 (fun x hx => by rw [hG0 x hx]; rfl)
    · intro f f' a G ha hG
      have c0 : ¬ hFc t ≤ a := by omega
      have K := lk (α := Nat → Int32) (fun _ _ _ => none) (fun q z G => p_X3_mostAlike_L37 (p_X3_mostAlike_L23 m (nI p) f') m (nI p) (nI a) q (bI (bq z)) (mRowSet s 10 G)) (hFc t + 1) (fun z G => ∀ x, x < 9 → G x = nI (cA t (clL t (11 * a + z)) p x)) (fun _ o => ∃ G, (∀ x, x < 9 → G x = nI (cA t (clL t (11 * (a + 1))) p x)) ∧ o = p_X3_mostAlike_L23 m (nI p) f' (nI (a + 1)) (mRowSet s 10 G)) ?_ ?_ (by omega) G hG
      · obtain ⟨G', h1, h2⟩ := K
        refine Or.inl ⟨G', h1, rfl, ?_⟩
        rw [← h2]
        simp (disch := omega) only [p_X3_mostAlike_L23, mRow_0, obS, qld_572, r0, e572, nI_leI, c0, ↓reduceIte]
        rfl
      · intro q q' z G hz hG
        have z10 : z ≤ hFc t := by omega
        have bl := bq_le (n := hFc t) (q := z) (by omega) (by omega)
        have c1 : ¬ nI (hFc t) ≤ bI (bq z) := fun e => by have := Eq.mp bl e; omega
        have cs := clL_s t (11 * a + z)
        have cb9 := cbe G a z ha z10
        cases cc : coB t (11 * a + z) with
        | false =>
          rw [cc] at cb9 cs
          have e0 : clL t (11 * a + (z + 1)) = clL t (11 * a + z) := by
            rw [show 11 * a + (z + 1) = 11 * a + z + 1 by omega, cs]
            simp
          refine Or.inl ⟨G, fun x hx => by rw [e0]; exact hG x hx, rfl, ?_⟩
          simp (disch := omega) only [p_X3_mostAlike_L37, mRow_0, obS, qld_572, r0, e572, if_neg c1, cb9, pcI, b01_f, ↓reduceIte, bq_s]
        | true =>
          rw [cc] at cb9 cs
          have e0 : clL t (11 * a + (z + 1)) = clL t (11 * a + z) ++ [11 * a + z] := by
            rw [show 11 * a + (z + 1) = 11 * a + z + 1 by omega, cs]
            simp
          have d1 : (11 * a + z) % 11 = z := by omega
          have d2 : (11 * a + z) / 11 = a := by omega
          obtain ⟨mi, m8⟩ := mkI_of wf (y := 11 * a + z) (p := p) (by omega) (by omega)
          rw [d1, d2] at mi
          have pm9 := pm G a z ha z10
          have len := clL_len t (11 * a + z)
          have cl := cA_le t (clL t (11 * a + z)) p (mkI t (11 * a + z) p)
          obtain ⟨j, hj⟩ : ∃ j, j = mkI t (11 * a + z) p := ⟨_, rfl⟩
          rw [← hj] at mi m8 cl
          have q10 : qAld (mRowSet s 10 G) 10 (nI j) = some (nI (cA t (clL t (11 * a + z)) p j)) := by rw [qld_10 _ (by omega), mrs_same, hG j (by omega)]
          refine Or.inl ⟨upd G j (nI (cA t (clL t (11 * a + z)) p j + 1)), fun x hx => ?_, rfl, ?_⟩
          · rw [e0, cA_app, ← hj]
            by_cases c : x = j
            · subst c; rw [upd_same, if_pos rfl]
            · rw [upd_ne _ _ c, hG x hx, if_neg (fun e => c e.symm)]
              rfl
          · simp (disch := omega) only [p_X3_mostAlike_L37, mRow_0, mRow_28, obS, qld_572, r0, e572, if_neg c1, cb9, pcI, b01_t, ↓reduceIte, pm9, mi, q10, nI_1, qst_10, mrs_same, mrs_mrs, bq_s]
      · intro q q' G hG
        have bl := bq_le (n := hFc t) (q := hFc t + 1) (by omega) (by omega)
        have c1 : nI (hFc t) ≤ bI (bq (hFc t + 1)) := Eq.mpr bl (Nat.le_refl _)
        have sk := clL_skip (t := t) (a := a) (11 - (hFc t + 1)) (by omega)
        rw [show hFc t + 1 + (11 - (hFc t + 1)) = 11 by omega, show 11 * a + 11 = 11 * (a + 1) by omega] at sk
        refine ⟨G, fun x hx => by rw [sk]; exact hG x hx, ?_⟩
        simp (disch := omega) only [p_X3_mostAlike_L37, mRow_0, obS, qld_572, r0, e572, if_pos c1, nI_1]
    · intro f f' G hG
      have c0 : hFc t ≤ hFc t := Nat.le_refl _
      refine ⟨G, ?_⟩
      simp (disch := omega) only [p_X3_mostAlike_L23, mRow_0, obS, qld_572, r0, e572, nI_leI, c0, ↓reduceIte]
      exact J3 G hG
  have J1 := lk (α := Nat → Int32) (fun _ _ _ => none) (fun f k G => p_X3_mostAlike_L2 m (nI p) f (nI k) (mRowSet s 10 G)) 9 (fun k G => ∀ x, x < k → G x = 0) (fun _ o => ∃ G', o = some (some (.int (nI (mvF t (clL t (11 * hFc t)) p))), mRowSet s 10 G')) ?_ ?_ (by omega) (s.2 10) (fun x hx => by omega)
  · obtain ⟨G', e⟩ := J1
    have e' : p_X3_mostAlike_L2 m (nI p) sFuel 0 (mRowSet s 10 (s.2 10)) = _ := e
    rw [mrs_self] at e'
    exact ⟨G', e'⟩
  · intro f f' k G hk hG
    have c0 : ¬ (8 : Int32) < nI k := fun e => by have := (nI_ltI (a := 8) (by omega) (by omega)).mp e; omega
    refine Or.inl ⟨upd G k 0, fun x hx => ?_, rfl, ?_⟩
    · by_cases c : x = k
      · subst c; rw [upd_same]
      · rw [upd_ne _ _ c, hG x (by omega)]
    · simp (disch := omega) only [p_X3_mostAlike_L2, if_neg c0, mRow_28, obS, qst_10, mrs_same, mrs_mrs, nI_1]
  · intro f f' G hG
    have c0 : (8 : Int32) < nI 9 := by decide
    obtain ⟨G', e⟩ := J2 G hG
    refine ⟨G', ?_⟩
    simp only [p_X3_mostAlike_L2, if_pos c0]
    exact e
