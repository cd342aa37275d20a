/-! what stands in a thread; trays -/
set_option maxRecDepth 100000
theorem hInv.more {A : hA} {R R' : sMem} {S : hS} {g : Nat → Nat} {b L : Nat} {xs : Nat → Int32} (h : hInv A R S g b L xs) (hR : sub2 R R') (hc : hCl A R') : hInv A R' S g b L xs := h.read (hSame.refl S) hR hc (Sw.refl S.2.2.2.2.2)
/-- where likeness ends -/
def alB (lo len at_ fr : Nat) (d r : Nat → Int32) : Nat → Bool := fun n => decide (lo ≤ at_ + n) || (decide (len ≤ fr + n) || !decide (d (at_ + n) = r (fr + n)))
def alN (lo len at_ fr : Nat) (d r : Nat → Int32) : Nat := (fstN (alB lo len at_ fr d r) 41).getD 41
theorem alN_le {lo len at_ fr : Nat} {d r : Nat → Int32} (h : lo ≤ 40) : alN lo len at_ fr d r ≤ 40 := by
  unfold alN
  cases e : fstN (alB lo len at_ fr d r) 41 with
  | some k =>
    have := (fstN_some e).1
    show k ≤ 40
    omega
  | none =>
    have := fstN_none e 40 (by omega)
    unfold alB at this
    have h2 : lo ≤ at_ + 40 := by omega
    simp [h2] at this
theorem lp_EN {β : Type} (L : Nat → Nat → β) (p : Nat → Bool) (e : Nat → β) (st : ∀ f k, k < 41 → p k = false → L (f + 1) k = L f (k + 1)) (ex : ∀ f k, k ≤ 41 → p k = true → L (f + 1) k = e k) (p41 : p 41 = true) : L sFuel 0 = e ((fstN p 41).getD 41) := by
  have hs : sFuel = 1000000 := rfl
  rw [lp_E L 41 p e (e 41) st (fun f k hk hp => ex f k (by omega) hp) (fun f => ex f 41 (by omega) p41) sFuel (by omega)]
  cases fstN p 41 <;> rfl
theorem f_alike {A : hA} {R : sMem} {S : hS} {g : Nat → Nat} {b L : Nat} {xs : Nat → Int32} (h : hInv A R S g b L xs) {lo : Nat → Nat} (hlo : ∀ i, i < hN (S.2.2.2.1 0) → S.2.2.2.1 0 (19 + i) = nI (lo i) ∧ lo i ≤ 40) {i at_ fr len q : Nat} {F r : Nat → Int32} (hi : i < hN (S.2.2.2.1 0)) (hq : R.2.2.2 q = some (sArr 0 len F)) (hF : ∀ k, k < len → F k = r k) (ha : at_ ≤ 41) (hfr : fr ≤ 100) (hlen : len ≤ 100) : f_X0_alikeFrom (hX A) (nI i) (nI at_) q (nI fr) (hMem A R S) = some (.inl (some (.int (nI (alN (lo i) len at_ fr (fun p => S.2.2.2.1 0 (91 + 40 * i + p)) r)))), hMem A R S) := by
  have hg := h.1.1
  have hc := h.1.2.1
  have h3 : 0 < A.2.2 := by have := hg.2.2.2; omega
  have hn := h.act.n
  obtain ⟨e1, l1⟩ := hlo i hi
  have ln := hR_len hc S hq
  refine lp_EN (fun f k => f_X0_alikeFrom_L3 (hX A) (nI i) (nI at_) q (nI fr) f (nI k) (hMem A R S)) (alB (lo i) len at_ fr (fun p => S.2.2.2.1 0 (91 + 40 * i + p)) r) (fun k => some (.inl (some (.int (nI k))), hMem A R S)) ?_ ?_ ?_
  · intro f k hk hp
    unfold alB at hp
    simp only [Bool.or_eq_false_iff, decide_eq_false_iff_not, Bool.not_eq_false', decide_eq_true_eq] at hp
    obtain ⟨p1, p2, p3⟩ := hp
    have ld := hR_ld hc S hq (p := fr + k) (by omega) (by omega)
    rw [hF _ (by omega), ← p3] at ld
    have fm := fx_mark hg R S (k := 0) h3 (i := i) (p := at_ + k) (by omega) (by omega)
    simp (disch := omega) only [f_X0_alikeFrom_L3, xgN_23 hg, xgN_22 hg, xgI_21 hg, hx_chk hg, ht_chk hg, tgN_5 hg, trl_5 hg, tgN_3 hg, trl_3 hg, obS, e1, nI_add, nI_leI, p1, p2, ↓reduceIte, ln, fm, hcI, ld, nI_1]
  · intro f k hk hp
    by_cases p1 : lo i ≤ at_ + k
    · simp (disch := omega) only [f_X0_alikeFrom_L3, xgN_23 hg, xgN_22 hg, xgI_21 hg, hx_chk hg, ht_chk hg, tgN_5 hg, trl_5 hg, tgN_3 hg, trl_3 hg, obS, e1, nI_add, nI_leI, p1, ↓reduceIte]
    · by_cases p2 : len ≤ fr + k
      · simp (disch := omega) only [f_X0_alikeFrom_L3, xgN_23 hg, xgN_22 hg, xgI_21 hg, hx_chk hg, ht_chk hg, tgN_5 hg, trl_5 hg, tgN_3 hg, trl_3 hg, obS, e1, nI_add, nI_leI, p1, p2, ↓reduceIte, ln]
      · have p3 : ¬ S.2.2.2.1 0 (91 + 40 * i + (at_ + k)) = r (fr + k) := by
          unfold alB at hp
          simpa [p1, p2] using hp
        have ld := hR_ld hc S hq (p := fr + k) (by omega) (by omega)
        rw [hF _ (by omega)] at ld
        have fm := fx_mark hg R S (k := 0) h3 (i := i) (p := at_ + k) (by omega) (by omega)
        simp (disch := omega) only [f_X0_alikeFrom_L3, xgN_23 hg, xgN_22 hg, xgI_21 hg, hx_chk hg, ht_chk hg, tgN_5 hg, trl_5 hg, tgN_3 hg, trl_3 hg, obS, e1, nI_add, nI_leI, p1, p2, ↓reduceIte, ln, fm, hcI, ld, if_neg p3]
  · unfold alB
    have : lo i ≤ at_ + 41 := by omega
    simp [this]
/-- a row stands at a place -/
def stdB (lo len : Nat) (d r : Nat → Int32) (at_ : Nat) : Bool := (fstN (fun k => decide (lo ≤ at_ + k) || !decide (d (at_ + k) = r k)) len).isNone
def stdV (lo len : Nat) (d r : Nat → Int32) : Bool := (fstN (stdB lo len d r) lo).isSome
theorem alN_std {lo len at_ : Nat} {d r : Nat → Int32} (hl : len ≤ 40) (hlo : lo ≤ 40) : (alN lo len at_ 0 d r = len) = (stdB lo len d r at_ = true) := by
  apply propext
  have alF : ∀ j, j < len → (alB lo len at_ 0 d r j = (decide (lo ≤ at_ + j) || !decide (d (at_ + j) = r j))) := fun j hj => by
    unfold alB
    have : ¬ len ≤ j := by omega
    simp [this]
  constructor
  · intro h
    unfold stdB
    rw [fstN_no]
    · rfl
    · intro j hj
      unfold alN at h
      cases e : fstN (alB lo len at_ 0 d r) 41 with
      | some k =>
        rw [e] at h
        have hk : k = len := h
        have := (fstN_some e).2.2 j (by omega)
        rw [alF j hj] at this
        exact this
      | none =>
        have := fstN_none e j (by omega)
        rw [alF j hj] at this
        exact this
  · intro h
    unfold stdB at h
    have hn := Option.isNone_iff_eq_none.mp h
    have e : fstN (alB lo len at_ 0 d r) 41 = some len := fstN_of (by omega) (by unfold alB; simp) (fun j hj => by
      rw [alF j hj]
      exact fstN_none hn j hj)
    unfold alN
    rw [e]
    rfl
theorem stdB_hi {lo len at_ : Nat} {d r : Nat → Int32} (h1 : 1 ≤ len) (h : lo < at_ + len) : stdB lo len d r at_ = false := by
  unfold stdB
  cases e : fstN (fun k => decide (lo ≤ at_ + k) || !decide (d (at_ + k) = r k)) len with
  | some k => rfl
  | none =>
    have := fstN_none e (len - 1) (by omega)
    have h2 : lo ≤ at_ + (len - 1) := by omega
    simp [h2] at this
theorem stdV_short {lo len : Nat} {d r : Nat → Int32} (h1 : 1 ≤ len) : (fstN (stdB lo len d r) (lo + 1 - len)).isSome = stdV lo len d r := by
  unfold stdV
  cases e : fstN (stdB lo len d r) (lo + 1 - len) with
  | some k =>
    obtain ⟨a1, a2, a3⟩ := fstN_some e
    rw [fstN_of (n := lo) (k := k) (by omega) a2 a3]
  | none =>
    rw [fstN_no (n := lo) (fun j hj => by
      by_cases c : j < lo + 1 - len
      · exact fstN_none e j c
      · exact stdB_hi h1 (by omega))]
theorem b01_m (o : Option Nat) : (match o with
    | some _ => (1 : Int32)
    | none => 0) = b01 o.isSome := by cases o <;> rfl
theorem f_stands {A : hA} {R : sMem} {S : hS} {g : Nat → Nat} {b L : Nat} {xs : Nat → Int32} (h : hInv A R S g b L xs) {lo : Nat → Nat} (hlo : ∀ i, i < hN (S.2.2.2.1 0) → S.2.2.2.1 0 (19 + i) = nI (lo i) ∧ lo i ≤ 40) {i f : Nat} (hi : i < hN (S.2.2.2.1 0)) (hf : f < hFc (S.2.2.2.1 0)) : f_X0_stands (hX A) (nI f) (nI i) (hMem A R S) = some (.inl (some (.int (b01 (stdV (lo i) (hMc (S.2.2.2.1 0) f) (fun p => S.2.2.2.1 0 (91 + 40 * i + p)) (fun k => S.2.2.2.1 0 (605 + 9 * f + 3 + k)))))), hMem A R S) := by
  have hg := h.1.1
  have hc := h.1.2.1
  have h3 : 0 < A.2.2 := by have := hg.2.2.2; omega
  have hn := h.act.n
  have hs : sFuel = 1000000 := rfl
  have wf := h.act.1.2.1
  obtain ⟨e1, l1⟩ := hlo i hi
  obtain ⟨q0, hq0, fo, ao, ma, mf, k1, k2⟩ := h.fa
  obtain ⟨q, ao', ma', g1, g2, gf⟩ := fact_get (S := S) hg hc h.fa wf
  obtain ⟨a1, a2, a3, a4⟩ := k2 f hf
  have g1' : sGetN (hMem A R S) 0 18 (hX A) = some q0 := by rw [xgN_18 hg, hq0, hvN_ref]
  have hf10 : hFc (S.2.2.2.1 0) ≤ 10 := wf.1.2
  have gl : sAldN (hMem A R S) q0 (nI f) = some (ao f) := hR_ldn hc S k1 (by omega) hf (by omega) a1
  have gk := fun o => hR_chk hc S a2 o
  have gm : f_X5_marks (ao f) (hMem A R S) = some (.inl (some (.ref (ma f))), hMem A R S) := by
    unfold f_X5_marks
    rw [hR_N hc S a2 (k := 0) rfl]
    rfl
  have l6 : hMc (S.2.2.2.1 0) f ≤ 6 := (wf.2 f hf).1.2
  have l1' : 1 ≤ hMc (S.2.2.2.1 0) f := (wf.2 f hf).2.1
  have ln := hR_len hc S a3
  generalize hMc (S.2.2.2.1 0) f = len at *
  have al := fun (at_ : Nat) (ha : at_ ≤ 41) => f_alike h hlo (i := i) (at_ := at_) (fr := 0) hi a3 (r := fun k => S.2.2.2.1 0 (605 + 9 * f + 3 + k)) a4 ha (by omega) (by omega)
  generalize hd : (fun p => S.2.2.2.1 0 (91 + 40 * i + p)) = d at *
  generalize hr : (fun k => S.2.2.2.1 0 (605 + 9 * f + 3 + k)) = r at *
  have P := lp_E (fun q k => f_X0_stands_L13 (hX A) (nI i) (ma f) q (nI k) (hMem A R S)) (lo i + 1 - len) (stdB (lo i) len d r) (fun _ => some (.inl (some (.int 1)), hMem A R S)) (some (.inl (some (.int 0)), hMem A R S)) ?_ ?_ ?_ sFuel (by omega)
  · have P' : f_X0_stands_L13 (hX A) (nI i) (ma f) sFuel 0 (hMem A R S) = _ := P
    simp only [f_X0_stands, g1', obS, gl, gk, gm, hcN]
    rw [P', ← stdV_short l1']
    cases fstN (stdB (lo i) len d r) (lo i + 1 - len) <;> rfl
  · intro q k hk hp
    have c0 : ¬ lo i < k + len := by omega
    have c1 : ¬ nI (alN (lo i) len k 0 d r) = nI len := fun e => by
      have := (nI_eq (by have := alN_le (len := len) (at_ := k) (fr := 0) (d := d) (r := r) l1; omega) (by omega)).mp e
      rw [alN_std (by omega) l1] at this
      rw [this] at hp
      cases hp
    have al' : f_X0_alikeFrom (hX A) (nI i) (nI k) (ma f) 0 (hMem A R S) = _ := al k (by omega)
    simp (disch := omega) only [f_X0_stands_L13, ln, xgN_23 hg, xgN_22 hg, xgI_21 hg, hx_chk hg, ht_chk hg, tgN_5 hg, trl_5 hg, tgN_3 hg, trl_3 hg, obS, e1, nI_add, nI_ltI, c0, ↓reduceIte, al', hcI, if_neg c1, nI_1]
  · intro q k hk hp
    have c0 : ¬ lo i < k + len := by omega
    have c1 : nI (alN (lo i) len k 0 d r) = nI len := by
      congr 1
      rw [alN_std (by omega) l1]
      exact hp
    have al' : f_X0_alikeFrom (hX A) (nI i) (nI k) (ma f) 0 (hMem A R S) = _ := al k (by omega)
    simp (disch := omega) only [f_X0_stands_L13, ln, xgN_23 hg, xgN_22 hg, xgI_21 hg, hx_chk hg, ht_chk hg, tgN_5 hg, trl_5 hg, tgN_3 hg, trl_3 hg, obS, e1, nI_add, nI_ltI, c0, ↓reduceIte, al', hcI, if_pos c1]
  · intro q
    have c0 : lo i < lo i + 1 - len + len := by omega
    simp (disch := omega) only [f_X0_stands_L13, ln, xgN_23 hg, xgN_22 hg, xgI_21 hg, hx_chk hg, ht_chk hg, tgN_5 hg, trl_5 hg, tgN_3 hg, trl_3 hg, obS, e1, nI_add, nI_ltI, c0, ↓reduceIte]
theorem px_stands {A : hA} {R : sMem} {S : hS} {g : Nat → Nat} {b L : Nat} {xs : Nat → Int32} (h : hInv A R S g b L xs) (m : Nat) {lo : Nat → Nat} (hlo : ∀ i, i < hN (S.2.2.2.1 0) → S.2.2.2.1 0 (19 + i) = nI (lo i) ∧ lo i ≤ 40) {i f : Nat} (hi : i < hN (S.2.2.2.1 0)) (hf : f < hFc (S.2.2.2.1 0)) : p_X3_stands m (nI i) (nI f) S.2.2.2.2.2 = some (some (.int (b01 (stdV (lo i) (hMc (S.2.2.2.1 0) f) (fun p => S.2.2.2.1 0 (91 + 40 * i + p)) (fun k => S.2.2.2.1 0 (605 + 9 * f + 3 + k))))), S.2.2.2.2.2) := by
  have ht := h.t0
  have hn := h.act.n
  have hs : sFuel = 1000000 := rfl
  have wf := h.act.1.2.1
  obtain ⟨e1, l1⟩ := hlo i hi
  have hf10 : hFc (S.2.2.2.1 0) ≤ 10 := wf.1.2
  have l6 : hMc (S.2.2.2.1 0) f ≤ 6 := (wf.2 f hf).1.2
  have e5 : S.2.2.2.1 0 (605 + 9 * f) = nI (hMc (S.2.2.2.1 0) f) := (wf.2 f hf).1.1
  generalize hMc (S.2.2.2.1 0) f = len at *
  have pf := fun k (hk : k < 9) => px_fact m S.2.2.2.2.2 (f := f) (k := k) (by omega) hk
  simp only [ht] at pf
  have p0 : p_X3_factOf m (nI f) 0 S.2.2.2.2.2 = some (some (.int (nI len)), S.2.2.2.2.2) := by
    have := pf 0 (by omega)
    rw [Nat.add_zero, e5] at this
    exact this
  have p3 : ∀ k, k < len → p_X3_factOf m (nI f) (nI (3 + k)) S.2.2.2.2.2 = some (some (.int (S.2.2.2.1 0 (605 + 9 * f + 3 + k))), S.2.2.2.2.2) := fun k hk => by
    rw [pf (3 + k) (by omega), show 605 + 9 * f + (3 + k) = 605 + 9 * f + 3 + k by omega]
  have pm := fun (p : Nat) (hp : p < 40) => px_mark2 m S.2.2.2.2.2 (i := i) (p := p) (by omega) hp
  simp only [ht] at pm
  have ed : ∀ p, S.2.2.2.1 0 (91 + 40 * i + p) = (fun p => S.2.2.2.1 0 (91 + 40 * i + p)) p := fun _ => rfl
  have er : ∀ k, S.2.2.2.1 0 (605 + 9 * f + 3 + k) = (fun k => S.2.2.2.1 0 (605 + 9 * f + 3 + k)) k := fun _ => rfl
  generalize (fun p => S.2.2.2.1 0 (91 + 40 * i + p)) = d at *
  generalize (fun k => S.2.2.2.1 0 (605 + 9 * f + 3 + k)) = r at *
  have c3 : ∀ k, (3 : Int32) + nI k = nI (3 + k) := fun k => nI_add 3 k
  have IN : ∀ at_, p_X3_standsAt m (nI i) (nI f) (nI at_) S.2.2.2.2.2 = some (some (.int (b01 (stdB (lo i) len d r at_))), S.2.2.2.2.2) ∨ 40 < at_ := fun at_ => by
    by_cases ha : 40 < at_
    · exact Or.inr ha
    refine Or.inl ?_
    have P := lp_E (fun q k => p_X3_standsAt_L3 m (nI i) (nI f) (nI at_) q (nI k) S.2.2.2.2.2) len (fun k => decide (lo i ≤ at_ + k) || !decide (d (at_ + k) = r k)) (fun _ => some (some (.int 0), S.2.2.2.2.2)) (some (some (.int 1), S.2.2.2.2.2)) ?_ ?_ ?_ sFuel (by omega)
    · have P' : p_X3_standsAt m (nI i) (nI f) (nI at_) S.2.2.2.2.2 = _ := P
      rw [P']
      unfold stdB
      cases fstN (fun k => decide (lo i ≤ at_ + k) || !decide (d (at_ + k) = r k)) len <;> rfl
    · intro q k hk hp
      simp only [Bool.or_eq_false_iff, decide_eq_false_iff_not, Bool.not_eq_false', decide_eq_true_eq] at hp
      obtain ⟨a1, a2⟩ := hp
      have c0 : ¬ len ≤ k := by omega
      simp (disch := omega) only [p_X3_standsAt_L3, p0, pcI, nI_leI, c0, ↓reduceIte, mRow_0, obS, qld_19, ht, e1, nI_add, a1, pm, c3, p3, ed, er, if_pos a2, nI_1]
    · intro q k hk hp
      have c0 : ¬ len ≤ k := by omega
      by_cases a1 : lo i ≤ at_ + k
      · simp (disch := omega) only [p_X3_standsAt_L3, p0, pcI, nI_leI, c0, ↓reduceIte, mRow_0, obS, qld_19, ht, e1, nI_add, a1]
      · have a2 : ¬ d (at_ + k) = r k := by simpa [a1] using hp
        simp (disch := omega) only [p_X3_standsAt_L3, p0, pcI, nI_leI, c0, ↓reduceIte, mRow_0, obS, qld_19, ht, e1, nI_add, a1, pm, c3, p3, ed, er, if_neg a2]
    · intro q
      have c0 : len ≤ len := Nat.le_refl _
      simp (disch := omega) only [p_X3_standsAt_L3, p0, pcI, nI_leI, c0, ↓reduceIte]
  have IN' : ∀ at_, at_ ≤ 40 → p_X3_standsAt m (nI i) (nI f) (nI at_) S.2.2.2.2.2 = some (some (.int (b01 (stdB (lo i) len d r at_))), S.2.2.2.2.2) := fun at_ ha => by
    rcases IN at_ with q | q
    · exact q
    · omega
  have P := lp_E (fun q k => p_X3_stands_L2 m (nI i) (nI f) q (nI k) S.2.2.2.2.2) (lo i) (stdB (lo i) len d r) (fun _ => some (some (.int 1), S.2.2.2.2.2)) (some (some (.int 0), S.2.2.2.2.2)) ?_ ?_ ?_ sFuel (by omega)
  · have P' : p_X3_stands m (nI i) (nI f) S.2.2.2.2.2 = _ := P
    rw [P']
    unfold stdV
    cases fstN (stdB (lo i) len d r) (lo i) <;> rfl
  · intro q k hk hp
    have c0 : ¬ lo i ≤ k := by omega
    have := IN' k (by omega)
    rw [hp] at this
    simp (disch := omega) only [p_X3_stands_L2, mRow_0, obS, qld_19, ht, e1, nI_leI, c0, ↓reduceIte, this, pcI, b01_f, nI_1]
  · intro q k hk hp
    have c0 : ¬ lo i ≤ k := by omega
    have := IN' k (by omega)
    rw [hp] at this
    simp (disch := omega) only [p_X3_stands_L2, mRow_0, obS, qld_19, ht, e1, nI_leI, c0, ↓reduceIte, this, pcI, b01_t]
  · intro q
    have c0 : lo i ≤ lo i := Nat.le_refl _
    simp (disch := omega) only [p_X3_stands_L2, mRow_0, obS, qld_19, ht, e1, nI_leI, c0, ↓reduceIte]
/-- in which trays a row stands -/
def trvN (st : Nat → Bool) (tr : Nat → Nat) : Nat → Nat
  | 0 => 0
  | k + 1 => trvN st tr k ||| (if st k = true then 2 ^ tr k else 0)
theorem trvN_lt {st : Nat → Bool} {tr : Nat → Nat} : ∀ {n : Nat}, (∀ k, k < n → tr k ≤ 3) → trvN st tr n < 2 ^ 4
  | 0, _ => by
    show 0 < 2 ^ 4
    decide
  | n + 1, h => by
    have h1 := trvN_lt (st := st) (n := n) (fun k hk => h k (by omega))
    have h2 := h n (by omega)
    refine Nat.or_lt_two_pow h1 ?_
    split
    · exact Nat.pow_lt_pow_right (by omega) (by omega)
    · decide
theorem hInv.tr {A : hA} {R : sMem} {S : hS} {g : Nat → Nat} {b L : Nat} {xs : Nat → Int32} (h : hInv A R S g b L xs) : ∃ tr : Nat → Nat, ∀ i, i < hN (S.2.2.2.1 0) → S.2.2.2.1 0 (581 + i) = nI (tr i) ∧ tr i ≤ 3 :=
  ⟨fun i => cv (S.2.2.2.1 0 (581 + i)), fun i hi => h.act.1.1.2 i hi⟩
noncomputable def trv (t : Nat → Int32) (f : Nat) : Nat := trvN (fun i => stdV (hLo t i) (hMc t f) (fun p => t (91 + 40 * i + p)) (fun k => t (605 + 9 * f + 3 + k))) (fun i => cv (t (581 + i))) (hN t)
theorem trv_lt {t : Nat → Int32} (h : wAct t) (f : Nat) : trv t f < 2 ^ 4 := trvN_lt (fun i hi => (h.1.1.2 i hi).2)
theorem f_traysOf {A : hA} {R : sMem} {S : hS} {g : Nat → Nat} {b L : Nat} {xs : Nat → Int32} (h : hInv A R S g b L xs) {f : Nat} (hf : f < hFc (S.2.2.2.1 0)) : f_X0_traysOf (hX A) (nI f) (hMem A R S) = some (.inl (some (.int (nI (trv (S.2.2.2.1 0) f)))), hMem A R S) := by
  have hg := h.1.1
  have h3 : 0 < A.2.2 := by have := hg.2.2.2; omega
  have hn := h.act.n
  have hw := h.act
  have e571 : S.2.2.2.1 0 571 = nI (hN (S.2.2.2.1 0)) := hw.1.1.1.1
  have st := fun i hi => f_stands h (lo := fun i => hLo (S.2.2.2.1 0) i) (fun i hi => (hw.2.1 i hi).1) (i := i) (f := f) hi hf
  unfold trv
  generalize hst : (fun i => stdV (hLo (S.2.2.2.1 0) i) (hMc (S.2.2.2.1 0) f) (fun p => S.2.2.2.1 0 (91 + 40 * i + p)) (fun k => S.2.2.2.1 0 (605 + 9 * f + 3 + k))) = sv
  have est : ∀ i, stdV (hLo (S.2.2.2.1 0) i) (hMc (S.2.2.2.1 0) f) (fun p => S.2.2.2.1 0 (91 + 40 * i + p)) (fun k => S.2.2.2.1 0 (605 + 9 * f + 3 + k)) = sv i := fun i => by rw [← hst]
  simp only [est] at st
  have tr3 := fun i hi => (hw.1.1.2 i hi)
  have ltn := fun k (hk : k ≤ hN (S.2.2.2.1 0)) => trvN_lt (st := sv) (tr := fun i => cv (S.2.2.2.1 0 (581 + i))) (n := k) (fun i hi => (tr3 i (by omega)).2)
  refine lk (fun q k (_ : Unit) => f_X0_traysOf_L4 (hX A) (nI f) q (nI (trvN sv (fun i => cv (S.2.2.2.1 0 (581 + i))) k)) (nI k) (hMem A R S)) (fun _ _ _ => none) (hN (S.2.2.2.1 0)) (fun _ _ => True) (fun o _ => o = some (.inl (some (.int (nI (trvN sv (fun i => cv (S.2.2.2.1 0 (581 + i))) (hN (S.2.2.2.1 0)))))), hMem A R S)) ?_ ?_ (by omega) () trivial
  · intro q q' k _ hk _
    have c0 : ¬ hN (S.2.2.2.1 0) ≤ k := by omega
    have hb := fx_has A R S (S.2.2.2.1 0) (o := 67) (w := k) (by omega)
    have nxt : trvN sv (fun i => cv (S.2.2.2.1 0 (581 + i))) (k + 1) = trvN sv (fun i => cv (S.2.2.2.1 0 (581 + i))) k ||| (if sv k = true then 2 ^ cv (S.2.2.2.1 0 (581 + k)) else 0) := rfl
    refine Or.inl ⟨(), trivial, ?_, rfl⟩
    rw [nxt]
    have n10 : ¬ (1 : Int32) = 0 := by decide
    by_cases fl : S.2.2.2.1 0 (67 + k) = 1
    · have z : sv k = false := by
        rw [← est]
        have : hLo (S.2.2.2.1 0) k = 0 := by
          show cv _ = 0
          rw [(hw.2.1 k hk).2.2.2.2 fl, cv_0]
        rw [this]
        rfl
      rw [if_pos fl] at hb
      simp (disch := omega) only [f_X0_traysOf_L4, xgN_23 hg, xgN_22 hg, xgI_21 hg, hx_chk hg, ht_chk hg, tgN_5 hg, trl_5 hg, tgN_3 hg, trl_3 hg, obS, e571, nI_leI, c0, ↓reduceIte, tgI_8 hg, hb, hcI, if_neg n10, z, Bool.false_eq_true, Nat.or_zero, Int32.or_zero, nI_1]
    · rw [if_neg fl] at hb
      cases z : sv k with
      | false =>
        have := st k hk
        rw [z] at this
        simp (disch := omega) only [f_X0_traysOf_L4, xgN_23 hg, xgN_22 hg, xgI_21 hg, hx_chk hg, ht_chk hg, tgN_5 hg, trl_5 hg, tgN_3 hg, trl_3 hg, obS, e571, nI_leI, c0, ↓reduceIte, tgI_8 hg, hb, hcI, this, b01_f, Bool.false_eq_true, Nat.or_zero, Int32.or_zero, nI_1]
      | true =>
        have := st k hk
        rw [z] at this
        obtain ⟨e5, l5⟩ := tr3 k hk
        have l3 := hq_ld3 hg R S (p := k) (by omega)
        rw [e5] at l3
        have on : (1 : Int32) <<< (nI (cv (S.2.2.2.1 0 (581 + k))) &&& 31) = nI (2 ^ cv (S.2.2.2.1 0 (581 + k))) := nI_one (by omega)
        have lt1 := ltn k (by omega)
        have lt2 : 2 ^ cv (S.2.2.2.1 0 (581 + k)) < 2 ^ 4 := Nat.pow_lt_pow_right (by omega) (by omega)
        have orr := nI_or (a := trvN sv (fun i => cv (S.2.2.2.1 0 (581 + i))) k) (b := 2 ^ cv (S.2.2.2.1 0 (581 + k))) (by omega) (by omega)
        simp (disch := omega) only [f_X0_traysOf_L4, xgN_23 hg, xgN_22 hg, xgI_21 hg, hx_chk hg, ht_chk hg, tgN_5 hg, trl_5 hg, tgN_3 hg, trl_3 hg, obS, e571, nI_leI, c0, ↓reduceIte, tgI_8 hg, hb, hcI, this, b01_t, l3, on, orr, nI_1]
  · intro q q' _ _
    have c0 : hN (S.2.2.2.1 0) ≤ hN (S.2.2.2.1 0) := Nat.le_refl _
    show f_X0_traysOf_L4 _ _ _ _ _ _ = _
    simp (disch := omega) only [f_X0_traysOf_L4, xgI_21 hg, obS, e571, nI_leI, c0, ↓reduceIte]
theorem px_traysOf {A : hA} {R : sMem} {S : hS} {g : Nat → Nat} {b L : Nat} {xs : Nat → Int32} (h : hInv A R S g b L xs) (m : Nat) {f : Nat} (hf : f < hFc (S.2.2.2.1 0)) : p_X3_traysOf m (nI f) S.2.2.2.2.2 = some (some (.int (nI (trv (S.2.2.2.1 0) f))), S.2.2.2.2.2) := by
  have ht := h.t0
  have hn := h.act.n
  have hw := h.act
  have e571 : S.2.2.2.1 0 571 = nI (hN (S.2.2.2.1 0)) := hw.1.1.1.1
  have st := fun i hi => px_stands h m (lo := fun i => hLo (S.2.2.2.1 0) i) (fun i hi => (hw.2.1 i hi).1) (i := i) (f := f) hi hf
  unfold trv
  generalize hst : (fun i => stdV (hLo (S.2.2.2.1 0) i) (hMc (S.2.2.2.1 0) f) (fun p => S.2.2.2.1 0 (91 + 40 * i + p)) (fun k => S.2.2.2.1 0 (605 + 9 * f + 3 + k))) = sv
  have est : ∀ i, stdV (hLo (S.2.2.2.1 0) i) (hMc (S.2.2.2.1 0) f) (fun p => S.2.2.2.1 0 (91 + 40 * i + p)) (fun k => S.2.2.2.1 0 (605 + 9 * f + 3 + k)) = sv i := fun i => by rw [← hst]
  simp only [est] at st
  have tr3 := fun i hi => (hw.1.1.2 i hi)
  have ltn := fun k (hk : k ≤ hN (S.2.2.2.1 0)) => trvN_lt (st := sv) (tr := fun i => cv (S.2.2.2.1 0 (581 + i))) (n := k) (fun i hi => (tr3 i (by omega)).2)
  refine lk (fun _ _ _ => none) (fun q k (_ : Unit) => p_X3_traysOf_L4 m (nI f) q (nI (trvN sv (fun i => cv (S.2.2.2.1 0 (581 + i))) k)) (nI k) S.2.2.2.2.2) (hN (S.2.2.2.1 0)) (fun _ _ => True) (fun _ o => o = some (some (.int (nI (trvN sv (fun i => cv (S.2.2.2.1 0 (581 + i))) (hN (S.2.2.2.1 0))))), S.2.2.2.2.2)) ?_ ?_ (by omega) () trivial
  · intro q q' k _ hk _
    have c0 : ¬ hN (S.2.2.2.1 0) ≤ k := by omega
    have nxt : trvN sv (fun i => cv (S.2.2.2.1 0 (581 + i))) (k + 1) = trvN sv (fun i => cv (S.2.2.2.1 0 (581 + i))) k ||| (if sv k = true then 2 ^ cv (S.2.2.2.1 0 (581 + k)) else 0) := rfl
    refine Or.inl ⟨(), trivial, rfl, ?_⟩
    rw [nxt]
    cases z : sv k with
    | false =>
      have := st k hk
      rw [z] at this
      simp (disch := omega) only [p_X3_traysOf_L4, mRow_0, obS, qld_571, ht, e571, nI_leI, c0, ↓reduceIte, this, pcI, b01_f, Bool.false_eq_true, Nat.or_zero, Int32.or_zero, nI_1]
    | true =>
      have := st k hk
      rw [z] at this
      obtain ⟨e5, l5⟩ := tr3 k hk
      have c5 : (581 : Int32) + nI k = nI (581 + k) := nI_add 581 k
      have q5 : qAld S.2.2.2.2.2 0 (nI (581 + k)) = some (nI (cv (S.2.2.2.1 0 (581 + k)))) := by
        rw [qld_0 _ (by omega), ht]
        exact congrArg some e5
      have on : (1 : Int32) <<< (nI (cv (S.2.2.2.1 0 (581 + k))) &&& 31) = nI (2 ^ cv (S.2.2.2.1 0 (581 + k))) := nI_one (by omega)
      have lt1 := ltn k (by omega)
      have lt2 : 2 ^ cv (S.2.2.2.1 0 (581 + k)) < 2 ^ 4 := Nat.pow_lt_pow_right (by omega) (by omega)
      have orr := nI_or (a := trvN sv (fun i => cv (S.2.2.2.1 0 (581 + i))) k) (b := 2 ^ cv (S.2.2.2.1 0 (581 + k))) (by omega) (by omega)
      simp (disch := omega) only [p_X3_traysOf_L4, mRow_0, obS, qld_571, ht, e571, nI_leI, c0, ↓reduceIte, this, pcI, b01_t, c5, q5, on, orr, nI_1]
  · intro q q' _ _
    have c0 : hN (S.2.2.2.1 0) ≤ hN (S.2.2.2.1 0) := Nat.le_refl _
    show p_X3_traysOf_L4 _ _ _ _ _ _ = _
    simp (disch := omega) only [p_X3_traysOf_L4, mRow_0, obS, qld_571, ht, e571, nI_leI, c0, ↓reduceIte]
theorem j_trays {A : hA} {R : sMem} {S : hS} {g : Nat → Nat} {b L : Nat} {xs : Nat → Int32} (h : hInv A R S g b L xs) (v : Int32) : hOp A R S g b L xs (f_X0_trays (hX A) v) (f_X3_trays (A.2.1 9) v) := by
  have hg := h.1.1
  have hc := h.1.2.1
  have ht := h.t0
  have wf := h.act.1.2.1
  have hq : ∀ (R : sMem), R.1 ≤ A.2.1 9 → ∀ s : mSt, f_X3_trays (A.2.1 9) v (mPut R (A.2.1 9) s) = lft R (A.2.1 9) (p_X3_trays (A.2.1 9) v s) := fun R hR s => q_X3_trays R _ hR v s
  have f2 := fx_isFact (S := S) hg hc h.fa wf v
  have p2 := px_isFact (A.2.1 9) v S.2.2.2.2.2
  rw [ht] at p2
  cases hv : inB v 0 (S.2.2.2.1 0 572 - 1) with
  | false =>
    rw [hv] at f2 p2
    refine hOp.read0 h hq (v := -1) ?_ ?_
    · simp only [f_X0_trays, hx_chk hg, f2, eq_self, ↓reduceIte, hcI, hcN, hcV, obS, if_true, if_false, b01_f]
    · simp only [p_X3_trays, p2, pcI, b01_f, ↓reduceIte]
  | true =>
    rw [hv] at f2 p2
    obtain ⟨f, hf, rfl⟩ := inB_fact wf hv
    refine hOp.read0 h hq (v := nI (trv (S.2.2.2.1 0) f)) ?_ ?_
    · simp only [f_X0_trays, hx_chk hg, f2, eq_self, ↓reduceIte, hcI, hcN, hcV, obS, if_true, if_false, b01_t, f_traysOf h hf]
    · simp only [p_X3_trays, p2, pcI, b01_t, ↓reduceIte, px_traysOf h _ hf]
