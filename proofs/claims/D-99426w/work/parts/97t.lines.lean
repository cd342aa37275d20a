/-! lines of the law: both sides -/
set_option maxRecDepth 100000
def tmE (R R' : sMem) : Prop := ∀ a ci fs, 6 ≤ ci → ci ≤ 9 → R.2.2.2 a = some (sObj ci fs) → R'.2.2.2 a = some (sObj ci fs)
theorem tmE.of {R R' : sMem} (h : sub2 R R') : tmE R R' := fun a ci fs _ _ q => h a _ q
theorem tmE.trans {R R1 R2 : sMem} (h : tmE R R1) (h' : tmE R1 R2) : tmE R R2 := fun a ci fs h1 h2 q => h' a ci fs h1 h2 (h a ci fs h1 h2 q)
theorem tmE.up {R : sMem} {a : Nat} {x e : sCell} (ha : R.2.2.2 a = some x) (hx : ∀ ci fs, 6 ≤ ci → ci ≤ 9 → x ≠ sObj ci fs) : tmE R (sUp R a e) := fun b ci fs h1 h2 q => by
  by_cases c : b = a
  · subst c
    rw [ha] at q
    exact absurd (Option.some.inj q) (hx ci fs h1 h2)
  · rw [sUp_ne R _ c]
    exact q
theorem hTrA_tm {R R' : sMem} (hR : tmE R R') {t t' : Nat → Int32} : ∀ d q a b, (∀ p, 1535 + 2 * a ≤ p → p < 1535 + 2 * b → t' p = t p) → hTrA R t d q a b → hTrA R' t' d q a b
  | 0, _, _, _, _, g => g.elim
  | d + 1, q, a, b, ht, g => by
    have lt := hTrA_lt _ _ _ _ g
    unfold hTrA at g ⊢
    rcases g with ⟨v, hq, hb, h0, hv⟩ | ⟨k, hk, hq, hb, h0⟩ | ⟨sg, co, q1, q2, c, e, hsg, hq, h1, h2, hb, h0⟩ | ⟨q1, q2, v, e, hq, h1, hq2, hv0, hb, h0, hv⟩
    · exact Or.inl ⟨v, hR _ _ _ (by omega) (by omega) hq, hb, (ht _ (by omega) (by omega)).trans h0, (ht _ (by omega) (by omega)).trans hv⟩
    · exact Or.inr (Or.inl ⟨k, hk, hR _ _ _ (by omega) (by omega) hq, hb, (ht _ (by omega) (by omega)).trans h0⟩)
    · have l1 := hTrA_lt d _ _ _ h1
      have l2 := hTrA_lt d _ _ _ h2
      exact Or.inr (Or.inr (Or.inl ⟨sg, co, q1, q2, c, e, hsg, hR _ _ _ (by omega) (by omega) hq, hTrA_tm hR d _ _ _ (fun p a1 a2 => ht p (by omega) (by omega)) h1, hTrA_tm hR d _ _ _ (fun p a1 a2 => ht p (by omega) (by omega)) h2, hb, (ht _ (by omega) (by omega)).trans h0⟩))
    · have l1 := hTrA_lt d _ _ _ h1
      exact Or.inr (Or.inr (Or.inr ⟨q1, q2, v, e, hR _ _ _ (by omega) (by omega) hq, hTrA_tm hR d _ _ _ (fun p a1 a2 => ht p (by omega) (by omega)) h1, hR _ _ _ (by omega) (by omega) hq2, hv0, hb, (ht _ (by omega) (by omega)).trans h0, (ht _ (by omega) (by omega)).trans hv⟩))
theorem hTrB_tm {R R' : sMem} (hR : tmE R R') {t t' : Nat → Int32} : ∀ d q a b, (∀ p, 1535 + 2 * a ≤ p → p < 1535 + 2 * b → t' p = t p) → hTrB R t d q a b → hTrB R' t' d q a b
  | 0, _, _, _, _, g => g.elim
  | d + 1, q, a, b, ht, g => by
    have lt := hTrB_lt _ _ _ _ g
    unfold hTrB at g ⊢
    rcases g with ⟨sg, co, q1, q2, c, e, hsg, hq, h1, h2, hb, h0⟩ | ⟨sg, co, q1, q2, c, e, hsg, hq, h1, h2, hb, h0⟩ | ⟨q1, e, hq, h1, hb, h0⟩
    · have l1 := hTrA_lt d _ _ _ h1
      have l2 := hTrA_lt d _ _ _ h2
      exact Or.inl ⟨sg, co, q1, q2, c, e, hsg, hR _ _ _ (by omega) (by omega) hq, hTrA_tm hR d _ _ _ (fun p a1 a2 => ht p (by omega) (by omega)) h1, hTrA_tm hR d _ _ _ (fun p a1 a2 => ht p (by omega) (by omega)) h2, hb, (ht _ (by omega) (by omega)).trans h0⟩
    · have l1 := hTrB_lt d _ _ _ h1
      have l2 := hTrB_lt d _ _ _ h2
      exact Or.inr (Or.inl ⟨sg, co, q1, q2, c, e, hsg, hR _ _ _ (by omega) (by omega) hq, hTrB_tm hR d _ _ _ (fun p a1 a2 => ht p (by omega) (by omega)) h1, hTrB_tm hR d _ _ _ (fun p a1 a2 => ht p (by omega) (by omega)) h2, hb, (ht _ (by omega) (by omega)).trans h0⟩)
    · have l1 := hTrB_lt d _ _ _ h1
      exact Or.inr (Or.inr ⟨q1, e, hR _ _ _ (by omega) (by omega) hq, hTrB_tm hR d _ _ _ (fun p a1 a2 => ht p (by omega) (by omega)) h1, hb, (ht _ (by omega) (by omega)).trans h0⟩)
theorem hTrA_fit {R : sMem} {t : Nat → Int32} {d q a b : Nat} (h : hTrA R t d q a b) : ∃ e, R.2.2.2 q = some e ∧ sFit 4 e = true := by
  cases d with
  | zero => exact h.elim
  | succ d =>
    unfold hTrA at h
    rcases h with ⟨v, hq, -⟩ | ⟨k, hk, hq, -⟩ | ⟨sg, co, q1, q2, c, e, hsg, hq, -⟩ | ⟨q1, q2, v, e, hq, -⟩
    · exact ⟨_, hq, rfl⟩
    · exact ⟨_, hq, rfl⟩
    · exact ⟨_, hq, rfl⟩
    · exact ⟨_, hq, rfl⟩
theorem hTrB_fit {R : sMem} {t : Nat → Int32} {d q a b : Nat} (h : hTrB R t d q a b) : ∃ e, R.2.2.2 q = some e ∧ sFit 4 e = true := by
  cases d with
  | zero => exact h.elim
  | succ d =>
    unfold hTrB at h
    rcases h with ⟨sg, co, q1, q2, c, e, hsg, hq, -⟩ | ⟨sg, co, q1, q2, c, e, hsg, hq, -⟩ | ⟨q1, e, hq, -⟩
    · exact ⟨_, hq, rfl⟩
    · exact ⟨_, hq, rfl⟩
    · exact ⟨_, hq, rfl⟩
/-- both fail, seen from where the text began -/
def FIN (A : hA) (R0 : sMem) (S0 : hS) (s0 : mSt) (f : Option (sRes × sMem)) (p : Option (Option Value × mSt)) : Prop := ∃ q k R' S' s', f = some (.inr q, hMem A R' S') ∧ p = some (some (.int 0), s') ∧ hCl A R' ∧ hEx 10000 40000 R0 R' ∧ R'.2.2.2 q = some (fO k (s'.1 19)) ∧ s'.1 21 = k ∧ s'.1 22 = s'.1 19 ∧ SF S0 S' ∧ MF s0 s'
theorem FAIL.fin {A : hA} {R0 R : sMem} {S0 S : hS} {s0 s : mSt} {c n : Nat} {f : Option (sRes × sMem)} {p : Option (Option Value × mSt)} (h : FAIL A R S s f p) (hx : hEx c n R0 R) (hc : c ≤ 9000) (hn : n ≤ 36000) (hS : SF S0 S) (hM : MF s0 s) : FIN A R0 S0 s0 f p := by
  obtain ⟨q, k, R', S', s', h1, h2, h3, h4, h5, h6, h7, h8, h9, h10, h11⟩ := h
  exact ⟨q, k, R', S', s', h1, h2, h3, (hx.trans h4).le (by omega) (by omega), h7, h8, h9, hS.trans h10, hM.trans h11⟩
/-- the lines read so far -/
def LI (R : sMem) (s : mSt) (t : Nat) (wf : Nat → Int32) (of nf : Nat → Option Nat) : Prop := s.1 13 = nI t ∧ t ≤ 16 ∧ (∀ l, t ≤ l → nf l = none) ∧ ∀ l, l < t → (∃ k, k < 3 ∧ wf l = nI k ∧ s.2 4 (4 * l + 3) = nI (20 + k)) ∧ ∃ a b c, s.2 4 (4 * l) = nI a ∧ s.2 4 (4 * l + 1) = nI b ∧ s.2 4 (4 * l + 2) = nI c ∧ a < b ∧ b ≤ c ∧ c ≤ stN s ∧ (∃ o, of l = some o ∧ hTrA R (stp s) (b - a) o a b) ∧ ((nf l = none ∧ c = b) ∨ ∃ o, nf l = some o ∧ hTrB R (stp s) (c - b) o b c)
theorem LI.mono {R R' : sMem} {s s' : mSt} {t : Nat} {wf wf' : Nat → Int32} {of of' nf nf' : Nat → Option Nat} (h : LI R s t wf of nf) (hR : tmE R R') (h13 : s'.1 13 = s.1 13) (h4 : ∀ p, p < 4 * t → s'.2 4 p = s.2 4 p) (hs : ∀ p, 1535 ≤ p → p < 1535 + 2 * stN s → stp s' p = stp s p) (hn : stN s ≤ stN s') (hw : ∀ l, l < t → wf' l = wf l ∧ of' l = of l ∧ nf' l = nf l) (hnf : ∀ l, t ≤ l → nf' l = none) : LI R' s' t wf' of' nf' := by
  obtain ⟨a1, a2, a3, a4⟩ := h
  refine ⟨h13.trans a1, a2, hnf, fun l hl => ?_⟩
  obtain ⟨⟨k, k1, k2, k3⟩, a, b, c, b1, b2, b3, b4, b5, b6, ⟨o, o1, o2⟩, b7⟩ := a4 l hl
  obtain ⟨w1, w2, w3⟩ := hw l hl
  refine ⟨⟨k, k1, w1.trans k2, (h4 _ (by omega)).trans k3⟩, a, b, c, (h4 _ (by omega)).trans b1, (h4 _ (by omega)).trans b2, (h4 _ (by omega)).trans b3, b4, b5, by omega, ⟨o, w2.trans o1, hTrA_tm hR _ _ _ _ (fun p q1 q2 => hs p (by omega) (by omega)) o2⟩, ?_⟩
  rcases b7 with ⟨q1, q2⟩ | ⟨o', q1, q2⟩
  · exact Or.inl ⟨w3.trans q1, q2⟩
  · exact Or.inr ⟨o', w3.trans q1, hTrB_tm hR _ _ _ _ (fun p q1 q2 => hs p (by omega) (by omega)) q2⟩
/-- the new law's cells -/
def LC (A : hA) (R0 R : sMem) (v1 wa oa na t : Nat) (wf : Nat → Int32) (of nf : Nat → Option Nat) : Prop := R.2.2.2 v1 = some (sObj 1 [.ref wa, .ref oa, .ref na, .int (nI t)]) ∧ R.2.2.2 wa = some (sArr 0 16 wf) ∧ R.2.2.2 oa = some (sArq 4 16 of) ∧ R.2.2.2 na = some (sArq 4 16 nf) ∧ R0.2.1 ≤ v1 ∧ R0.2.1 ≤ wa ∧ R0.2.1 ≤ oa ∧ R0.2.1 ≤ na ∧ A.1 ≤ R0.2.1 ∧ v1 ≠ wa ∧ v1 ≠ oa ∧ v1 ≠ na ∧ wa ≠ oa ∧ wa ≠ na ∧ oa ≠ na
theorem LC.ex {A : hA} {R0 R R' : sMem} {v1 wa oa na t : Nat} {wf : Nat → Int32} {of nf : Nat → Option Nat} (h : LC A R0 R v1 wa oa na t wf of nf) (hR : sub2 R R') : LC A R0 R' v1 wa oa na t wf of nf := ⟨hR _ _ h.1, hR _ _ h.2.1, hR _ _ h.2.2.1, hR _ _ h.2.2.2.1, h.2.2.2.2⟩
