/-! feeding, noted first or noted last: the same world -/
set_option maxRecDepth 100000
/-- equal but for the book -/
def Bk (t t' : Nat → Int32) : Prop := ∀ p, p ≠ 6 → ¬ (871 ≤ p ∧ p < 1471) → t' p = t p
theorem Bk.al {t t' : Nat → Int32} (h : Bk t t') : wAl t t' := fun p hp => h p (by omega) (by omega)
/-- a memory that holds answers -/
theorem evC_eq {A : hA} {R : sMem} (hc : hCl A R) {F : Nat → Int32} {d q : Nat} {v v' : Int32} (hd : d ≤ 600) (h : evC R F d q v) (h' : evC R F d q v') : v = v' := by
  have hM : ∀ x e, R.2.2.2 x = some e → (sNew R (sArr 0 10 (fun k => F (k + 1))) 10).2.2.2 x = some e := (hEx.new hc _ _).1
  have hx : ∀ k, k < 10 → sXld (sNew R (sArr 0 10 (fun k => F (k + 1))) 10) 0 R.2.1 (nI k) = some (F (k + 1)) := fun k hk => by
    have : sInts (sNew R (sArr 0 10 (fun k => F (k + 1))) 10) 0 R.2.1 = some (10, fun k => F (k + 1)) := by simp [sInts, sNew_at, sArr]
    unfold sXld
    rw [this]
    exact hb_ld (n := 10) (fun k => F (k + 1)) hk (by decide)
  have e1 := h _ R.2.1 600 hM hx hd
  have e2 := h' _ R.2.1 600 hM hx hd
  rw [e1] at e2
  simp only [Option.some.injEq, Prod.mk.injEq, Sum.inl.injEq, Value.int.injEq, and_true] at e2
  exact e2
theorem wFa_bk {t t' : Nat → Int32} (h : Bk t t') {i : Nat} (hi : i < 12) (mark place : Int32) : wFa t' i mark place = wFa t i mark place := by
  have e1 := h (581 + i) (by omega) (by omega)
  have e2 := h (593 + i) (by omega) (by omega)
  have e3 := h (7 + i) (by omega) (by omega)
  have e4 := h (19 + i) (by omega) (by omega)
  have e5 := h 573 (by omega) (by omega)
  have e6 := h 1 (by omega) (by omega)
  have e7 := h 0 (by omega) (by omega)
  funext k
  unfold wFa
  rw [e1, e2, e3, e4, e5, e6, e7]
theorem wLaw_al {t t' : Nat → Int32} (hw : wLaw t) (hal : wAl t t') : wLaw t' := by
  have hln : hLn t ≤ 16 := hw.1.2
  have n1 : hLn t' = hLn t := congrArg cv (hal _ (by omega))
  refine ⟨wSm_al (hal _ (by omega)) hw.1, fun l hl => ?_⟩
  rw [n1] at hl
  obtain ⟨a1, a2, a3⟩ := hw.2 l hl
  exact ⟨wSm_al (hal _ (by omega)) a1, wSm_al (hal _ (by omega)) a2, wSm_al (hal _ (by omega)) a3⟩
theorem evA_bk {A : hA} {R : sMem} {q : Nat} {t t' : Nat → Int32} (hc : hCl A R) (hL : hLaw R q t) (hw : wLaw t) (hal : wAl t t') (F : Nat → Int32) {l : Nat} (hl : l < hLn t) : hEv t' F (hFr t' l) (hMi t' l) = hEv t F (hFr t l) (hMi t l) := by
  have hln : hLn t ≤ 16 := hw.1.2
  have n1 : hLn t' = hLn t := congrArg cv (hal _ (by omega))
  obtain ⟨wa, oa, na, wf, of, nf, -, -, -, -, hall⟩ := hL
  obtain ⟨-, -, ⟨o, ho, hA⟩, -⟩ := hall l hl
  have c1 := (law_line hw hl F hA).1
  have e1 : hFr t' l = hFr t l := congrArg cv (hal _ (by omega))
  have e2 : hMi t' l = hMi t l := congrArg cv (hal _ (by omega))
  have hA' : hTrA R t' 500 o (hFr t' l) (hMi t' l) := by
    rw [e1, e2]
    exact hTrA_al hal _ _ _ _ hA
  have c2 := (law_line (wLaw_al hw hal) (l := l) (by rw [n1]; exact hl) F hA').1
  exact evC_eq hc (by omega) c2 c1
theorem evB_bk {A : hA} {R : sMem} {q : Nat} {t t' : Nat → Int32} (hc : hCl A R) (hL : hLaw R q t) (hw : wLaw t) (hal : wAl t t') (F : Nat → Int32) {l : Nat} (hl : l < hLn t) : wSo t' F l = wSo t F l := by
  have hln : hLn t ≤ 16 := hw.1.2
  have n1 : hLn t' = hLn t := congrArg cv (hal _ (by omega))
  obtain ⟨wa, oa, na, wf, of, nf, -, -, -, -, hall⟩ := hL
  obtain ⟨-, -, -, hB⟩ := hall l hl
  have e2 : hMi t' l = hMi t l := congrArg cv (hal _ (by omega))
  have e3 : hTo t' l = hTo t l := congrArg cv (hal _ (by omega))
  have b := hw.2 l hl
  unfold wSo
  rw [hal (1503 + l) (by omega), hal (1487 + l) (by omega)]
  rcases hB with ⟨-, hB⟩ | ⟨o, ho, hB⟩
  · have : t (1503 + l) = t (1487 + l) := by
      rw [b.2.1.1, b.2.2.1]
      exact congrArg nI hB.symm
    simp [this]
  · have c1 := (law_when hw hl F hB).1
    have hB' : hTrB R t' 550 o (hMi t' l) (hTo t' l) := by
      rw [e2, e3]
      exact hTrB_al hal _ _ _ _ hB
    have c2 := (law_when (wLaw_al hw hal) (l := l) (by rw [n1]; exact hl) F hB').1
    rw [evC_eq hc (by omega) c2 c1]
theorem fstN_congr {p p' : Nat → Bool} : ∀ {n : Nat}, (∀ k, k < n → p' k = p k) → fstN p' n = fstN p n
  | 0, _ => by simp [fstN]
  | n + 1, h => by
    unfold fstN
    rw [fstN_congr (n := n) (fun k hk => h k (by omega)), h n (by omega)]
theorem wSays_bk {A : hA} {R : sMem} {q : Nat} {t t' : Nat → Int32} (hc : hCl A R) (hL : hLaw R q t) (hw : wLaw t) (h : Bk t t') (word : Int32) {i : Nat} (hi : i < 12) (mark place wo mo : Int32) : wSays t' word i mark place wo mo = wSays t word i mark place wo mo := by
  have hln : hLn t ≤ 16 := hw.1.2
  have hal := h.al
  have n1 : hLn t' = hLn t := congrArg cv (hal _ (by omega))
  have ef : fstN (fun l => decide (t' (1519 + l) = word) && wSo t' (wFa t i mark place) l) (hLn t) = fstN (fun l => decide (t (1519 + l) = word) && wSo t (wFa t i mark place) l) (hLn t) := fstN_congr (fun k hk => by
    rw [evB_bk hc hL hw hal _ hk, hal (1519 + k) (by omega)])
  unfold wSays
  rw [wFa_bk h hi, n1, ef]
  cases hf : fstN (fun l => decide (t (1519 + l) = word) && wSo t (wFa t i mark place) l) (hLn t) with
  | none => rfl
  | some l =>
    dsimp only
    rw [evA_bk hc hL hw hal _ (fstN_some hf).1]
theorem wLays_bk {t t' : Nat → Int32} (h : Bk t t') {i : Nat} (mark : Int32) (hi : i < 12) (hlo : wSm t (19 + i) 40) : Bk (wLays i mark t) (wLays i mark t') := by
  have e : t' (19 + i) = t (19 + i) := h _ (by omega) (by omega)
  intro p hp hp2
  unfold wLays
  rw [e, show hLo t' i = hLo t i from congrArg cv e]
  split
  · exact h p hp hp2
  · unfold upd
    rw [h p hp hp2]
theorem wDraw_bk {t t' : Nat → Int32} (h : Bk t t') : Bk (wDraw t) (wDraw t') := by
  intro p hp hp2
  unfold wDraw upd
  rw [h 5 (by omega) (by omega), h p hp hp2]
theorem wMark_bk {t t' : Nat → Int32} (h : wAl t t') (hw : wFac t) {a i : Nat} {b : Option Nat} (ha : a < hFc t) (hb : okB t b) : wMark t' a b i = wMark t a b i := by
  have h10 : hFc t ≤ 10 := hw.1.2
  have em : wMany t' a b = wMany t a b := wMany_al h (by omega) (fun k hk => by have := hb k hk; omega)
  have ea : hMc t' a = hMc t a := congrArg cv (h _ (by omega))
  have la : hMc t a ≤ 6 := (hw.2 a ha).1.2
  unfold wMark
  rw [em]
  split
  · rename_i hi
    cases b with
    | none =>
      have : i < hMc t a := by simpa [wMany] using hi
      exact h _ (by omega)
    | some b =>
      have hbb := hb b rfl
      have lb : hMc t b ≤ 6 := (hw.2 b hbb).1.2
      have eb : hMc t' b = hMc t b := congrArg cv (h _ (by omega))
      have : i < hMc t a + hMc t b := hi
      simp only [ea, eb]
      have q1 : (if hMc t a ≤ min (hMc t a) (hMc t b) then b else a) < 10 := by split <;> omega
      have q2 : (if i % 2 = 0 then a else b) < 10 := by split <;> omega
      rw [h _ (by omega), h _ (by omega)]
  · rfl
theorem wSpin_bk {A : hA} {R : sMem} {q : Nat} (hc : hCl A R) (tr : Bool) {i a p : Nat} {b : Option Nat} {x x' : (Nat → Int32) × Int32} (hL : hLaw R q x.1) (hw : wStat x.1) (h : Bk x.1 x'.1) (he : x'.2 = x.2) (hi : i < 12) (ha : a < hFc x.1) (hb : okB x.1 b) (hlo : wSm x.1 (19 + i) 40) : Bk (wSpin tr i a b p x).1 (wSpin tr i a b p x').1 ∧ (wSpin tr i a b p x').2 = (wSpin tr i a b p x).2 := by
  have em := wMark_bk h.al hw.2.1 (i := p) ha hb
  have es : ∀ mark place, wSlips x'.1 i mark place = wSlips x.1 i mark place := fun mark place => by
    unfold wSlips
    rw [h 573 (by omega) (by omega)]
    exact wSays_bk hc hL hw.2.2.2.2.2.2.2.2 h _ hi _ _ _ _
  have ed : wDraw x'.1 5 = wDraw x.1 5 := wDraw_bk h 5 (by omega) (by omega)
  have hd : wSm (wDraw x.1) (19 + i) 40 := wSm_al (upd_ne _ _ (by omega)) hlo
  unfold wSpin
  rw [em, es, ed, he]
  split
  · split
    · exact ⟨wLays_bk (wDraw_bk h) _ hi hd, rfl⟩
    · exact ⟨wLays_bk (wDraw_bk h) _ hi hd, rfl⟩
  · exact ⟨wLays_bk h _ hi hlo, rfl⟩
theorem wSpun_bk {A : hA} {R : sMem} {q : Nat} (hc : hCl A R) (tr : Bool) {i a : Nat} {b : Option Nat} {t t' : Nat → Int32} (hL : hLaw R q t) (hw : wStat t) (h : Bk t t') (hi : i < 12) (ha : a < hFc t) (hb : okB t b) (hlo : wSm t (19 + i) 40) (n : Nat) : Bk (fdN (wSpin tr i a b) (t, 0) n).1 (fdN (wSpin tr i a b) (t', 0) n).1 ∧ (fdN (wSpin tr i a b) (t', 0) n).2 = (fdN (wSpin tr i a b) (t, 0) n).2 := by
  induction n with
  | zero => exact ⟨h, rfl⟩
  | succ n ih =>
    rw [fdN_s, fdN_s]
    obtain ⟨al, lo⟩ := wSpun_al tr i a b t hi hlo n
    exact wSpin_bk hc tr (hLaw_al al hw.2.2.2.2.2.2.2.2 hL) (wStat_al al hw) ih.1 ih.2 hi (by rw [hFc_al al]; exact ha) (fun k hk => by rw [hFc_al al]; exact hb k hk) lo
theorem wNote_bk (tr : Bool) (what which : Int32) (i : Nat) (t : Nat → Int32) (h6 : wSm t 6 150) : Bk t (wNote tr what i which t) := fun _ hp hp2 => wNote_off tr what which i t h6 hp hp2
/-- the component's order -/
noncomputable def wFeedC (tr : Bool) (i a : Nat) (b : Option Nat) (t : Nat → Int32) : Nat → Int32 := wNote tr (if bI b = -1 then 0 else 1) i (if bI b = -1 then nI a else 10 * nI a + bI b) (wFeed2 tr i (wSpins tr i a b (wFeed0 i a b t)))
theorem wFeed_order {A : hA} {R : sMem} {q : Nat} (hc : hCl A R) (tr : Bool) {i a : Nat} {b : Option Nat} {t : Nat → Int32} (hL : hLaw R q t) (hw : wAct t) (hi : i < hN t) (ha : a < hFc t) (hb : okB t b) : wFeedC tr i a b t = wFeed2 tr i (wSpins tr i a b (wFeed1 tr i a b t)) ∧ (wSpun tr i a b (wFeed0 i a b t)).2 = wFed tr i a b t := by
  have hn := hw.n
  have h10 : hFc t ≤ 10 := hw.1.2.1.1.2
  have al0 := wFeed0_al i a b t (by omega)
  have off0 : ∀ p, p ≠ 1 → p ≠ 2 → p ≠ 7 + i → p ≠ 79 + i → wFeed0 i a b t p = t p := fun p => wFeed0_6 i a b t (by omega)
  have hlo0 : wSm (wFeed0 i a b t) (19 + i) 40 := wSm_al (off0 _ (by omega) (by omega) (by omega) (by omega)) (hw.2.1 i hi).1
  have h60 : wSm (wFeed0 i a b t) 6 150 := wSm_al (off0 _ (by omega) (by omega) (by omega) (by omega)) hw.2.2.2.1
  have hL0 := hLaw_al al0 hw.1.2.2.2.2.2.2.2.2 hL
  have hw0 := wStat_al al0 hw.1
  have bk1 : Bk (wFeed0 i a b t) (wFeed1 tr i a b t) := wNote_bk tr _ _ i _ h60
  have ha0 : a < hFc (wFeed0 i a b t) := by rw [hFc_al al0]; exact ha
  have hb0 : okB (wFeed0 i a b t) b := fun k hk => by rw [hFc_al al0]; exact hb k hk
  have em : wMany (wFeed1 tr i a b t) a b = wMany (wFeed0 i a b t) a b := wMany_al bk1.al (by omega) (fun k hk => by have := hb k hk; omega)
  have sp := wSpun_bk hc tr hL0 hw0 bk1 (by omega) ha0 hb0 hlo0 (wMany (wFeed0 i a b t) a b)
  have bk2 : Bk (wSpins tr i a b (wFeed0 i a b t)) (wSpins tr i a b (wFeed1 tr i a b t)) := by
    intro p hp hp2
    unfold wSpins wSpun upd
    rw [em, sp.1 3 (by omega) (by omega), sp.2, sp.1 p hp hp2]
  have al2 := al0.trans (wSpins_al tr i a b _ (by omega) hlo0)
  have e2 : wStrong (wSpins tr i a b (wFeed1 tr i a b t)) i = wStrong (wSpins tr i a b (wFeed0 i a b t)) i := by
    unfold wStrong
    rw [bk2 (593 + i) (by omega) (by omega)]
    exact wSays_bk hc (hLaw_al al2 hw.1.2.2.2.2.2.2.2.2 hL) (wStat_al al2 hw.1).2.2.2.2.2.2.2.2 bk2 _ (by omega) _ _ _ _
  have bk3 : Bk (wFeed2 tr i (wSpins tr i a b (wFeed0 i a b t))) (wFeed2 tr i (wSpins tr i a b (wFeed1 tr i a b t))) := by
    intro p hp hp2
    unfold wFeed2 upd
    rw [e2, bk2 (31 + i) (by omega) (by omega), bk2 p hp hp2]
  have hlo1 : wSm (wFeed1 tr i a b t) (19 + i) 40 := wSm_al (bk1 _ (by omega) (by omega)) hlo0
  -- what the book holds, seen from both
  have keep0 : ∀ p, p = 0 ∨ p = 6 ∨ (871 ≤ p ∧ p < 1471) → wFeed2 tr i (wSpins tr i a b (wFeed0 i a b t)) p = wFeed0 i a b t p := fun p hp => by
    unfold wFeed2
    rw [upd_ne _ _ (by omega), wSpins_off tr i a b _ (by omega) hlo0 (by omega) (by omega) (by omega) (by omega)]
  have keep1 : ∀ p, p = 6 ∨ (871 ≤ p ∧ p < 1471) → wFeed2 tr i (wSpins tr i a b (wFeed1 tr i a b t)) p = wFeed1 tr i a b t p := fun p hp => by
    unfold wFeed2
    rw [upd_ne _ _ (by omega), wSpins_off tr i a b _ (by omega) hlo1 (by omega) (by omega) (by omega) (by omega)]
  have h63 : wSm (wFeed2 tr i (wSpins tr i a b (wFeed0 i a b t))) 6 150 := wSm_al (keep0 6 (by omega)) h60
  refine ⟨?_, ?_⟩
  · funext p
    by_cases hp : p = 6 ∨ (871 ≤ p ∧ p < 1471)
    · rw [keep1 p hp]
      unfold wFeedC wFeed1 wNote
      rw [keep0 6 (by omega), keep0 0 (by omega)]
      split
      · unfold upd
        rw [keep0 p (by omega)]
      · exact keep0 p (by omega)
    · unfold wFeedC
      rw [wNote_off tr _ _ i _ h63 (by omega) (by omega), bk3 p (by omega) (by omega)]
  · unfold wFed wSpun
    rw [em, sp.2]
