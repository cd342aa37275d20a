/-! acts and days keep the world's numbers -/
set_option maxRecDepth 100000
theorem hN_eq {t t' : Nat → Int32} (h : t' 571 = t 571) : hN t' = hN t := by unfold hN; rw [h]
theorem wDyn.of {t t' : Nat → Int32} (h : wDyn t) (hn : t' 571 = t 571) (h1 : ∀ i, i < hN t → t' (19 + i) = t (19 + i) ∧ t' (43 + i) = t (43 + i) ∧ t' (55 + i) = t (55 + i) ∧ t' (67 + i) = t (67 + i)) (h2 : ∀ p, p < 480 → t' (91 + p) = t (91 + p)) (h3 : wSm t' 6 150) (h4 : ∀ i, hN t ≤ i → i < 12 → t' (79 + i) = t (79 + i)) : wDyn t' := by
  unfold wDyn
  rw [hN_eq hn]
  refine ⟨fun i hi => ?_, fun p hp => wSm_al (h2 p hp) (h.2.1 p hp), h3, fun i hi hi2 => by rw [h4 i hi hi2]; exact h.2.2.2 i hi hi2⟩
  obtain ⟨a1, a2, a3, a4⟩ := h1 i hi
  obtain ⟨b1, b2, b3, b4, b5⟩ := h.1 i hi
  exact ⟨wSm_al a1 b1, by rw [a2]; exact b2, by rw [a3]; exact b3, by rw [a4]; exact b4, by rw [a4, a1]; exact b5⟩
theorem wDyn_note (tr : Bool) (what which : Int32) (i : Nat) {t : Nat → Int32} (hN12 : hN t ≤ 12) (h : wDyn t) : wDyn (wNote tr what i which t) := by
  have h6 := h.2.2.1
  exact h.of (wNote_off tr _ _ _ _ h6 (by omega) (by omega)) (fun i hi => ⟨wNote_off tr _ _ _ _ h6 (by omega) (by omega), wNote_off tr _ _ _ _ h6 (by omega) (by omega), wNote_off tr _ _ _ _ h6 (by omega) (by omega), wNote_off tr _ _ _ _ h6 (by omega) (by omega)⟩) (fun p hp => wNote_off tr _ _ _ _ h6 (by omega) (by omega)) (wNote_6 tr _ _ _ _ h6) (fun i _ hi => wNote_off tr _ _ _ _ h6 (by omega) (by omega))
theorem wDyn_coc {t : Nat → Int32} {i : Nat} (hN12 : hN t ≤ 12) (hi : i < hN t) (h : wDyn t) {v : Int32} (hv : ∃ c, c ≤ 10000 ∧ v + 1 = nI c) : wDyn (upd t (43 + i) v) := by
  unfold wDyn
  rw [hN_eq (upd_ne t v (show 571 ≠ 43 + i by omega))]
  refine ⟨fun j hj => ?_, fun p hp => wSm_al (upd_ne _ _ (by omega)) (h.2.1 p hp), wSm_al (upd_ne _ _ (by omega)) h.2.2.1, fun j hj hj2 => by rw [upd_ne _ _ (by omega)]; exact h.2.2.2 j hj hj2⟩
  obtain ⟨b1, b2, b3, b4, b5⟩ := h.1 j hj
  refine ⟨wSm_al (upd_ne _ _ (by omega)) b1, ?_, by rw [upd_ne _ _ (by omega)]; exact b3, by rw [upd_ne _ _ (by omega)]; exact b4, by rw [upd_ne _ _ (by omega), upd_ne _ _ (by omega)]; exact b5⟩
  by_cases e : j = i
  · subst e
    rw [upd_same]
    exact hv
  · rw [upd_ne _ _ (by omega)]
    exact b2
theorem wDyn_hide (tr : Bool) {i : Nat} {t : Nat → Int32} (hN12 : hN t ≤ 12) (hi : i < hN t) (h : wDyn t) : wDyn (wHide tr i t) := by
  unfold wHide
  refine wDyn_note tr _ _ i ?_ (wDyn_coc hN12 hi h ⟨1, by omega, rfl⟩)
  rw [hN_eq (upd_ne t 0 (show 571 ≠ 43 + i by omega))]
  exact hN12
theorem wHide_off (tr : Bool) {i : Nat} {t : Nat → Int32} (h6 : wSm t 6 150) {p : Nat} (hp : p ≠ 6) (hp2 : ¬ (871 ≤ p ∧ p < 1471)) (hp3 : p ≠ 43 + i) (hi : i < 12) : wHide tr i t p = t p := by
  unfold wHide
  rw [wNote_off tr _ _ _ _ (wSm_al (upd_ne _ _ (by omega)) h6) hp hp2, upd_ne _ _ hp3]
theorem wHide_al (tr : Bool) {i : Nat} {t : Nat → Int32} (h6 : wSm t 6 150) (hi : i < 12) : wAl t (wHide tr i t) := fun p hp => wHide_off tr h6 (by omega) (by omega) (by omega) hi
theorem wDyn_lays {t : Nat → Int32} {i : Nat} (hN12 : hN t ≤ 12) (hi : i < hN t) (hfl : t (67 + i) ≠ 1) (h : wDyn t) {mark : Int32} (hm : ∃ k, k ≤ 7 ∧ mark = nI k) : wDyn (wLays i mark t) := by
  have hlo := (h.1 i hi).1
  unfold wLays
  split
  · exact h
  · rename_i hne
    have h1 := hlo.2
    have h2 := hlo.1
    have h3 : cv (t (19 + i)) ≠ 40 := fun e => hne (by rw [h2, e]; rfl)
    have e : hLo t i = cv (t (19 + i)) := rfl
    obtain ⟨k, hk, rfl⟩ := hm
    unfold wDyn
    rw [hN_eq (t := t) (by rw [upd_ne _ _ (by omega), upd_ne _ _ (by omega)])]
    refine ⟨fun j hj => ?_, fun p hp => ?_, wSm_al (by rw [upd_ne _ _ (by omega), upd_ne _ _ (by omega)]) h.2.2.1, fun j hj hj2 => by rw [upd_ne _ _ (by omega), upd_ne _ _ (by omega)]; exact h.2.2.2 j hj hj2⟩
    · obtain ⟨b1, b2, b3, b4, b5⟩ := h.1 j hj
      refine ⟨?_, by rw [upd_ne _ _ (by omega), upd_ne _ _ (by omega)]; exact b2, by rw [upd_ne _ _ (by omega), upd_ne _ _ (by omega)]; exact b3, by rw [upd_ne _ _ (by omega), upd_ne _ _ (by omega)]; exact b4, ?_⟩
      · by_cases ej : j = i
        · subst ej
          refine wSm_of (n := cv (t (19 + j)) + 1) ?_ (by omega) (by decide)
          rw [upd_same, h2, cv_nI (by omega)]
          exact nI_1 _
        · exact wSm_al (by rw [upd_ne _ _ (by omega), upd_ne _ _ (by omega)]) b1
      · rw [upd_ne _ _ (by omega), upd_ne _ _ (by omega)]
        intro hj1
        by_cases ej : j = i
        · subst ej
          exact absurd hj1 hfl
        · rw [upd_ne _ _ (by omega), upd_ne _ _ (by omega)]
          exact b5 hj1
    · by_cases ep : 91 + p = 91 + 40 * i + hLo t i
      · refine wSm_of (n := k) ?_ hk (by decide)
        rw [upd_ne _ _ (by omega), ep, upd_same]
      · exact wSm_al (by rw [upd_ne _ _ (by omega), upd_ne _ _ ep]) (h.2.1 p hp)
theorem wDyn_draw {t : Nat → Int32} (hN12 : hN t ≤ 12) (h : wDyn t) : wDyn (wDraw t) := h.of (upd_ne _ _ (by omega)) (fun i hi => ⟨upd_ne _ _ (by omega), upd_ne _ _ (by omega), upd_ne _ _ (by omega), upd_ne _ _ (by omega)⟩) (fun p hp => upd_ne _ _ (by omega)) (wSm_al (upd_ne _ _ (by omega)) h.2.2.1) (fun i _ hi => upd_ne _ _ (by omega))
theorem wNext_7 {mark : Int32} (h : ∃ k, k ≤ 7 ∧ mark = nI k) : ∃ k, k ≤ 7 ∧ wNext mark = nI k := by
  obtain ⟨k, hk, rfl⟩ := h
  refine ⟨(k + 1) % 8, by omega, ?_⟩
  have e : nI k + 1 = nI (k + 1) := nI_1 k
  have e8 : (8 : Int32) = nI 8 := rfl
  unfold wNext
  rw [e, e8]
  exact pk_rem (by omega) (by omega) (by omega)
theorem wMark_7 {t : Nat → Int32} (hw : wFac t) {a i : Nat} {b : Option Nat} (ha : a < hFc t) (hb : okB t b) (hi : i < wMany t a b) : ∃ k, k ≤ 7 ∧ wMark t a b i = nI k := by
  have A := (hw.2 a ha).2.2.2.2
  unfold wMark
  rw [if_pos hi]
  cases b with
  | none =>
    have := A i (by simpa [wMany] using hi)
    exact ⟨_, this.2, this.1⟩
  | some b =>
    have B := (hw.2 b (hb b rfl)).2.2.2.2
    have hi2 : i < hMc t a + hMc t b := hi
    simp only []
    by_cases c : 2 * min (hMc t a) (hMc t b) ≤ i
    · rw [if_pos c]
      by_cases c2 : hMc t a ≤ min (hMc t a) (hMc t b)
      · rw [if_pos c2]
        have := B (i - min (hMc t a) (hMc t b)) (by omega)
        exact ⟨_, this.2, this.1⟩
      · rw [if_neg c2]
        have := A (i - min (hMc t a) (hMc t b)) (by omega)
        exact ⟨_, this.2, this.1⟩
    · rw [if_neg c]
      by_cases c2 : i % 2 = 0
      · rw [if_pos c2]
        have := A (i / 2) (by omega)
        exact ⟨_, this.2, this.1⟩
      · rw [if_neg c2]
        have := B (i / 2) (by omega)
        exact ⟨_, this.2, this.1⟩
/-- worms, their numbers, and the law's and facts' numbers together -/
def wAct (t : Nat → Int32) : Prop := wStat t ∧ wDyn t
theorem wAct.n {t : Nat → Int32} (h : wAct t) : hN t ≤ 12 := h.1.1.1.2
theorem hN_al {t t' : Nat → Int32} (h : wAl t t') : hN t' = hN t := hN_eq (h 571 (by omega))
theorem hFc_al {t t' : Nat → Int32} (h : wAl t t') : hFc t' = hFc t := congrArg cv (h 572 (by omega))
theorem wAct_spin (tr : Bool) {i a k : Nat} {b : Option Nat} {x : (Nat → Int32) × Int32} (h : wAct x.1) (hi : i < hN x.1) (ha : a < hFc x.1) (hb : okB x.1 b) (hfl : x.1 (67 + i) ≠ 1) (hk : k < wMany x.1 a b) : wAct (wSpin tr i a b k x).1 := by
  have hn := h.n
  have hlo := (h.2.1 i hi).1
  refine ⟨wStat_al (wSpin_al tr i a b k x (by omega) hlo).1 h.1, ?_⟩
  have hm := wMark_7 h.1.2.1 ha hb hk
  have hnd : hN (wDraw x.1) = hN x.1 := hN_al (wDraw_al x.1)
  have hf5 : wDraw x.1 (67 + i) ≠ 1 := by
    rw [show wDraw x.1 (67 + i) = x.1 (67 + i) from upd_ne _ _ (by omega)]
    exact hfl
  unfold wSpin
  split
  · split
    · exact wDyn_lays (by omega) (by omega) hf5 (wDyn_draw hn h.2) hm
    · exact wDyn_lays (by omega) (by omega) hf5 (wDyn_draw hn h.2) (wNext_7 hm)
  · exact wDyn_lays hn hi hfl h.2 hm
theorem wDyn_safe {t t' : Nat → Int32} (hN12 : hN t ≤ 12) (h : wDyn t) (e : ∀ p, p = 6 ∨ (19 ≤ p ∧ p < 31) ∨ (43 ≤ p ∧ p < 79) ∨ (79 + hN t ≤ p ∧ p < 91) ∨ (91 ≤ p ∧ p < 572) → t' p = t p) : wDyn t' := h.of (e _ (by omega)) (fun i hi => ⟨e _ (by omega), e _ (by omega), e _ (by omega), e _ (by omega)⟩) (fun p hp => e _ (by omega)) (wSm_al (e _ (by omega)) h.2.2.1) (fun i hi hi2 => e _ (by omega))
theorem wAct_spins (tr : Bool) {i a : Nat} {b : Option Nat} {t : Nat → Int32} (h : wAct t) (hi : i < hN t) (ha : a < hFc t) (hb : okB t b) (hfl : t (67 + i) ≠ 1) : wAct (wSpins tr i a b t) := by
  have hn := h.n
  have hlo := (h.2.1 i hi).1
  have h10 : hFc t ≤ 10 := h.1.2.1.1.2
  have ha10 : a < 10 := by omega
  have hb10 : ∀ k, b = some k → k < 10 := fun k hk => by have := hb k hk; omega
  have key : ∀ n, n ≤ wMany t a b → wAct (fdN (wSpin tr i a b) (t, 0) n).1 := by
    intro n hnm
    refine fdN_inv (fun _ (x : (Nat → Int32) × Int32) => wAct x.1 ∧ wAl t x.1 ∧ x.1 (67 + i) = t (67 + i)) ⟨h, wAl.refl t, rfl⟩ (fun k x hk hx => ?_) |>.1
    obtain ⟨x1, x2, x3⟩ := hx
    have hlx := (x1.2.1 i (by rw [hN_al x2]; exact hi)).1
    refine ⟨wAct_spin tr x1 (by rw [hN_al x2]; exact hi) (by rw [hFc_al x2]; exact ha) (fun k hk => by rw [hFc_al x2]; exact hb k hk) (by rw [x3]; exact hfl) (by rw [wMany_al x2 ha10 hb10]; omega), x2.trans (wSpin_al tr i a b k x (by omega) hlx).1, ?_⟩
    rw [wSpin_off tr i a b k x (by omega) hlx (by omega) (by omega) (by omega)]
    exact x3
  have hw := key _ (Nat.le_refl _)
  refine ⟨wStat_al (wSpins_al tr i a b t (by omega) hlo) h.1, ?_⟩
  exact wDyn_safe (t := (wSpun tr i a b t).1) hw.n hw.2 (fun p hp => upd_ne _ _ (by omega))
theorem wAct_feeds (tr : Bool) {i a : Nat} {b : Option Nat} {t : Nat → Int32} (h : wAct t) (hi : i < hN t) (ha : a < hFc t) (hb : okB t b) (hfl : t (67 + i) ≠ 1) : wAct (wFeeds tr i a b t) := by
  have hn := h.n
  have al0 := wFeed0_al i a b t (by omega)
  have off0 : ∀ p, p ≠ 1 → p ≠ 2 → p ≠ 7 + i → p ≠ 79 + i → wFeed0 i a b t p = t p := fun p => wFeed0_6 i a b t (by omega)
  have w0 : wAct (wFeed0 i a b t) := ⟨wStat_al al0 h.1, wDyn_safe hn h.2 (fun p hp => off0 p (by omega) (by omega) (by omega) (by omega))⟩
  have h60 := w0.2.2.2.1
  have al1 : wAl t (wFeed1 tr i a b t) := al0.trans (wNote_al tr _ _ i _ h60)
  have w1 : wAct (wFeed1 tr i a b t) := ⟨wStat_al al1 h.1, wDyn_note tr _ _ i (by rw [hN_al al0]; exact hn) w0.2⟩
  have f1 : wFeed1 tr i a b t (67 + i) ≠ 1 := by
    unfold wFeed1
    rw [wNote_off tr _ _ i _ h60 (by omega) (by omega), off0 _ (by omega) (by omega) (by omega) (by omega)]
    exact hfl
  have hlo1 := (w1.2.1 i (by rw [hN_al al1]; exact hi)).1
  have w2 := wAct_spins tr w1 (by rw [hN_al al1]; exact hi) (by rw [hFc_al al1]; exact ha) (fun k hk => by rw [hFc_al al1]; exact hb k hk) f1
  have al2 := al1.trans (wSpins_al tr i a b _ (by omega) hlo1)
  have al3 : wAl t (wFeed2 tr i (wSpins tr i a b (wFeed1 tr i a b t))) := al2.upd _ (by omega)
  have w3 : wAct (wFeed2 tr i (wSpins tr i a b (wFeed1 tr i a b t))) := ⟨wStat_al al3 h.1, wDyn_safe w2.n w2.2 (fun p hp => upd_ne _ _ (by omega))⟩
  unfold wFeeds
  split
  · exact ⟨wStat_al (al3.trans (wHide_al tr w3.2.2.2.1 (by omega))) h.1, wDyn_hide tr w3.n (by rw [hN_al al3]; exact hi) w3.2⟩
  · exact w3
theorem wFeeds_al (tr : Bool) {i a : Nat} {b : Option Nat} {t : Nat → Int32} (h : wAct t) (hi : i < hN t) : wAl t (wFeeds tr i a b t) := by
  have hn := h.n
  have al0 := wFeed0_al i a b t (by omega)
  have off0 : ∀ p, p ≠ 1 → p ≠ 2 → p ≠ 7 + i → p ≠ 79 + i → wFeed0 i a b t p = t p := fun p => wFeed0_6 i a b t (by omega)
  have w0 : wDyn (wFeed0 i a b t) := wDyn_safe hn h.2 (fun p hp => off0 p (by omega) (by omega) (by omega) (by omega))
  have h60 := w0.2.2.1
  have al1 : wAl t (wFeed1 tr i a b t) := al0.trans (wNote_al tr _ _ i _ h60)
  have w1 : wDyn (wFeed1 tr i a b t) := wDyn_note tr _ _ i (by rw [hN_al al0]; exact hn) w0
  have hlo1 := (w1.1 i (by rw [hN_al al1]; exact hi)).1
  have al2 := al1.trans (wSpins_al tr i a b _ (by omega) hlo1)
  have al3 : wAl t (wFeed2 tr i (wSpins tr i a b (wFeed1 tr i a b t))) := al2.upd _ (by omega)
  have h62 : wSm (wFeed2 tr i (wSpins tr i a b (wFeed1 tr i a b t))) 6 150 := by
    refine wSm_al ?_ w1.2.2.1
    unfold wFeed2
    rw [upd_ne _ _ (by omega), wSpins_off tr i a b _ (by omega) hlo1 (by omega) (by omega) (by omega) (by omega)]
  unfold wFeeds
  split
  · exact al3.trans (wHide_al tr h62 (by omega))
  · exact al3
