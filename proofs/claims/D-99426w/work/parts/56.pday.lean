/-! acts and days: the model's side, feeding and a day -/
set_option maxRecDepth 100000
theorem wNote_off (tr : Bool) (what which : Int32) (i : Nat) (t : Nat → Int32) (h6 : wSm t 6 150) {p : Nat} (hp : p ≠ 6) (hp2 : ¬ (871 ≤ p ∧ p < 1471)) : wNote tr what i which t p = t p := by
  unfold wNote
  split
  · rename_i hc
    have h1 := h6.1
    have h2 := h6.2
    have h3 : cv (t 6) ≠ 150 := fun e => hc.2 (by rw [h1, e]; rfl)
    rw [upd_ne _ _ hp, upd_ne _ _ (by omega), upd_ne _ _ (by omega), upd_ne _ _ (by omega), upd_ne _ _ (by omega)]
  · rfl
theorem wNote_6 (tr : Bool) (what which : Int32) (i : Nat) (t : Nat → Int32) (h6 : wSm t 6 150) : wSm (wNote tr what i which t) 6 150 := by
  unfold wNote
  split
  · rename_i hc
    have h1 := h6.1
    have h2 := h6.2
    have h3 : cv (t 6) ≠ 150 := fun e => hc.2 (by rw [h1, e]; rfl)
    refine wSm_of (n := cv (t 6) + 1) ?_ (by omega) (by decide)
    rw [upd_same, h1, cv_nI (by omega)]
    exact nI_1 _
  · exact h6
theorem wNote_al (tr : Bool) (what which : Int32) (i : Nat) (t : Nat → Int32) (h6 : wSm t 6 150) : wAl t (wNote tr what i which t) := fun p hp => wNote_off tr what which i t h6 (by omega) (by omega)
theorem wFeed0_al (i a : Nat) (b : Option Nat) (t : Nat → Int32) (hi : i < 12) : wAl t (wFeed0 i a b t) := (((((wAl.refl t).upd _ (by omega)).upd _ (by omega)).upd _ (by omega)).upd _ (by omega))
theorem wFeed0_6 (i a : Nat) (b : Option Nat) (t : Nat → Int32) (hi : i < 12) {p : Nat} (hp : p ≠ 1) (hp2 : p ≠ 2) (hp3 : p ≠ 7 + i) (hp4 : p ≠ 79 + i) : wFeed0 i a b t p = t p := by
  unfold wFeed0
  rw [upd_ne _ _ hp4, upd_ne _ _ hp2, upd_ne _ _ hp3, upd_ne _ _ hp]
/-- what spinning leaves alone -/
theorem wLays_off (i : Nat) (mark : Int32) (t : Nat → Int32) (hi : i < 12) (h : wSm t (19 + i) 40) {p : Nat} (hp : p ≠ 19 + i) (hp2 : ¬ (91 ≤ p ∧ p < 571)) : wLays i mark t p = t p := by
  unfold wLays
  split
  · rfl
  · rename_i hne
    have h1 := h.2
    have h2 := h.1
    have h3 : cv (t (19 + i)) ≠ 40 := fun e => hne (by rw [h2, e]; rfl)
    have e : hLo t i = cv (t (19 + i)) := rfl
    rw [upd_ne _ _ hp, upd_ne _ _ (by omega)]
theorem wSpin_off (tr : Bool) (i a : Nat) (b : Option Nat) (k : Nat) (x : (Nat → Int32) × Int32) (hi : i < 12) (h : wSm x.1 (19 + i) 40) {p : Nat} (h5 : p ≠ 5) (hp : p ≠ 19 + i) (hp2 : ¬ (91 ≤ p ∧ p < 571)) : (wSpin tr i a b k x).1 p = x.1 p := by
  have hd : wSm (wDraw x.1) (19 + i) 40 := wSm_al (upd_ne _ _ (by omega)) h
  have e5 : wDraw x.1 p = x.1 p := upd_ne _ _ h5
  unfold wSpin
  split
  · split
    · exact (wLays_off i _ _ hi hd hp hp2).trans e5
    · exact (wLays_off i _ _ hi hd hp hp2).trans e5
  · exact wLays_off i _ _ hi h hp hp2
theorem wSpun_off (tr : Bool) (i a : Nat) (b : Option Nat) (t : Nat → Int32) (hi : i < 12) (h : wSm t (19 + i) 40) {p : Nat} (h5 : p ≠ 5) (hp : p ≠ 19 + i) (hp2 : ¬ (91 ≤ p ∧ p < 571)) (n : Nat) : (fdN (wSpin tr i a b) (t, 0) n).1 p = t p :=
  (fdN_inv (fun _ (x : (Nat → Int32) × Int32) => x.1 p = t p ∧ wSm x.1 (19 + i) 40) ⟨rfl, h⟩ (fun k x _ hx => ⟨(wSpin_off tr i a b k x hi hx.2 h5 hp hp2).trans hx.1, (wSpin_al tr i a b k x hi hx.2).2⟩)).1
theorem wSpins_off (tr : Bool) (i a : Nat) (b : Option Nat) (t : Nat → Int32) (hi : i < 12) (h : wSm t (19 + i) 40) {p : Nat} (h3 : p ≠ 3) (h5 : p ≠ 5) (hp : p ≠ 19 + i) (hp2 : ¬ (91 ≤ p ∧ p < 571)) : wSpins tr i a b t p = t p := by
  unfold wSpins
  rw [upd_ne _ _ h3]
  exact wSpun_off tr i a b t hi h h5 hp hp2 _
theorem wSpins_al (tr : Bool) (i a : Nat) (b : Option Nat) (t : Nat → Int32) (hi : i < 12) (h : wSm t (19 + i) 40) : wAl t (wSpins tr i a b t) := fun p hp => wSpins_off tr i a b t hi h (by omega) (by omega) (by omega) (by omega)
theorem wSpins_lo (tr : Bool) (i a : Nat) (b : Option Nat) (t : Nat → Int32) (hi : i < 12) (h : wSm t (19 + i) 40) : wSm (wSpins tr i a b t) (19 + i) 40 := wSm_al (upd_ne _ _ (by omega)) (wSpun_al tr i a b t hi h _).2
theorem px_feeds {R : sMem} {q : Nat} (m : Nat) (s : mSt) {t : Nat → Int32} (hs : s.2 0 = t) {tr : Bool} (htr : s.1 27 = b01 tr) (hw : wGo R q t) {i a : Nat} {b : Option Nat} (hi : i < 12) (ha : a < hFc t) (hb : okB t b) (hlo : wSm t (19 + i) 40) (h6 : wSm t 6 150) : ∃ s', p_X3_feeds m (nI i) (nI a) (bI b) s = some (some (.int (wFed tr i a b t)), s') ∧ Sw s (wFeeds tr i a b t) s' := by
  have h10 : hFc t ≤ 10 := hw.2.2.1.1.2
  have ha10 : a < 10 := by omega
  have hb10 : ∀ k, b = some k → k < 10 := fun k hk => by have := hb k hk; omega
  have p1 := px_leaf m s ha10 hb10
  rw [hs] at p1
  -- the first four entries
  have al0 := wFeed0_al i a b t hi
  have h60 : wSm (wFeed0 i a b t) 6 150 := wSm_al (wFeed0_6 i a b t hi (by omega) (by omega) (by omega) (by omega)) h6
  have hlo0 : wSm (wFeed0 i a b t) (19 + i) 40 := wSm_al (wFeed0_6 i a b t hi (by omega) (by omega) (by omega) (by omega)) hlo
  have p2 := px_note m (mRowSet s 0 (wFeed0 i a b t)) (tr := tr) (by rw [mrs_1]; exact htr) (by rw [mrs_same]; exact h60) (if bI b = -1 then 0 else 1) (if bI b = -1 then nI a else 10 * nI a + bI b) i
  rw [mrs_same, mrs_mrs] at p2
  have p2' : p_X3_notes m (if bI b = -1 then 0 else 1) (nI i) (if bI b = -1 then nI a else 10 * nI a + bI b) (mRowSet s 0 (wFeed0 i a b t)) = some (none, mRowSet s 0 (wFeed1 tr i a b t)) := p2
  have al1 : wAl t (wFeed1 tr i a b t) := al0.trans (wNote_al tr _ _ i _ h60)
  have h61 : wSm (wFeed1 tr i a b t) 6 150 := wNote_6 tr _ _ i _ h60
  have hlo1 : wSm (wFeed1 tr i a b t) (19 + i) 40 := wSm_al (wNote_off tr _ _ i _ h60 (by omega) (by omega)) hlo0
  have hfc1 : hFc (wFeed1 tr i a b t) = hFc t := congrArg cv (al1 572 (by omega))
  obtain ⟨s3, p3, S3⟩ := px_spins m (mRowSet s 0 (wFeed1 tr i a b t)) (t := wFeed1 tr i a b t) (by rw [mrs_same]) (tr := tr) (by rw [mrs_1]; exact htr) (hw.al al1) hi (by rw [hfc1]; exact ha) (fun k hk => by rw [hfc1]; exact hb k hk) hlo1
  have al3 := al1.trans (wSpins_al tr i a b _ hi hlo1)
  have e3 : s3.2 0 = wSpins tr i a b (wFeed1 tr i a b t) := S3.2.1
  have S3' : Sw s (wSpins tr i a b (wFeed1 tr i a b t)) s3 := ⟨S3.1, S3.2.1, fun j h1 h2 => by rw [S3.2.2 j h1 h2, mrs_ne _ _ (by omega)]⟩
  obtain ⟨s4, p4, S4⟩ := px_strong m s3 (by rw [e3]; exact hw.al al3) hi
  rw [e3] at p4 S4
  have e4 : s4.2 0 = _ := S4.2.1
  have S4' := S3'.trans S4
  have h63 : wSm (wSpins tr i a b (wFeed1 tr i a b t)) 6 150 := wSm_al (wSpins_off tr i a b _ hi hlo1 (by omega) (by omega) (by omega) (by omega)) h61
  have h64 : wSm (wFeed2 tr i (wSpins tr i a b (wFeed1 tr i a b t))) 6 150 := wSm_al (upd_ne _ _ (by omega)) h63
  have p5 := px_hide m (mRowSet s4 0 (wFeed2 tr i (wSpins tr i a b (wFeed1 tr i a b t)))) (tr := tr) (by rw [mrs_1, S4'.1]; exact htr) (by rw [mrs_same]; exact h64) hi
  rw [mrs_same, mrs_mrs] at p5
  have e0 : upd (upd (upd (upd t 1 (t 1 - wLeaf t a b)) (7 + i) (t (7 + i) + (if bI b = -1 then 1 else 2))) 2 (t 2 + (if bI b = -1 then 0 else 1))) (79 + i) (t (79 + i) + 1) = wFeed0 i a b t := rfl
  have q1 : ∀ (s : mSt) p, p < 2355 → qAld s 0 (nI p) = some (s.2 0 p) := fun s p hp => qld_0 s hp
  have q2 : ∀ (s : mSt) p x, p < 2355 → qAst s 0 (nI p) x = some (mRowSet s 0 (upd (s.2 0) p x)) := fun s p x hp => qst_0 s hp x
  have a1 : ∀ s : mSt, qAld s 0 1 = some (s.2 0 1) := fun s => q1 s 1 (by omega)
  have a2 : ∀ s : mSt, qAld s 0 2 = some (s.2 0 2) := fun s => q1 s 2 (by omega)
  have b1 : ∀ (s : mSt) x, qAst s 0 1 x = some (mRowSet s 0 (upd (s.2 0) 1 x)) := fun s x => q2 s 1 x (by omega)
  have b2 : ∀ (s : mSt) x, qAst s 0 2 x = some (mRowSet s 0 (upd (s.2 0) 2 x)) := fun s x => q2 s 2 x (by omega)
  have c7 : (7 : Int32) + nI i = nI (7 + i) := nI_add 7 i
  have c79 : (79 : Int32) + nI i = nI (79 + i) := nI_add 79 i
  have c31 : (31 : Int32) + nI i = nI (31 + i) := nI_add 31 i
  have e5 : upd (wSpins tr i a b (wFeed1 tr i a b t)) (31 + i) (if wSpins tr i a b (wFeed1 tr i a b t) (31 + i) + wStrong (wSpins tr i a b (wFeed1 tr i a b t)) i ≤ 999 then wSpins tr i a b (wFeed1 tr i a b t) (31 + i) + wStrong (wSpins tr i a b (wFeed1 tr i a b t)) i else 999) = wFeed2 tr i (wSpins tr i a b (wFeed1 tr i a b t)) := rfl
  have res : p_X3_feeds m (nI i) (nI a) (bI b) s = if wFeed2 tr i (wSpins tr i a b (wFeed1 tr i a b t)) (7 + i) = 9 then some (some (.int (wFed tr i a b t)), mRowSet s4 0 (wHide tr i (wFeed2 tr i (wSpins tr i a b (wFeed1 tr i a b t))))) else some (some (.int (wFed tr i a b t)), mRowSet s4 0 (wFeed2 tr i (wSpins tr i a b (wFeed1 tr i a b t)))) := by
    simp (disch := omega) only [p_X3_feeds, mRow_0, obS, a1, hs, p1, pcI, b1, mrs_same, mrs_mrs, c7, q1, q2, upd_ne, a2, b2, c79, e0, p2', pcV, p3, e3, p4, c31, px_lesser, e4, e5, p5]
    have e7 : wFeed2 tr i (wSpins tr i a b (wFeed1 tr i a b t)) (7 + i) = wSpins tr i a b (wFeed1 tr i a b t) (7 + i) := upd_ne _ _ (by omega)
    rw [e7]
    rfl
  rw [res]
  unfold wFeeds
  split
  · exact ⟨_, rfl, S4'.world⟩
  · exact ⟨_, rfl, S4'.world⟩
