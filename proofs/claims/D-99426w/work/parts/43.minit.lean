/-! the model made: its first state -/
set_option maxRecDepth 100000
def mPre (M : sMem) (fs : List Value) (k u : Nat) : sMem := (M.1, M.2.1 + 1 + k, u, fun q => if q = M.2.1 then some (sObj 3 fs) else if M.2.1 < q ∧ q < M.2.1 + 1 + k then some (sArr 0 (mLen (q - M.2.1 - 1)) (fun _ => 0)) else M.2.2.2 q)
theorem mPre_new (M : sMem) (fs : List Value) (k u : Nat) (n : Int32) (hn : n.toNatClampNeg = mLen k) (h0 : ¬ (n < 0 ∨ 100000000 ≤ n.toNatClampNeg)) (K : Nat → sMem → Option (sRes × sMem)) : sNewA (mPre M fs k u) 0 n K = K (M.2.1 + 1 + k) (mPre M fs (k + 1) (u + mLen k)) := by
  unfold sNewA
  rw [if_neg h0, hn]
  have e : sNew (mPre M fs k u) (sArr 0 (mLen k) (fun _ => 0)) (mLen k) = mPre M fs (k + 1) (u + mLen k) := by
    unfold sNew mPre
    simp only [Prod.mk.injEq, true_and]
    refine ⟨by omega, ?_⟩
    funext q
    by_cases hq : q = M.2.1 + 1 + k
    · have e9 : q - M.2.1 - 1 = k := by omega
      rw [if_pos hq, if_neg (by omega), if_pos (by omega), e9]
    · rw [if_neg hq]
      by_cases h1 : q = M.2.1
      · rw [if_pos h1, if_pos h1]
      · rw [if_neg h1, if_neg h1]
        by_cases h2 : M.2.1 < q ∧ q < M.2.1 + 1 + k
        · rw [if_pos h2, if_pos (by omega)]
        · rw [if_neg h2, if_neg (by omega)]
  rw [← e]
  rfl
theorem mPre_put (M : sMem) (hB : M.1 ≤ M.2.1) (fs : List Value) (k u j : Nat) (v : Value) (hj : j < fs.length) : sPut (mPre M fs k u) 3 j M.2.1 v = some (mPre M (fs.set j v) k u) := by
  have hf : sFs (mPre M fs k u) 3 M.2.1 = some fs := by simp [sFs, mPre, sObj]
  unfold sPut
  rw [hf]
  show (if _ then _ else _) = _
  rw [if_pos ⟨hB, hj⟩]
  unfold sUp mPre
  simp only [Option.some.injEq, Prod.mk.injEq, true_and]
  funext q
  by_cases h1 : q = M.2.1
  · rw [if_pos h1, if_pos h1]
  · rw [if_neg h1, if_neg h1, if_neg h1]
def mF0 : List Value := [.null, .null, .null, .null, .int 0, .int 0, .null, .null, .null, .null, .null, .null, .int 0, .int 0, .int 0, .int 0, .int 0, .int 0, .int 0, .int 0, .int 0, .int 0, .int 0, .int 0, .int 0, .int 0, .int 0, .int 0, .null, .null, .null, .null, .null]
def mS00 : mSt := (fun k => if k = 25 then -1 else 0, fun _ _ => 0)
def mS0 : mSt := mRowSet mS00 0 (upd (mS00.2 0) 1 100)
theorem mPre_zero (M : sMem) : sNew M (sObj 3 mF0) 33 = mPre M mF0 0 (M.2.2.1 + 33) := by
  unfold sNew mPre
  simp only [Prod.mk.injEq, true_and]
  funext q
  by_cases h1 : q = M.2.1
  · rw [if_pos h1, if_pos h1]
  · rw [if_neg h1, if_neg h1, if_neg (by omega)]
theorem mPre_full (M : sMem) (u : Nat) (fs : List Value) (h : fs = mFs M.2.1 mS00) : mPre M fs 15 u = mPut (M.1, M.2.1 + 16, u, M.2.2.2) M.2.1 mS00 := by
  subst h
  unfold mPre mPut
  simp only [Prod.mk.injEq, true_and]
  funext q
  by_cases h1 : q = M.2.1
  · rw [if_pos h1, if_pos h1]
  · rw [if_neg h1, if_neg h1]
    by_cases h2 : M.2.1 < q ∧ q < M.2.1 + 1 + 15
    · rw [if_pos h2, if_pos (by omega)]
      rfl
    · rw [if_neg h2, if_neg (by omega)]
theorem q_X3_init (M : sMem) (hB : M.1 ≤ M.2.1) (u : Nat) : ∃ u', f_X3_init M.2.1 (mPre M mF0 0 u) = some (.inl none, mPut (M.1, M.2.1 + 16, u', M.2.2.2) M.2.1 mS0) ∧ u' = u + 20410 := by
  refine ⟨_, ?_, rfl⟩
  unfold f_X3_init
  rw [mPre_new M _ 0 _ 2355 (by decide) (by decide)]
  rw [mPre_put M hB _ _ _ 0 _ (by simp [mF0]), Option.bind_some]
  rw [mPre_new M _ 1 _ 2355 (by decide) (by decide)]
  rw [mPre_put M hB _ _ _ 1 _ (by simp [mF0]), Option.bind_some]
  rw [mPre_new M _ 2 _ 3426 (by decide) (by decide)]
  rw [mPre_put M hB _ _ _ 2 _ (by simp [mF0]), Option.bind_some]
  rw [mPre_new M _ 3 _ 571 (by decide) (by decide)]
  rw [mPre_put M hB _ _ _ 3 _ (by simp [mF0]), Option.bind_some]
  rw [mPre_new M _ 4 _ 64 (by decide) (by decide)]
  rw [mPre_put M hB _ _ _ 6 _ (by simp [mF0]), Option.bind_some]
  rw [mPre_new M _ 5 _ 820 (by decide) (by decide)]
  rw [mPre_put M hB _ _ _ 7 _ (by simp [mF0]), Option.bind_some]
  rw [mPre_new M _ 6 _ 90 (by decide) (by decide)]
  rw [mPre_put M hB _ _ _ 8 _ (by simp [mF0]), Option.bind_some]
  rw [mPre_new M _ 7 _ 400 (by decide) (by decide)]
  rw [mPre_put M hB _ _ _ 9 _ (by simp [mF0]), Option.bind_some]
  rw [mPre_new M _ 8 _ 420 (by decide) (by decide)]
  rw [mPre_put M hB _ _ _ 10 _ (by simp [mF0]), Option.bind_some]
  rw [mPre_new M _ 9 _ 11 (by decide) (by decide)]
  rw [mPre_put M hB _ _ _ 11 _ (by simp [mF0]), Option.bind_some]
  rw [mPre_put M hB _ _ _ 25 _ (by simp [mF0]), Option.bind_some]
  rw [mPre_new M _ 10 _ 9 (by decide) (by decide)]
  rw [mPre_put M hB _ _ _ 28 _ (by simp [mF0]), Option.bind_some]
  rw [mPre_new M _ 11 _ 4096 (by decide) (by decide)]
  rw [mPre_put M hB _ _ _ 29 _ (by simp [mF0]), Option.bind_some]
  rw [mPre_new M _ 12 _ 1681 (by decide) (by decide)]
  rw [mPre_put M hB _ _ _ 30 _ (by simp [mF0]), Option.bind_some]
  rw [mPre_new M _ 13 _ 16 (by decide) (by decide)]
  rw [mPre_put M hB _ _ _ 31 _ (by simp [mF0]), Option.bind_some]
  rw [mPre_new M _ 14 _ 4096 (by decide) (by decide)]
  rw [mPre_put M hB _ _ _ 32 _ (by simp [mF0]), Option.bind_some]
  rw [mPre_full M]
  · rw [lnN_0, Option.bind_some, lnS_0]
    · rfl
    · exact hB
  · rfl
