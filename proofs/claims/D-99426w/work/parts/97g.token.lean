/-! tokens: what both sides read -/
set_option maxRecDepth 100000
def rw (n : Nat) (u : Nat → Int32) (k : Nat) : Int32 := if k < n then u k else -1
theorem rw_lt {n : Nat} {u : Nat → Int32} {k : Nat} (h : k < n) : rw n u k = u k := if_pos h
theorem rw_ge {n : Nat} {u : Nat → Int32} {k : Nat} (h : n ≤ k) : rw n u k = -1 := if_neg (by omega)
/-- the tape of both -/
def tpC (S : hS) (n : Nat) (u : Nat → Int32) : Prop := n ≤ 400 ∧ S.1 1 = .int (nI n) ∧ ∀ k, k < n → S.2.1 1 k &&& 255 = u k
def tpM (s : mSt) (n : Nat) (u : Nat → Int32) : Prop := n ≤ 400 ∧ s.1 16 = nI n ∧ s.2 7 = u
theorem raw_c {A : hA} {R : sMem} {S : hS} {n : Nat} {u : Nat → Int32} (hg : hG A) (h : tpC S n u) {k : Nat} (hk : k ≤ 1000) : f_X0_raw (hX A) (nI k) (hMem A R S) = some (.inl (some (.int (rw n u k))), hMem A R S) := by
  obtain ⟨hn, h1, h2⟩ := h
  by_cases c : k < n
  · have c1 : ¬ nI n ≤ nI k := by
      rw [nI_leI (by omega) (by omega)]
      omega
    have l : sBald (hMem A R S) (hRa A 1) (nI k) = some (S.2.1 1 k) := hq_ld1 hg R S (by omega)
    simp only [f_X0_raw, xgI_1 hg, h1, hvI_int, obS, if_neg c1, xgN_0 hg, l, h2 k c, rw_lt c]
  · have c1 : nI n ≤ nI k := by
      rw [nI_leI (by omega) (by omega)]
      omega
    simp only [f_X0_raw, xgI_1 hg, h1, hvI_int, obS, if_pos c1, rw_ge (Nat.le_of_not_lt c)]
theorem see_m {s : mSt} {n : Nat} {u : Nat → Int32} (h : tpM s n u) (m : Nat) {k : Nat} (hk : k ≤ 1000) : p_X3_see m (nI k) s = some (some (.int (rw n u k)), s) := by
  obtain ⟨hn, h1, h2⟩ := h
  have r9 : mRow 9 = some 7 := by decide
  by_cases c : k < n
  · have c1 : ¬ nI n ≤ nI k := by
      rw [nI_leI (by omega) (by omega)]
      omega
    simp only [p_X3_see, qg, h1, obS, if_neg c1, r9, qld_7 s (p := k) (by omega), h2, rw_lt c]
  · have c1 : nI n ≤ nI k := by
      rw [nI_leI (by omega) (by omega)]
      omega
    simp only [p_X3_see, qg, h1, obS, if_pos c1, rw_ge (Nat.le_of_not_lt c)]
/-- text j stands from fr to e -/
def spR (u : Nat → Int32) (fr j : Nat) : Nat → Nat → Bool
  | 0, _ => true
  | d + 1, k => if u (fr + k) = (txByt j).getD k 0 then spR u fr j d (k + 1) else false
theorem spR_iff {u : Nat → Int32} {fr j : Nat} : ∀ (d k : Nat), spR u fr j d k = true ↔ ∀ i, k ≤ i → i < k + d → u (fr + i) = (txByt j).getD i 0
  | 0, k => by
    simp only [spR, true_iff]
    intro i h1 h2
    omega
  | d + 1, k => by
    unfold spR
    by_cases c : u (fr + k) = (txByt j).getD k 0
    · rw [if_pos c, spR_iff d (k + 1)]
      constructor
      · intro q i h1 h2
        by_cases e : i = k
        · rw [e]; exact c
        · exact q i (by omega) (by omega)
      · intro q i h1 h2
        exact q i (by omega) (by omega)
    · rw [if_neg c]
      constructor
      · intro q
        cases q
      · intro q
        exact absurd (q k (Nat.le_refl _) (by omega)) c
def splB (u : Nat → Int32) (fr e j : Nat) : Bool := if txLen j = e - fr then spR u fr j (txLen j) 0 else false
theorem splB_iff {u : Nat → Int32} {fr e j : Nat} : splB u fr e j = true ↔ (txLen j = e - fr ∧ ∀ k, k < txLen j → u (fr + k) = (txByt j).getD k 0) := by
  unfold splB
  by_cases c : txLen j = e - fr
  · rw [if_pos c, spR_iff]
    exact ⟨fun q => ⟨c, fun k hk => q k (by omega) (by omega)⟩, fun q i _ h2 => q.2 i (by omega)⟩
  · rw [if_neg c]
    constructor
    · intro q
      cases q
    · intro q
      exact absurd q.1 c
theorem tx_inj : ∀ i, i < 26 → ∀ j, j < 26 → txLen i = txLen j → (∀ k, k < txLen j → (txByt i).getD k 0 = (txByt j).getD k 0) → i = j := by decide +kernel
theorem splB_inj {u : Nat → Int32} {fr e i j : Nat} (hi : i < 26) (hj : j < 26) (h1 : splB u fr e i = true) (h2 : splB u fr e j = true) : i = j := by
  rw [splB_iff] at h1 h2
  exact tx_inj i hi j hj (h1.1.trans h2.1.symm) (fun k hk => (h1.2 k (by rw [h1.1, ← h2.1]; exact hk)).symm.trans (h2.2 k hk))
theorem nI_mn {a b : Nat} (h : b ≤ a) : nI a - nI b = nI (a - b) := by
  have : nI (a - b) + nI b = nI a := by rw [nI_add]; congr 1; omega
  rw [← this]
  exact Int32.add_sub_cancel _ _
theorem spells_L {A : hA} {R : sMem} {S : hS} {g : Nat → Nat} {n fr e : Nat} {u : Nat → Int32} (hg : hG A) (hT : ∀ j, j < 26 → sStg (hMem A R S) (g (10 + j)) (txLen j) (fun i => (txByt j).getD i 0)) (h : tpC S n u) (h11 : S.1 11 = .int (nI fr)) (he : fr ≤ e) (hen : e ≤ n) {j : Nat} (hj : j < 26) (hl : txLen j = e - fr) : ∀ (d k : Nat), k + d = txLen j → ∀ fu, d < fu → f_X0_spells_L20 (hX A) (g (10 + j)) fu (nI k) (hMem A R S) = some (.inl (some (.int (b01 (spR u fr j d k)))), hMem A R S)
  | 0, k, hk, fu, hf => by
    obtain ⟨fu, rfl⟩ : ∃ p, fu = p + 1 := ⟨fu - 1, by omega⟩
    have h10 := tx_small j hj
    have k0 : k = txLen j := by omega
    subst k0
    unfold f_X0_spells_L20
    simp only [stg_chk (hT j hj), stg_len (hT j hj) (by omega), sCallI, hcI, if_pos (Int32.le_refl _)]
    rfl
  | d + 1, k, hk, fu, hf => by
    obtain ⟨fu, rfl⟩ : ∃ p, fu = p + 1 := ⟨fu - 1, by omega⟩
    have h10 := tx_small j hj
    have hn := h.1
    have c1 : ¬ nI (txLen j) ≤ nI k := by
      rw [nI_leI (by omega) (by omega)]
      omega
    have ih := spells_L hg hT h h11 he hen hj hl d (k + 1) (by omega) fu (by omega)
    have e1 : nI k + 1 = nI (k + 1) := (nI_succ k).symm
    have er := raw_c (R := R) hg h (k := fr + k) (by omega)
    rw [← nI_add, rw_lt (show fr + k < n by omega)] at er
    have ec := stg_char (hT j hj) (by omega) (k := k) (by omega) (tx_char j hj k (by omega))
    unfold f_X0_spells_L20
    simp only [stg_chk (hT j hj), stg_len (hT j hj) (by omega), sCallI, hcI, if_neg c1, xgI_11 hg, h11, hvI_int, obS, hx_chk hg, er, ec, e1, ih]
    rw [show spR u fr j (d + 1) k = (if u (fr + k) = (txByt j).getD k 0 then spR u fr j d (k + 1) else false) from rfl]
    by_cases c : u (fr + k) = (txByt j).getD k 0
    · rw [if_pos c, if_pos c]
    · rw [if_neg c, if_neg c]
      rfl
theorem spells_c {A : hA} {R : sMem} {S : hS} {g : Nat → Nat} {n fr e : Nat} {u : Nat → Int32} (hg : hG A) (hT : ∀ j, j < 26 → sStg (hMem A R S) (g (10 + j)) (txLen j) (fun i => (txByt j).getD i 0)) (h : tpC S n u) (h10 : S.1 10 = .int (nI e)) (h11 : S.1 11 = .int (nI fr)) (he : fr ≤ e) (hen : e ≤ n) {j : Nat} (hj : j < 26) : f_X0_spells (hX A) (g (10 + j)) (hMem A R S) = some (.inl (some (.int (b01 (splB u fr e j)))), hMem A R S) := by
  have hs := tx_small j hj
  have hn := h.1
  simp only [f_X0_spells, stg_chk (hT j hj), stg_len (hT j hj) (by omega), sCallI, hcI, xgI_10 hg, xgI_11 hg, h10, h11, hvI_int, obS, nI_mn he]
  by_cases c : txLen j = e - fr
  · rw [if_pos (by rw [c])]
    have := spells_L hg hT h h11 he hen hj c (txLen j) 0 (by omega) sFuel (by show _ < 1000000; omega)
    rw [show (nI 0 : Int32) = 0 from rfl] at this
    rw [this]
    unfold splB
    rw [if_pos c]
  · have c1 : ¬ nI (txLen j) = nI (e - fr) := fun q => c ((nI_eq (by omega) (by omega)).mp q)
    have c3 : splB u fr e j = false := by
      cases q : splB u fr e j with
      | false => rfl
      | true => exact absurd (splB_iff.mp q).1 c
    rw [if_neg c1, c3]
    rfl
theorem is_L {s : mSt} {n fr e : Nat} {u : Nat → Int32} (h : tpM s n u) (h19 : s.1 19 = nI fr) (he : fr ≤ e) (hen : e ≤ n) {j : Nat} (hj : j < 26) (hl : txLen j = e - fr) : ∀ (d k : Nat), k + d = txLen j → ∀ fu, d < fu → p_X3_is_L j fu 1 k s = some (some (.int (b01 (spR u fr j d k))), s)
  | 0, k, hk, fu, hf => by
    obtain ⟨fu, rfl⟩ : ∃ p, fu = p + 1 := ⟨fu - 1, by omega⟩
    have k0 : k = txLen j := by omega
    subst k0
    unfold p_X3_is_L
    rw [if_pos (Int32.le_refl _)]
    rfl
  | d + 1, k, hk, fu, hf => by
    obtain ⟨fu, rfl⟩ : ∃ p, fu = p + 1 := ⟨fu - 1, by omega⟩
    have hn := h.1
    have h10 := tx_small j hj
    have c1 : ¬ nI (txLen j) ≤ nI k := by
      rw [nI_leI (by omega) (by omega)]
      omega
    unfold p_X3_is_L
    have r9 : mRow 9 = some 7 := by decide
    have q7 : qAld s 7 (nI (fr + k)) = some (s.2 7 (fr + k)) := qld_7 s (by omega)
    rw [if_neg c1, if_neg (by decide)]
    simp only [r9, obS, qg, h19, nI_add, q7, h.2.2]
    rw [show spR u fr j (d + 1) k = (if u (fr + k) = (txByt j).getD k 0 then spR u fr j d (k + 1) else false) from rfl]
    by_cases c : u (fr + k) = (txByt j).getD k 0
    · rw [if_pos c, if_pos c, is_L h h19 he hen hj hl d (k + 1) (by omega) fu (by omega)]
    · rw [if_neg c, if_neg c]
      cases d with
      | zero =>
        obtain ⟨fu, rfl⟩ : ∃ p, fu = p + 1 := ⟨fu - 1, by omega⟩
        unfold p_X3_is_L
        split
        · rfl
        · rfl
      | succ d =>
        obtain ⟨fu, rfl⟩ : ∃ p, fu = p + 1 := ⟨fu - 1, by omega⟩
        unfold p_X3_is_L
        split
        · rfl
        · rfl
theorem is_m {s : mSt} {n fr e : Nat} {u : Nat → Int32} (h : tpM s n u) (h17 : s.1 17 = nI e) (h19 : s.1 19 = nI fr) (he : fr ≤ e) (hen : e ≤ n) {j : Nat} (hj : j < 26) : p_X3_is j s = some (some (.int (b01 (splB u fr e j))), s) := by
  have hs := tx_small j hj
  have hn := h.1
  simp only [p_X3_is, qg, h17, h19, obS, nI_mn he]
  by_cases c : txLen j = e - fr
  · rw [if_pos (by rw [c]), is_L h h19 he hen hj c (txLen j) 0 (by omega) sFuel (by show _ < 1000000; omega)]
    unfold splB
    rw [if_pos c]
  · have c1 : ¬ nI (e - fr) = nI (txLen j) := fun q => c ((nI_eq (by omega) (by omega)).mp q).symm
    have c3 : splB u fr e j = false := by
      cases q : splB u fr e j with
      | false => rfl
      | true => exact absurd (splB_iff.mp q).1 c
    obtain ⟨q, hq⟩ : ∃ q, sFuel = q + 1 := ⟨999999, rfl⟩
    rw [if_neg c1, c3, hq]
    unfold p_X3_is_L
    split
    · rfl
    · rfl
