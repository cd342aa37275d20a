/-! reads and writes of the whole memory, one by one (for simp) -/
set_option maxRecDepth 100000
theorem xgN_0 {A : hA} (h : hG A) (R : sMem) (S : hS) : sGetN (hMem A R S) 0 0 (hX A) = some (hRa A 1) := hx_N h R S (by decide) (v := .ref (hRa A 1)) (by simp [hXf])
theorem xgN_17 {A : hA} (h : hG A) (R : sMem) (S : hS) : sGetN (hMem A R S) 0 17 (hX A) = some (hRa A 2) := hx_N h R S (by decide) (v := .ref (hRa A 2)) (by simp [hXf])
theorem xgN_22 {A : hA} (h : hG A) (R : sMem) (S : hS) : sGetN (hMem A R S) 0 22 (hX A) = some (hRa A 3) := hx_N h R S (by decide) (v := .ref (hRa A 3)) (by simp [hXf])
theorem xgN_23 {A : hA} (h : hG A) (R : sMem) (S : hS) : sGetN (hMem A R S) 0 23 (hX A) = some (hTa A 0) := hx_N h R S (by decide) (v := .ref (hTa A 0)) (by simp [hXf])
theorem xgN_24 {A : hA} (h : hG A) (R : sMem) (S : hS) : sGetN (hMem A R S) 0 24 (hX A) = some (hTa A 1) := hx_N h R S (by decide) (v := .ref (hTa A 1)) (by simp [hXf])
theorem xgN_25 {A : hA} (h : hG A) (R : sMem) (S : hS) : sGetN (hMem A R S) 0 25 (hX A) = some (hTa A 2) := hx_N h R S (by decide) (v := .ref (hTa A 2)) (by simp [hXf])
theorem xgN_26 {A : hA} (h : hG A) (R : sMem) (S : hS) : sGetN (hMem A R S) 0 26 (hX A) = some (hRa A 4) := hx_N h R S (by decide) (v := .ref (hRa A 4)) (by simp [hXf])
theorem xgN_27 {A : hA} (h : hG A) (R : sMem) (S : hS) : sGetN (hMem A R S) 0 27 (hX A) = some (hRa A 5) := hx_N h R S (by decide) (v := .ref (hRa A 5)) (by simp [hXf])
theorem xgN_30 {A : hA} (h : hG A) (R : sMem) (S : hS) : sGetN (hMem A R S) 0 30 (hX A) = some (hRa A 6) := hx_N h R S (by decide) (v := .ref (hRa A 6)) (by simp [hXf])
theorem xgN_36 {A : hA} (h : hG A) (R : sMem) (S : hS) : sGetN (hMem A R S) 0 36 (hX A) = some (hRa A 7) := hx_N h R S (by decide) (v := .ref (hRa A 7)) (by simp [hXf])
theorem xgN_37 {A : hA} (h : hG A) (R : sMem) (S : hS) : sGetN (hMem A R S) 0 37 (hX A) = some (hRa A 8) := hx_N h R S (by decide) (v := .ref (hRa A 8)) (by simp [hXf])
theorem xgI_21 {A : hA} (h : hG A) (R : sMem) (S : hS) : sGetI (hMem A R S) 0 21 (hX A) = some (S.2.2.2.1 0 571) := hx_I h R S (by decide) (v := .int (S.2.2.2.1 0 571)) (by simp [hXf])
theorem xgI_1 {A : hA} (h : hG A) (R : sMem) (S : hS) : sGetI (hMem A R S) 0 1 (hX A) = hvI (S.1 1) := hx_I h R S (by decide) (hXf_var (by decide))
theorem xgI_10 {A : hA} (h : hG A) (R : sMem) (S : hS) : sGetI (hMem A R S) 0 10 (hX A) = hvI (S.1 10) := hx_I h R S (by decide) (hXf_var (by decide))
theorem xgI_11 {A : hA} (h : hG A) (R : sMem) (S : hS) : sGetI (hMem A R S) 0 11 (hX A) = hvI (S.1 11) := hx_I h R S (by decide) (hXf_var (by decide))
theorem xgI_12 {A : hA} (h : hG A) (R : sMem) (S : hS) : sGetI (hMem A R S) 0 12 (hX A) = hvI (S.1 12) := hx_I h R S (by decide) (hXf_var (by decide))
theorem xgI_13 {A : hA} (h : hG A) (R : sMem) (S : hS) : sGetI (hMem A R S) 0 13 (hX A) = hvI (S.1 13) := hx_I h R S (by decide) (hXf_var (by decide))
theorem xgI_14 {A : hA} (h : hG A) (R : sMem) (S : hS) : sGetI (hMem A R S) 0 14 (hX A) = hvI (S.1 14) := hx_I h R S (by decide) (hXf_var (by decide))
theorem xgI_15 {A : hA} (h : hG A) (R : sMem) (S : hS) : sGetI (hMem A R S) 0 15 (hX A) = hvI (S.1 15) := hx_I h R S (by decide) (hXf_var (by decide))
theorem xgI_28 {A : hA} (h : hG A) (R : sMem) (S : hS) : sGetI (hMem A R S) 0 28 (hX A) = hvI (S.1 28) := hx_I h R S (by decide) (hXf_var (by decide))
theorem xgI_38 {A : hA} (h : hG A) (R : sMem) (S : hS) : sGetI (hMem A R S) 0 38 (hX A) = hvI (S.1 38) := hx_I h R S (by decide) (hXf_var (by decide))
theorem xgN_2 {A : hA} (h : hG A) (R : sMem) (S : hS) : sGetN (hMem A R S) 0 2 (hX A) = hvN (S.1 2) := hx_N h R S (by decide) (hXf_var (by decide))
theorem xgN_3 {A : hA} (h : hG A) (R : sMem) (S : hS) : sGetN (hMem A R S) 0 3 (hX A) = hvN (S.1 3) := hx_N h R S (by decide) (hXf_var (by decide))
theorem xgN_4 {A : hA} (h : hG A) (R : sMem) (S : hS) : sGetN (hMem A R S) 0 4 (hX A) = hvN (S.1 4) := hx_N h R S (by decide) (hXf_var (by decide))
theorem xgN_5 {A : hA} (h : hG A) (R : sMem) (S : hS) : sGetN (hMem A R S) 0 5 (hX A) = hvN (S.1 5) := hx_N h R S (by decide) (hXf_var (by decide))
theorem xgN_6 {A : hA} (h : hG A) (R : sMem) (S : hS) : sGetN (hMem A R S) 0 6 (hX A) = hvN (S.1 6) := hx_N h R S (by decide) (hXf_var (by decide))
theorem xgN_7 {A : hA} (h : hG A) (R : sMem) (S : hS) : sGetN (hMem A R S) 0 7 (hX A) = hvN (S.1 7) := hx_N h R S (by decide) (hXf_var (by decide))
theorem xgN_8 {A : hA} (h : hG A) (R : sMem) (S : hS) : sGetN (hMem A R S) 0 8 (hX A) = hvN (S.1 8) := hx_N h R S (by decide) (hXf_var (by decide))
theorem xgN_9 {A : hA} (h : hG A) (R : sMem) (S : hS) : sGetN (hMem A R S) 0 9 (hX A) = hvN (S.1 9) := hx_N h R S (by decide) (hXf_var (by decide))
theorem xgN_16 {A : hA} (h : hG A) (R : sMem) (S : hS) : sGetN (hMem A R S) 0 16 (hX A) = hvN (S.1 16) := hx_N h R S (by decide) (hXf_var (by decide))
theorem xgN_18 {A : hA} (h : hG A) (R : sMem) (S : hS) : sGetN (hMem A R S) 0 18 (hX A) = hvN (S.1 18) := hx_N h R S (by decide) (hXf_var (by decide))
theorem xgN_19 {A : hA} (h : hG A) (R : sMem) (S : hS) : sGetN (hMem A R S) 0 19 (hX A) = hvN (S.1 19) := hx_N h R S (by decide) (hXf_var (by decide))
theorem xgN_20 {A : hA} (h : hG A) (R : sMem) (S : hS) : sGetN (hMem A R S) 0 20 (hX A) = hvN (S.1 20) := hx_N h R S (by decide) (hXf_var (by decide))
theorem xgN_29 {A : hA} (h : hG A) (R : sMem) (S : hS) : sGetN (hMem A R S) 0 29 (hX A) = hvN (S.1 29) := hx_N h R S (by decide) (hXf_var (by decide))
theorem xgN_31 {A : hA} (h : hG A) (R : sMem) (S : hS) : sGetN (hMem A R S) 0 31 (hX A) = hvN (S.1 31) := hx_N h R S (by decide) (hXf_var (by decide))
theorem xgN_32 {A : hA} (h : hG A) (R : sMem) (S : hS) : sGetN (hMem A R S) 0 32 (hX A) = hvN (S.1 32) := hx_N h R S (by decide) (hXf_var (by decide))
theorem xgN_33 {A : hA} (h : hG A) (R : sMem) (S : hS) : sGetN (hMem A R S) 0 33 (hX A) = hvN (S.1 33) := hx_N h R S (by decide) (hXf_var (by decide))
theorem xgN_34 {A : hA} (h : hG A) (R : sMem) (S : hS) : sGetN (hMem A R S) 0 34 (hX A) = hvN (S.1 34) := hx_N h R S (by decide) (hXf_var (by decide))
theorem xgN_35 {A : hA} (h : hG A) (R : sMem) (S : hS) : sGetN (hMem A R S) 0 35 (hX A) = hvN (S.1 35) := hx_N h R S (by decide) (hXf_var (by decide))
theorem xgN_39 {A : hA} (h : hG A) (R : sMem) (S : hS) : sGetN (hMem A R S) 0 39 (hX A) = hvN (S.1 39) := hx_N h R S (by decide) (hXf_var (by decide))
theorem xgN_40 {A : hA} (h : hG A) (R : sMem) (S : hS) : sGetN (hMem A R S) 0 40 (hX A) = hvN (S.1 40) := hx_N h R S (by decide) (hXf_var (by decide))
theorem xgN_41 {A : hA} (h : hG A) (R : sMem) (S : hS) : sGetN (hMem A R S) 0 41 (hX A) = hvN (S.1 41) := hx_N h R S (by decide) (hXf_var (by decide))
theorem xgN_42 {A : hA} (h : hG A) (R : sMem) (S : hS) : sGetN (hMem A R S) 0 42 (hX A) = hvN (S.1 42) := hx_N h R S (by decide) (hXf_var (by decide))
theorem xgN_43 {A : hA} (h : hG A) (R : sMem) (S : hS) : sGetN (hMem A R S) 0 43 (hX A) = hvN (S.1 43) := hx_N h R S (by decide) (hXf_var (by decide))
theorem xgN_44 {A : hA} (h : hG A) (R : sMem) (S : hS) : sGetN (hMem A R S) 0 44 (hX A) = hvN (S.1 44) := hx_N h R S (by decide) (hXf_var (by decide))
theorem xgN_45 {A : hA} (h : hG A) (R : sMem) (S : hS) : sGetN (hMem A R S) 0 45 (hX A) = hvN (S.1 45) := hx_N h R S (by decide) (hXf_var (by decide))
theorem xgN_46 {A : hA} (h : hG A) (R : sMem) (S : hS) : sGetN (hMem A R S) 0 46 (hX A) = hvN (S.1 46) := hx_N h R S (by decide) (hXf_var (by decide))
theorem xgR_46 {A : hA} (h : hG A) (R : sMem) (S : hS) : sGetR (hMem A R S) 0 46 (hX A) = hvR (S.1 46) := hx_R h R S (by decide) (hXf_var (by decide))
theorem xp_1 {A : hA} (h : hG A) (R : sMem) (S : hS) (v : Value) : sPut (hMem A R S) 0 1 (hX A) v = some (hMem A R (hF S 1 v)) := hx_put h R S (by decide) v
theorem xp_2 {A : hA} (h : hG A) (R : sMem) (S : hS) (v : Value) : sPut (hMem A R S) 0 2 (hX A) v = some (hMem A R (hF S 2 v)) := hx_put h R S (by decide) v
theorem xp_3 {A : hA} (h : hG A) (R : sMem) (S : hS) (v : Value) : sPut (hMem A R S) 0 3 (hX A) v = some (hMem A R (hF S 3 v)) := hx_put h R S (by decide) v
theorem xp_4 {A : hA} (h : hG A) (R : sMem) (S : hS) (v : Value) : sPut (hMem A R S) 0 4 (hX A) v = some (hMem A R (hF S 4 v)) := hx_put h R S (by decide) v
theorem xp_5 {A : hA} (h : hG A) (R : sMem) (S : hS) (v : Value) : sPut (hMem A R S) 0 5 (hX A) v = some (hMem A R (hF S 5 v)) := hx_put h R S (by decide) v
theorem xp_6 {A : hA} (h : hG A) (R : sMem) (S : hS) (v : Value) : sPut (hMem A R S) 0 6 (hX A) v = some (hMem A R (hF S 6 v)) := hx_put h R S (by decide) v
theorem xp_7 {A : hA} (h : hG A) (R : sMem) (S : hS) (v : Value) : sPut (hMem A R S) 0 7 (hX A) v = some (hMem A R (hF S 7 v)) := hx_put h R S (by decide) v
theorem xp_8 {A : hA} (h : hG A) (R : sMem) (S : hS) (v : Value) : sPut (hMem A R S) 0 8 (hX A) v = some (hMem A R (hF S 8 v)) := hx_put h R S (by decide) v
theorem xp_9 {A : hA} (h : hG A) (R : sMem) (S : hS) (v : Value) : sPut (hMem A R S) 0 9 (hX A) v = some (hMem A R (hF S 9 v)) := hx_put h R S (by decide) v
theorem xp_10 {A : hA} (h : hG A) (R : sMem) (S : hS) (v : Value) : sPut (hMem A R S) 0 10 (hX A) v = some (hMem A R (hF S 10 v)) := hx_put h R S (by decide) v
theorem xp_11 {A : hA} (h : hG A) (R : sMem) (S : hS) (v : Value) : sPut (hMem A R S) 0 11 (hX A) v = some (hMem A R (hF S 11 v)) := hx_put h R S (by decide) v
theorem xp_12 {A : hA} (h : hG A) (R : sMem) (S : hS) (v : Value) : sPut (hMem A R S) 0 12 (hX A) v = some (hMem A R (hF S 12 v)) := hx_put h R S (by decide) v
theorem xp_13 {A : hA} (h : hG A) (R : sMem) (S : hS) (v : Value) : sPut (hMem A R S) 0 13 (hX A) v = some (hMem A R (hF S 13 v)) := hx_put h R S (by decide) v
theorem xp_14 {A : hA} (h : hG A) (R : sMem) (S : hS) (v : Value) : sPut (hMem A R S) 0 14 (hX A) v = some (hMem A R (hF S 14 v)) := hx_put h R S (by decide) v
theorem xp_15 {A : hA} (h : hG A) (R : sMem) (S : hS) (v : Value) : sPut (hMem A R S) 0 15 (hX A) v = some (hMem A R (hF S 15 v)) := hx_put h R S (by decide) v
theorem xp_16 {A : hA} (h : hG A) (R : sMem) (S : hS) (v : Value) : sPut (hMem A R S) 0 16 (hX A) v = some (hMem A R (hF S 16 v)) := hx_put h R S (by decide) v
theorem xp_18 {A : hA} (h : hG A) (R : sMem) (S : hS) (v : Value) : sPut (hMem A R S) 0 18 (hX A) v = some (hMem A R (hF S 18 v)) := hx_put h R S (by decide) v
theorem xp_19 {A : hA} (h : hG A) (R : sMem) (S : hS) (v : Value) : sPut (hMem A R S) 0 19 (hX A) v = some (hMem A R (hF S 19 v)) := hx_put h R S (by decide) v
theorem xp_20 {A : hA} (h : hG A) (R : sMem) (S : hS) (v : Value) : sPut (hMem A R S) 0 20 (hX A) v = some (hMem A R (hF S 20 v)) := hx_put h R S (by decide) v
theorem xp_28 {A : hA} (h : hG A) (R : sMem) (S : hS) (v : Value) : sPut (hMem A R S) 0 28 (hX A) v = some (hMem A R (hF S 28 v)) := hx_put h R S (by decide) v
theorem xp_29 {A : hA} (h : hG A) (R : sMem) (S : hS) (v : Value) : sPut (hMem A R S) 0 29 (hX A) v = some (hMem A R (hF S 29 v)) := hx_put h R S (by decide) v
theorem xp_31 {A : hA} (h : hG A) (R : sMem) (S : hS) (v : Value) : sPut (hMem A R S) 0 31 (hX A) v = some (hMem A R (hF S 31 v)) := hx_put h R S (by decide) v
theorem xp_32 {A : hA} (h : hG A) (R : sMem) (S : hS) (v : Value) : sPut (hMem A R S) 0 32 (hX A) v = some (hMem A R (hF S 32 v)) := hx_put h R S (by decide) v
theorem xp_33 {A : hA} (h : hG A) (R : sMem) (S : hS) (v : Value) : sPut (hMem A R S) 0 33 (hX A) v = some (hMem A R (hF S 33 v)) := hx_put h R S (by decide) v
theorem xp_34 {A : hA} (h : hG A) (R : sMem) (S : hS) (v : Value) : sPut (hMem A R S) 0 34 (hX A) v = some (hMem A R (hF S 34 v)) := hx_put h R S (by decide) v
theorem xp_35 {A : hA} (h : hG A) (R : sMem) (S : hS) (v : Value) : sPut (hMem A R S) 0 35 (hX A) v = some (hMem A R (hF S 35 v)) := hx_put h R S (by decide) v
theorem xp_38 {A : hA} (h : hG A) (R : sMem) (S : hS) (v : Value) : sPut (hMem A R S) 0 38 (hX A) v = some (hMem A R (hF S 38 v)) := hx_put h R S (by decide) v
theorem xp_39 {A : hA} (h : hG A) (R : sMem) (S : hS) (v : Value) : sPut (hMem A R S) 0 39 (hX A) v = some (hMem A R (hF S 39 v)) := hx_put h R S (by decide) v
theorem xp_40 {A : hA} (h : hG A) (R : sMem) (S : hS) (v : Value) : sPut (hMem A R S) 0 40 (hX A) v = some (hMem A R (hF S 40 v)) := hx_put h R S (by decide) v
theorem xp_41 {A : hA} (h : hG A) (R : sMem) (S : hS) (v : Value) : sPut (hMem A R S) 0 41 (hX A) v = some (hMem A R (hF S 41 v)) := hx_put h R S (by decide) v
theorem xp_42 {A : hA} (h : hG A) (R : sMem) (S : hS) (v : Value) : sPut (hMem A R S) 0 42 (hX A) v = some (hMem A R (hF S 42 v)) := hx_put h R S (by decide) v
theorem xp_43 {A : hA} (h : hG A) (R : sMem) (S : hS) (v : Value) : sPut (hMem A R S) 0 43 (hX A) v = some (hMem A R (hF S 43 v)) := hx_put h R S (by decide) v
theorem xp_44 {A : hA} (h : hG A) (R : sMem) (S : hS) (v : Value) : sPut (hMem A R S) 0 44 (hX A) v = some (hMem A R (hF S 44 v)) := hx_put h R S (by decide) v
theorem xp_45 {A : hA} (h : hG A) (R : sMem) (S : hS) (v : Value) : sPut (hMem A R S) 0 45 (hX A) v = some (hMem A R (hF S 45 v)) := hx_put h R S (by decide) v
theorem xp_46 {A : hA} (h : hG A) (R : sMem) (S : hS) (v : Value) : sPut (hMem A R S) 0 46 (hX A) v = some (hMem A R (hF S 46 v)) := hx_put h R S (by decide) v
theorem tgN_0 {A : hA} (h : hG A) (R : sMem) (S : hS) {i : Nat} (hi : i < A.2.2) : sGetN (hMem A R S) 2 0 (hTa A i) = some (hTr A i 0) := ht_N h R S hi (by decide) (by simp [hTf])
theorem trl_0 {A : hA} (h : hG A) (R : sMem) (S : hS) {i p : Nat} (hi : i < A.2.2) (hp : p < 12) : sXld (hMem A R S) 0 (hTr A i 0) (nI p) = some (S.2.2.2.1 i (593 + p)) := hr_ld h R S hi (by decide) (by decide) (by simpa [hTl] using hp)
theorem trs_0 {A : hA} (h : hG A) (R : sMem) (S : hS) {i p : Nat} (hi : i < A.2.2) (hp : p < 12) (v : Int32) : sXst (hMem A R S) 0 (hTr A i 0) (nI p) v = some (hMem A R (hT S i (upd (S.2.2.2.1 i) (593 + p) v))) := hr_st h R S hi (by decide) (by decide) (by simpa [hTl] using hp) v
theorem trn_0 {A : hA} (h : hG A) (R : sMem) (S : hS) {i : Nat} (hi : i < A.2.2) : sLen (hMem A R S) (hTr A i 0) = some (nI 12) := (hr_len h R S hi (by decide)).trans (by simp [hTl])
theorem tgN_1 {A : hA} (h : hG A) (R : sMem) (S : hS) {i : Nat} (hi : i < A.2.2) : sGetN (hMem A R S) 2 1 (hTa A i) = some (hTr A i 1) := ht_N h R S hi (by decide) (by simp [hTf])
theorem trl_1 {A : hA} (h : hG A) (R : sMem) (S : hS) {i p : Nat} (hi : i < A.2.2) (hp : p < 12) : sXld (hMem A R S) 0 (hTr A i 1) (nI p) = some (S.2.2.2.1 i (7 + p)) := hr_ld h R S hi (by decide) (by decide) (by simpa [hTl] using hp)
theorem trs_1 {A : hA} (h : hG A) (R : sMem) (S : hS) {i p : Nat} (hi : i < A.2.2) (hp : p < 12) (v : Int32) : sXst (hMem A R S) 0 (hTr A i 1) (nI p) v = some (hMem A R (hT S i (upd (S.2.2.2.1 i) (7 + p) v))) := hr_st h R S hi (by decide) (by decide) (by simpa [hTl] using hp) v
theorem trn_1 {A : hA} (h : hG A) (R : sMem) (S : hS) {i : Nat} (hi : i < A.2.2) : sLen (hMem A R S) (hTr A i 1) = some (nI 12) := (hr_len h R S hi (by decide)).trans (by simp [hTl])
theorem tgN_2 {A : hA} (h : hG A) (R : sMem) (S : hS) {i : Nat} (hi : i < A.2.2) : sGetN (hMem A R S) 2 2 (hTa A i) = some (hTr A i 2) := ht_N h R S hi (by decide) (by simp [hTf])
theorem trl_2 {A : hA} (h : hG A) (R : sMem) (S : hS) {i p : Nat} (hi : i < A.2.2) (hp : p < 12) : sXld (hMem A R S) 0 (hTr A i 2) (nI p) = some (S.2.2.2.1 i (79 + p)) := hr_ld h R S hi (by decide) (by decide) (by simpa [hTl] using hp)
theorem trs_2 {A : hA} (h : hG A) (R : sMem) (S : hS) {i p : Nat} (hi : i < A.2.2) (hp : p < 12) (v : Int32) : sXst (hMem A R S) 0 (hTr A i 2) (nI p) v = some (hMem A R (hT S i (upd (S.2.2.2.1 i) (79 + p) v))) := hr_st h R S hi (by decide) (by decide) (by simpa [hTl] using hp) v
theorem trn_2 {A : hA} (h : hG A) (R : sMem) (S : hS) {i : Nat} (hi : i < A.2.2) : sLen (hMem A R S) (hTr A i 2) = some (nI 12) := (hr_len h R S hi (by decide)).trans (by simp [hTl])
theorem tgN_3 {A : hA} (h : hG A) (R : sMem) (S : hS) {i : Nat} (hi : i < A.2.2) : sGetN (hMem A R S) 2 3 (hTa A i) = some (hTr A i 3) := ht_N h R S hi (by decide) (by simp [hTf])
theorem trl_3 {A : hA} (h : hG A) (R : sMem) (S : hS) {i p : Nat} (hi : i < A.2.2) (hp : p < 12) : sXld (hMem A R S) 0 (hTr A i 3) (nI p) = some (S.2.2.2.1 i (31 + p)) := hr_ld h R S hi (by decide) (by decide) (by simpa [hTl] using hp)
theorem trs_3 {A : hA} (h : hG A) (R : sMem) (S : hS) {i p : Nat} (hi : i < A.2.2) (hp : p < 12) (v : Int32) : sXst (hMem A R S) 0 (hTr A i 3) (nI p) v = some (hMem A R (hT S i (upd (S.2.2.2.1 i) (31 + p) v))) := hr_st h R S hi (by decide) (by decide) (by simpa [hTl] using hp) v
theorem trn_3 {A : hA} (h : hG A) (R : sMem) (S : hS) {i : Nat} (hi : i < A.2.2) : sLen (hMem A R S) (hTr A i 3) = some (nI 12) := (hr_len h R S hi (by decide)).trans (by simp [hTl])
theorem tgN_4 {A : hA} (h : hG A) (R : sMem) (S : hS) {i : Nat} (hi : i < A.2.2) : sGetN (hMem A R S) 2 4 (hTa A i) = some (hTr A i 4) := ht_N h R S hi (by decide) (by simp [hTf])
theorem trn_4 {A : hA} (h : hG A) (R : sMem) (S : hS) {i : Nat} (hi : i < A.2.2) : sLen (hMem A R S) (hTr A i 4) = some (nI 12) := (hr_len h R S hi (by decide)).trans (by simp [hTl])
theorem tgN_5 {A : hA} (h : hG A) (R : sMem) (S : hS) {i : Nat} (hi : i < A.2.2) : sGetN (hMem A R S) 2 5 (hTa A i) = some (hTr A i 5) := ht_N h R S hi (by decide) (by simp [hTf])
theorem trl_5 {A : hA} (h : hG A) (R : sMem) (S : hS) {i p : Nat} (hi : i < A.2.2) (hp : p < 12) : sXld (hMem A R S) 0 (hTr A i 5) (nI p) = some (S.2.2.2.1 i (19 + p)) := hr_ld h R S hi (by decide) (by decide) (by simpa [hTl] using hp)
theorem trs_5 {A : hA} (h : hG A) (R : sMem) (S : hS) {i p : Nat} (hi : i < A.2.2) (hp : p < 12) (v : Int32) : sXst (hMem A R S) 0 (hTr A i 5) (nI p) v = some (hMem A R (hT S i (upd (S.2.2.2.1 i) (19 + p) v))) := hr_st h R S hi (by decide) (by decide) (by simpa [hTl] using hp) v
theorem trn_5 {A : hA} (h : hG A) (R : sMem) (S : hS) {i : Nat} (hi : i < A.2.2) : sLen (hMem A R S) (hTr A i 5) = some (nI 12) := (hr_len h R S hi (by decide)).trans (by simp [hTl])
theorem tgN_6 {A : hA} (h : hG A) (R : sMem) (S : hS) {i : Nat} (hi : i < A.2.2) : sGetN (hMem A R S) 2 6 (hTa A i) = some (hTr A i 6) := ht_N h R S hi (by decide) (by simp [hTf])
theorem trl_6 {A : hA} (h : hG A) (R : sMem) (S : hS) {i p : Nat} (hi : i < A.2.2) (hp : p < 480) : sXld (hMem A R S) 0 (hTr A i 6) (nI p) = some (S.2.2.2.1 i (91 + p)) := hr_ld h R S hi (by decide) (by decide) (by simpa [hTl] using hp)
theorem trs_6 {A : hA} (h : hG A) (R : sMem) (S : hS) {i p : Nat} (hi : i < A.2.2) (hp : p < 480) (v : Int32) : sXst (hMem A R S) 0 (hTr A i 6) (nI p) v = some (hMem A R (hT S i (upd (S.2.2.2.1 i) (91 + p) v))) := hr_st h R S hi (by decide) (by decide) (by simpa [hTl] using hp) v
theorem trn_6 {A : hA} (h : hG A) (R : sMem) (S : hS) {i : Nat} (hi : i < A.2.2) : sLen (hMem A R S) (hTr A i 6) = some (nI 480) := (hr_len h R S hi (by decide)).trans (by simp [hTl])
theorem tgN_18 {A : hA} (h : hG A) (R : sMem) (S : hS) {i : Nat} (hi : i < A.2.2) : sGetN (hMem A R S) 2 18 (hTa A i) = some (hX A) := ht_N h R S hi (by decide) (by simp [hTf])
theorem tgI_7 {A : hA} (h : hG A) (R : sMem) (S : hS) {i : Nat} (hi : i < A.2.2) : sGetI (hMem A R S) 2 7 (hTa A i) = some (hBits (S.2.2.2.1 i) 55) := ht_I h R S hi (by decide) (by simp [hTf])
theorem tgI_8 {A : hA} (h : hG A) (R : sMem) (S : hS) {i : Nat} (hi : i < A.2.2) : sGetI (hMem A R S) 2 8 (hTa A i) = some (hBits (S.2.2.2.1 i) 67) := ht_I h R S hi (by decide) (by simp [hTf])
theorem tgI_9 {A : hA} (h : hG A) (R : sMem) (S : hS) {i : Nat} (hi : i < A.2.2) : sGetI (hMem A R S) 2 9 (hTa A i) = some (S.2.2.2.1 i 1) := ht_I h R S hi (by decide) (by simp [hTf])
theorem tgI_10 {A : hA} (h : hG A) (R : sMem) (S : hS) {i : Nat} (hi : i < A.2.2) : sGetI (hMem A R S) 2 10 (hTa A i) = some (S.2.2.2.1 i 573) := ht_I h R S hi (by decide) (by simp [hTf])
theorem tgI_11 {A : hA} (h : hG A) (R : sMem) (S : hS) {i : Nat} (hi : i < A.2.2) : sGetI (hMem A R S) 2 11 (hTa A i) = some (S.2.2.2.1 i 0) := ht_I h R S hi (by decide) (by simp [hTf])
theorem tgI_12 {A : hA} (h : hG A) (R : sMem) (S : hS) {i : Nat} (hi : i < A.2.2) : sGetI (hMem A R S) 2 12 (hTa A i) = some (S.2.2.2.1 i 2) := ht_I h R S hi (by decide) (by simp [hTf])
theorem tgI_13 {A : hA} (h : hG A) (R : sMem) (S : hS) {i : Nat} (hi : i < A.2.2) : sGetI (hMem A R S) 2 13 (hTa A i) = some (S.2.2.2.1 i 3) := ht_I h R S hi (by decide) (by simp [hTf])
theorem tgI_14 {A : hA} (h : hG A) (R : sMem) (S : hS) {i : Nat} (hi : i < A.2.2) : sGetI (hMem A R S) 2 14 (hTa A i) = some (S.2.2.2.1 i 4) := ht_I h R S hi (by decide) (by simp [hTf])
theorem tgI_15 {A : hA} (h : hG A) (R : sMem) (S : hS) {i : Nat} (hi : i < A.2.2) : sGetI (hMem A R S) 2 15 (hTa A i) = some (S.2.2.2.1 i 5) := ht_I h R S hi (by decide) (by simp [hTf])
theorem tgI_16 {A : hA} (h : hG A) (R : sMem) (S : hS) {i : Nat} (hi : i < A.2.2) : sGetI (hMem A R S) 2 16 (hTa A i) = some (S.2.2.2.1 i 6) := ht_I h R S hi (by decide) (by simp [hTf])
theorem tgI_17 {A : hA} (h : hG A) (R : sMem) (S : hS) {i : Nat} (hi : i < A.2.2) : sGetI (hMem A R S) 2 17 (hTa A i) = some (S.2.2.2.2.1 i) := ht_I h R S hi (by decide) (by simp [hTf])
theorem tp_9 {A : hA} (h : hG A) (R : sMem) (S : hS) {i : Nat} (hi : i < A.2.2) (v : Int32) : sPut (hMem A R S) 2 9 (hTa A i) (.int v) = some (hMem A R (hT S i (upd (S.2.2.2.1 i) 1 v))) := ht_put h R S hi (by decide) (by decide) v
theorem tp_10 {A : hA} (h : hG A) (R : sMem) (S : hS) {i : Nat} (hi : i < A.2.2) (v : Int32) : sPut (hMem A R S) 2 10 (hTa A i) (.int v) = some (hMem A R (hT S i (upd (S.2.2.2.1 i) 573 v))) := ht_put h R S hi (by decide) (by decide) v
theorem tp_11 {A : hA} (h : hG A) (R : sMem) (S : hS) {i : Nat} (hi : i < A.2.2) (v : Int32) : sPut (hMem A R S) 2 11 (hTa A i) (.int v) = some (hMem A R (hT S i (upd (S.2.2.2.1 i) 0 v))) := ht_put h R S hi (by decide) (by decide) v
theorem tp_12 {A : hA} (h : hG A) (R : sMem) (S : hS) {i : Nat} (hi : i < A.2.2) (v : Int32) : sPut (hMem A R S) 2 12 (hTa A i) (.int v) = some (hMem A R (hT S i (upd (S.2.2.2.1 i) 2 v))) := ht_put h R S hi (by decide) (by decide) v
theorem tp_13 {A : hA} (h : hG A) (R : sMem) (S : hS) {i : Nat} (hi : i < A.2.2) (v : Int32) : sPut (hMem A R S) 2 13 (hTa A i) (.int v) = some (hMem A R (hT S i (upd (S.2.2.2.1 i) 3 v))) := ht_put h R S hi (by decide) (by decide) v
theorem tp_14 {A : hA} (h : hG A) (R : sMem) (S : hS) {i : Nat} (hi : i < A.2.2) (v : Int32) : sPut (hMem A R S) 2 14 (hTa A i) (.int v) = some (hMem A R (hT S i (upd (S.2.2.2.1 i) 4 v))) := ht_put h R S hi (by decide) (by decide) v
theorem tp_15 {A : hA} (h : hG A) (R : sMem) (S : hS) {i : Nat} (hi : i < A.2.2) (v : Int32) : sPut (hMem A R S) 2 15 (hTa A i) (.int v) = some (hMem A R (hT S i (upd (S.2.2.2.1 i) 5 v))) := ht_put h R S hi (by decide) (by decide) v
theorem tp_16 {A : hA} (h : hG A) (R : sMem) (S : hS) {i : Nat} (hi : i < A.2.2) (v : Int32) : sPut (hMem A R S) 2 16 (hTa A i) (.int v) = some (hMem A R (hT S i (upd (S.2.2.2.1 i) 6 v))) := ht_put h R S hi (by decide) (by decide) v
theorem hF_same (S : hS) (k : Nat) (v : Value) : (hF S k v).1 k = v := by simp [hF]
theorem hF_ne (S : hS) {k j : Nat} (v : Value) (h : j ≠ k) : (hF S k v).1 j = S.1 j := by simp [hF, h]
theorem hF_2 (S : hS) (k : Nat) (v : Value) : (hF S k v).2 = S.2 := by simp [hF]
theorem hT_1 (S : hS) (i : Nat) (t : Nat → Int32) : (hT S i t).1 = S.1 := by simp [hT]
theorem hT_2 (S : hS) (i : Nat) (t : Nat → Int32) : (hT S i t).2.1 = S.2.1 := by simp [hT]
theorem hT_3 (S : hS) (i : Nat) (t : Nat → Int32) : (hT S i t).2.2.1 = S.2.2.1 := by simp [hT]
theorem hT_same (S : hS) (i : Nat) (t : Nat → Int32) : (hT S i t).2.2.2.1 i = t := by simp [hT]
theorem hT_ne (S : hS) {i j : Nat} (t : Nat → Int32) (h : j ≠ i) : (hT S i t).2.2.2.1 j = S.2.2.2.1 j := by simp [hT, h]
theorem hT_5 (S : hS) (i : Nat) (t : Nat → Int32) : (hT S i t).2.2.2.2 = S.2.2.2.2 := by simp [hT]
theorem hT_hT (S : hS) (i : Nat) (t u : Nat → Int32) : hT (hT S i t) i u = hT S i u := by
  simp only [hT, Prod.mk.injEq, true_and, and_true]
  funext q
  by_cases h : q = i <;> simp [h]
theorem hT_self (S : hS) (i : Nat) : hT S i (S.2.2.2.1 i) = S := by
  refine Prod.ext rfl (Prod.ext rfl (Prod.ext rfl (Prod.ext ?_ rfl)))
  funext q
  by_cases h : q = i
  · simp [hT, h]
  · simp [hT, h]
theorem hRw_1 (S : hS) (j : Nat) (f : Nat → Int32) : (hRw S j f).1 = S.1 := by simp [hRw]
theorem hRw_same (S : hS) (j : Nat) (f : Nat → Int32) : (hRw S j f).2.1 j = f := by simp [hRw]
theorem hRw_ne (S : hS) {j k : Nat} (f : Nat → Int32) (h : k ≠ j) : (hRw S j f).2.1 k = S.2.1 k := by simp [hRw, h]
theorem hRw_3 (S : hS) (j : Nat) (f : Nat → Int32) : (hRw S j f).2.2 = S.2.2 := by simp [hRw]
theorem hRw_hRw (S : hS) (j : Nat) (f g : Nat → Int32) : hRw (hRw S j f) j g = hRw S j g := by
  simp only [hRw, Prod.mk.injEq, true_and, and_true]
  funext q
  by_cases h : q = j <;> simp [h]
theorem hRw_self (S : hS) (j : Nat) : hRw S j (S.2.1 j) = S := by
  refine Prod.ext rfl (Prod.ext ?_ rfl)
  funext q
  by_cases h : q = j
  · simp [hRw, h]
  · simp [hRw, h]
theorem hT_hRw (S : hS) (i j : Nat) (f t : Nat → Int32) : hT (hRw S j f) i t = hRw (hT S i t) j f := by simp [hT, hRw]
theorem hTh_1 (S : hS) (i : Nat) (x : Int32) : (hTh S i x).1 = S.1 := by simp [hTh]
theorem hTh_2 (S : hS) (i : Nat) (x : Int32) : (hTh S i x).2.1 = S.2.1 := by simp [hTh]
theorem hTh_4 (S : hS) (i : Nat) (x : Int32) : (hTh S i x).2.2.2.1 = S.2.2.2.1 := by simp [hTh]
theorem hTh_same (S : hS) (i : Nat) (x : Int32) : (hTh S i x).2.2.2.2.1 i = x := by simp [hTh]
theorem hAh_1 (S : hS) (f : Nat → Option Nat) : (hAh S f).1 = S.1 := by simp [hAh]
theorem hAh_2 (S : hS) (f : Nat → Option Nat) : (hAh S f).2.1 = S.2.1 := by simp [hAh]
theorem hAh_3 (S : hS) (f : Nat → Option Nat) : (hAh S f).2.2.1 = f := by simp [hAh]
theorem hAh_4 (S : hS) (f : Nat → Option Nat) : (hAh S f).2.2.2 = S.2.2.2 := by simp [hAh]
