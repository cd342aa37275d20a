/-! the queries, from their start: both sides -/
set_option maxRecDepth 100000
theorem readsQueries_both {A : hA} {R0 : sMem} {S0 : hS} {s0 : mSt} {g : Nat → Nat} {n F : Nat} {u : Nat → Int32} (m : Nat) (h0 : PS A R0 S0 s0 g 3 n u) (hF : F ≤ 10) {q18 : Nat} {f18 : Nat → Option Nat} (r18 : R0.2.2.2 q18 = some (sArq 5 F f18)) (e18 : S0.1 18 = .ref q18) (h572 : s0.2 0 572 = nI F) : QLO A R0 S0 s0 (f_X0_readsQueries g (hX A) (hMem A R0 S0)) (p_X3_readsRows m s0) := by
  have hc0 := h0.2.1
  have nA : ∀ K, sNewA (hMem A R0 S0) 0 0 K = K R0.2.1 (hMem A (sNew R0 (sArr 0 0 (fun _ => 0)) 0) S0) := fun K => hNewA hc0 S0 (n := 0) (by omega) K
  have hc1 := hc0.new (sArr 0 0 (fun _ => 0)) 0
  have x1 := hEx.new hc0 (sArr 0 0 (fun _ => 0)) 0
  have at1 := sNew_at R0 (sArr 0 0 (fun _ => 0)) 0
  have h12 : s0.1 12 = nI 3 := h0.2.2.2.2.2.2.2.2.2.1
  have z12 : ¬ (nI 3 : Int32) = 0 := by decide
  have z12' : ¬ (nI 3 : Int32) = 2 := by decide
  have f12 : (mSet s0 15 0).1 12 = nI 3 := (ms_ne s0 _ (by omega)).trans h12
  have E1 : f_X0_readsQueries g (hX A) (hMem A R0 S0) = f_X0_readsQueries_L4 g (hX A) sFuel R0.2.1 (hMem A (sNew R0 (sArr 0 0 (fun _ => 0)) 0) S0) := by
    simp only [f_X0_readsQueries, nA]
  have E2 : p_X3_readsRows m s0 = p_X3_readsRows_L35 m 13 sFuel 1 (mSet s0 15 0) := by
    simp only [p_X3_readsRows, qg, qp, obS, f12, if_neg z12, if_neg z12']
  rw [E1, E2]
  have t15 : tAt (mSet s0 15 0) = tAt s0 := congrArg cv (ms_ne s0 _ (by omega))
  have hf := h0.fr
  exact queries_loop m h0 hF r18 e18 h572 400 _ S0 (mSet s0 15 0) R0.2.1 0 (fun _ => 0) (by omega) (h0.ex (s' := mSet s0 15 0) x1.1 hc1 rfl (fun q hq => ms_ne s0 _ (by omega))) (x1.le (by omega) (by omega)) (SF.refl S0) ⟨fun _ _ _ _ => rfl, fun q hq => ms_ne s0 _ (by omega)⟩ at1 (ms_same s0 15 0) (by omega) (fun l hl => by omega) sFuel sFuel (by decide) (by decide)
