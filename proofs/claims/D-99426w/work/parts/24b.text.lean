/-! text, which catches the faults of its reading -/
set_option maxRecDepth 100000
abbrev hh_text : List (Nat × Nat × Nat × Nat) := [((10 : Nat), (29 : Nat), (36 : Nat), (289 : Nat)), ((10 : Nat), (29 : Nat), (62 : Nat), (0 : Nat)), ((36 : Nat), (55 : Nat), (62 : Nat), (0 : Nat)), ((62 : Nat), (64 : Nat), (62 : Nat), (0 : Nat))]
def f_X0_text_J28 (v0 : Nat) (s0 : Int32) (M : sMem) : Option (sRes × sMem) := (sPut M 0 1 v0 (.int (0 : Int32))).bind fun M1 => some (.inl (some (.int s0)), M1)
def f_X0_text_C (v0 : Nat) (q : Nat) (M : sMem) : Option (sRes × sMem) := (sGetI M 4 6 q).bind fun x1 => (sPut M 0 14 v0 (.int x1)).bind fun M1 => (sGetI M1 4 7 q).bind fun x2 => (sPut M1 0 15 v0 (.int x2)).bind fun M2 => (sPut M2 0 1 v0 (.int (0 : Int32))).bind fun M3 => some (.inl (some (.int (-1 : Int32))), M3)
def f_X0_text (g : Nat → Nat) (v0 : Nat) (v1 : Int32) (M : sMem) : Option (sRes × sMem) := (sPut M 0 14 v0 (.int (0 : Int32))).bind fun M1 => (sPut M1 0 15 v0 (.int (-1 : Int32))).bind fun M2 => sCallX (f_X0_isIn v1 (0 : Int32) (3 : Int32) M2) (sCI fun x4 M3 => if x4 = 0 then (f_X0_text_J28 v0 (-1 : Int32) M3) else (sChk M3 0 v0 (sCallX (f_X0_readsText g v0 v1 M3) (sCI fun x6 M5 => f_X0_text_J28 v0 x6 M5) (fun q M5 => f_X0_text_C v0 q M5)))) (fun q M3 => f_X0_text_C v0 q M3)
theorem w_X0_text_J28 (l : Launch) (G : sG) (d : Nat) (v0 : Nat) (s0 : Int32) (M : sMem) : AW l G RX0 yX0_text cX0_text 5 (some .int) hh_text d 28 [some (.ref v0), none, none, none, none] [(.int s0)] M (f_X0_text_J28 v0 s0 M) := by
  unfold f_X0_text_J28
  refine r_istore_n (pc := 28) [some (.ref v0), none, some (.int s0), none, none] dX0_text_28 (by decide) rfl ?_
  refine r_aload_n (pc := 29) dX0_text_29 rfl ?_
  refine r_iconst (pc := 30) (0 : Int32) dX0_text_30 (by decide) ?_
  refine r_put (pc := 31) (k := 1) sC0 (Nat.le_of_ble_eq_true rfl) q348 rfl rfl rfl dX0_text_31 fun M1 => ?_
  refine r_iload_n (pc := 34) dX0_text_34 rfl ?_
  exact r_iret rfl dX0_text_35
theorem w_X0_text_C (l : Launch) (G : sG) (d : Nat) (v0 q : Nat) (M : sMem) : AW l G RX0 yX0_text cX0_text 5 (some .int) hh_text d 36 [some (.ref v0), none, none, none, none] [(.ref q)] M (f_X0_text_C v0 q M) := by
  unfold f_X0_text_C
  refine r_astore_n (pc := 36) [some (.ref v0), none, some (.ref q), none, none] dX0_text_36 (by decide) rfl ?_
  refine r_aload_n (pc := 37) dX0_text_37 rfl ?_
  refine r_aload_n (pc := 38) dX0_text_38 rfl ?_
  refine r_getI (pc := 39) (k := 6) sC4 (Nat.le_of_ble_eq_true rfl) q726 dX0_text_39 fun x1 => ?_
  refine r_put (pc := 42) (k := 14) sC0 (Nat.le_of_ble_eq_true rfl) q361 rfl rfl rfl dX0_text_42 fun M1 => ?_
  refine r_aload_n (pc := 45) dX0_text_45 rfl ?_
  refine r_aload_n (pc := 46) dX0_text_46 rfl ?_
  refine r_getI (pc := 47) (k := 7) sC4 (Nat.le_of_ble_eq_true rfl) q728 dX0_text_47 fun x2 => ?_
  refine r_put (pc := 50) (k := 15) sC0 (Nat.le_of_ble_eq_true rfl) q362 rfl rfl rfl dX0_text_50 fun M2 => ?_
  refine r_iconst (pc := 53) (-1 : Int32) dX0_text_53 (by decide) ?_
  refine r_istore_n (pc := 54) [some (.ref v0), none, some (.ref q), some (.int (-1 : Int32)), none] dX0_text_54 (by decide) rfl ?_
  refine r_aload_n (pc := 55) dX0_text_55 rfl ?_
  refine r_iconst (pc := 56) (0 : Int32) dX0_text_56 (by decide) ?_
  refine r_put (pc := 57) (k := 1) sC0 (Nat.le_of_ble_eq_true rfl) q348 rfl rfl rfl dX0_text_57 fun M3 => ?_
  refine r_iload_n (pc := 60) dX0_text_60 rfl ?_
  exact r_iret rfl dX0_text_61
theorem w_X0_text (l : Launch) (G : sG) (d : Nat) (hd : 74 ≤ d) (v0 : Nat) (v1 : Int32) (M : sMem) : sEv l G yX0_text (wsW_ yX0_text cX0_text 5 (some .int) hh_text) d [(.ref v0), (.int v1)] M (f_X0_text G.2.2.2 v0 v1 M) := by
  refine sEv.ofW [some (.ref v0), some (.int v1), none, none, none] (by decide) (Nat.le_of_ble_eq_true rfl) (fun _ h => h) ?_
  show AW l G RX0 yX0_text cX0_text 5 (some .int) hh_text d 0 [some (.ref v0), some (.int v1), none, none, none] [] M (f_X0_text G.2.2.2 v0 v1 M)
  unfold f_X0_text
  refine r_aload_n (pc := 0) dX0_text_0 rfl ?_
  refine r_iconst (pc := 1) (0 : Int32) dX0_text_1 (by decide) ?_
  refine r_put (pc := 2) (k := 14) sC0 (Nat.le_of_ble_eq_true rfl) q361 rfl rfl rfl dX0_text_2 fun M1 => ?_
  refine r_aload_n (pc := 5) dX0_text_5 rfl ?_
  refine r_iconst (pc := 6) (-1 : Int32) dX0_text_6 (by decide) ?_
  refine r_put (pc := 7) (k := 15) sC0 (Nat.le_of_ble_eq_true rfl) q362 rfl rfl rfl dX0_text_7 fun M2 => ?_
  refine r_iload_n (pc := 10) dX0_text_10 rfl ?_
  refine r_iconst (pc := 11) (0 : Int32) dX0_text_11 (by decide) ?_
  refine r_iconst (pc := 12) (3 : Int32) dX0_text_12 (by decide) ?_
  have kx : ∀ q M1, AW l G RX0 yX0_text cX0_text 5 (some .int) hh_text d 36 [some (.ref v0), some (.int v1), none, none, none] [.ref q] M1 (f_X0_text_C v0 q M1) := fun q M1 => by
    refine r_le [some (.ref v0), none, none, none, none] (And.intro rfl True.intro) ?_
    exact w_X0_text_C l G d v0 q M1
  refine r_callSX ⟨10, 29, 36, 289⟩ [⟨10, 29, 62, 0⟩, ⟨36, 55, 62, 0⟩, ⟨62, 64, 62, 0⟩] rfl rfl (by decide) q513 (pc := 13) [(.int v1), (.int (0 : Int32)), (.int (3 : Int32))] (lw_S q506 q507 q155 q508) cyS_X0_isIn (w_X0_isIn l G 1 (Nat.le_refl _) v1 (0 : Int32) (3 : Int32) M2) (Nat.le_trans (Nat.le_of_ble_eq_true rfl) hd) (Nat.le_of_ble_eq_true rfl) rfl rfl (Nat.le_of_ble_eq_true rfl) dX0_text_13 (sKI fun x4 M3 => ?_) kx
  refine r_if_eq (pc := 16) 27 dX0_text_16 rfl ?_ ?_
  · refine r_iconst (pc := 27) (-1 : Int32) dX0_text_27 (by decide) ?_
    refine r_le [some (.ref v0), none, none, none, none] (And.intro rfl True.intro) ?_
    exact w_X0_text_J28 l G d v0 (-1 : Int32) M3
  · refine r_aload_n (pc := 19) dX0_text_19 rfl ?_
    refine r_iload_n (pc := 20) dX0_text_20 rfl ?_
    refine r_callVX ⟨10, 29, 36, 289⟩ [⟨10, 29, 62, 0⟩, ⟨36, 55, 62, 0⟩, ⟨62, 64, 62, 0⟩] rfl rfl (by decide) q513 (pc := 21) [(.int v1)] sC0 (lw_V q514 q516 qs3 q155 q517) cyV_X0_readsText (w_X0_readsText l G 73 (Nat.le_refl _) v0 v1 M3) (Nat.le_trans (Nat.le_of_ble_eq_true rfl) hd) (Nat.le_of_ble_eq_true rfl) rfl rfl (Nat.le_of_ble_eq_true rfl) dX0_text_21 (sKI fun x6 M5 => ?_) kx
    refine r_goto (pc := 24) 28 dX0_text_24 rfl ?_
    refine r_le [some (.ref v0), none, none, none, none] (And.intro rfl True.intro) ?_
    exact w_X0_text_J28 l G d v0 x6 M5
