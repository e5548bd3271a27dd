set_option maxRecDepth 100000
set_option maxHeartbeats 4000000
/-! CONSTRUCTORS, 4: the model -/
def rc_X14 (R : xRd) : xRd := (u2 (u2 (u2 (u2 (u2 (u2 (u2 (u2 (u2 (u2 (u2 (u2 (u2 (u2 (u2 (u2 (u2 (u2 (u2 (u2 (u2 (u2 (u2 (u2 (u2 (u2 (u2 (u2 (u2 (u2 (u2 (u2 (u2 (u2 R 0 11 (some 1)) 0 13 (some 2)) 0 14 (some 3)) 0 15 (some 4)) 0 16 (some 5)) 0 17 (some 6)) 0 23 (some 7)) 0 24 (some 8)) 0 25 (some 9)) 0 26 (some 10)) 0 27 (some 11)) 0 28 (some 12)) 0 29 (some 13)) 0 30 (some 14)) 0 33 (some 15)) 0 35 (some 16)) 0 36 (some 17)) 0 37 (some 18)) 0 38 (some 19)) 0 45 (some 20)) 0 46 (some 21)) 0 47 (some 22)) 0 48 (some 23)) 0 55 (some 24)) 0 56 (some 25)) 0 58 (some 26)) 0 59 (some 27)) 0 60 (some 28)) 0 61 (some 29)) 0 62 (some 30)) 0 63 (some 31)) 0 67 (some 32)) 0 71 (some 33)) 0 73 (some 34))
def ic_X14 (I : mI) : mI := (u2 (u2 (u2 (u2 (u2 (u2 (u2 (u2 (u2 (u2 (u2 (u2 (u2 I 0 2 10) 0 4 5) 0 5 2) 0 18 1) 0 34 (-1)) 26 0 (-1)) 26 1 (-1)) 26 2 (-1)) 26 3 (-1)) 29 0 (-1)) 29 1 (-1)) 29 2 (-1)) 29 3 (-1))
theorem cl_X14 {R : xRd} {J : mJ} {I : mI} (hc : Cln 1 R J I) : Cln 35 (rc_X14 R) J (ic_X14 I) := by
  have hc := hc.I (k := 2) (v := 10) (show 0 < 1 from (show 0 < 1 by omega))
  have hc := hc.I (k := 4) (v := 5) (show 0 < 1 from (show 0 < 1 by omega))
  have hc := hc.I (k := 5) (v := 2) (show 0 < 1 from (show 0 < 1 by omega))
  have hc := hc.up (Nat.le_succ _)
  have hc := hc.R (k := 11) (v := (some 1)) (show 0 < 2 from (show 0 < 2 by omega))
  have hc := hc.up (Nat.le_succ _)
  have hc := hc.R (k := 13) (v := (some 2)) (show 0 < 3 from (show 0 < 3 by omega))
  have hc := hc.up (Nat.le_succ _)
  have hc := hc.R (k := 14) (v := (some 3)) (show 0 < 4 from (show 0 < 4 by omega))
  have hc := hc.up (Nat.le_succ _)
  have hc := hc.R (k := 15) (v := (some 4)) (show 0 < 5 from (show 0 < 5 by omega))
  have hc := hc.up (Nat.le_succ _)
  have hc := hc.R (k := 16) (v := (some 5)) (show 0 < 6 from (show 0 < 6 by omega))
  have hc := hc.up (Nat.le_succ _)
  have hc := hc.R (k := 17) (v := (some 6)) (show 0 < 7 from (show 0 < 7 by omega))
  have hc := hc.I (k := 18) (v := 1) (show 0 < 7 from (show 0 < 7 by omega))
  have hc := hc.up (Nat.le_succ _)
  have hc := hc.R (k := 23) (v := (some 7)) (show 0 < 8 from (show 0 < 8 by omega))
  have hc := hc.up (Nat.le_succ _)
  have hc := hc.R (k := 24) (v := (some 8)) (show 0 < 9 from (show 0 < 9 by omega))
  have hc := hc.up (Nat.le_succ _)
  have hc := hc.R (k := 25) (v := (some 9)) (show 0 < 10 from (show 0 < 10 by omega))
  have hc := hc.up (Nat.le_succ _)
  have hc := hc.R (k := 26) (v := (some 10)) (show 0 < 11 from (show 0 < 11 by omega))
  have hc := hc.up (Nat.le_succ _)
  have hc := hc.R (k := 27) (v := (some 11)) (show 0 < 12 from (show 0 < 12 by omega))
  have hc := hc.up (Nat.le_succ _)
  have hc := hc.R (k := 28) (v := (some 12)) (show 0 < 13 from (show 0 < 13 by omega))
  have hc := hc.up (Nat.le_succ _)
  have hc := hc.R (k := 29) (v := (some 13)) (show 0 < 14 from (show 0 < 14 by omega))
  have hc := hc.up (Nat.le_succ _)
  have hc := hc.R (k := 30) (v := (some 14)) (show 0 < 15 from (show 0 < 15 by omega))
  have hc := hc.up (Nat.le_succ _)
  have hc := hc.R (k := 33) (v := (some 15)) (show 0 < 16 from (show 0 < 16 by omega))
  have hc := hc.I (k := 34) (v := (-1)) (show 0 < 16 from (show 0 < 16 by omega))
  have hc := hc.up (Nat.le_succ _)
  have hc := hc.R (k := 35) (v := (some 16)) (show 0 < 17 from (show 0 < 17 by omega))
  have hc := hc.up (Nat.le_succ _)
  have hc := hc.R (k := 36) (v := (some 17)) (show 0 < 18 from (show 0 < 18 by omega))
  have hc := hc.up (Nat.le_succ _)
  have hc := hc.R (k := 37) (v := (some 18)) (show 0 < 19 from (show 0 < 19 by omega))
  have hc := hc.up (Nat.le_succ _)
  have hc := hc.R (k := 38) (v := (some 19)) (show 0 < 20 from (show 0 < 20 by omega))
  have hc := hc.up (Nat.le_succ _)
  have hc := hc.R (k := 45) (v := (some 20)) (show 0 < 21 from (show 0 < 21 by omega))
  have hc := hc.up (Nat.le_succ _)
  have hc := hc.R (k := 46) (v := (some 21)) (show 0 < 22 from (show 0 < 22 by omega))
  have hc := hc.up (Nat.le_succ _)
  have hc := hc.R (k := 47) (v := (some 22)) (show 0 < 23 from (show 0 < 23 by omega))
  have hc := hc.up (Nat.le_succ _)
  have hc := hc.R (k := 48) (v := (some 23)) (show 0 < 24 from (show 0 < 24 by omega))
  have hc := hc.up (Nat.le_succ _)
  have hc := hc.R (k := 55) (v := (some 24)) (show 0 < 25 from (show 0 < 25 by omega))
  have hc := hc.up (Nat.le_succ _)
  have hc := hc.R (k := 56) (v := (some 25)) (show 0 < 26 from (show 0 < 26 by omega))
  have hc := hc.up (Nat.le_succ _)
  have hc := hc.I (k := 0) (v := (-1)) (show 26 < 27 from (show 26 < 27 by omega))
  have hc := hc.I (k := 1) (v := (-1)) (show 26 < 27 from (show 26 < 27 by omega))
  have hc := hc.I (k := 2) (v := (-1)) (show 26 < 27 from (show 26 < 27 by omega))
  have hc := hc.I (k := 3) (v := (-1)) (show 26 < 27 from (show 26 < 27 by omega))
  have hc := hc.R (k := 58) (v := (some 26)) (show 0 < 27 from (show 0 < 27 by omega))
  have hc := hc.up (Nat.le_succ _)
  have hc := hc.R (k := 59) (v := (some 27)) (show 0 < 28 from (show 0 < 28 by omega))
  have hc := hc.up (Nat.le_succ _)
  have hc := hc.R (k := 60) (v := (some 28)) (show 0 < 29 from (show 0 < 29 by omega))
  have hc := hc.up (Nat.le_succ _)
  have hc := hc.I (k := 0) (v := (-1)) (show 29 < 30 from (show 29 < 30 by omega))
  have hc := hc.I (k := 1) (v := (-1)) (show 29 < 30 from (show 29 < 30 by omega))
  have hc := hc.I (k := 2) (v := (-1)) (show 29 < 30 from (show 29 < 30 by omega))
  have hc := hc.I (k := 3) (v := (-1)) (show 29 < 30 from (show 29 < 30 by omega))
  have hc := hc.R (k := 61) (v := (some 29)) (show 0 < 30 from (show 0 < 30 by omega))
  have hc := hc.up (Nat.le_succ _)
  have hc := hc.R (k := 62) (v := (some 30)) (show 0 < 31 from (show 0 < 31 by omega))
  have hc := hc.up (Nat.le_succ _)
  have hc := hc.R (k := 63) (v := (some 31)) (show 0 < 32 from (show 0 < 32 by omega))
  have hc := hc.up (Nat.le_succ _)
  have hc := hc.R (k := 67) (v := (some 32)) (show 0 < 33 from (show 0 < 33 by omega))
  have hc := hc.up (Nat.le_succ _)
  have hc := hc.R (k := 71) (v := (some 33)) (show 0 < 34 from (show 0 < 34 by omega))
  have hc := hc.up (Nat.le_succ _)
  have hc := hc.R (k := 73) (v := (some 34)) (show 0 < 35 from (show 0 < 35 by omega))
  exact hc
theorem cc_X14 {R : xRd} {J : mJ} {I : mI} (hc : Cln 1 R J I) : hh_Ct yX14_init cX14_init 1 none 1 20 [.ref 0] (hg mK mL 1 R J I) (fun v h' => v = none ∧ h' = hg mK mL 35 (rc_X14 R) J (ic_X14 I)) 34 207024 := by
  refine hh_Ct.ofN (own := RX14) rfl (by decide +kernel) (Nat.le_of_ble_eq_true rfl) ?_
  intro X hX hN hE hNm
  show hh_V X 0 [(0, .ref 0)] [] 0 0 (hg mK mL 1 R J I)
  refine hv_aload_n hX dX14_init_0 rfl 0 rfl ?_
  refine hv_objinit hX dX14_init_1 q1694 q153 q154 hN ⟨Nat.le_of_ble_eq_true rfl, Nat.le_of_ble_eq_true rfl⟩ ?_
  refine hv_aload_n hX dX14_init_4 rfl 0 rfl ?_
  refine hv_bipush (v := 10) hX bix_10 dX14_init_5 ?_
  refine hv_putI hX dX14_init_7 fl14_7_14 (show 0 < 1 by omega) rfl ?_
  have hc := hc.I (k := 2) (v := 10) (show 0 < 1 from (show 0 < 1 by omega))
  show hh_V X 10 [(0, .ref 0)] [] 0 0 (hg mK mL 1 R J (u2 I 0 2 10))
  refine hv_aload_n hX dX14_init_10 rfl 0 rfl ?_
  refine hv_iconst (v := 5) hX icx_5 dX14_init_11 ?_
  refine hv_putI hX dX14_init_12 fl14_13_14 (show 0 < 1 by omega) rfl ?_
  have hc := hc.I (k := 4) (v := 5) (show 0 < 1 from (show 0 < 1 by omega))
  show hh_V X 15 [(0, .ref 0)] [] 0 0 (hg mK mL 1 R J (u2 (u2 I 0 2 10) 0 4 5))
  refine hv_aload_n hX dX14_init_15 rfl 0 rfl ?_
  refine hv_iconst (v := 2) hX icx_2 dX14_init_16 ?_
  refine hv_putI hX dX14_init_17 fl14_16_14 (show 0 < 1 by omega) rfl ?_
  have hc := hc.I (k := 5) (v := 2) (show 0 < 1 from (show 0 < 1 by omega))
  show hh_V X 20 [(0, .ref 0)] [] 0 0 (hg mK mL 1 R J (u2 (u2 (u2 I 0 2 10) 0 4 5) 0 5 2))
  refine hv_aload_n hX dX14_init_20 rfl 0 rfl ?_
  refine hv_bipush (v := 44) hX bix_44 dX14_init_21 ?_
  refine hg_newA (atype := .int) (a := 0) (N := 44) hX 0 rfl (by decide) rfl (by decide) rfl q196 dX14_init_23 (by decide) (by decide) (Nat.le_of_ble_eq_true rfl) (by omega) rfl rfl hc ⟨Nat.le_of_ble_eq_true rfl, Nat.le_of_ble_eq_true rfl⟩ ?_
  have hc := hc.up (Nat.le_succ _)
  show hh_V X 25 [(0, .ref 0)] [.ref 1, .ref 0] 1 44 (hg mK mL 2 R J (u2 (u2 (u2 I 0 2 10) 0 4 5) 0 5 2))
  refine hv_putFR (v := (some 1)) hX hNm dX14_init_25 fl14_19_14 ⟨RX14, TX14, 74, "HungryHedgeModel", rfl, rfl, q1707, .inl rfl⟩ (show 0 < 2 by omega) rfl ?_
  have hc := hc.R (k := 11) (v := (some 1)) (show 0 < 2 from (show 0 < 2 by omega))
  show hh_V X 28 [(0, .ref 0)] [] 1 44 (hg mK mL 2 (u2 R 0 11 (some 1)) J (u2 (u2 (u2 I 0 2 10) 0 4 5) 0 5 2))
  refine hv_aload_n hX dX14_init_28 rfl 0 rfl ?_
  refine hv_bipush (v := 16) hX bix_16 dX14_init_29 ?_
  refine hg_newA (atype := .int) (a := 0) (N := 16) hX 0 rfl (by decide) rfl (by decide) rfl q196 dX14_init_31 (by decide) (by decide) (Nat.le_of_ble_eq_true rfl) (by omega) rfl rfl hc ⟨Nat.le_of_ble_eq_true rfl, Nat.le_of_ble_eq_true rfl⟩ ?_
  have hc := hc.up (Nat.le_succ _)
  show hh_V X 33 [(0, .ref 0)] [.ref 2, .ref 0] 2 60 (hg mK mL 3 (u2 R 0 11 (some 1)) J (u2 (u2 (u2 I 0 2 10) 0 4 5) 0 5 2))
  refine hv_putFR (v := (some 2)) hX hNm dX14_init_33 fl14_23_14 ⟨RX14, TX14, 74, "HungryHedgeModel", rfl, rfl, q1709, .inl rfl⟩ (show 0 < 3 by omega) rfl ?_
  have hc := hc.R (k := 13) (v := (some 2)) (show 0 < 3 from (show 0 < 3 by omega))
  show hh_V X 36 [(0, .ref 0)] [] 2 60 (hg mK mL 3 (u2 (u2 R 0 11 (some 1)) 0 13 (some 2)) J (u2 (u2 (u2 I 0 2 10) 0 4 5) 0 5 2))
  refine hv_aload_n hX dX14_init_36 rfl 0 rfl ?_
  refine hv_bipush (v := 40) hX bix_40 dX14_init_37 ?_
  refine hg_newA (atype := .int) (a := 0) (N := 40) hX 0 rfl (by decide) rfl (by decide) rfl q196 dX14_init_39 (by decide) (by decide) (Nat.le_of_ble_eq_true rfl) (by omega) rfl rfl hc ⟨Nat.le_of_ble_eq_true rfl, Nat.le_of_ble_eq_true rfl⟩ ?_
  have hc := hc.up (Nat.le_succ _)
  show hh_V X 41 [(0, .ref 0)] [.ref 3, .ref 0] 3 100 (hg mK mL 4 (u2 (u2 R 0 11 (some 1)) 0 13 (some 2)) J (u2 (u2 (u2 I 0 2 10) 0 4 5) 0 5 2))
  refine hv_putFR (v := (some 3)) hX hNm dX14_init_41 fl14_26_14 ⟨RX14, TX14, 74, "HungryHedgeModel", rfl, rfl, q1710, .inl rfl⟩ (show 0 < 4 by omega) rfl ?_
  have hc := hc.R (k := 14) (v := (some 3)) (show 0 < 4 from (show 0 < 4 by omega))
  show hh_V X 44 [(0, .ref 0)] [] 3 100 (hg mK mL 4 (u2 (u2 (u2 R 0 11 (some 1)) 0 13 (some 2)) 0 14 (some 3)) J (u2 (u2 (u2 I 0 2 10) 0 4 5) 0 5 2))
  refine hv_aload_n hX dX14_init_44 rfl 0 rfl ?_
  refine hv_bipush (v := 6) hX bix_6 dX14_init_45 ?_
  refine hg_newA (atype := .int) (a := 0) (N := 6) hX 0 rfl (by decide) rfl (by decide) rfl q196 dX14_init_47 (by decide) (by decide) (Nat.le_of_ble_eq_true rfl) (by omega) rfl rfl hc ⟨Nat.le_of_ble_eq_true rfl, Nat.le_of_ble_eq_true rfl⟩ ?_
  have hc := hc.up (Nat.le_succ _)
  show hh_V X 49 [(0, .ref 0)] [.ref 4, .ref 0] 4 106 (hg mK mL 5 (u2 (u2 (u2 R 0 11 (some 1)) 0 13 (some 2)) 0 14 (some 3)) J (u2 (u2 (u2 I 0 2 10) 0 4 5) 0 5 2))
  refine hv_putFR (v := (some 4)) hX hNm dX14_init_49 fl14_29_14 ⟨RX14, TX14, 74, "HungryHedgeModel", rfl, rfl, q1711, .inl rfl⟩ (show 0 < 5 by omega) rfl ?_
  have hc := hc.R (k := 15) (v := (some 4)) (show 0 < 5 from (show 0 < 5 by omega))
  show hh_V X 52 [(0, .ref 0)] [] 4 106 (hg mK mL 5 (u2 (u2 (u2 (u2 R 0 11 (some 1)) 0 13 (some 2)) 0 14 (some 3)) 0 15 (some 4)) J (u2 (u2 (u2 I 0 2 10) 0 4 5) 0 5 2))
  refine hv_aload_n hX dX14_init_52 rfl 0 rfl ?_
  refine hv_bipush (v := 6) hX bix_6 dX14_init_53 ?_
  refine hg_newA (atype := .int) (a := 0) (N := 6) hX 0 rfl (by decide) rfl (by decide) rfl q196 dX14_init_55 (by decide) (by decide) (Nat.le_of_ble_eq_true rfl) (by omega) rfl rfl hc ⟨Nat.le_of_ble_eq_true rfl, Nat.le_of_ble_eq_true rfl⟩ ?_
  have hc := hc.up (Nat.le_succ _)
  show hh_V X 57 [(0, .ref 0)] [.ref 5, .ref 0] 5 112 (hg mK mL 6 (u2 (u2 (u2 (u2 R 0 11 (some 1)) 0 13 (some 2)) 0 14 (some 3)) 0 15 (some 4)) J (u2 (u2 (u2 I 0 2 10) 0 4 5) 0 5 2))
  refine hv_putFR (v := (some 5)) hX hNm dX14_init_57 fl14_32_14 ⟨RX14, TX14, 74, "HungryHedgeModel", rfl, rfl, q1712, .inl rfl⟩ (show 0 < 6 by omega) rfl ?_
  have hc := hc.R (k := 16) (v := (some 5)) (show 0 < 6 from (show 0 < 6 by omega))
  show hh_V X 60 [(0, .ref 0)] [] 5 112 (hg mK mL 6 (u2 (u2 (u2 (u2 (u2 R 0 11 (some 1)) 0 13 (some 2)) 0 14 (some 3)) 0 15 (some 4)) 0 16 (some 5)) J (u2 (u2 (u2 I 0 2 10) 0 4 5) 0 5 2))
  refine hv_aload_n hX dX14_init_60 rfl 0 rfl ?_
  refine hv_sipush (v := 210) hX six_210 dX14_init_61 ?_
  refine hg_newA (atype := .int) (a := 0) (N := 210) hX 0 rfl (by decide) rfl (by decide) rfl q196 dX14_init_64 (by decide) (by decide) (Nat.le_of_ble_eq_true rfl) (by omega) rfl rfl hc ⟨Nat.le_of_ble_eq_true rfl, Nat.le_of_ble_eq_true rfl⟩ ?_
  have hc := hc.up (Nat.le_succ _)
  show hh_V X 66 [(0, .ref 0)] [.ref 6, .ref 0] 6 322 (hg mK mL 7 (u2 (u2 (u2 (u2 (u2 R 0 11 (some 1)) 0 13 (some 2)) 0 14 (some 3)) 0 15 (some 4)) 0 16 (some 5)) J (u2 (u2 (u2 I 0 2 10) 0 4 5) 0 5 2))
  refine hv_putFR (v := (some 6)) hX hNm dX14_init_66 fl14_35_14 ⟨RX14, TX14, 74, "HungryHedgeModel", rfl, rfl, q1713, .inl rfl⟩ (show 0 < 7 by omega) rfl ?_
  have hc := hc.R (k := 17) (v := (some 6)) (show 0 < 7 from (show 0 < 7 by omega))
  show hh_V X 69 [(0, .ref 0)] [] 6 322 (hg mK mL 7 (u2 (u2 (u2 (u2 (u2 (u2 R 0 11 (some 1)) 0 13 (some 2)) 0 14 (some 3)) 0 15 (some 4)) 0 16 (some 5)) 0 17 (some 6)) J (u2 (u2 (u2 I 0 2 10) 0 4 5) 0 5 2))
  refine hv_aload_n hX dX14_init_69 rfl 0 rfl ?_
  refine hv_iconst (v := 1) hX icx_1 dX14_init_70 ?_
  refine hv_putI hX dX14_init_71 fl14_38_14 (show 0 < 7 by omega) rfl ?_
  have hc := hc.I (k := 18) (v := 1) (show 0 < 7 from (show 0 < 7 by omega))
  show hh_V X 74 [(0, .ref 0)] [] 6 322 (hg mK mL 7 (u2 (u2 (u2 (u2 (u2 (u2 R 0 11 (some 1)) 0 13 (some 2)) 0 14 (some 3)) 0 15 (some 4)) 0 16 (some 5)) 0 17 (some 6)) J (u2 (u2 (u2 (u2 I 0 2 10) 0 4 5) 0 5 2) 0 18 1))
  refine hv_aload_n hX dX14_init_74 rfl 0 rfl ?_
  refine hv_ldc (v := 201684) hX dX14_init_75 q1695 ?_
  refine hg_newA (atype := .int) (a := 0) (N := 201684) hX 0 rfl (by decide) rfl (by decide) rfl q196 dX14_init_77 (by decide) (by decide) (Nat.le_of_ble_eq_true rfl) (by omega) rfl rfl hc ⟨Nat.le_of_ble_eq_true rfl, Nat.le_of_ble_eq_true rfl⟩ ?_
  have hc := hc.up (Nat.le_succ _)
  show hh_V X 79 [(0, .ref 0)] [.ref 7, .ref 0] 7 202006 (hg mK mL 8 (u2 (u2 (u2 (u2 (u2 (u2 R 0 11 (some 1)) 0 13 (some 2)) 0 14 (some 3)) 0 15 (some 4)) 0 16 (some 5)) 0 17 (some 6)) J (u2 (u2 (u2 (u2 I 0 2 10) 0 4 5) 0 5 2) 0 18 1))
  refine hv_putFR (v := (some 7)) hX hNm dX14_init_79 fl14_42_14 ⟨RX14, TX14, 74, "HungryHedgeModel", rfl, rfl, q1719, .inl rfl⟩ (show 0 < 8 by omega) rfl ?_
  have hc := hc.R (k := 23) (v := (some 7)) (show 0 < 8 from (show 0 < 8 by omega))
  show hh_V X 82 [(0, .ref 0)] [] 7 202006 (hg mK mL 8 (u2 (u2 (u2 (u2 (u2 (u2 (u2 R 0 11 (some 1)) 0 13 (some 2)) 0 14 (some 3)) 0 15 (some 4)) 0 16 (some 5)) 0 17 (some 6)) 0 23 (some 7)) J (u2 (u2 (u2 (u2 I 0 2 10) 0 4 5) 0 5 2) 0 18 1))
  refine hv_aload_n hX dX14_init_82 rfl 0 rfl ?_
  refine hv_bipush (v := 24) hX bix_24 dX14_init_83 ?_
  refine hg_newA (atype := .int) (a := 0) (N := 24) hX 0 rfl (by decide) rfl (by decide) rfl q196 dX14_init_85 (by decide) (by decide) (Nat.le_of_ble_eq_true rfl) (by omega) rfl rfl hc ⟨Nat.le_of_ble_eq_true rfl, Nat.le_of_ble_eq_true rfl⟩ ?_
  have hc := hc.up (Nat.le_succ _)
  show hh_V X 87 [(0, .ref 0)] [.ref 8, .ref 0] 8 202030 (hg mK mL 9 (u2 (u2 (u2 (u2 (u2 (u2 (u2 R 0 11 (some 1)) 0 13 (some 2)) 0 14 (some 3)) 0 15 (some 4)) 0 16 (some 5)) 0 17 (some 6)) 0 23 (some 7)) J (u2 (u2 (u2 (u2 I 0 2 10) 0 4 5) 0 5 2) 0 18 1))
  refine hv_putFR (v := (some 8)) hX hNm dX14_init_87 fl14_45_14 ⟨RX14, TX14, 74, "HungryHedgeModel", rfl, rfl, q1720, .inl rfl⟩ (show 0 < 9 by omega) rfl ?_
  have hc := hc.R (k := 24) (v := (some 8)) (show 0 < 9 from (show 0 < 9 by omega))
  show hh_V X 90 [(0, .ref 0)] [] 8 202030 (hg mK mL 9 (u2 (u2 (u2 (u2 (u2 (u2 (u2 (u2 R 0 11 (some 1)) 0 13 (some 2)) 0 14 (some 3)) 0 15 (some 4)) 0 16 (some 5)) 0 17 (some 6)) 0 23 (some 7)) 0 24 (some 8)) J (u2 (u2 (u2 (u2 I 0 2 10) 0 4 5) 0 5 2) 0 18 1))
  refine hv_aload_n hX dX14_init_90 rfl 0 rfl ?_
  refine hv_bipush (v := 24) hX bix_24 dX14_init_91 ?_
  refine hg_newA (atype := .int) (a := 0) (N := 24) hX 0 rfl (by decide) rfl (by decide) rfl q196 dX14_init_93 (by decide) (by decide) (Nat.le_of_ble_eq_true rfl) (by omega) rfl rfl hc ⟨Nat.le_of_ble_eq_true rfl, Nat.le_of_ble_eq_true rfl⟩ ?_
  have hc := hc.up (Nat.le_succ _)
  show hh_V X 95 [(0, .ref 0)] [.ref 9, .ref 0] 9 202054 (hg mK mL 10 (u2 (u2 (u2 (u2 (u2 (u2 (u2 (u2 R 0 11 (some 1)) 0 13 (some 2)) 0 14 (some 3)) 0 15 (some 4)) 0 16 (some 5)) 0 17 (some 6)) 0 23 (some 7)) 0 24 (some 8)) J (u2 (u2 (u2 (u2 I 0 2 10) 0 4 5) 0 5 2) 0 18 1))
  refine hv_putFR (v := (some 9)) hX hNm dX14_init_95 fl14_48_14 ⟨RX14, TX14, 74, "HungryHedgeModel", rfl, rfl, q1721, .inl rfl⟩ (show 0 < 10 by omega) rfl ?_
  have hc := hc.R (k := 25) (v := (some 9)) (show 0 < 10 from (show 0 < 10 by omega))
  show hh_V X 98 [(0, .ref 0)] [] 9 202054 (hg mK mL 10 (u2 (u2 (u2 (u2 (u2 (u2 (u2 (u2 (u2 R 0 11 (some 1)) 0 13 (some 2)) 0 14 (some 3)) 0 15 (some 4)) 0 16 (some 5)) 0 17 (some 6)) 0 23 (some 7)) 0 24 (some 8)) 0 25 (some 9)) J (u2 (u2 (u2 (u2 I 0 2 10) 0 4 5) 0 5 2) 0 18 1))
  refine hv_aload_n hX dX14_init_98 rfl 0 rfl ?_
  refine hv_bipush (v := 24) hX bix_24 dX14_init_99 ?_
  refine hg_newA (atype := .int) (a := 0) (N := 24) hX 0 rfl (by decide) rfl (by decide) rfl q196 dX14_init_101 (by decide) (by decide) (Nat.le_of_ble_eq_true rfl) (by omega) rfl rfl hc ⟨Nat.le_of_ble_eq_true rfl, Nat.le_of_ble_eq_true rfl⟩ ?_
  have hc := hc.up (Nat.le_succ _)
  show hh_V X 103 [(0, .ref 0)] [.ref 10, .ref 0] 10 202078 (hg mK mL 11 (u2 (u2 (u2 (u2 (u2 (u2 (u2 (u2 (u2 R 0 11 (some 1)) 0 13 (some 2)) 0 14 (some 3)) 0 15 (some 4)) 0 16 (some 5)) 0 17 (some 6)) 0 23 (some 7)) 0 24 (some 8)) 0 25 (some 9)) J (u2 (u2 (u2 (u2 I 0 2 10) 0 4 5) 0 5 2) 0 18 1))
  refine hv_putFR (v := (some 10)) hX hNm dX14_init_103 fl14_51_14 ⟨RX14, TX14, 74, "HungryHedgeModel", rfl, rfl, q1722, .inl rfl⟩ (show 0 < 11 by omega) rfl ?_
  have hc := hc.R (k := 26) (v := (some 10)) (show 0 < 11 from (show 0 < 11 by omega))
  show hh_V X 106 [(0, .ref 0)] [] 10 202078 (hg mK mL 11 (u2 (u2 (u2 (u2 (u2 (u2 (u2 (u2 (u2 (u2 R 0 11 (some 1)) 0 13 (some 2)) 0 14 (some 3)) 0 15 (some 4)) 0 16 (some 5)) 0 17 (some 6)) 0 23 (some 7)) 0 24 (some 8)) 0 25 (some 9)) 0 26 (some 10)) J (u2 (u2 (u2 (u2 I 0 2 10) 0 4 5) 0 5 2) 0 18 1))
  refine hv_aload_n hX dX14_init_106 rfl 0 rfl ?_
  refine hv_bipush (v := 24) hX bix_24 dX14_init_107 ?_
  refine hg_newA (atype := .int) (a := 0) (N := 24) hX 0 rfl (by decide) rfl (by decide) rfl q196 dX14_init_109 (by decide) (by decide) (Nat.le_of_ble_eq_true rfl) (by omega) rfl rfl hc ⟨Nat.le_of_ble_eq_true rfl, Nat.le_of_ble_eq_true rfl⟩ ?_
  have hc := hc.up (Nat.le_succ _)
  show hh_V X 111 [(0, .ref 0)] [.ref 11, .ref 0] 11 202102 (hg mK mL 12 (u2 (u2 (u2 (u2 (u2 (u2 (u2 (u2 (u2 (u2 R 0 11 (some 1)) 0 13 (some 2)) 0 14 (some 3)) 0 15 (some 4)) 0 16 (some 5)) 0 17 (some 6)) 0 23 (some 7)) 0 24 (some 8)) 0 25 (some 9)) 0 26 (some 10)) J (u2 (u2 (u2 (u2 I 0 2 10) 0 4 5) 0 5 2) 0 18 1))
  refine hv_putFR (v := (some 11)) hX hNm dX14_init_111 fl14_54_14 ⟨RX14, TX14, 74, "HungryHedgeModel", rfl, rfl, q1723, .inl rfl⟩ (show 0 < 12 by omega) rfl ?_
  have hc := hc.R (k := 27) (v := (some 11)) (show 0 < 12 from (show 0 < 12 by omega))
  show hh_V X 114 [(0, .ref 0)] [] 11 202102 (hg mK mL 12 (u2 (u2 (u2 (u2 (u2 (u2 (u2 (u2 (u2 (u2 (u2 R 0 11 (some 1)) 0 13 (some 2)) 0 14 (some 3)) 0 15 (some 4)) 0 16 (some 5)) 0 17 (some 6)) 0 23 (some 7)) 0 24 (some 8)) 0 25 (some 9)) 0 26 (some 10)) 0 27 (some 11)) J (u2 (u2 (u2 (u2 I 0 2 10) 0 4 5) 0 5 2) 0 18 1))
  refine hv_aload_n hX dX14_init_114 rfl 0 rfl ?_
  refine hv_bipush (v := 24) hX bix_24 dX14_init_115 ?_
  refine hg_newA (atype := .int) (a := 0) (N := 24) hX 0 rfl (by decide) rfl (by decide) rfl q196 dX14_init_117 (by decide) (by decide) (Nat.le_of_ble_eq_true rfl) (by omega) rfl rfl hc ⟨Nat.le_of_ble_eq_true rfl, Nat.le_of_ble_eq_true rfl⟩ ?_
  have hc := hc.up (Nat.le_succ _)
  show hh_V X 119 [(0, .ref 0)] [.ref 12, .ref 0] 12 202126 (hg mK mL 13 (u2 (u2 (u2 (u2 (u2 (u2 (u2 (u2 (u2 (u2 (u2 R 0 11 (some 1)) 0 13 (some 2)) 0 14 (some 3)) 0 15 (some 4)) 0 16 (some 5)) 0 17 (some 6)) 0 23 (some 7)) 0 24 (some 8)) 0 25 (some 9)) 0 26 (some 10)) 0 27 (some 11)) J (u2 (u2 (u2 (u2 I 0 2 10) 0 4 5) 0 5 2) 0 18 1))
  refine hv_putFR (v := (some 12)) hX hNm dX14_init_119 fl14_57_14 ⟨RX14, TX14, 74, "HungryHedgeModel", rfl, rfl, q1724, .inl rfl⟩ (show 0 < 13 by omega) rfl ?_
  have hc := hc.R (k := 28) (v := (some 12)) (show 0 < 13 from (show 0 < 13 by omega))
  show hh_V X 122 [(0, .ref 0)] [] 12 202126 (hg mK mL 13 (u2 (u2 (u2 (u2 (u2 (u2 (u2 (u2 (u2 (u2 (u2 (u2 R 0 11 (some 1)) 0 13 (some 2)) 0 14 (some 3)) 0 15 (some 4)) 0 16 (some 5)) 0 17 (some 6)) 0 23 (some 7)) 0 24 (some 8)) 0 25 (some 9)) 0 26 (some 10)) 0 27 (some 11)) 0 28 (some 12)) J (u2 (u2 (u2 (u2 I 0 2 10) 0 4 5) 0 5 2) 0 18 1))
  refine hv_aload_n hX dX14_init_122 rfl 0 rfl ?_
  refine hv_iconst (v := 4) hX icx_4 dX14_init_123 ?_
  refine hg_newA (atype := .int) (a := 0) (N := 4) hX 0 rfl (by decide) rfl (by decide) rfl q196 dX14_init_124 (by decide) (by decide) (Nat.le_of_ble_eq_true rfl) (by omega) rfl rfl hc ⟨Nat.le_of_ble_eq_true rfl, Nat.le_of_ble_eq_true rfl⟩ ?_
  have hc := hc.up (Nat.le_succ _)
  show hh_V X 126 [(0, .ref 0)] [.ref 13, .ref 0] 13 202130 (hg mK mL 14 (u2 (u2 (u2 (u2 (u2 (u2 (u2 (u2 (u2 (u2 (u2 (u2 R 0 11 (some 1)) 0 13 (some 2)) 0 14 (some 3)) 0 15 (some 4)) 0 16 (some 5)) 0 17 (some 6)) 0 23 (some 7)) 0 24 (some 8)) 0 25 (some 9)) 0 26 (some 10)) 0 27 (some 11)) 0 28 (some 12)) J (u2 (u2 (u2 (u2 I 0 2 10) 0 4 5) 0 5 2) 0 18 1))
  refine hv_putFR (v := (some 13)) hX hNm dX14_init_126 fl14_60_14 ⟨RX14, TX14, 74, "HungryHedgeModel", rfl, rfl, q1725, .inl rfl⟩ (show 0 < 14 by omega) rfl ?_
  have hc := hc.R (k := 29) (v := (some 13)) (show 0 < 14 from (show 0 < 14 by omega))
  show hh_V X 129 [(0, .ref 0)] [] 13 202130 (hg mK mL 14 (u2 (u2 (u2 (u2 (u2 (u2 (u2 (u2 (u2 (u2 (u2 (u2 (u2 R 0 11 (some 1)) 0 13 (some 2)) 0 14 (some 3)) 0 15 (some 4)) 0 16 (some 5)) 0 17 (some 6)) 0 23 (some 7)) 0 24 (some 8)) 0 25 (some 9)) 0 26 (some 10)) 0 27 (some 11)) 0 28 (some 12)) 0 29 (some 13)) J (u2 (u2 (u2 (u2 I 0 2 10) 0 4 5) 0 5 2) 0 18 1))
  refine hv_aload_n hX dX14_init_129 rfl 0 rfl ?_
  refine hv_iconst (v := 4) hX icx_4 dX14_init_130 ?_
  refine hg_newA (atype := .int) (a := 0) (N := 4) hX 0 rfl (by decide) rfl (by decide) rfl q196 dX14_init_131 (by decide) (by decide) (Nat.le_of_ble_eq_true rfl) (by omega) rfl rfl hc ⟨Nat.le_of_ble_eq_true rfl, Nat.le_of_ble_eq_true rfl⟩ ?_
  have hc := hc.up (Nat.le_succ _)
  show hh_V X 133 [(0, .ref 0)] [.ref 14, .ref 0] 14 202134 (hg mK mL 15 (u2 (u2 (u2 (u2 (u2 (u2 (u2 (u2 (u2 (u2 (u2 (u2 (u2 R 0 11 (some 1)) 0 13 (some 2)) 0 14 (some 3)) 0 15 (some 4)) 0 16 (some 5)) 0 17 (some 6)) 0 23 (some 7)) 0 24 (some 8)) 0 25 (some 9)) 0 26 (some 10)) 0 27 (some 11)) 0 28 (some 12)) 0 29 (some 13)) J (u2 (u2 (u2 (u2 I 0 2 10) 0 4 5) 0 5 2) 0 18 1))
  refine hv_putFR (v := (some 14)) hX hNm dX14_init_133 fl14_63_14 ⟨RX14, TX14, 74, "HungryHedgeModel", rfl, rfl, q1726, .inl rfl⟩ (show 0 < 15 by omega) rfl ?_
  have hc := hc.R (k := 30) (v := (some 14)) (show 0 < 15 from (show 0 < 15 by omega))
  show hh_V X 136 [(0, .ref 0)] [] 14 202134 (hg mK mL 15 (u2 (u2 (u2 (u2 (u2 (u2 (u2 (u2 (u2 (u2 (u2 (u2 (u2 (u2 R 0 11 (some 1)) 0 13 (some 2)) 0 14 (some 3)) 0 15 (some 4)) 0 16 (some 5)) 0 17 (some 6)) 0 23 (some 7)) 0 24 (some 8)) 0 25 (some 9)) 0 26 (some 10)) 0 27 (some 11)) 0 28 (some 12)) 0 29 (some 13)) 0 30 (some 14)) J (u2 (u2 (u2 (u2 I 0 2 10) 0 4 5) 0 5 2) 0 18 1))
  refine hv_aload_n hX dX14_init_136 rfl 0 rfl ?_
  refine hv_sipush (v := 3133) hX six_3133 dX14_init_137 ?_
  refine hg_newA (atype := .long) (a := 10) (N := 3133) hX 3 rfl (by decide) rfl (by decide) rfl q341 dX14_init_140 (by decide) (by decide) (Nat.le_of_ble_eq_true rfl) (by omega) rfl rfl hc ⟨Nat.le_of_ble_eq_true rfl, Nat.le_of_ble_eq_true rfl⟩ ?_
  have hc := hc.up (Nat.le_succ _)
  show hh_V X 142 [(0, .ref 0)] [.ref 15, .ref 0] 15 205267 (hg mK mL 16 (u2 (u2 (u2 (u2 (u2 (u2 (u2 (u2 (u2 (u2 (u2 (u2 (u2 (u2 R 0 11 (some 1)) 0 13 (some 2)) 0 14 (some 3)) 0 15 (some 4)) 0 16 (some 5)) 0 17 (some 6)) 0 23 (some 7)) 0 24 (some 8)) 0 25 (some 9)) 0 26 (some 10)) 0 27 (some 11)) 0 28 (some 12)) 0 29 (some 13)) 0 30 (some 14)) J (u2 (u2 (u2 (u2 I 0 2 10) 0 4 5) 0 5 2) 0 18 1))
  refine hv_putFR (v := (some 15)) hX hNm dX14_init_142 fl14_66_14 ⟨RX14, TX14, 74, "HungryHedgeModel", rfl, rfl, q1729, .inl rfl⟩ (show 0 < 16 by omega) rfl ?_
  have hc := hc.R (k := 33) (v := (some 15)) (show 0 < 16 from (show 0 < 16 by omega))
  show hh_V X 145 [(0, .ref 0)] [] 15 205267 (hg mK mL 16 (u2 (u2 (u2 (u2 (u2 (u2 (u2 (u2 (u2 (u2 (u2 (u2 (u2 (u2 (u2 R 0 11 (some 1)) 0 13 (some 2)) 0 14 (some 3)) 0 15 (some 4)) 0 16 (some 5)) 0 17 (some 6)) 0 23 (some 7)) 0 24 (some 8)) 0 25 (some 9)) 0 26 (some 10)) 0 27 (some 11)) 0 28 (some 12)) 0 29 (some 13)) 0 30 (some 14)) 0 33 (some 15)) J (u2 (u2 (u2 (u2 I 0 2 10) 0 4 5) 0 5 2) 0 18 1))
  refine hv_aload_n hX dX14_init_145 rfl 0 rfl ?_
  refine hv_iconst (v := (-1)) hX icx_m1 dX14_init_146 ?_
  refine hv_putI hX dX14_init_147 fl14_70_14 (show 0 < 16 by omega) rfl ?_
  have hc := hc.I (k := 34) (v := (-1)) (show 0 < 16 from (show 0 < 16 by omega))
  show hh_V X 150 [(0, .ref 0)] [] 15 205267 (hg mK mL 16 (u2 (u2 (u2 (u2 (u2 (u2 (u2 (u2 (u2 (u2 (u2 (u2 (u2 (u2 (u2 R 0 11 (some 1)) 0 13 (some 2)) 0 14 (some 3)) 0 15 (some 4)) 0 16 (some 5)) 0 17 (some 6)) 0 23 (some 7)) 0 24 (some 8)) 0 25 (some 9)) 0 26 (some 10)) 0 27 (some 11)) 0 28 (some 12)) 0 29 (some 13)) 0 30 (some 14)) 0 33 (some 15)) J (u2 (u2 (u2 (u2 (u2 I 0 2 10) 0 4 5) 0 5 2) 0 18 1) 0 34 (-1)))
  refine hv_aload_n hX dX14_init_150 rfl 0 rfl ?_
  refine hv_sipush (v := 241) hX six_241 dX14_init_151 ?_
  refine hg_newA (atype := .long) (a := 10) (N := 241) hX 3 rfl (by decide) rfl (by decide) rfl q341 dX14_init_154 (by decide) (by decide) (Nat.le_of_ble_eq_true rfl) (by omega) rfl rfl hc ⟨Nat.le_of_ble_eq_true rfl, Nat.le_of_ble_eq_true rfl⟩ ?_
  have hc := hc.up (Nat.le_succ _)
  show hh_V X 156 [(0, .ref 0)] [.ref 16, .ref 0] 16 205508 (hg mK mL 17 (u2 (u2 (u2 (u2 (u2 (u2 (u2 (u2 (u2 (u2 (u2 (u2 (u2 (u2 (u2 R 0 11 (some 1)) 0 13 (some 2)) 0 14 (some 3)) 0 15 (some 4)) 0 16 (some 5)) 0 17 (some 6)) 0 23 (some 7)) 0 24 (some 8)) 0 25 (some 9)) 0 26 (some 10)) 0 27 (some 11)) 0 28 (some 12)) 0 29 (some 13)) 0 30 (some 14)) 0 33 (some 15)) J (u2 (u2 (u2 (u2 (u2 I 0 2 10) 0 4 5) 0 5 2) 0 18 1) 0 34 (-1)))
  refine hv_putFR (v := (some 16)) hX hNm dX14_init_156 fl14_73_14 ⟨RX14, TX14, 74, "HungryHedgeModel", rfl, rfl, q1731, .inl rfl⟩ (show 0 < 17 by omega) rfl ?_
  have hc := hc.R (k := 35) (v := (some 16)) (show 0 < 17 from (show 0 < 17 by omega))
  show hh_V X 159 [(0, .ref 0)] [] 16 205508 (hg mK mL 17 (u2 (u2 (u2 (u2 (u2 (u2 (u2 (u2 (u2 (u2 (u2 (u2 (u2 (u2 (u2 (u2 R 0 11 (some 1)) 0 13 (some 2)) 0 14 (some 3)) 0 15 (some 4)) 0 16 (some 5)) 0 17 (some 6)) 0 23 (some 7)) 0 24 (some 8)) 0 25 (some 9)) 0 26 (some 10)) 0 27 (some 11)) 0 28 (some 12)) 0 29 (some 13)) 0 30 (some 14)) 0 33 (some 15)) 0 35 (some 16)) J (u2 (u2 (u2 (u2 (u2 I 0 2 10) 0 4 5) 0 5 2) 0 18 1) 0 34 (-1)))
  refine hv_aload_n hX dX14_init_159 rfl 0 rfl ?_
  refine hv_bipush (v := 8) hX bix_8 dX14_init_160 ?_
  refine hg_newA (atype := .int) (a := 0) (N := 8) hX 0 rfl (by decide) rfl (by decide) rfl q196 dX14_init_162 (by decide) (by decide) (Nat.le_of_ble_eq_true rfl) (by omega) rfl rfl hc ⟨Nat.le_of_ble_eq_true rfl, Nat.le_of_ble_eq_true rfl⟩ ?_
  have hc := hc.up (Nat.le_succ _)
  show hh_V X 164 [(0, .ref 0)] [.ref 17, .ref 0] 17 205516 (hg mK mL 18 (u2 (u2 (u2 (u2 (u2 (u2 (u2 (u2 (u2 (u2 (u2 (u2 (u2 (u2 (u2 (u2 R 0 11 (some 1)) 0 13 (some 2)) 0 14 (some 3)) 0 15 (some 4)) 0 16 (some 5)) 0 17 (some 6)) 0 23 (some 7)) 0 24 (some 8)) 0 25 (some 9)) 0 26 (some 10)) 0 27 (some 11)) 0 28 (some 12)) 0 29 (some 13)) 0 30 (some 14)) 0 33 (some 15)) 0 35 (some 16)) J (u2 (u2 (u2 (u2 (u2 I 0 2 10) 0 4 5) 0 5 2) 0 18 1) 0 34 (-1)))
  refine hv_putFR (v := (some 17)) hX hNm dX14_init_164 fl14_76_14 ⟨RX14, TX14, 74, "HungryHedgeModel", rfl, rfl, q1732, .inl rfl⟩ (show 0 < 18 by omega) rfl ?_
  have hc := hc.R (k := 36) (v := (some 17)) (show 0 < 18 from (show 0 < 18 by omega))
  show hh_V X 167 [(0, .ref 0)] [] 17 205516 (hg mK mL 18 (u2 (u2 (u2 (u2 (u2 (u2 (u2 (u2 (u2 (u2 (u2 (u2 (u2 (u2 (u2 (u2 (u2 R 0 11 (some 1)) 0 13 (some 2)) 0 14 (some 3)) 0 15 (some 4)) 0 16 (some 5)) 0 17 (some 6)) 0 23 (some 7)) 0 24 (some 8)) 0 25 (some 9)) 0 26 (some 10)) 0 27 (some 11)) 0 28 (some 12)) 0 29 (some 13)) 0 30 (some 14)) 0 33 (some 15)) 0 35 (some 16)) 0 36 (some 17)) J (u2 (u2 (u2 (u2 (u2 I 0 2 10) 0 4 5) 0 5 2) 0 18 1) 0 34 (-1)))
  refine hv_aload_n hX dX14_init_167 rfl 0 rfl ?_
  refine hv_iconst (v := 4) hX icx_4 dX14_init_168 ?_
  refine hg_newA (atype := .int) (a := 0) (N := 4) hX 0 rfl (by decide) rfl (by decide) rfl q196 dX14_init_169 (by decide) (by decide) (Nat.le_of_ble_eq_true rfl) (by omega) rfl rfl hc ⟨Nat.le_of_ble_eq_true rfl, Nat.le_of_ble_eq_true rfl⟩ ?_
  have hc := hc.up (Nat.le_succ _)
  show hh_V X 171 [(0, .ref 0)] [.ref 18, .ref 0] 18 205520 (hg mK mL 19 (u2 (u2 (u2 (u2 (u2 (u2 (u2 (u2 (u2 (u2 (u2 (u2 (u2 (u2 (u2 (u2 (u2 R 0 11 (some 1)) 0 13 (some 2)) 0 14 (some 3)) 0 15 (some 4)) 0 16 (some 5)) 0 17 (some 6)) 0 23 (some 7)) 0 24 (some 8)) 0 25 (some 9)) 0 26 (some 10)) 0 27 (some 11)) 0 28 (some 12)) 0 29 (some 13)) 0 30 (some 14)) 0 33 (some 15)) 0 35 (some 16)) 0 36 (some 17)) J (u2 (u2 (u2 (u2 (u2 I 0 2 10) 0 4 5) 0 5 2) 0 18 1) 0 34 (-1)))
  refine hv_putFR (v := (some 18)) hX hNm dX14_init_171 fl14_79_14 ⟨RX14, TX14, 74, "HungryHedgeModel", rfl, rfl, q1733, .inl rfl⟩ (show 0 < 19 by omega) rfl ?_
  have hc := hc.R (k := 37) (v := (some 18)) (show 0 < 19 from (show 0 < 19 by omega))
  show hh_V X 174 [(0, .ref 0)] [] 18 205520 (hg mK mL 19 (u2 (u2 (u2 (u2 (u2 (u2 (u2 (u2 (u2 (u2 (u2 (u2 (u2 (u2 (u2 (u2 (u2 (u2 R 0 11 (some 1)) 0 13 (some 2)) 0 14 (some 3)) 0 15 (some 4)) 0 16 (some 5)) 0 17 (some 6)) 0 23 (some 7)) 0 24 (some 8)) 0 25 (some 9)) 0 26 (some 10)) 0 27 (some 11)) 0 28 (some 12)) 0 29 (some 13)) 0 30 (some 14)) 0 33 (some 15)) 0 35 (some 16)) 0 36 (some 17)) 0 37 (some 18)) J (u2 (u2 (u2 (u2 (u2 I 0 2 10) 0 4 5) 0 5 2) 0 18 1) 0 34 (-1)))
  refine hv_aload_n hX dX14_init_174 rfl 0 rfl ?_
  refine hv_sipush (v := 200) hX six_200 dX14_init_175 ?_
  refine hg_newA (atype := .int) (a := 0) (N := 200) hX 0 rfl (by decide) rfl (by decide) rfl q196 dX14_init_178 (by decide) (by decide) (Nat.le_of_ble_eq_true rfl) (by omega) rfl rfl hc ⟨Nat.le_of_ble_eq_true rfl, Nat.le_of_ble_eq_true rfl⟩ ?_
  have hc := hc.up (Nat.le_succ _)
  show hh_V X 180 [(0, .ref 0)] [.ref 19, .ref 0] 19 205720 (hg mK mL 20 (u2 (u2 (u2 (u2 (u2 (u2 (u2 (u2 (u2 (u2 (u2 (u2 (u2 (u2 (u2 (u2 (u2 (u2 R 0 11 (some 1)) 0 13 (some 2)) 0 14 (some 3)) 0 15 (some 4)) 0 16 (some 5)) 0 17 (some 6)) 0 23 (some 7)) 0 24 (some 8)) 0 25 (some 9)) 0 26 (some 10)) 0 27 (some 11)) 0 28 (some 12)) 0 29 (some 13)) 0 30 (some 14)) 0 33 (some 15)) 0 35 (some 16)) 0 36 (some 17)) 0 37 (some 18)) J (u2 (u2 (u2 (u2 (u2 I 0 2 10) 0 4 5) 0 5 2) 0 18 1) 0 34 (-1)))
  refine hv_putFR (v := (some 19)) hX hNm dX14_init_180 fl14_82_14 ⟨RX14, TX14, 74, "HungryHedgeModel", rfl, rfl, q1734, .inl rfl⟩ (show 0 < 20 by omega) rfl ?_
  have hc := hc.R (k := 38) (v := (some 19)) (show 0 < 20 from (show 0 < 20 by omega))
  show hh_V X 183 [(0, .ref 0)] [] 19 205720 (hg mK mL 20 (u2 (u2 (u2 (u2 (u2 (u2 (u2 (u2 (u2 (u2 (u2 (u2 (u2 (u2 (u2 (u2 (u2 (u2 (u2 R 0 11 (some 1)) 0 13 (some 2)) 0 14 (some 3)) 0 15 (some 4)) 0 16 (some 5)) 0 17 (some 6)) 0 23 (some 7)) 0 24 (some 8)) 0 25 (some 9)) 0 26 (some 10)) 0 27 (some 11)) 0 28 (some 12)) 0 29 (some 13)) 0 30 (some 14)) 0 33 (some 15)) 0 35 (some 16)) 0 36 (some 17)) 0 37 (some 18)) 0 38 (some 19)) J (u2 (u2 (u2 (u2 (u2 I 0 2 10) 0 4 5) 0 5 2) 0 18 1) 0 34 (-1)))
  refine hv_aload_n hX dX14_init_183 rfl 0 rfl ?_
  refine hv_sipush (v := 210) hX six_210 dX14_init_184 ?_
  refine hg_newA (atype := .int) (a := 0) (N := 210) hX 0 rfl (by decide) rfl (by decide) rfl q196 dX14_init_187 (by decide) (by decide) (Nat.le_of_ble_eq_true rfl) (by omega) rfl rfl hc ⟨Nat.le_of_ble_eq_true rfl, Nat.le_of_ble_eq_true rfl⟩ ?_
  have hc := hc.up (Nat.le_succ _)
  show hh_V X 189 [(0, .ref 0)] [.ref 20, .ref 0] 20 205930 (hg mK mL 21 (u2 (u2 (u2 (u2 (u2 (u2 (u2 (u2 (u2 (u2 (u2 (u2 (u2 (u2 (u2 (u2 (u2 (u2 (u2 R 0 11 (some 1)) 0 13 (some 2)) 0 14 (some 3)) 0 15 (some 4)) 0 16 (some 5)) 0 17 (some 6)) 0 23 (some 7)) 0 24 (some 8)) 0 25 (some 9)) 0 26 (some 10)) 0 27 (some 11)) 0 28 (some 12)) 0 29 (some 13)) 0 30 (some 14)) 0 33 (some 15)) 0 35 (some 16)) 0 36 (some 17)) 0 37 (some 18)) 0 38 (some 19)) J (u2 (u2 (u2 (u2 (u2 I 0 2 10) 0 4 5) 0 5 2) 0 18 1) 0 34 (-1)))
  refine hv_putFR (v := (some 20)) hX hNm dX14_init_189 fl14_85_14 ⟨RX14, TX14, 74, "HungryHedgeModel", rfl, rfl, q1741, .inl rfl⟩ (show 0 < 21 by omega) rfl ?_
  have hc := hc.R (k := 45) (v := (some 20)) (show 0 < 21 from (show 0 < 21 by omega))
  show hh_V X 192 [(0, .ref 0)] [] 20 205930 (hg mK mL 21 (u2 (u2 (u2 (u2 (u2 (u2 (u2 (u2 (u2 (u2 (u2 (u2 (u2 (u2 (u2 (u2 (u2 (u2 (u2 (u2 R 0 11 (some 1)) 0 13 (some 2)) 0 14 (some 3)) 0 15 (some 4)) 0 16 (some 5)) 0 17 (some 6)) 0 23 (some 7)) 0 24 (some 8)) 0 25 (some 9)) 0 26 (some 10)) 0 27 (some 11)) 0 28 (some 12)) 0 29 (some 13)) 0 30 (some 14)) 0 33 (some 15)) 0 35 (some 16)) 0 36 (some 17)) 0 37 (some 18)) 0 38 (some 19)) 0 45 (some 20)) J (u2 (u2 (u2 (u2 (u2 I 0 2 10) 0 4 5) 0 5 2) 0 18 1) 0 34 (-1)))
  refine hv_aload_n hX dX14_init_192 rfl 0 rfl ?_
  refine hv_sipush (v := 210) hX six_210 dX14_init_193 ?_
  refine hg_newA (atype := .int) (a := 0) (N := 210) hX 0 rfl (by decide) rfl (by decide) rfl q196 dX14_init_196 (by decide) (by decide) (Nat.le_of_ble_eq_true rfl) (by omega) rfl rfl hc ⟨Nat.le_of_ble_eq_true rfl, Nat.le_of_ble_eq_true rfl⟩ ?_
  have hc := hc.up (Nat.le_succ _)
  show hh_V X 198 [(0, .ref 0)] [.ref 21, .ref 0] 21 206140 (hg mK mL 22 (u2 (u2 (u2 (u2 (u2 (u2 (u2 (u2 (u2 (u2 (u2 (u2 (u2 (u2 (u2 (u2 (u2 (u2 (u2 (u2 R 0 11 (some 1)) 0 13 (some 2)) 0 14 (some 3)) 0 15 (some 4)) 0 16 (some 5)) 0 17 (some 6)) 0 23 (some 7)) 0 24 (some 8)) 0 25 (some 9)) 0 26 (some 10)) 0 27 (some 11)) 0 28 (some 12)) 0 29 (some 13)) 0 30 (some 14)) 0 33 (some 15)) 0 35 (some 16)) 0 36 (some 17)) 0 37 (some 18)) 0 38 (some 19)) 0 45 (some 20)) J (u2 (u2 (u2 (u2 (u2 I 0 2 10) 0 4 5) 0 5 2) 0 18 1) 0 34 (-1)))
  refine hv_putFR (v := (some 21)) hX hNm dX14_init_198 fl14_88_14 ⟨RX14, TX14, 74, "HungryHedgeModel", rfl, rfl, q1742, .inl rfl⟩ (show 0 < 22 by omega) rfl ?_
  have hc := hc.R (k := 46) (v := (some 21)) (show 0 < 22 from (show 0 < 22 by omega))
  show hh_V X 201 [(0, .ref 0)] [] 21 206140 (hg mK mL 22 (u2 (u2 (u2 (u2 (u2 (u2 (u2 (u2 (u2 (u2 (u2 (u2 (u2 (u2 (u2 (u2 (u2 (u2 (u2 (u2 (u2 R 0 11 (some 1)) 0 13 (some 2)) 0 14 (some 3)) 0 15 (some 4)) 0 16 (some 5)) 0 17 (some 6)) 0 23 (some 7)) 0 24 (some 8)) 0 25 (some 9)) 0 26 (some 10)) 0 27 (some 11)) 0 28 (some 12)) 0 29 (some 13)) 0 30 (some 14)) 0 33 (some 15)) 0 35 (some 16)) 0 36 (some 17)) 0 37 (some 18)) 0 38 (some 19)) 0 45 (some 20)) 0 46 (some 21)) J (u2 (u2 (u2 (u2 (u2 I 0 2 10) 0 4 5) 0 5 2) 0 18 1) 0 34 (-1)))
  refine hv_aload_n hX dX14_init_201 rfl 0 rfl ?_
  refine hv_bipush (v := 6) hX bix_6 dX14_init_202 ?_
  refine hg_newA (atype := .int) (a := 0) (N := 6) hX 0 rfl (by decide) rfl (by decide) rfl q196 dX14_init_204 (by decide) (by decide) (Nat.le_of_ble_eq_true rfl) (by omega) rfl rfl hc ⟨Nat.le_of_ble_eq_true rfl, Nat.le_of_ble_eq_true rfl⟩ ?_
  have hc := hc.up (Nat.le_succ _)
  show hh_V X 206 [(0, .ref 0)] [.ref 22, .ref 0] 22 206146 (hg mK mL 23 (u2 (u2 (u2 (u2 (u2 (u2 (u2 (u2 (u2 (u2 (u2 (u2 (u2 (u2 (u2 (u2 (u2 (u2 (u2 (u2 (u2 R 0 11 (some 1)) 0 13 (some 2)) 0 14 (some 3)) 0 15 (some 4)) 0 16 (some 5)) 0 17 (some 6)) 0 23 (some 7)) 0 24 (some 8)) 0 25 (some 9)) 0 26 (some 10)) 0 27 (some 11)) 0 28 (some 12)) 0 29 (some 13)) 0 30 (some 14)) 0 33 (some 15)) 0 35 (some 16)) 0 36 (some 17)) 0 37 (some 18)) 0 38 (some 19)) 0 45 (some 20)) 0 46 (some 21)) J (u2 (u2 (u2 (u2 (u2 I 0 2 10) 0 4 5) 0 5 2) 0 18 1) 0 34 (-1)))
  refine hv_putFR (v := (some 22)) hX hNm dX14_init_206 fl14_91_14 ⟨RX14, TX14, 74, "HungryHedgeModel", rfl, rfl, q1743, .inl rfl⟩ (show 0 < 23 by omega) rfl ?_
  have hc := hc.R (k := 47) (v := (some 22)) (show 0 < 23 from (show 0 < 23 by omega))
  show hh_V X 209 [(0, .ref 0)] [] 22 206146 (hg mK mL 23 (u2 (u2 (u2 (u2 (u2 (u2 (u2 (u2 (u2 (u2 (u2 (u2 (u2 (u2 (u2 (u2 (u2 (u2 (u2 (u2 (u2 (u2 R 0 11 (some 1)) 0 13 (some 2)) 0 14 (some 3)) 0 15 (some 4)) 0 16 (some 5)) 0 17 (some 6)) 0 23 (some 7)) 0 24 (some 8)) 0 25 (some 9)) 0 26 (some 10)) 0 27 (some 11)) 0 28 (some 12)) 0 29 (some 13)) 0 30 (some 14)) 0 33 (some 15)) 0 35 (some 16)) 0 36 (some 17)) 0 37 (some 18)) 0 38 (some 19)) 0 45 (some 20)) 0 46 (some 21)) 0 47 (some 22)) J (u2 (u2 (u2 (u2 (u2 I 0 2 10) 0 4 5) 0 5 2) 0 18 1) 0 34 (-1)))
  refine hv_aload_n hX dX14_init_209 rfl 0 rfl ?_
  refine hv_bipush (v := 6) hX bix_6 dX14_init_210 ?_
  refine hg_newA (atype := .int) (a := 0) (N := 6) hX 0 rfl (by decide) rfl (by decide) rfl q196 dX14_init_212 (by decide) (by decide) (Nat.le_of_ble_eq_true rfl) (by omega) rfl rfl hc ⟨Nat.le_of_ble_eq_true rfl, Nat.le_of_ble_eq_true rfl⟩ ?_
  have hc := hc.up (Nat.le_succ _)
  show hh_V X 214 [(0, .ref 0)] [.ref 23, .ref 0] 23 206152 (hg mK mL 24 (u2 (u2 (u2 (u2 (u2 (u2 (u2 (u2 (u2 (u2 (u2 (u2 (u2 (u2 (u2 (u2 (u2 (u2 (u2 (u2 (u2 (u2 R 0 11 (some 1)) 0 13 (some 2)) 0 14 (some 3)) 0 15 (some 4)) 0 16 (some 5)) 0 17 (some 6)) 0 23 (some 7)) 0 24 (some 8)) 0 25 (some 9)) 0 26 (some 10)) 0 27 (some 11)) 0 28 (some 12)) 0 29 (some 13)) 0 30 (some 14)) 0 33 (some 15)) 0 35 (some 16)) 0 36 (some 17)) 0 37 (some 18)) 0 38 (some 19)) 0 45 (some 20)) 0 46 (some 21)) 0 47 (some 22)) J (u2 (u2 (u2 (u2 (u2 I 0 2 10) 0 4 5) 0 5 2) 0 18 1) 0 34 (-1)))
  refine hv_putFR (v := (some 23)) hX hNm dX14_init_214 fl14_94_14 ⟨RX14, TX14, 74, "HungryHedgeModel", rfl, rfl, q1744, .inl rfl⟩ (show 0 < 24 by omega) rfl ?_
  have hc := hc.R (k := 48) (v := (some 23)) (show 0 < 24 from (show 0 < 24 by omega))
  show hh_V X 217 [(0, .ref 0)] [] 23 206152 (hg mK mL 24 (u2 (u2 (u2 (u2 (u2 (u2 (u2 (u2 (u2 (u2 (u2 (u2 (u2 (u2 (u2 (u2 (u2 (u2 (u2 (u2 (u2 (u2 (u2 R 0 11 (some 1)) 0 13 (some 2)) 0 14 (some 3)) 0 15 (some 4)) 0 16 (some 5)) 0 17 (some 6)) 0 23 (some 7)) 0 24 (some 8)) 0 25 (some 9)) 0 26 (some 10)) 0 27 (some 11)) 0 28 (some 12)) 0 29 (some 13)) 0 30 (some 14)) 0 33 (some 15)) 0 35 (some 16)) 0 36 (some 17)) 0 37 (some 18)) 0 38 (some 19)) 0 45 (some 20)) 0 46 (some 21)) 0 47 (some 22)) 0 48 (some 23)) J (u2 (u2 (u2 (u2 (u2 I 0 2 10) 0 4 5) 0 5 2) 0 18 1) 0 34 (-1)))
  refine hv_aload_n hX dX14_init_217 rfl 0 rfl ?_
  refine hv_sipush (v := 210) hX six_210 dX14_init_218 ?_
  refine hg_newA (atype := .int) (a := 0) (N := 210) hX 0 rfl (by decide) rfl (by decide) rfl q196 dX14_init_221 (by decide) (by decide) (Nat.le_of_ble_eq_true rfl) (by omega) rfl rfl hc ⟨Nat.le_of_ble_eq_true rfl, Nat.le_of_ble_eq_true rfl⟩ ?_
  have hc := hc.up (Nat.le_succ _)
  show hh_V X 223 [(0, .ref 0)] [.ref 24, .ref 0] 24 206362 (hg mK mL 25 (u2 (u2 (u2 (u2 (u2 (u2 (u2 (u2 (u2 (u2 (u2 (u2 (u2 (u2 (u2 (u2 (u2 (u2 (u2 (u2 (u2 (u2 (u2 R 0 11 (some 1)) 0 13 (some 2)) 0 14 (some 3)) 0 15 (some 4)) 0 16 (some 5)) 0 17 (some 6)) 0 23 (some 7)) 0 24 (some 8)) 0 25 (some 9)) 0 26 (some 10)) 0 27 (some 11)) 0 28 (some 12)) 0 29 (some 13)) 0 30 (some 14)) 0 33 (some 15)) 0 35 (some 16)) 0 36 (some 17)) 0 37 (some 18)) 0 38 (some 19)) 0 45 (some 20)) 0 46 (some 21)) 0 47 (some 22)) 0 48 (some 23)) J (u2 (u2 (u2 (u2 (u2 I 0 2 10) 0 4 5) 0 5 2) 0 18 1) 0 34 (-1)))
  refine hv_putFR (v := (some 24)) hX hNm dX14_init_223 fl14_97_14 ⟨RX14, TX14, 74, "HungryHedgeModel", rfl, rfl, q1751, .inl rfl⟩ (show 0 < 25 by omega) rfl ?_
  have hc := hc.R (k := 55) (v := (some 24)) (show 0 < 25 from (show 0 < 25 by omega))
  show hh_V X 226 [(0, .ref 0)] [] 24 206362 (hg mK mL 25 (u2 (u2 (u2 (u2 (u2 (u2 (u2 (u2 (u2 (u2 (u2 (u2 (u2 (u2 (u2 (u2 (u2 (u2 (u2 (u2 (u2 (u2 (u2 (u2 R 0 11 (some 1)) 0 13 (some 2)) 0 14 (some 3)) 0 15 (some 4)) 0 16 (some 5)) 0 17 (some 6)) 0 23 (some 7)) 0 24 (some 8)) 0 25 (some 9)) 0 26 (some 10)) 0 27 (some 11)) 0 28 (some 12)) 0 29 (some 13)) 0 30 (some 14)) 0 33 (some 15)) 0 35 (some 16)) 0 36 (some 17)) 0 37 (some 18)) 0 38 (some 19)) 0 45 (some 20)) 0 46 (some 21)) 0 47 (some 22)) 0 48 (some 23)) 0 55 (some 24)) J (u2 (u2 (u2 (u2 (u2 I 0 2 10) 0 4 5) 0 5 2) 0 18 1) 0 34 (-1)))
  refine hv_aload_n hX dX14_init_226 rfl 0 rfl ?_
  refine hv_bipush (v := 40) hX bix_40 dX14_init_227 ?_
  refine hg_newA (atype := .int) (a := 0) (N := 40) hX 0 rfl (by decide) rfl (by decide) rfl q196 dX14_init_229 (by decide) (by decide) (Nat.le_of_ble_eq_true rfl) (by omega) rfl rfl hc ⟨Nat.le_of_ble_eq_true rfl, Nat.le_of_ble_eq_true rfl⟩ ?_
  have hc := hc.up (Nat.le_succ _)
  show hh_V X 231 [(0, .ref 0)] [.ref 25, .ref 0] 25 206402 (hg mK mL 26 (u2 (u2 (u2 (u2 (u2 (u2 (u2 (u2 (u2 (u2 (u2 (u2 (u2 (u2 (u2 (u2 (u2 (u2 (u2 (u2 (u2 (u2 (u2 (u2 R 0 11 (some 1)) 0 13 (some 2)) 0 14 (some 3)) 0 15 (some 4)) 0 16 (some 5)) 0 17 (some 6)) 0 23 (some 7)) 0 24 (some 8)) 0 25 (some 9)) 0 26 (some 10)) 0 27 (some 11)) 0 28 (some 12)) 0 29 (some 13)) 0 30 (some 14)) 0 33 (some 15)) 0 35 (some 16)) 0 36 (some 17)) 0 37 (some 18)) 0 38 (some 19)) 0 45 (some 20)) 0 46 (some 21)) 0 47 (some 22)) 0 48 (some 23)) 0 55 (some 24)) J (u2 (u2 (u2 (u2 (u2 I 0 2 10) 0 4 5) 0 5 2) 0 18 1) 0 34 (-1)))
  refine hv_putFR (v := (some 25)) hX hNm dX14_init_231 fl14_100_14 ⟨RX14, TX14, 74, "HungryHedgeModel", rfl, rfl, q1752, .inl rfl⟩ (show 0 < 26 by omega) rfl ?_
  have hc := hc.R (k := 56) (v := (some 25)) (show 0 < 26 from (show 0 < 26 by omega))
  show hh_V X 234 [(0, .ref 0)] [] 25 206402 (hg mK mL 26 (u2 (u2 (u2 (u2 (u2 (u2 (u2 (u2 (u2 (u2 (u2 (u2 (u2 (u2 (u2 (u2 (u2 (u2 (u2 (u2 (u2 (u2 (u2 (u2 (u2 R 0 11 (some 1)) 0 13 (some 2)) 0 14 (some 3)) 0 15 (some 4)) 0 16 (some 5)) 0 17 (some 6)) 0 23 (some 7)) 0 24 (some 8)) 0 25 (some 9)) 0 26 (some 10)) 0 27 (some 11)) 0 28 (some 12)) 0 29 (some 13)) 0 30 (some 14)) 0 33 (some 15)) 0 35 (some 16)) 0 36 (some 17)) 0 37 (some 18)) 0 38 (some 19)) 0 45 (some 20)) 0 46 (some 21)) 0 47 (some 22)) 0 48 (some 23)) 0 55 (some 24)) 0 56 (some 25)) J (u2 (u2 (u2 (u2 (u2 I 0 2 10) 0 4 5) 0 5 2) 0 18 1) 0 34 (-1)))
  refine hv_aload_n hX dX14_init_234 rfl 0 rfl ?_
  refine hv_iconst (v := 4) hX icx_4 dX14_init_235 ?_
  refine hg_newA (atype := .int) (a := 0) (N := 4) hX 0 rfl (by decide) rfl (by decide) rfl q196 dX14_init_236 (by decide) (by decide) (Nat.le_of_ble_eq_true rfl) (by omega) rfl rfl hc ⟨Nat.le_of_ble_eq_true rfl, Nat.le_of_ble_eq_true rfl⟩ ?_
  have hc := hc.up (Nat.le_succ _)
  show hh_V X 238 [(0, .ref 0)] [.ref 26, .ref 0] 26 206406 (hg mK mL 27 (u2 (u2 (u2 (u2 (u2 (u2 (u2 (u2 (u2 (u2 (u2 (u2 (u2 (u2 (u2 (u2 (u2 (u2 (u2 (u2 (u2 (u2 (u2 (u2 (u2 R 0 11 (some 1)) 0 13 (some 2)) 0 14 (some 3)) 0 15 (some 4)) 0 16 (some 5)) 0 17 (some 6)) 0 23 (some 7)) 0 24 (some 8)) 0 25 (some 9)) 0 26 (some 10)) 0 27 (some 11)) 0 28 (some 12)) 0 29 (some 13)) 0 30 (some 14)) 0 33 (some 15)) 0 35 (some 16)) 0 36 (some 17)) 0 37 (some 18)) 0 38 (some 19)) 0 45 (some 20)) 0 46 (some 21)) 0 47 (some 22)) 0 48 (some 23)) 0 55 (some 24)) 0 56 (some 25)) J (u2 (u2 (u2 (u2 (u2 I 0 2 10) 0 4 5) 0 5 2) 0 18 1) 0 34 (-1)))
  refine hv_dup hX rfl dX14_init_238 ?_
  refine hv_iconst (v := 0) hX icx_0 dX14_init_239 ?_
  refine hv_iconst (v := (-1)) hX icx_m1 dX14_init_240 ?_
  refine hv_iast hX dX14_init_241 (show 26 < 27 by omega) rfl (show vp_in 0 4 from vp_in_iff.mpr (by decide)) ?_
  have hc := hc.I (k := 0) (v := (-1)) (show 26 < 27 from (show 26 < 27 by omega))
  show hh_V X 242 [(0, .ref 0)] [.ref 26, .ref 0] 26 206406 (hg mK mL 27 (u2 (u2 (u2 (u2 (u2 (u2 (u2 (u2 (u2 (u2 (u2 (u2 (u2 (u2 (u2 (u2 (u2 (u2 (u2 (u2 (u2 (u2 (u2 (u2 (u2 R 0 11 (some 1)) 0 13 (some 2)) 0 14 (some 3)) 0 15 (some 4)) 0 16 (some 5)) 0 17 (some 6)) 0 23 (some 7)) 0 24 (some 8)) 0 25 (some 9)) 0 26 (some 10)) 0 27 (some 11)) 0 28 (some 12)) 0 29 (some 13)) 0 30 (some 14)) 0 33 (some 15)) 0 35 (some 16)) 0 36 (some 17)) 0 37 (some 18)) 0 38 (some 19)) 0 45 (some 20)) 0 46 (some 21)) 0 47 (some 22)) 0 48 (some 23)) 0 55 (some 24)) 0 56 (some 25)) J (u2 (u2 (u2 (u2 (u2 (u2 I 0 2 10) 0 4 5) 0 5 2) 0 18 1) 0 34 (-1)) 26 0 (-1)))
  refine hv_dup hX rfl dX14_init_242 ?_
  refine hv_iconst (v := 1) hX icx_1 dX14_init_243 ?_
  refine hv_iconst (v := (-1)) hX icx_m1 dX14_init_244 ?_
  refine hv_iast hX dX14_init_245 (show 26 < 27 by omega) rfl (show vp_in 1 4 from vp_in_iff.mpr (by decide)) ?_
  have hc := hc.I (k := 1) (v := (-1)) (show 26 < 27 from (show 26 < 27 by omega))
  show hh_V X 246 [(0, .ref 0)] [.ref 26, .ref 0] 26 206406 (hg mK mL 27 (u2 (u2 (u2 (u2 (u2 (u2 (u2 (u2 (u2 (u2 (u2 (u2 (u2 (u2 (u2 (u2 (u2 (u2 (u2 (u2 (u2 (u2 (u2 (u2 (u2 R 0 11 (some 1)) 0 13 (some 2)) 0 14 (some 3)) 0 15 (some 4)) 0 16 (some 5)) 0 17 (some 6)) 0 23 (some 7)) 0 24 (some 8)) 0 25 (some 9)) 0 26 (some 10)) 0 27 (some 11)) 0 28 (some 12)) 0 29 (some 13)) 0 30 (some 14)) 0 33 (some 15)) 0 35 (some 16)) 0 36 (some 17)) 0 37 (some 18)) 0 38 (some 19)) 0 45 (some 20)) 0 46 (some 21)) 0 47 (some 22)) 0 48 (some 23)) 0 55 (some 24)) 0 56 (some 25)) J (u2 (u2 (u2 (u2 (u2 (u2 (u2 I 0 2 10) 0 4 5) 0 5 2) 0 18 1) 0 34 (-1)) 26 0 (-1)) 26 1 (-1)))
  refine hv_dup hX rfl dX14_init_246 ?_
  refine hv_iconst (v := 2) hX icx_2 dX14_init_247 ?_
  refine hv_iconst (v := (-1)) hX icx_m1 dX14_init_248 ?_
  refine hv_iast hX dX14_init_249 (show 26 < 27 by omega) rfl (show vp_in 2 4 from vp_in_iff.mpr (by decide)) ?_
  have hc := hc.I (k := 2) (v := (-1)) (show 26 < 27 from (show 26 < 27 by omega))
  show hh_V X 250 [(0, .ref 0)] [.ref 26, .ref 0] 26 206406 (hg mK mL 27 (u2 (u2 (u2 (u2 (u2 (u2 (u2 (u2 (u2 (u2 (u2 (u2 (u2 (u2 (u2 (u2 (u2 (u2 (u2 (u2 (u2 (u2 (u2 (u2 (u2 R 0 11 (some 1)) 0 13 (some 2)) 0 14 (some 3)) 0 15 (some 4)) 0 16 (some 5)) 0 17 (some 6)) 0 23 (some 7)) 0 24 (some 8)) 0 25 (some 9)) 0 26 (some 10)) 0 27 (some 11)) 0 28 (some 12)) 0 29 (some 13)) 0 30 (some 14)) 0 33 (some 15)) 0 35 (some 16)) 0 36 (some 17)) 0 37 (some 18)) 0 38 (some 19)) 0 45 (some 20)) 0 46 (some 21)) 0 47 (some 22)) 0 48 (some 23)) 0 55 (some 24)) 0 56 (some 25)) J (u2 (u2 (u2 (u2 (u2 (u2 (u2 (u2 I 0 2 10) 0 4 5) 0 5 2) 0 18 1) 0 34 (-1)) 26 0 (-1)) 26 1 (-1)) 26 2 (-1)))
  refine hv_dup hX rfl dX14_init_250 ?_
  refine hv_iconst (v := 3) hX icx_3 dX14_init_251 ?_
  refine hv_iconst (v := (-1)) hX icx_m1 dX14_init_252 ?_
  refine hv_iast hX dX14_init_253 (show 26 < 27 by omega) rfl (show vp_in 3 4 from vp_in_iff.mpr (by decide)) ?_
  have hc := hc.I (k := 3) (v := (-1)) (show 26 < 27 from (show 26 < 27 by omega))
  show hh_V X 254 [(0, .ref 0)] [.ref 26, .ref 0] 26 206406 (hg mK mL 27 (u2 (u2 (u2 (u2 (u2 (u2 (u2 (u2 (u2 (u2 (u2 (u2 (u2 (u2 (u2 (u2 (u2 (u2 (u2 (u2 (u2 (u2 (u2 (u2 (u2 R 0 11 (some 1)) 0 13 (some 2)) 0 14 (some 3)) 0 15 (some 4)) 0 16 (some 5)) 0 17 (some 6)) 0 23 (some 7)) 0 24 (some 8)) 0 25 (some 9)) 0 26 (some 10)) 0 27 (some 11)) 0 28 (some 12)) 0 29 (some 13)) 0 30 (some 14)) 0 33 (some 15)) 0 35 (some 16)) 0 36 (some 17)) 0 37 (some 18)) 0 38 (some 19)) 0 45 (some 20)) 0 46 (some 21)) 0 47 (some 22)) 0 48 (some 23)) 0 55 (some 24)) 0 56 (some 25)) J (u2 (u2 (u2 (u2 (u2 (u2 (u2 (u2 (u2 I 0 2 10) 0 4 5) 0 5 2) 0 18 1) 0 34 (-1)) 26 0 (-1)) 26 1 (-1)) 26 2 (-1)) 26 3 (-1)))
  refine hv_putFR (v := (some 26)) hX hNm dX14_init_254 fl14_103_14 ⟨RX14, TX14, 74, "HungryHedgeModel", rfl, rfl, q1754, .inl rfl⟩ (show 0 < 27 by omega) rfl ?_
  have hc := hc.R (k := 58) (v := (some 26)) (show 0 < 27 from (show 0 < 27 by omega))
  show hh_V X 257 [(0, .ref 0)] [] 26 206406 (hg mK mL 27 (u2 (u2 (u2 (u2 (u2 (u2 (u2 (u2 (u2 (u2 (u2 (u2 (u2 (u2 (u2 (u2 (u2 (u2 (u2 (u2 (u2 (u2 (u2 (u2 (u2 (u2 R 0 11 (some 1)) 0 13 (some 2)) 0 14 (some 3)) 0 15 (some 4)) 0 16 (some 5)) 0 17 (some 6)) 0 23 (some 7)) 0 24 (some 8)) 0 25 (some 9)) 0 26 (some 10)) 0 27 (some 11)) 0 28 (some 12)) 0 29 (some 13)) 0 30 (some 14)) 0 33 (some 15)) 0 35 (some 16)) 0 36 (some 17)) 0 37 (some 18)) 0 38 (some 19)) 0 45 (some 20)) 0 46 (some 21)) 0 47 (some 22)) 0 48 (some 23)) 0 55 (some 24)) 0 56 (some 25)) 0 58 (some 26)) J (u2 (u2 (u2 (u2 (u2 (u2 (u2 (u2 (u2 I 0 2 10) 0 4 5) 0 5 2) 0 18 1) 0 34 (-1)) 26 0 (-1)) 26 1 (-1)) 26 2 (-1)) 26 3 (-1)))
  refine hv_aload_n hX dX14_init_257 rfl 0 rfl ?_
  refine hv_iconst (v := 4) hX icx_4 dX14_init_258 ?_
  refine hg_newA (atype := .int) (a := 0) (N := 4) hX 0 rfl (by decide) rfl (by decide) rfl q196 dX14_init_259 (by decide) (by decide) (Nat.le_of_ble_eq_true rfl) (by omega) rfl rfl hc ⟨Nat.le_of_ble_eq_true rfl, Nat.le_of_ble_eq_true rfl⟩ ?_
  have hc := hc.up (Nat.le_succ _)
  show hh_V X 261 [(0, .ref 0)] [.ref 27, .ref 0] 27 206410 (hg mK mL 28 (u2 (u2 (u2 (u2 (u2 (u2 (u2 (u2 (u2 (u2 (u2 (u2 (u2 (u2 (u2 (u2 (u2 (u2 (u2 (u2 (u2 (u2 (u2 (u2 (u2 (u2 R 0 11 (some 1)) 0 13 (some 2)) 0 14 (some 3)) 0 15 (some 4)) 0 16 (some 5)) 0 17 (some 6)) 0 23 (some 7)) 0 24 (some 8)) 0 25 (some 9)) 0 26 (some 10)) 0 27 (some 11)) 0 28 (some 12)) 0 29 (some 13)) 0 30 (some 14)) 0 33 (some 15)) 0 35 (some 16)) 0 36 (some 17)) 0 37 (some 18)) 0 38 (some 19)) 0 45 (some 20)) 0 46 (some 21)) 0 47 (some 22)) 0 48 (some 23)) 0 55 (some 24)) 0 56 (some 25)) 0 58 (some 26)) J (u2 (u2 (u2 (u2 (u2 (u2 (u2 (u2 (u2 I 0 2 10) 0 4 5) 0 5 2) 0 18 1) 0 34 (-1)) 26 0 (-1)) 26 1 (-1)) 26 2 (-1)) 26 3 (-1)))
  refine hv_putFR (v := (some 27)) hX hNm dX14_init_261 fl14_106_14 ⟨RX14, TX14, 74, "HungryHedgeModel", rfl, rfl, q1755, .inl rfl⟩ (show 0 < 28 by omega) rfl ?_
  have hc := hc.R (k := 59) (v := (some 27)) (show 0 < 28 from (show 0 < 28 by omega))
  show hh_V X 264 [(0, .ref 0)] [] 27 206410 (hg mK mL 28 (u2 (u2 (u2 (u2 (u2 (u2 (u2 (u2 (u2 (u2 (u2 (u2 (u2 (u2 (u2 (u2 (u2 (u2 (u2 (u2 (u2 (u2 (u2 (u2 (u2 (u2 (u2 R 0 11 (some 1)) 0 13 (some 2)) 0 14 (some 3)) 0 15 (some 4)) 0 16 (some 5)) 0 17 (some 6)) 0 23 (some 7)) 0 24 (some 8)) 0 25 (some 9)) 0 26 (some 10)) 0 27 (some 11)) 0 28 (some 12)) 0 29 (some 13)) 0 30 (some 14)) 0 33 (some 15)) 0 35 (some 16)) 0 36 (some 17)) 0 37 (some 18)) 0 38 (some 19)) 0 45 (some 20)) 0 46 (some 21)) 0 47 (some 22)) 0 48 (some 23)) 0 55 (some 24)) 0 56 (some 25)) 0 58 (some 26)) 0 59 (some 27)) J (u2 (u2 (u2 (u2 (u2 (u2 (u2 (u2 (u2 I 0 2 10) 0 4 5) 0 5 2) 0 18 1) 0 34 (-1)) 26 0 (-1)) 26 1 (-1)) 26 2 (-1)) 26 3 (-1)))
  refine hv_aload_n hX dX14_init_264 rfl 0 rfl ?_
  refine hv_sipush (v := 160) hX six_160 dX14_init_265 ?_
  refine hg_newA (atype := .long) (a := 10) (N := 160) hX 3 rfl (by decide) rfl (by decide) rfl q341 dX14_init_268 (by decide) (by decide) (Nat.le_of_ble_eq_true rfl) (by omega) rfl rfl hc ⟨Nat.le_of_ble_eq_true rfl, Nat.le_of_ble_eq_true rfl⟩ ?_
  have hc := hc.up (Nat.le_succ _)
  show hh_V X 270 [(0, .ref 0)] [.ref 28, .ref 0] 28 206570 (hg mK mL 29 (u2 (u2 (u2 (u2 (u2 (u2 (u2 (u2 (u2 (u2 (u2 (u2 (u2 (u2 (u2 (u2 (u2 (u2 (u2 (u2 (u2 (u2 (u2 (u2 (u2 (u2 (u2 R 0 11 (some 1)) 0 13 (some 2)) 0 14 (some 3)) 0 15 (some 4)) 0 16 (some 5)) 0 17 (some 6)) 0 23 (some 7)) 0 24 (some 8)) 0 25 (some 9)) 0 26 (some 10)) 0 27 (some 11)) 0 28 (some 12)) 0 29 (some 13)) 0 30 (some 14)) 0 33 (some 15)) 0 35 (some 16)) 0 36 (some 17)) 0 37 (some 18)) 0 38 (some 19)) 0 45 (some 20)) 0 46 (some 21)) 0 47 (some 22)) 0 48 (some 23)) 0 55 (some 24)) 0 56 (some 25)) 0 58 (some 26)) 0 59 (some 27)) J (u2 (u2 (u2 (u2 (u2 (u2 (u2 (u2 (u2 I 0 2 10) 0 4 5) 0 5 2) 0 18 1) 0 34 (-1)) 26 0 (-1)) 26 1 (-1)) 26 2 (-1)) 26 3 (-1)))
  refine hv_putFR (v := (some 28)) hX hNm dX14_init_270 fl14_109_14 ⟨RX14, TX14, 74, "HungryHedgeModel", rfl, rfl, q1756, .inl rfl⟩ (show 0 < 29 by omega) rfl ?_
  have hc := hc.R (k := 60) (v := (some 28)) (show 0 < 29 from (show 0 < 29 by omega))
  show hh_V X 273 [(0, .ref 0)] [] 28 206570 (hg mK mL 29 (u2 (u2 (u2 (u2 (u2 (u2 (u2 (u2 (u2 (u2 (u2 (u2 (u2 (u2 (u2 (u2 (u2 (u2 (u2 (u2 (u2 (u2 (u2 (u2 (u2 (u2 (u2 (u2 R 0 11 (some 1)) 0 13 (some 2)) 0 14 (some 3)) 0 15 (some 4)) 0 16 (some 5)) 0 17 (some 6)) 0 23 (some 7)) 0 24 (some 8)) 0 25 (some 9)) 0 26 (some 10)) 0 27 (some 11)) 0 28 (some 12)) 0 29 (some 13)) 0 30 (some 14)) 0 33 (some 15)) 0 35 (some 16)) 0 36 (some 17)) 0 37 (some 18)) 0 38 (some 19)) 0 45 (some 20)) 0 46 (some 21)) 0 47 (some 22)) 0 48 (some 23)) 0 55 (some 24)) 0 56 (some 25)) 0 58 (some 26)) 0 59 (some 27)) 0 60 (some 28)) J (u2 (u2 (u2 (u2 (u2 (u2 (u2 (u2 (u2 I 0 2 10) 0 4 5) 0 5 2) 0 18 1) 0 34 (-1)) 26 0 (-1)) 26 1 (-1)) 26 2 (-1)) 26 3 (-1)))
  refine hv_aload_n hX dX14_init_273 rfl 0 rfl ?_
  refine hv_iconst (v := 4) hX icx_4 dX14_init_274 ?_
  refine hg_newA (atype := .int) (a := 0) (N := 4) hX 0 rfl (by decide) rfl (by decide) rfl q196 dX14_init_275 (by decide) (by decide) (Nat.le_of_ble_eq_true rfl) (by omega) rfl rfl hc ⟨Nat.le_of_ble_eq_true rfl, Nat.le_of_ble_eq_true rfl⟩ ?_
  have hc := hc.up (Nat.le_succ _)
  show hh_V X 277 [(0, .ref 0)] [.ref 29, .ref 0] 29 206574 (hg mK mL 30 (u2 (u2 (u2 (u2 (u2 (u2 (u2 (u2 (u2 (u2 (u2 (u2 (u2 (u2 (u2 (u2 (u2 (u2 (u2 (u2 (u2 (u2 (u2 (u2 (u2 (u2 (u2 (u2 R 0 11 (some 1)) 0 13 (some 2)) 0 14 (some 3)) 0 15 (some 4)) 0 16 (some 5)) 0 17 (some 6)) 0 23 (some 7)) 0 24 (some 8)) 0 25 (some 9)) 0 26 (some 10)) 0 27 (some 11)) 0 28 (some 12)) 0 29 (some 13)) 0 30 (some 14)) 0 33 (some 15)) 0 35 (some 16)) 0 36 (some 17)) 0 37 (some 18)) 0 38 (some 19)) 0 45 (some 20)) 0 46 (some 21)) 0 47 (some 22)) 0 48 (some 23)) 0 55 (some 24)) 0 56 (some 25)) 0 58 (some 26)) 0 59 (some 27)) 0 60 (some 28)) J (u2 (u2 (u2 (u2 (u2 (u2 (u2 (u2 (u2 I 0 2 10) 0 4 5) 0 5 2) 0 18 1) 0 34 (-1)) 26 0 (-1)) 26 1 (-1)) 26 2 (-1)) 26 3 (-1)))
  refine hv_dup hX rfl dX14_init_277 ?_
  refine hv_iconst (v := 0) hX icx_0 dX14_init_278 ?_
  refine hv_iconst (v := (-1)) hX icx_m1 dX14_init_279 ?_
  refine hv_iast hX dX14_init_280 (show 29 < 30 by omega) rfl (show vp_in 0 4 from vp_in_iff.mpr (by decide)) ?_
  have hc := hc.I (k := 0) (v := (-1)) (show 29 < 30 from (show 29 < 30 by omega))
  show hh_V X 281 [(0, .ref 0)] [.ref 29, .ref 0] 29 206574 (hg mK mL 30 (u2 (u2 (u2 (u2 (u2 (u2 (u2 (u2 (u2 (u2 (u2 (u2 (u2 (u2 (u2 (u2 (u2 (u2 (u2 (u2 (u2 (u2 (u2 (u2 (u2 (u2 (u2 (u2 R 0 11 (some 1)) 0 13 (some 2)) 0 14 (some 3)) 0 15 (some 4)) 0 16 (some 5)) 0 17 (some 6)) 0 23 (some 7)) 0 24 (some 8)) 0 25 (some 9)) 0 26 (some 10)) 0 27 (some 11)) 0 28 (some 12)) 0 29 (some 13)) 0 30 (some 14)) 0 33 (some 15)) 0 35 (some 16)) 0 36 (some 17)) 0 37 (some 18)) 0 38 (some 19)) 0 45 (some 20)) 0 46 (some 21)) 0 47 (some 22)) 0 48 (some 23)) 0 55 (some 24)) 0 56 (some 25)) 0 58 (some 26)) 0 59 (some 27)) 0 60 (some 28)) J (u2 (u2 (u2 (u2 (u2 (u2 (u2 (u2 (u2 (u2 I 0 2 10) 0 4 5) 0 5 2) 0 18 1) 0 34 (-1)) 26 0 (-1)) 26 1 (-1)) 26 2 (-1)) 26 3 (-1)) 29 0 (-1)))
  refine hv_dup hX rfl dX14_init_281 ?_
  refine hv_iconst (v := 1) hX icx_1 dX14_init_282 ?_
  refine hv_iconst (v := (-1)) hX icx_m1 dX14_init_283 ?_
  refine hv_iast hX dX14_init_284 (show 29 < 30 by omega) rfl (show vp_in 1 4 from vp_in_iff.mpr (by decide)) ?_
  have hc := hc.I (k := 1) (v := (-1)) (show 29 < 30 from (show 29 < 30 by omega))
  show hh_V X 285 [(0, .ref 0)] [.ref 29, .ref 0] 29 206574 (hg mK mL 30 (u2 (u2 (u2 (u2 (u2 (u2 (u2 (u2 (u2 (u2 (u2 (u2 (u2 (u2 (u2 (u2 (u2 (u2 (u2 (u2 (u2 (u2 (u2 (u2 (u2 (u2 (u2 (u2 R 0 11 (some 1)) 0 13 (some 2)) 0 14 (some 3)) 0 15 (some 4)) 0 16 (some 5)) 0 17 (some 6)) 0 23 (some 7)) 0 24 (some 8)) 0 25 (some 9)) 0 26 (some 10)) 0 27 (some 11)) 0 28 (some 12)) 0 29 (some 13)) 0 30 (some 14)) 0 33 (some 15)) 0 35 (some 16)) 0 36 (some 17)) 0 37 (some 18)) 0 38 (some 19)) 0 45 (some 20)) 0 46 (some 21)) 0 47 (some 22)) 0 48 (some 23)) 0 55 (some 24)) 0 56 (some 25)) 0 58 (some 26)) 0 59 (some 27)) 0 60 (some 28)) J (u2 (u2 (u2 (u2 (u2 (u2 (u2 (u2 (u2 (u2 (u2 I 0 2 10) 0 4 5) 0 5 2) 0 18 1) 0 34 (-1)) 26 0 (-1)) 26 1 (-1)) 26 2 (-1)) 26 3 (-1)) 29 0 (-1)) 29 1 (-1)))
  refine hv_dup hX rfl dX14_init_285 ?_
  refine hv_iconst (v := 2) hX icx_2 dX14_init_286 ?_
  refine hv_iconst (v := (-1)) hX icx_m1 dX14_init_287 ?_
  refine hv_iast hX dX14_init_288 (show 29 < 30 by omega) rfl (show vp_in 2 4 from vp_in_iff.mpr (by decide)) ?_
  have hc := hc.I (k := 2) (v := (-1)) (show 29 < 30 from (show 29 < 30 by omega))
  show hh_V X 289 [(0, .ref 0)] [.ref 29, .ref 0] 29 206574 (hg mK mL 30 (u2 (u2 (u2 (u2 (u2 (u2 (u2 (u2 (u2 (u2 (u2 (u2 (u2 (u2 (u2 (u2 (u2 (u2 (u2 (u2 (u2 (u2 (u2 (u2 (u2 (u2 (u2 (u2 R 0 11 (some 1)) 0 13 (some 2)) 0 14 (some 3)) 0 15 (some 4)) 0 16 (some 5)) 0 17 (some 6)) 0 23 (some 7)) 0 24 (some 8)) 0 25 (some 9)) 0 26 (some 10)) 0 27 (some 11)) 0 28 (some 12)) 0 29 (some 13)) 0 30 (some 14)) 0 33 (some 15)) 0 35 (some 16)) 0 36 (some 17)) 0 37 (some 18)) 0 38 (some 19)) 0 45 (some 20)) 0 46 (some 21)) 0 47 (some 22)) 0 48 (some 23)) 0 55 (some 24)) 0 56 (some 25)) 0 58 (some 26)) 0 59 (some 27)) 0 60 (some 28)) J (u2 (u2 (u2 (u2 (u2 (u2 (u2 (u2 (u2 (u2 (u2 (u2 I 0 2 10) 0 4 5) 0 5 2) 0 18 1) 0 34 (-1)) 26 0 (-1)) 26 1 (-1)) 26 2 (-1)) 26 3 (-1)) 29 0 (-1)) 29 1 (-1)) 29 2 (-1)))
  refine hv_dup hX rfl dX14_init_289 ?_
  refine hv_iconst (v := 3) hX icx_3 dX14_init_290 ?_
  refine hv_iconst (v := (-1)) hX icx_m1 dX14_init_291 ?_
  refine hv_iast hX dX14_init_292 (show 29 < 30 by omega) rfl (show vp_in 3 4 from vp_in_iff.mpr (by decide)) ?_
  have hc := hc.I (k := 3) (v := (-1)) (show 29 < 30 from (show 29 < 30 by omega))
  show hh_V X 293 [(0, .ref 0)] [.ref 29, .ref 0] 29 206574 (hg mK mL 30 (u2 (u2 (u2 (u2 (u2 (u2 (u2 (u2 (u2 (u2 (u2 (u2 (u2 (u2 (u2 (u2 (u2 (u2 (u2 (u2 (u2 (u2 (u2 (u2 (u2 (u2 (u2 (u2 R 0 11 (some 1)) 0 13 (some 2)) 0 14 (some 3)) 0 15 (some 4)) 0 16 (some 5)) 0 17 (some 6)) 0 23 (some 7)) 0 24 (some 8)) 0 25 (some 9)) 0 26 (some 10)) 0 27 (some 11)) 0 28 (some 12)) 0 29 (some 13)) 0 30 (some 14)) 0 33 (some 15)) 0 35 (some 16)) 0 36 (some 17)) 0 37 (some 18)) 0 38 (some 19)) 0 45 (some 20)) 0 46 (some 21)) 0 47 (some 22)) 0 48 (some 23)) 0 55 (some 24)) 0 56 (some 25)) 0 58 (some 26)) 0 59 (some 27)) 0 60 (some 28)) J (u2 (u2 (u2 (u2 (u2 (u2 (u2 (u2 (u2 (u2 (u2 (u2 (u2 I 0 2 10) 0 4 5) 0 5 2) 0 18 1) 0 34 (-1)) 26 0 (-1)) 26 1 (-1)) 26 2 (-1)) 26 3 (-1)) 29 0 (-1)) 29 1 (-1)) 29 2 (-1)) 29 3 (-1)))
  refine hv_putFR (v := (some 29)) hX hNm dX14_init_293 fl14_112_14 ⟨RX14, TX14, 74, "HungryHedgeModel", rfl, rfl, q1757, .inl rfl⟩ (show 0 < 30 by omega) rfl ?_
  have hc := hc.R (k := 61) (v := (some 29)) (show 0 < 30 from (show 0 < 30 by omega))
  show hh_V X 296 [(0, .ref 0)] [] 29 206574 (hg mK mL 30 (u2 (u2 (u2 (u2 (u2 (u2 (u2 (u2 (u2 (u2 (u2 (u2 (u2 (u2 (u2 (u2 (u2 (u2 (u2 (u2 (u2 (u2 (u2 (u2 (u2 (u2 (u2 (u2 (u2 R 0 11 (some 1)) 0 13 (some 2)) 0 14 (some 3)) 0 15 (some 4)) 0 16 (some 5)) 0 17 (some 6)) 0 23 (some 7)) 0 24 (some 8)) 0 25 (some 9)) 0 26 (some 10)) 0 27 (some 11)) 0 28 (some 12)) 0 29 (some 13)) 0 30 (some 14)) 0 33 (some 15)) 0 35 (some 16)) 0 36 (some 17)) 0 37 (some 18)) 0 38 (some 19)) 0 45 (some 20)) 0 46 (some 21)) 0 47 (some 22)) 0 48 (some 23)) 0 55 (some 24)) 0 56 (some 25)) 0 58 (some 26)) 0 59 (some 27)) 0 60 (some 28)) 0 61 (some 29)) J (u2 (u2 (u2 (u2 (u2 (u2 (u2 (u2 (u2 (u2 (u2 (u2 (u2 I 0 2 10) 0 4 5) 0 5 2) 0 18 1) 0 34 (-1)) 26 0 (-1)) 26 1 (-1)) 26 2 (-1)) 26 3 (-1)) 29 0 (-1)) 29 1 (-1)) 29 2 (-1)) 29 3 (-1)))
  refine hv_aload_n hX dX14_init_296 rfl 0 rfl ?_
  refine hv_iconst (v := 4) hX icx_4 dX14_init_297 ?_
  refine hg_newA (atype := .int) (a := 0) (N := 4) hX 0 rfl (by decide) rfl (by decide) rfl q196 dX14_init_298 (by decide) (by decide) (Nat.le_of_ble_eq_true rfl) (by omega) rfl rfl hc ⟨Nat.le_of_ble_eq_true rfl, Nat.le_of_ble_eq_true rfl⟩ ?_
  have hc := hc.up (Nat.le_succ _)
  show hh_V X 300 [(0, .ref 0)] [.ref 30, .ref 0] 30 206578 (hg mK mL 31 (u2 (u2 (u2 (u2 (u2 (u2 (u2 (u2 (u2 (u2 (u2 (u2 (u2 (u2 (u2 (u2 (u2 (u2 (u2 (u2 (u2 (u2 (u2 (u2 (u2 (u2 (u2 (u2 (u2 R 0 11 (some 1)) 0 13 (some 2)) 0 14 (some 3)) 0 15 (some 4)) 0 16 (some 5)) 0 17 (some 6)) 0 23 (some 7)) 0 24 (some 8)) 0 25 (some 9)) 0 26 (some 10)) 0 27 (some 11)) 0 28 (some 12)) 0 29 (some 13)) 0 30 (some 14)) 0 33 (some 15)) 0 35 (some 16)) 0 36 (some 17)) 0 37 (some 18)) 0 38 (some 19)) 0 45 (some 20)) 0 46 (some 21)) 0 47 (some 22)) 0 48 (some 23)) 0 55 (some 24)) 0 56 (some 25)) 0 58 (some 26)) 0 59 (some 27)) 0 60 (some 28)) 0 61 (some 29)) J (u2 (u2 (u2 (u2 (u2 (u2 (u2 (u2 (u2 (u2 (u2 (u2 (u2 I 0 2 10) 0 4 5) 0 5 2) 0 18 1) 0 34 (-1)) 26 0 (-1)) 26 1 (-1)) 26 2 (-1)) 26 3 (-1)) 29 0 (-1)) 29 1 (-1)) 29 2 (-1)) 29 3 (-1)))
  refine hv_putFR (v := (some 30)) hX hNm dX14_init_300 fl14_115_14 ⟨RX14, TX14, 74, "HungryHedgeModel", rfl, rfl, q1758, .inl rfl⟩ (show 0 < 31 by omega) rfl ?_
  have hc := hc.R (k := 62) (v := (some 30)) (show 0 < 31 from (show 0 < 31 by omega))
  show hh_V X 303 [(0, .ref 0)] [] 30 206578 (hg mK mL 31 (u2 (u2 (u2 (u2 (u2 (u2 (u2 (u2 (u2 (u2 (u2 (u2 (u2 (u2 (u2 (u2 (u2 (u2 (u2 (u2 (u2 (u2 (u2 (u2 (u2 (u2 (u2 (u2 (u2 (u2 R 0 11 (some 1)) 0 13 (some 2)) 0 14 (some 3)) 0 15 (some 4)) 0 16 (some 5)) 0 17 (some 6)) 0 23 (some 7)) 0 24 (some 8)) 0 25 (some 9)) 0 26 (some 10)) 0 27 (some 11)) 0 28 (some 12)) 0 29 (some 13)) 0 30 (some 14)) 0 33 (some 15)) 0 35 (some 16)) 0 36 (some 17)) 0 37 (some 18)) 0 38 (some 19)) 0 45 (some 20)) 0 46 (some 21)) 0 47 (some 22)) 0 48 (some 23)) 0 55 (some 24)) 0 56 (some 25)) 0 58 (some 26)) 0 59 (some 27)) 0 60 (some 28)) 0 61 (some 29)) 0 62 (some 30)) J (u2 (u2 (u2 (u2 (u2 (u2 (u2 (u2 (u2 (u2 (u2 (u2 (u2 I 0 2 10) 0 4 5) 0 5 2) 0 18 1) 0 34 (-1)) 26 0 (-1)) 26 1 (-1)) 26 2 (-1)) 26 3 (-1)) 29 0 (-1)) 29 1 (-1)) 29 2 (-1)) 29 3 (-1)))
  refine hv_aload_n hX dX14_init_303 rfl 0 rfl ?_
  refine hv_iconst (v := 4) hX icx_4 dX14_init_304 ?_
  refine hg_newA (atype := .int) (a := 0) (N := 4) hX 0 rfl (by decide) rfl (by decide) rfl q196 dX14_init_305 (by decide) (by decide) (Nat.le_of_ble_eq_true rfl) (by omega) rfl rfl hc ⟨Nat.le_of_ble_eq_true rfl, Nat.le_of_ble_eq_true rfl⟩ ?_
  have hc := hc.up (Nat.le_succ _)
  show hh_V X 307 [(0, .ref 0)] [.ref 31, .ref 0] 31 206582 (hg mK mL 32 (u2 (u2 (u2 (u2 (u2 (u2 (u2 (u2 (u2 (u2 (u2 (u2 (u2 (u2 (u2 (u2 (u2 (u2 (u2 (u2 (u2 (u2 (u2 (u2 (u2 (u2 (u2 (u2 (u2 (u2 R 0 11 (some 1)) 0 13 (some 2)) 0 14 (some 3)) 0 15 (some 4)) 0 16 (some 5)) 0 17 (some 6)) 0 23 (some 7)) 0 24 (some 8)) 0 25 (some 9)) 0 26 (some 10)) 0 27 (some 11)) 0 28 (some 12)) 0 29 (some 13)) 0 30 (some 14)) 0 33 (some 15)) 0 35 (some 16)) 0 36 (some 17)) 0 37 (some 18)) 0 38 (some 19)) 0 45 (some 20)) 0 46 (some 21)) 0 47 (some 22)) 0 48 (some 23)) 0 55 (some 24)) 0 56 (some 25)) 0 58 (some 26)) 0 59 (some 27)) 0 60 (some 28)) 0 61 (some 29)) 0 62 (some 30)) J (u2 (u2 (u2 (u2 (u2 (u2 (u2 (u2 (u2 (u2 (u2 (u2 (u2 I 0 2 10) 0 4 5) 0 5 2) 0 18 1) 0 34 (-1)) 26 0 (-1)) 26 1 (-1)) 26 2 (-1)) 26 3 (-1)) 29 0 (-1)) 29 1 (-1)) 29 2 (-1)) 29 3 (-1)))
  refine hv_putFR (v := (some 31)) hX hNm dX14_init_307 fl14_118_14 ⟨RX14, TX14, 74, "HungryHedgeModel", rfl, rfl, q1759, .inl rfl⟩ (show 0 < 32 by omega) rfl ?_
  have hc := hc.R (k := 63) (v := (some 31)) (show 0 < 32 from (show 0 < 32 by omega))
  show hh_V X 310 [(0, .ref 0)] [] 31 206582 (hg mK mL 32 (u2 (u2 (u2 (u2 (u2 (u2 (u2 (u2 (u2 (u2 (u2 (u2 (u2 (u2 (u2 (u2 (u2 (u2 (u2 (u2 (u2 (u2 (u2 (u2 (u2 (u2 (u2 (u2 (u2 (u2 (u2 R 0 11 (some 1)) 0 13 (some 2)) 0 14 (some 3)) 0 15 (some 4)) 0 16 (some 5)) 0 17 (some 6)) 0 23 (some 7)) 0 24 (some 8)) 0 25 (some 9)) 0 26 (some 10)) 0 27 (some 11)) 0 28 (some 12)) 0 29 (some 13)) 0 30 (some 14)) 0 33 (some 15)) 0 35 (some 16)) 0 36 (some 17)) 0 37 (some 18)) 0 38 (some 19)) 0 45 (some 20)) 0 46 (some 21)) 0 47 (some 22)) 0 48 (some 23)) 0 55 (some 24)) 0 56 (some 25)) 0 58 (some 26)) 0 59 (some 27)) 0 60 (some 28)) 0 61 (some 29)) 0 62 (some 30)) 0 63 (some 31)) J (u2 (u2 (u2 (u2 (u2 (u2 (u2 (u2 (u2 (u2 (u2 (u2 (u2 I 0 2 10) 0 4 5) 0 5 2) 0 18 1) 0 34 (-1)) 26 0 (-1)) 26 1 (-1)) 26 2 (-1)) 26 3 (-1)) 29 0 (-1)) 29 1 (-1)) 29 2 (-1)) 29 3 (-1)))
  refine hv_aload_n hX dX14_init_310 rfl 0 rfl ?_
  refine hv_bipush (v := 30) hX bix_30 dX14_init_311 ?_
  refine hg_newA (atype := .int) (a := 0) (N := 30) hX 0 rfl (by decide) rfl (by decide) rfl q196 dX14_init_313 (by decide) (by decide) (Nat.le_of_ble_eq_true rfl) (by omega) rfl rfl hc ⟨Nat.le_of_ble_eq_true rfl, Nat.le_of_ble_eq_true rfl⟩ ?_
  have hc := hc.up (Nat.le_succ _)
  show hh_V X 315 [(0, .ref 0)] [.ref 32, .ref 0] 32 206612 (hg mK mL 33 (u2 (u2 (u2 (u2 (u2 (u2 (u2 (u2 (u2 (u2 (u2 (u2 (u2 (u2 (u2 (u2 (u2 (u2 (u2 (u2 (u2 (u2 (u2 (u2 (u2 (u2 (u2 (u2 (u2 (u2 (u2 R 0 11 (some 1)) 0 13 (some 2)) 0 14 (some 3)) 0 15 (some 4)) 0 16 (some 5)) 0 17 (some 6)) 0 23 (some 7)) 0 24 (some 8)) 0 25 (some 9)) 0 26 (some 10)) 0 27 (some 11)) 0 28 (some 12)) 0 29 (some 13)) 0 30 (some 14)) 0 33 (some 15)) 0 35 (some 16)) 0 36 (some 17)) 0 37 (some 18)) 0 38 (some 19)) 0 45 (some 20)) 0 46 (some 21)) 0 47 (some 22)) 0 48 (some 23)) 0 55 (some 24)) 0 56 (some 25)) 0 58 (some 26)) 0 59 (some 27)) 0 60 (some 28)) 0 61 (some 29)) 0 62 (some 30)) 0 63 (some 31)) J (u2 (u2 (u2 (u2 (u2 (u2 (u2 (u2 (u2 (u2 (u2 (u2 (u2 I 0 2 10) 0 4 5) 0 5 2) 0 18 1) 0 34 (-1)) 26 0 (-1)) 26 1 (-1)) 26 2 (-1)) 26 3 (-1)) 29 0 (-1)) 29 1 (-1)) 29 2 (-1)) 29 3 (-1)))
  refine hv_putFR (v := (some 32)) hX hNm dX14_init_315 fl14_121_14 ⟨RX14, TX14, 74, "HungryHedgeModel", rfl, rfl, q1763, .inl rfl⟩ (show 0 < 33 by omega) rfl ?_
  have hc := hc.R (k := 67) (v := (some 32)) (show 0 < 33 from (show 0 < 33 by omega))
  show hh_V X 318 [(0, .ref 0)] [] 32 206612 (hg mK mL 33 (u2 (u2 (u2 (u2 (u2 (u2 (u2 (u2 (u2 (u2 (u2 (u2 (u2 (u2 (u2 (u2 (u2 (u2 (u2 (u2 (u2 (u2 (u2 (u2 (u2 (u2 (u2 (u2 (u2 (u2 (u2 (u2 R 0 11 (some 1)) 0 13 (some 2)) 0 14 (some 3)) 0 15 (some 4)) 0 16 (some 5)) 0 17 (some 6)) 0 23 (some 7)) 0 24 (some 8)) 0 25 (some 9)) 0 26 (some 10)) 0 27 (some 11)) 0 28 (some 12)) 0 29 (some 13)) 0 30 (some 14)) 0 33 (some 15)) 0 35 (some 16)) 0 36 (some 17)) 0 37 (some 18)) 0 38 (some 19)) 0 45 (some 20)) 0 46 (some 21)) 0 47 (some 22)) 0 48 (some 23)) 0 55 (some 24)) 0 56 (some 25)) 0 58 (some 26)) 0 59 (some 27)) 0 60 (some 28)) 0 61 (some 29)) 0 62 (some 30)) 0 63 (some 31)) 0 67 (some 32)) J (u2 (u2 (u2 (u2 (u2 (u2 (u2 (u2 (u2 (u2 (u2 (u2 (u2 I 0 2 10) 0 4 5) 0 5 2) 0 18 1) 0 34 (-1)) 26 0 (-1)) 26 1 (-1)) 26 2 (-1)) 26 3 (-1)) 29 0 (-1)) 29 1 (-1)) 29 2 (-1)) 29 3 (-1)))
  refine hv_aload_n hX dX14_init_318 rfl 0 rfl ?_
  refine hv_sipush (v := 400) hX six_400 dX14_init_319 ?_
  refine hg_newA (atype := .int) (a := 0) (N := 400) hX 0 rfl (by decide) rfl (by decide) rfl q196 dX14_init_322 (by decide) (by decide) (Nat.le_of_ble_eq_true rfl) (by omega) rfl rfl hc ⟨Nat.le_of_ble_eq_true rfl, Nat.le_of_ble_eq_true rfl⟩ ?_
  have hc := hc.up (Nat.le_succ _)
  show hh_V X 324 [(0, .ref 0)] [.ref 33, .ref 0] 33 207012 (hg mK mL 34 (u2 (u2 (u2 (u2 (u2 (u2 (u2 (u2 (u2 (u2 (u2 (u2 (u2 (u2 (u2 (u2 (u2 (u2 (u2 (u2 (u2 (u2 (u2 (u2 (u2 (u2 (u2 (u2 (u2 (u2 (u2 (u2 R 0 11 (some 1)) 0 13 (some 2)) 0 14 (some 3)) 0 15 (some 4)) 0 16 (some 5)) 0 17 (some 6)) 0 23 (some 7)) 0 24 (some 8)) 0 25 (some 9)) 0 26 (some 10)) 0 27 (some 11)) 0 28 (some 12)) 0 29 (some 13)) 0 30 (some 14)) 0 33 (some 15)) 0 35 (some 16)) 0 36 (some 17)) 0 37 (some 18)) 0 38 (some 19)) 0 45 (some 20)) 0 46 (some 21)) 0 47 (some 22)) 0 48 (some 23)) 0 55 (some 24)) 0 56 (some 25)) 0 58 (some 26)) 0 59 (some 27)) 0 60 (some 28)) 0 61 (some 29)) 0 62 (some 30)) 0 63 (some 31)) 0 67 (some 32)) J (u2 (u2 (u2 (u2 (u2 (u2 (u2 (u2 (u2 (u2 (u2 (u2 (u2 I 0 2 10) 0 4 5) 0 5 2) 0 18 1) 0 34 (-1)) 26 0 (-1)) 26 1 (-1)) 26 2 (-1)) 26 3 (-1)) 29 0 (-1)) 29 1 (-1)) 29 2 (-1)) 29 3 (-1)))
  refine hv_putFR (v := (some 33)) hX hNm dX14_init_324 fl14_124_14 ⟨RX14, TX14, 74, "HungryHedgeModel", rfl, rfl, q1767, .inl rfl⟩ (show 0 < 34 by omega) rfl ?_
  have hc := hc.R (k := 71) (v := (some 33)) (show 0 < 34 from (show 0 < 34 by omega))
  show hh_V X 327 [(0, .ref 0)] [] 33 207012 (hg mK mL 34 (u2 (u2 (u2 (u2 (u2 (u2 (u2 (u2 (u2 (u2 (u2 (u2 (u2 (u2 (u2 (u2 (u2 (u2 (u2 (u2 (u2 (u2 (u2 (u2 (u2 (u2 (u2 (u2 (u2 (u2 (u2 (u2 (u2 R 0 11 (some 1)) 0 13 (some 2)) 0 14 (some 3)) 0 15 (some 4)) 0 16 (some 5)) 0 17 (some 6)) 0 23 (some 7)) 0 24 (some 8)) 0 25 (some 9)) 0 26 (some 10)) 0 27 (some 11)) 0 28 (some 12)) 0 29 (some 13)) 0 30 (some 14)) 0 33 (some 15)) 0 35 (some 16)) 0 36 (some 17)) 0 37 (some 18)) 0 38 (some 19)) 0 45 (some 20)) 0 46 (some 21)) 0 47 (some 22)) 0 48 (some 23)) 0 55 (some 24)) 0 56 (some 25)) 0 58 (some 26)) 0 59 (some 27)) 0 60 (some 28)) 0 61 (some 29)) 0 62 (some 30)) 0 63 (some 31)) 0 67 (some 32)) 0 71 (some 33)) J (u2 (u2 (u2 (u2 (u2 (u2 (u2 (u2 (u2 (u2 (u2 (u2 (u2 I 0 2 10) 0 4 5) 0 5 2) 0 18 1) 0 34 (-1)) 26 0 (-1)) 26 1 (-1)) 26 2 (-1)) 26 3 (-1)) 29 0 (-1)) 29 1 (-1)) 29 2 (-1)) 29 3 (-1)))
  refine hv_aload_n hX dX14_init_327 rfl 0 rfl ?_
  refine hv_bipush (v := 12) hX bix_12 dX14_init_328 ?_
  refine hg_newA (atype := .int) (a := 0) (N := 12) hX 0 rfl (by decide) rfl (by decide) rfl q196 dX14_init_330 (by decide) (by decide) (Nat.le_of_ble_eq_true rfl) (by omega) rfl rfl hc ⟨Nat.le_of_ble_eq_true rfl, Nat.le_of_ble_eq_true rfl⟩ ?_
  have hc := hc.up (Nat.le_succ _)
  show hh_V X 332 [(0, .ref 0)] [.ref 34, .ref 0] 34 207024 (hg mK mL 35 (u2 (u2 (u2 (u2 (u2 (u2 (u2 (u2 (u2 (u2 (u2 (u2 (u2 (u2 (u2 (u2 (u2 (u2 (u2 (u2 (u2 (u2 (u2 (u2 (u2 (u2 (u2 (u2 (u2 (u2 (u2 (u2 (u2 R 0 11 (some 1)) 0 13 (some 2)) 0 14 (some 3)) 0 15 (some 4)) 0 16 (some 5)) 0 17 (some 6)) 0 23 (some 7)) 0 24 (some 8)) 0 25 (some 9)) 0 26 (some 10)) 0 27 (some 11)) 0 28 (some 12)) 0 29 (some 13)) 0 30 (some 14)) 0 33 (some 15)) 0 35 (some 16)) 0 36 (some 17)) 0 37 (some 18)) 0 38 (some 19)) 0 45 (some 20)) 0 46 (some 21)) 0 47 (some 22)) 0 48 (some 23)) 0 55 (some 24)) 0 56 (some 25)) 0 58 (some 26)) 0 59 (some 27)) 0 60 (some 28)) 0 61 (some 29)) 0 62 (some 30)) 0 63 (some 31)) 0 67 (some 32)) 0 71 (some 33)) J (u2 (u2 (u2 (u2 (u2 (u2 (u2 (u2 (u2 (u2 (u2 (u2 (u2 I 0 2 10) 0 4 5) 0 5 2) 0 18 1) 0 34 (-1)) 26 0 (-1)) 26 1 (-1)) 26 2 (-1)) 26 3 (-1)) 29 0 (-1)) 29 1 (-1)) 29 2 (-1)) 29 3 (-1)))
  refine hv_putFR (v := (some 34)) hX hNm dX14_init_332 fl14_127_14 ⟨RX14, TX14, 74, "HungryHedgeModel", rfl, rfl, q1769, .inl rfl⟩ (show 0 < 35 by omega) rfl ?_
  have hc := hc.R (k := 73) (v := (some 34)) (show 0 < 35 from (show 0 < 35 by omega))
  show hh_V X 335 [(0, .ref 0)] [] 34 207024 (hg mK mL 35 (u2 (u2 (u2 (u2 (u2 (u2 (u2 (u2 (u2 (u2 (u2 (u2 (u2 (u2 (u2 (u2 (u2 (u2 (u2 (u2 (u2 (u2 (u2 (u2 (u2 (u2 (u2 (u2 (u2 (u2 (u2 (u2 (u2 (u2 R 0 11 (some 1)) 0 13 (some 2)) 0 14 (some 3)) 0 15 (some 4)) 0 16 (some 5)) 0 17 (some 6)) 0 23 (some 7)) 0 24 (some 8)) 0 25 (some 9)) 0 26 (some 10)) 0 27 (some 11)) 0 28 (some 12)) 0 29 (some 13)) 0 30 (some 14)) 0 33 (some 15)) 0 35 (some 16)) 0 36 (some 17)) 0 37 (some 18)) 0 38 (some 19)) 0 45 (some 20)) 0 46 (some 21)) 0 47 (some 22)) 0 48 (some 23)) 0 55 (some 24)) 0 56 (some 25)) 0 58 (some 26)) 0 59 (some 27)) 0 60 (some 28)) 0 61 (some 29)) 0 62 (some 30)) 0 63 (some 31)) 0 67 (some 32)) 0 71 (some 33)) 0 73 (some 34)) J (u2 (u2 (u2 (u2 (u2 (u2 (u2 (u2 (u2 (u2 (u2 (u2 (u2 I 0 2 10) 0 4 5) 0 5 2) 0 18 1) 0 34 (-1)) 26 0 (-1)) 26 1 (-1)) 26 2 (-1)) 26 3 (-1)) 29 0 (-1)) 29 1 (-1)) 29 2 (-1)) 29 3 (-1)))
  exact hv_vret hX hE dX14_init_335 ⟨rfl, rfl⟩
