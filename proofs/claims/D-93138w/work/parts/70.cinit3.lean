set_option maxRecDepth 100000
set_option maxHeartbeats 4000000
/-! CONSTRUCTORS, 3: the class -/
def rc_X0 (R : xRd) : xRd := (u2 (u2 (u2 (u2 (u2 (u2 (u2 (u2 (u2 (u2 (u2 (u2 (u2 (u2 (rW2 20 (u2 (rc_X2 97 98 (u2 (rc_X7 (u2 (u2 (rc_X6 (u2 (rc_X5 (u2 (rc_X4 (u2 (rc_X3 (u2 (rc_X1_12 (u2 (rc_X1_1 R) 0 0 (some 1))) 0 1 (some 12))) 0 3 (some 23))) 0 4 (some 70))) 0 5 (some 73))) 0 6 (some 88)) 0 7 (some 92))) 0 9 (some 93))) 0 10 (some 97))) 0 11 (some 99)) 120 0 (some 121)) 120 1 (some 122)) 120 2 (some 123)) 120 3 (some 124)) 0 13 (some 120)) 0 14 (some 125)) 0 15 (some 126)) 0 16 (some 127)) 128 0 (some 129)) 128 1 (some 130)) 128 2 (some 131)) 128 3 (some 132)) 0 18 (some 128))
def ic_X0 (I : mI) : mI := (ic_X13 132 133 (ic_X13 131 132 (ic_X13 130 131 (ic_X13 129 130 (ic_X10 124 125 (ic_X10 123 124 (ic_X10 122 123 (ic_X10 121 122 (ic_X1_12 (ic_X1_1 I))))))))))
theorem cl_X0 {R : xRd} {J : mJ} {I : mI} (hc : Cln 1 R J I) : Cln 133 (rc_X0 R) J (ic_X0 I) := by
  have hc := hc.up (Nat.le_succ _)
  have hc := cl_X1_1 hc
  have hc := hc.R (k := 0) (v := (some 1)) (show 0 < 12 from (show 0 < 12 by omega))
  have hc := hc.up (Nat.le_succ _)
  have hc := cl_X1_12 hc
  have hc := hc.R (k := 1) (v := (some 12)) (show 0 < 23 from (show 0 < 23 by omega))
  have hc := hc.up (Nat.le_succ _)
  have hc := cl_X3 hc
  have hc := hc.R (k := 3) (v := (some 23)) (show 0 < 70 from (show 0 < 70 by omega))
  have hc := hc.up (Nat.le_succ _)
  have hc := cl_X4 hc
  have hc := hc.R (k := 4) (v := (some 70)) (show 0 < 73 from (show 0 < 73 by omega))
  have hc := hc.up (Nat.le_succ _)
  have hc := cl_X5 hc
  have hc := hc.R (k := 5) (v := (some 73)) (show 0 < 88 from (show 0 < 88 by omega))
  have hc := hc.up (Nat.le_succ _)
  have hc := cl_X6 hc
  have hc := hc.R (k := 6) (v := (some 88)) (show 0 < 92 from (show 0 < 92 by omega))
  have hc := hc.up (Nat.le_succ _)
  have hc := hc.R (k := 7) (v := (some 92)) (show 0 < 93 from (show 0 < 93 by omega))
  have hc := hc.up (Nat.le_succ _)
  have hc := cl_X7 hc
  have hc := hc.R (k := 9) (v := (some 93)) (show 0 < 97 from (show 0 < 97 by omega))
  have hc := hc.up (Nat.le_succ _)
  have hc := cl_X2 97 98 (by omega) (by omega) rfl rfl rfl hc
  have hc := hc.R (k := 10) (v := (some 97)) (show 0 < 99 from (show 0 < 99 by omega))
  have hc := cl_rows hc
  have hc := hc.R (k := 11) (v := (some 99)) (show 0 < 120 from (show 0 < 120 by omega))
  have hc := hc.up (Nat.le_succ _)
  have hc := hc.up (Nat.le_succ _)
  have hc := cl_X10 121 122 (by omega) rfl hc
  have hc := hc.R (k := 0) (v := some 121) (show 120 < 122 from (show 120 < 122 by omega))
  have hc := hc.up (Nat.le_succ _)
  have hc := cl_X10 122 123 (by omega) rfl hc
  have hc := hc.R (k := 1) (v := some 122) (show 120 < 123 from (show 120 < 123 by omega))
  have hc := hc.up (Nat.le_succ _)
  have hc := cl_X10 123 124 (by omega) rfl hc
  have hc := hc.R (k := 2) (v := some 123) (show 120 < 124 from (show 120 < 124 by omega))
  have hc := hc.up (Nat.le_succ _)
  have hc := cl_X10 124 125 (by omega) rfl hc
  have hc := hc.R (k := 3) (v := some 124) (show 120 < 125 from (show 120 < 125 by omega))
  have hc := hc.R (k := 13) (v := (some 120)) (show 0 < 125 from (show 0 < 125 by omega))
  have hc := hc.up (Nat.le_succ _)
  have hc := hc
  have hc := hc.R (k := 14) (v := (some 125)) (show 0 < 126 from (show 0 < 126 by omega))
  have hc := hc.up (Nat.le_succ _)
  have hc := hc
  have hc := hc.R (k := 15) (v := (some 126)) (show 0 < 127 from (show 0 < 127 by omega))
  have hc := hc.up (Nat.le_succ _)
  have hc := hc.R (k := 16) (v := (some 127)) (show 0 < 128 from (show 0 < 128 by omega))
  have hc := hc.up (Nat.le_succ _)
  have hc := hc.up (Nat.le_succ _)
  have hc := cl_X13 129 130 (by omega) rfl hc
  have hc := hc.R (k := 0) (v := some 129) (show 128 < 130 from (show 128 < 130 by omega))
  have hc := hc.up (Nat.le_succ _)
  have hc := cl_X13 130 131 (by omega) rfl hc
  have hc := hc.R (k := 1) (v := some 130) (show 128 < 131 from (show 128 < 131 by omega))
  have hc := hc.up (Nat.le_succ _)
  have hc := cl_X13 131 132 (by omega) rfl hc
  have hc := hc.R (k := 2) (v := some 131) (show 128 < 132 from (show 128 < 132 by omega))
  have hc := hc.up (Nat.le_succ _)
  have hc := cl_X13 132 133 (by omega) rfl hc
  have hc := hc.R (k := 3) (v := some 132) (show 128 < 133 from (show 128 < 133 by omega))
  have hc := hc.R (k := 18) (v := (some 128)) (show 0 < 133 from (show 0 < 133 by omega))
  exact hc
theorem cc_X0 {R : xRd} {J : mJ} {I : mI} (hc : Cln 1 R J I) : hh_Ct yX0_init cX0_init 1 none 6 132 [.ref 0] (hg kX lX 1 R J I) (fun v h' => v = none ∧ h' = hg kX lX 133 (rc_X0 R) J (ic_X0 I)) 132 205643 := by
  refine hh_Ct.ofN (own := RX0) rfl (by decide +kernel) (Nat.le_of_ble_eq_true rfl) ?_
  intro X hX hN hE hNm
  show hh_V X 0 [(0, .ref 0)] [] 0 0 (hg kX lX 1 R J I)
  refine hv_aload_n hX dX0_init_0 rfl 0 rfl ?_
  refine hv_objinit hX dX0_init_1 q152 q153 q154 hN ⟨Nat.le_of_ble_eq_true rfl, Nat.le_of_ble_eq_true rfl⟩ ?_
  refine hv_aload_n hX dX0_init_4 rfl 0 rfl ?_
  refine hg_new hX dX0_init_5 nl0_7 (by omega) rfl rfl hc ⟨Nat.le_of_ble_eq_true rfl, Nat.le_of_ble_eq_true rfl⟩ ?_
  have hnew := hc
  have hc := hc.up (Nat.le_succ _)
  show hh_V X 8 [(0, .ref 0)] [.ref 1, .ref 0] 1 17 (hg kX lX 2 R J I)
  refine hv_dup hX rfl dX0_init_8 ?_
  refine hv_callIN (ci := 1) (q := (RX1, TX1, 17)) (ret := none) hX dX0_init_9 (cc_X1_1 hc) (hh_nwm q157 rfl) rfl q159 q107 q158 rfl (by decide) np_X1_init rfl (show 1 < 2 by omega) rfl rfl ⟨Nat.le_of_ble_eq_true rfl, Nat.le_of_ble_eq_true rfl⟩ ⟨Nat.le_of_ble_eq_true rfl, Nat.le_of_ble_eq_true rfl⟩ (Nat.le_of_ble_eq_true rfl) ?_
  rintro _ _ ⟨rfl, rfl⟩
  have hc := cl_X1_1 hc
  show hh_V X 12 [(0, .ref 0)] [.ref 1, .ref 0] 11 95 (hg kX lX 12 (rc_X1_1 R) J (ic_X1_1 I))
  refine hv_putFR (v := (some 1)) hX hNm dX0_init_12 fl0_10_0 ⟨RX0, TX0, 19, "HungryHedge", rfl, rfl, q585, .inl rfl⟩ (show 0 < 12 by omega) rfl ?_
  have hc := hc.R (k := 0) (v := (some 1)) (show 0 < 12 from (show 0 < 12 by omega))
  show hh_V X 15 [(0, .ref 0)] [] 11 95 (hg kX lX 12 (u2 (rc_X1_1 R) 0 0 (some 1)) J (ic_X1_1 I))
  refine hv_aload_n hX dX0_init_15 rfl 0 rfl ?_
  refine hg_new hX dX0_init_16 nl0_7 (by omega) rfl rfl hc ⟨Nat.le_of_ble_eq_true rfl, Nat.le_of_ble_eq_true rfl⟩ ?_
  have hnew := hc
  have hc := hc.up (Nat.le_succ _)
  show hh_V X 19 [(0, .ref 0)] [.ref 12, .ref 0] 12 112 (hg kX lX 13 (u2 (rc_X1_1 R) 0 0 (some 1)) J (ic_X1_1 I))
  refine hv_dup hX rfl dX0_init_19 ?_
  refine hv_callIN (ci := 1) (q := (RX1, TX1, 17)) (ret := none) hX dX0_init_20 (cc_X1_12 hc) (hh_nwm q157 rfl) rfl q159 q107 q158 rfl (by decide) np_X1_init rfl (show 12 < 13 by omega) rfl rfl ⟨Nat.le_of_ble_eq_true rfl, Nat.le_of_ble_eq_true rfl⟩ ⟨Nat.le_of_ble_eq_true rfl, Nat.le_of_ble_eq_true rfl⟩ (Nat.le_of_ble_eq_true rfl) ?_
  rintro _ _ ⟨rfl, rfl⟩
  have hc := cl_X1_12 hc
  show hh_V X 23 [(0, .ref 0)] [.ref 12, .ref 0] 22 190 (hg kX lX 23 (rc_X1_12 (u2 (rc_X1_1 R) 0 0 (some 1))) J (ic_X1_12 (ic_X1_1 I)))
  refine hv_putFR (v := (some 12)) hX hNm dX0_init_23 fl0_16_0 ⟨RX0, TX0, 19, "HungryHedge", rfl, rfl, q588, .inl rfl⟩ (show 0 < 23 by omega) rfl ?_
  have hc := hc.R (k := 1) (v := (some 12)) (show 0 < 23 from (show 0 < 23 by omega))
  show hh_V X 26 [(0, .ref 0)] [] 22 190 (hg kX lX 23 (u2 (rc_X1_12 (u2 (rc_X1_1 R) 0 0 (some 1))) 0 1 (some 12)) J (ic_X1_12 (ic_X1_1 I)))
  refine hv_aload_n hX dX0_init_26 rfl 0 rfl ?_
  refine hg_new hX dX0_init_27 nl0_19 (by omega) rfl rfl hc ⟨Nat.le_of_ble_eq_true rfl, Nat.le_of_ble_eq_true rfl⟩ ?_
  have hnew := hc
  have hc := hc.up (Nat.le_succ _)
  show hh_V X 30 [(0, .ref 0)] [.ref 23, .ref 0] 23 194 (hg kX lX 24 (u2 (rc_X1_12 (u2 (rc_X1_1 R) 0 0 (some 1))) 0 1 (some 12)) J (ic_X1_12 (ic_X1_1 I)))
  refine hv_dup hX rfl dX0_init_30 ?_
  refine hv_aload_n hX dX0_init_31 rfl 0 rfl ?_
  refine hv_callI (ci := 3) (q := (RX3, TX3, 4)) (host := "") (ret := none) hX dX0_init_32 (cc_X3 hc) q279 rfl q281 q109 q280 rfl (by decide) np_X3_init rfl (show 23 < 24 by omega) rfl rfl ⟨Nat.le_of_ble_eq_true rfl, Nat.le_of_ble_eq_true rfl⟩ ⟨Nat.le_of_ble_eq_true rfl, Nat.le_of_ble_eq_true rfl⟩ (Nat.le_of_ble_eq_true rfl) ?_
  rintro _ _ ⟨rfl, rfl⟩
  have hc := cl_X3 hc
  show hh_V X 35 [(0, .ref 0)] [.ref 23, .ref 0] 69 202076 (hg kX lX 70 (rc_X3 (u2 (rc_X1_12 (u2 (rc_X1_1 R) 0 0 (some 1))) 0 1 (some 12))) J (ic_X1_12 (ic_X1_1 I)))
  refine hv_putFR (v := (some 23)) hX hNm dX0_init_35 fl0_24_0 ⟨RX0, TX0, 19, "HungryHedge", rfl, rfl, q590, .inl rfl⟩ (show 0 < 70 by omega) rfl ?_
  have hc := hc.R (k := 3) (v := (some 23)) (show 0 < 70 from (show 0 < 70 by omega))
  show hh_V X 38 [(0, .ref 0)] [] 69 202076 (hg kX lX 70 (u2 (rc_X3 (u2 (rc_X1_12 (u2 (rc_X1_1 R) 0 0 (some 1))) 0 1 (some 12))) 0 3 (some 23)) J (ic_X1_12 (ic_X1_1 I)))
  refine hv_aload_n hX dX0_init_38 rfl 0 rfl ?_
  refine hg_new hX dX0_init_39 nl0_28 (by omega) rfl rfl hc ⟨Nat.le_of_ble_eq_true rfl, Nat.le_of_ble_eq_true rfl⟩ ?_
  have hnew := hc
  have hc := hc.up (Nat.le_succ _)
  show hh_V X 42 [(0, .ref 0)] [.ref 70, .ref 0] 70 202081 (hg kX lX 71 (u2 (rc_X3 (u2 (rc_X1_12 (u2 (rc_X1_1 R) 0 0 (some 1))) 0 1 (some 12))) 0 3 (some 23)) J (ic_X1_12 (ic_X1_1 I)))
  refine hv_dup hX rfl dX0_init_42 ?_
  refine hv_aload_n hX dX0_init_43 rfl 0 rfl ?_
  refine hv_callIN (ci := 4) (q := (RX4, TX4, 5)) (ret := none) hX dX0_init_44 (cc_X4 hc) (hh_nwm q302 rfl) rfl q304 q110 q303 rfl (by decide) np_X4_init rfl (show 70 < 71 by omega) rfl rfl ⟨Nat.le_of_ble_eq_true rfl, Nat.le_of_ble_eq_true rfl⟩ ⟨Nat.le_of_ble_eq_true rfl, Nat.le_of_ble_eq_true rfl⟩ (Nat.le_of_ble_eq_true rfl) ?_
  rintro _ _ ⟨rfl, rfl⟩
  have hc := cl_X4 hc
  show hh_V X 47 [(0, .ref 0)] [.ref 70, .ref 0] 72 202089 (hg kX lX 73 (rc_X4 (u2 (rc_X3 (u2 (rc_X1_12 (u2 (rc_X1_1 R) 0 0 (some 1))) 0 1 (some 12))) 0 3 (some 23))) J (ic_X1_12 (ic_X1_1 I)))
  refine hv_putFR (v := (some 70)) hX hNm dX0_init_47 fl0_31_0 ⟨RX0, TX0, 19, "HungryHedge", rfl, rfl, q591, .inl rfl⟩ (show 0 < 73 by omega) rfl ?_
  have hc := hc.R (k := 4) (v := (some 70)) (show 0 < 73 from (show 0 < 73 by omega))
  show hh_V X 50 [(0, .ref 0)] [] 72 202089 (hg kX lX 73 (u2 (rc_X4 (u2 (rc_X3 (u2 (rc_X1_12 (u2 (rc_X1_1 R) 0 0 (some 1))) 0 1 (some 12))) 0 3 (some 23))) 0 4 (some 70)) J (ic_X1_12 (ic_X1_1 I)))
  refine hv_aload_n hX dX0_init_50 rfl 0 rfl ?_
  refine hg_new hX dX0_init_51 nl0_35 (by omega) rfl rfl hc ⟨Nat.le_of_ble_eq_true rfl, Nat.le_of_ble_eq_true rfl⟩ ?_
  have hnew := hc
  have hc := hc.up (Nat.le_succ _)
  show hh_V X 54 [(0, .ref 0)] [.ref 73, .ref 0] 73 202091 (hg kX lX 74 (u2 (rc_X4 (u2 (rc_X3 (u2 (rc_X1_12 (u2 (rc_X1_1 R) 0 0 (some 1))) 0 1 (some 12))) 0 3 (some 23))) 0 4 (some 70)) J (ic_X1_12 (ic_X1_1 I)))
  refine hv_dup hX rfl dX0_init_54 ?_
  refine hv_aload_n hX dX0_init_55 rfl 0 rfl ?_
  refine hv_callIN (ci := 5) (q := (RX5, TX5, 2)) (ret := none) hX dX0_init_56 (cc_X5 hc) (hh_nwm q327 rfl) rfl q329 q111 q328 rfl (by decide) np_X5_init rfl (show 73 < 74 by omega) rfl rfl ⟨Nat.le_of_ble_eq_true rfl, Nat.le_of_ble_eq_true rfl⟩ ⟨Nat.le_of_ble_eq_true rfl, Nat.le_of_ble_eq_true rfl⟩ (Nat.le_of_ble_eq_true rfl) ?_
  rintro _ _ ⟨rfl, rfl⟩
  have hc := cl_X5 hc
  show hh_V X 59 [(0, .ref 0)] [.ref 73, .ref 0] 87 205237 (hg kX lX 88 (rc_X5 (u2 (rc_X4 (u2 (rc_X3 (u2 (rc_X1_12 (u2 (rc_X1_1 R) 0 0 (some 1))) 0 1 (some 12))) 0 3 (some 23))) 0 4 (some 70))) J (ic_X1_12 (ic_X1_1 I)))
  refine hv_putFR (v := (some 73)) hX hNm dX0_init_59 fl0_38_0 ⟨RX0, TX0, 19, "HungryHedge", rfl, rfl, q592, .inl rfl⟩ (show 0 < 88 by omega) rfl ?_
  have hc := hc.R (k := 5) (v := (some 73)) (show 0 < 88 from (show 0 < 88 by omega))
  show hh_V X 62 [(0, .ref 0)] [] 87 205237 (hg kX lX 88 (u2 (rc_X5 (u2 (rc_X4 (u2 (rc_X3 (u2 (rc_X1_12 (u2 (rc_X1_1 R) 0 0 (some 1))) 0 1 (some 12))) 0 3 (some 23))) 0 4 (some 70))) 0 5 (some 73)) J (ic_X1_12 (ic_X1_1 I)))
  refine hv_aload_n hX dX0_init_62 rfl 0 rfl ?_
  refine hg_new hX dX0_init_63 nl0_42 (by omega) rfl rfl hc ⟨Nat.le_of_ble_eq_true rfl, Nat.le_of_ble_eq_true rfl⟩ ?_
  have hnew := hc
  have hc := hc.up (Nat.le_succ _)
  show hh_V X 66 [(0, .ref 0)] [.ref 88, .ref 0] 88 205243 (hg kX lX 89 (u2 (rc_X5 (u2 (rc_X4 (u2 (rc_X3 (u2 (rc_X1_12 (u2 (rc_X1_1 R) 0 0 (some 1))) 0 1 (some 12))) 0 3 (some 23))) 0 4 (some 70))) 0 5 (some 73)) J (ic_X1_12 (ic_X1_1 I)))
  refine hv_dup hX rfl dX0_init_66 ?_
  refine hv_aload_n hX dX0_init_67 rfl 0 rfl ?_
  refine hv_callIN (ci := 6) (q := (RX6, TX6, 6)) (ret := none) hX dX0_init_68 (cc_X6 hc) (hh_nwm q344 rfl) rfl q346 q112 q345 rfl (by decide) np_X6_init rfl (show 88 < 89 by omega) rfl rfl ⟨Nat.le_of_ble_eq_true rfl, Nat.le_of_ble_eq_true rfl⟩ ⟨Nat.le_of_ble_eq_true rfl, Nat.le_of_ble_eq_true rfl⟩ (Nat.le_of_ble_eq_true rfl) ?_
  rintro _ _ ⟨rfl, rfl⟩
  have hc := cl_X6 hc
  show hh_V X 71 [(0, .ref 0)] [.ref 88, .ref 0] 91 205263 (hg kX lX 92 (rc_X6 (u2 (rc_X5 (u2 (rc_X4 (u2 (rc_X3 (u2 (rc_X1_12 (u2 (rc_X1_1 R) 0 0 (some 1))) 0 1 (some 12))) 0 3 (some 23))) 0 4 (some 70))) 0 5 (some 73))) J (ic_X1_12 (ic_X1_1 I)))
  refine hv_putFR (v := (some 88)) hX hNm dX0_init_71 fl0_45_0 ⟨RX0, TX0, 19, "HungryHedge", rfl, rfl, q593, .inl rfl⟩ (show 0 < 92 by omega) rfl ?_
  have hc := hc.R (k := 6) (v := (some 88)) (show 0 < 92 from (show 0 < 92 by omega))
  show hh_V X 74 [(0, .ref 0)] [] 91 205263 (hg kX lX 92 (u2 (rc_X6 (u2 (rc_X5 (u2 (rc_X4 (u2 (rc_X3 (u2 (rc_X1_12 (u2 (rc_X1_1 R) 0 0 (some 1))) 0 1 (some 12))) 0 3 (some 23))) 0 4 (some 70))) 0 5 (some 73))) 0 6 (some 88)) J (ic_X1_12 (ic_X1_1 I)))
  refine hv_aload_n hX dX0_init_74 rfl 0 rfl ?_
  refine hv_sipush (v := 200) hX six_200 dX0_init_75 ?_
  refine hg_newA (atype := .byte) (a := 1) (N := 200) hX 1 rfl (by decide) rfl (by decide) rfl q455 dX0_init_78 (by decide) (by decide) (Nat.le_of_ble_eq_true rfl) (by omega) rfl rfl hc ⟨Nat.le_of_ble_eq_true rfl, Nat.le_of_ble_eq_true rfl⟩ ?_
  have hc := hc.up (Nat.le_succ _)
  show hh_V X 80 [(0, .ref 0)] [.ref 92, .ref 0] 92 205463 (hg kX lX 93 (u2 (rc_X6 (u2 (rc_X5 (u2 (rc_X4 (u2 (rc_X3 (u2 (rc_X1_12 (u2 (rc_X1_1 R) 0 0 (some 1))) 0 1 (some 12))) 0 3 (some 23))) 0 4 (some 70))) 0 5 (some 73))) 0 6 (some 88)) J (ic_X1_12 (ic_X1_1 I)))
  refine hv_putFR (v := (some 92)) hX hNm dX0_init_80 fl0_49_0 ⟨RX0, TX0, 19, "HungryHedge", rfl, rfl, q594, .inl rfl⟩ (show 0 < 93 by omega) rfl ?_
  have hc := hc.R (k := 7) (v := (some 92)) (show 0 < 93 from (show 0 < 93 by omega))
  show hh_V X 83 [(0, .ref 0)] [] 92 205463 (hg kX lX 93 (u2 (u2 (rc_X6 (u2 (rc_X5 (u2 (rc_X4 (u2 (rc_X3 (u2 (rc_X1_12 (u2 (rc_X1_1 R) 0 0 (some 1))) 0 1 (some 12))) 0 3 (some 23))) 0 4 (some 70))) 0 5 (some 73))) 0 6 (some 88)) 0 7 (some 92)) J (ic_X1_12 (ic_X1_1 I)))
  refine hv_aload_n hX dX0_init_83 rfl 0 rfl ?_
  refine hg_new hX dX0_init_84 nl0_53 (by omega) rfl rfl hc ⟨Nat.le_of_ble_eq_true rfl, Nat.le_of_ble_eq_true rfl⟩ ?_
  have hnew := hc
  have hc := hc.up (Nat.le_succ _)
  show hh_V X 87 [(0, .ref 0)] [.ref 93, .ref 0] 93 205474 (hg kX lX 94 (u2 (u2 (rc_X6 (u2 (rc_X5 (u2 (rc_X4 (u2 (rc_X3 (u2 (rc_X1_12 (u2 (rc_X1_1 R) 0 0 (some 1))) 0 1 (some 12))) 0 3 (some 23))) 0 4 (some 70))) 0 5 (some 73))) 0 6 (some 88)) 0 7 (some 92)) J (ic_X1_12 (ic_X1_1 I)))
  refine hv_dup hX rfl dX0_init_87 ?_
  refine hv_callIN (ci := 7) (q := (RX7, TX7, 11)) (ret := none) hX dX0_init_88 (cc_X7 hc) (hh_nwm q370 rfl) rfl q372 q113 q371 rfl (by decide) np_X7_init rfl (show 93 < 94 by omega) rfl rfl ⟨Nat.le_of_ble_eq_true rfl, Nat.le_of_ble_eq_true rfl⟩ ⟨Nat.le_of_ble_eq_true rfl, Nat.le_of_ble_eq_true rfl⟩ (Nat.le_of_ble_eq_true rfl) ?_
  rintro _ _ ⟨rfl, rfl⟩
  have hc := cl_X7 hc
  show hh_V X 91 [(0, .ref 0)] [.ref 93, .ref 0] 96 205493 (hg kX lX 97 (rc_X7 (u2 (u2 (rc_X6 (u2 (rc_X5 (u2 (rc_X4 (u2 (rc_X3 (u2 (rc_X1_12 (u2 (rc_X1_1 R) 0 0 (some 1))) 0 1 (some 12))) 0 3 (some 23))) 0 4 (some 70))) 0 5 (some 73))) 0 6 (some 88)) 0 7 (some 92))) J (ic_X1_12 (ic_X1_1 I)))
  refine hv_putFR (v := (some 93)) hX hNm dX0_init_91 fl0_56_0 ⟨RX0, TX0, 19, "HungryHedge", rfl, rfl, q596, .inl rfl⟩ (show 0 < 97 by omega) rfl ?_
  have hc := hc.R (k := 9) (v := (some 93)) (show 0 < 97 from (show 0 < 97 by omega))
  show hh_V X 94 [(0, .ref 0)] [] 96 205493 (hg kX lX 97 (u2 (rc_X7 (u2 (u2 (rc_X6 (u2 (rc_X5 (u2 (rc_X4 (u2 (rc_X3 (u2 (rc_X1_12 (u2 (rc_X1_1 R) 0 0 (some 1))) 0 1 (some 12))) 0 3 (some 23))) 0 4 (some 70))) 0 5 (some 73))) 0 6 (some 88)) 0 7 (some 92))) 0 9 (some 93)) J (ic_X1_12 (ic_X1_1 I)))
  refine hv_aload_n hX dX0_init_94 rfl 0 rfl ?_
  refine hg_new hX dX0_init_95 nl0_60 (by omega) rfl rfl hc ⟨Nat.le_of_ble_eq_true rfl, Nat.le_of_ble_eq_true rfl⟩ ?_
  have hnew := hc
  have hc := hc.up (Nat.le_succ _)
  show hh_V X 98 [(0, .ref 0)] [.ref 97, .ref 0] 97 205497 (hg kX lX 98 (u2 (rc_X7 (u2 (u2 (rc_X6 (u2 (rc_X5 (u2 (rc_X4 (u2 (rc_X3 (u2 (rc_X1_12 (u2 (rc_X1_1 R) 0 0 (some 1))) 0 1 (some 12))) 0 3 (some 23))) 0 4 (some 70))) 0 5 (some 73))) 0 6 (some 88)) 0 7 (some 92))) 0 9 (some 93)) J (ic_X1_12 (ic_X1_1 I)))
  refine hv_dup hX rfl dX0_init_98 ?_
  refine hv_callIN (ci := 2) (q := (RX2, TX2, 4)) (ret := none) hX dX0_init_99 (cc_X2 97 98 (by omega) (by omega) rfl rfl rfl hc) (hh_nwm q494 rfl) rfl q169 q108 q168 rfl (by decide) np_X2_init rfl (show 97 < 98 by omega) rfl rfl ⟨Nat.le_of_ble_eq_true rfl, Nat.le_of_ble_eq_true rfl⟩ ⟨Nat.le_of_ble_eq_true rfl, Nat.le_of_ble_eq_true rfl⟩ (Nat.le_of_ble_eq_true rfl) ?_
  rintro _ _ ⟨rfl, rfl⟩
  have hc := cl_X2 97 98 (by omega) (by omega) rfl rfl rfl hc
  show hh_V X 102 [(0, .ref 0)] [.ref 97, .ref 0] 98 205501 (hg kX lX 99 (rc_X2 97 98 (u2 (rc_X7 (u2 (u2 (rc_X6 (u2 (rc_X5 (u2 (rc_X4 (u2 (rc_X3 (u2 (rc_X1_12 (u2 (rc_X1_1 R) 0 0 (some 1))) 0 1 (some 12))) 0 3 (some 23))) 0 4 (some 70))) 0 5 (some 73))) 0 6 (some 88)) 0 7 (some 92))) 0 9 (some 93))) J (ic_X1_12 (ic_X1_1 I)))
  refine hv_putFR (v := (some 97)) hX hNm dX0_init_102 fl0_63_0 ⟨RX0, TX0, 19, "HungryHedge", rfl, rfl, q597, .inl rfl⟩ (show 0 < 99 by omega) rfl ?_
  have hc := hc.R (k := 10) (v := (some 97)) (show 0 < 99 from (show 0 < 99 by omega))
  show hh_V X 105 [(0, .ref 0)] [] 98 205501 (hg kX lX 99 (u2 (rc_X2 97 98 (u2 (rc_X7 (u2 (u2 (rc_X6 (u2 (rc_X5 (u2 (rc_X4 (u2 (rc_X3 (u2 (rc_X1_12 (u2 (rc_X1_1 R) 0 0 (some 1))) 0 1 (some 12))) 0 3 (some 23))) 0 4 (some 70))) 0 5 (some 73))) 0 6 (some 88)) 0 7 (some 92))) 0 9 (some 93))) 0 10 (some 97)) J (ic_X1_12 (ic_X1_1 I)))
  refine hv_aload_n hX dX0_init_105 rfl 0 rfl ?_
  refine hv_callS hX dX0_init_106 (cc_rows hc) (lw_S q495 q496 q106 q497) np_X0_someRows rfl ⟨Nat.le_of_ble_eq_true rfl, Nat.le_of_ble_eq_true rfl⟩ ⟨Nat.le_of_ble_eq_true rfl, Nat.le_of_ble_eq_true rfl⟩ (Nat.le_of_ble_eq_true rfl) ?_
  rintro _ _ ⟨rfl, rfl⟩
  have hc := cl_rows hc
  show hh_V X 109 [(0, .ref 0)] [.ref 99, .ref 0] 119 205561 (hg kX lX 120 (rW2 20 (u2 (rc_X2 97 98 (u2 (rc_X7 (u2 (u2 (rc_X6 (u2 (rc_X5 (u2 (rc_X4 (u2 (rc_X3 (u2 (rc_X1_12 (u2 (rc_X1_1 R) 0 0 (some 1))) 0 1 (some 12))) 0 3 (some 23))) 0 4 (some 70))) 0 5 (some 73))) 0 6 (some 88)) 0 7 (some 92))) 0 9 (some 93))) 0 10 (some 97))) J (ic_X1_12 (ic_X1_1 I)))
  refine hv_putFR (v := (some 99)) hX hNm dX0_init_109 fl0_71_0 ⟨RX0, TX0, 19, "HungryHedge", rfl, rfl, q598, .inl rfl⟩ (show 0 < 120 by omega) rfl ?_
  have hc := hc.R (k := 11) (v := (some 99)) (show 0 < 120 from (show 0 < 120 by omega))
  show hh_V X 112 [(0, .ref 0)] [] 119 205561 (hg kX lX 120 (u2 (rW2 20 (u2 (rc_X2 97 98 (u2 (rc_X7 (u2 (u2 (rc_X6 (u2 (rc_X5 (u2 (rc_X4 (u2 (rc_X3 (u2 (rc_X1_12 (u2 (rc_X1_1 R) 0 0 (some 1))) 0 1 (some 12))) 0 3 (some 23))) 0 4 (some 70))) 0 5 (some 73))) 0 6 (some 88)) 0 7 (some 92))) 0 9 (some 93))) 0 10 (some 97))) 0 11 (some 99)) J (ic_X1_12 (ic_X1_1 I)))
  refine hv_aload_n hX dX0_init_112 rfl 0 rfl ?_
  refine hv_iconst (v := 4) hX icx_4 dX0_init_113 ?_
  refine hg_newQ (a := 24) (N := 4) (C := "HungryHedge$Sheet") hX 8 rfl (by decide) rfl (by decide) q512 dX0_init_114 (by decide) (by decide) (Nat.le_of_ble_eq_true rfl) (by omega) rfl rfl hc ⟨Nat.le_of_ble_eq_true rfl, Nat.le_of_ble_eq_true rfl⟩ ?_
  have hc := hc.up (Nat.le_succ _)
  show hh_V X 117 [(0, .ref 0)] [.ref 120, .ref 0] 120 205565 (hg kX lX 121 (u2 (rW2 20 (u2 (rc_X2 97 98 (u2 (rc_X7 (u2 (u2 (rc_X6 (u2 (rc_X5 (u2 (rc_X4 (u2 (rc_X3 (u2 (rc_X1_12 (u2 (rc_X1_1 R) 0 0 (some 1))) 0 1 (some 12))) 0 3 (some 23))) 0 4 (some 70))) 0 5 (some 73))) 0 6 (some 88)) 0 7 (some 92))) 0 9 (some 93))) 0 10 (some 97))) 0 11 (some 99)) J (ic_X1_12 (ic_X1_1 I)))
  refine hv_dup hX rfl dX0_init_117 ?_
  refine hv_iconst (v := 0) hX icx_0 dX0_init_118 ?_
  refine hg_new hX dX0_init_119 nl0_75 (by omega) rfl rfl hc ⟨Nat.le_of_ble_eq_true rfl, Nat.le_of_ble_eq_true rfl⟩ ?_
  have hnew := hc
  have hc := hc.up (Nat.le_succ _)
  show hh_V X 122 [(0, .ref 0)] [.ref 121, .int 0, .ref 120, .ref 120, .ref 0] 121 205570 (hg kX lX 122 (u2 (rW2 20 (u2 (rc_X2 97 98 (u2 (rc_X7 (u2 (u2 (rc_X6 (u2 (rc_X5 (u2 (rc_X4 (u2 (rc_X3 (u2 (rc_X1_12 (u2 (rc_X1_1 R) 0 0 (some 1))) 0 1 (some 12))) 0 3 (some 23))) 0 4 (some 70))) 0 5 (some 73))) 0 6 (some 88)) 0 7 (some 92))) 0 9 (some 93))) 0 10 (some 97))) 0 11 (some 99)) J (ic_X1_12 (ic_X1_1 I)))
  refine hv_dup hX rfl dX0_init_122 ?_
  refine hv_callIN (ci := 10) (q := (RX10, TX10, 5)) (ret := none) hX dX0_init_123 (cc_X10 121 122 (by omega) rfl hc) (hh_nwm q515 rfl) rfl q517 q119 q516 rfl (by decide) np_X10_init rfl (show 121 < 122 by omega) rfl rfl ⟨Nat.le_of_ble_eq_true rfl, Nat.le_of_ble_eq_true rfl⟩ ⟨Nat.le_of_ble_eq_true rfl, Nat.le_of_ble_eq_true rfl⟩ (Nat.le_of_ble_eq_true rfl) ?_
  rintro _ _ ⟨rfl, rfl⟩
  have hc := cl_X10 121 122 (by omega) rfl hc
  show hh_V X 126 [(0, .ref 0)] [.ref 121, .int 0, .ref 120, .ref 120, .ref 0] 121 205570 (hg kX lX 122 (u2 (rW2 20 (u2 (rc_X2 97 98 (u2 (rc_X7 (u2 (u2 (rc_X6 (u2 (rc_X5 (u2 (rc_X4 (u2 (rc_X3 (u2 (rc_X1_12 (u2 (rc_X1_1 R) 0 0 (some 1))) 0 1 (some 12))) 0 3 (some 23))) 0 4 (some 70))) 0 5 (some 73))) 0 6 (some 88)) 0 7 (some 92))) 0 9 (some 93))) 0 10 (some 97))) 0 11 (some 99)) J (ic_X10 121 122 (ic_X1_12 (ic_X1_1 I))))
  refine hv_aast (a := 24) (ci := 10) (q := (RX10, TX10, 5)) hX 8 rfl (by decide) rfl (by decide) rfl dX0_init_126 (show 120 < 122 by omega) rfl (show vp_in 0 4 from vp_in_iff.mpr (by decide)) (show 121 < 122 by omega) rfl ?_
  have hc := hc.R (k := 0) (v := some 121) (show 120 < 122 from (show 120 < 122 by omega))
  show hh_V X 127 [(0, .ref 0)] [.ref 120, .ref 0] 121 205570 (hg kX lX 122 (u2 (u2 (rW2 20 (u2 (rc_X2 97 98 (u2 (rc_X7 (u2 (u2 (rc_X6 (u2 (rc_X5 (u2 (rc_X4 (u2 (rc_X3 (u2 (rc_X1_12 (u2 (rc_X1_1 R) 0 0 (some 1))) 0 1 (some 12))) 0 3 (some 23))) 0 4 (some 70))) 0 5 (some 73))) 0 6 (some 88)) 0 7 (some 92))) 0 9 (some 93))) 0 10 (some 97))) 0 11 (some 99)) 120 0 (some 121)) J (ic_X10 121 122 (ic_X1_12 (ic_X1_1 I))))
  refine hv_dup hX rfl dX0_init_127 ?_
  refine hv_iconst (v := 1) hX icx_1 dX0_init_128 ?_
  refine hg_new hX dX0_init_129 nl0_75 (by omega) rfl rfl hc ⟨Nat.le_of_ble_eq_true rfl, Nat.le_of_ble_eq_true rfl⟩ ?_
  have hnew := hc
  have hc := hc.up (Nat.le_succ _)
  show hh_V X 132 [(0, .ref 0)] [.ref 122, .int 1, .ref 120, .ref 120, .ref 0] 122 205575 (hg kX lX 123 (u2 (u2 (rW2 20 (u2 (rc_X2 97 98 (u2 (rc_X7 (u2 (u2 (rc_X6 (u2 (rc_X5 (u2 (rc_X4 (u2 (rc_X3 (u2 (rc_X1_12 (u2 (rc_X1_1 R) 0 0 (some 1))) 0 1 (some 12))) 0 3 (some 23))) 0 4 (some 70))) 0 5 (some 73))) 0 6 (some 88)) 0 7 (some 92))) 0 9 (some 93))) 0 10 (some 97))) 0 11 (some 99)) 120 0 (some 121)) J (ic_X10 121 122 (ic_X1_12 (ic_X1_1 I))))
  refine hv_dup hX rfl dX0_init_132 ?_
  refine hv_callIN (ci := 10) (q := (RX10, TX10, 5)) (ret := none) hX dX0_init_133 (cc_X10 122 123 (by omega) rfl hc) (hh_nwm q515 rfl) rfl q517 q119 q516 rfl (by decide) np_X10_init rfl (show 122 < 123 by omega) rfl rfl ⟨Nat.le_of_ble_eq_true rfl, Nat.le_of_ble_eq_true rfl⟩ ⟨Nat.le_of_ble_eq_true rfl, Nat.le_of_ble_eq_true rfl⟩ (Nat.le_of_ble_eq_true rfl) ?_
  rintro _ _ ⟨rfl, rfl⟩
  have hc := cl_X10 122 123 (by omega) rfl hc
  show hh_V X 136 [(0, .ref 0)] [.ref 122, .int 1, .ref 120, .ref 120, .ref 0] 122 205575 (hg kX lX 123 (u2 (u2 (rW2 20 (u2 (rc_X2 97 98 (u2 (rc_X7 (u2 (u2 (rc_X6 (u2 (rc_X5 (u2 (rc_X4 (u2 (rc_X3 (u2 (rc_X1_12 (u2 (rc_X1_1 R) 0 0 (some 1))) 0 1 (some 12))) 0 3 (some 23))) 0 4 (some 70))) 0 5 (some 73))) 0 6 (some 88)) 0 7 (some 92))) 0 9 (some 93))) 0 10 (some 97))) 0 11 (some 99)) 120 0 (some 121)) J (ic_X10 122 123 (ic_X10 121 122 (ic_X1_12 (ic_X1_1 I)))))
  refine hv_aast (a := 24) (ci := 10) (q := (RX10, TX10, 5)) hX 8 rfl (by decide) rfl (by decide) rfl dX0_init_136 (show 120 < 123 by omega) rfl (show vp_in 1 4 from vp_in_iff.mpr (by decide)) (show 122 < 123 by omega) rfl ?_
  have hc := hc.R (k := 1) (v := some 122) (show 120 < 123 from (show 120 < 123 by omega))
  show hh_V X 137 [(0, .ref 0)] [.ref 120, .ref 0] 122 205575 (hg kX lX 123 (u2 (u2 (u2 (rW2 20 (u2 (rc_X2 97 98 (u2 (rc_X7 (u2 (u2 (rc_X6 (u2 (rc_X5 (u2 (rc_X4 (u2 (rc_X3 (u2 (rc_X1_12 (u2 (rc_X1_1 R) 0 0 (some 1))) 0 1 (some 12))) 0 3 (some 23))) 0 4 (some 70))) 0 5 (some 73))) 0 6 (some 88)) 0 7 (some 92))) 0 9 (some 93))) 0 10 (some 97))) 0 11 (some 99)) 120 0 (some 121)) 120 1 (some 122)) J (ic_X10 122 123 (ic_X10 121 122 (ic_X1_12 (ic_X1_1 I)))))
  refine hv_dup hX rfl dX0_init_137 ?_
  refine hv_iconst (v := 2) hX icx_2 dX0_init_138 ?_
  refine hg_new hX dX0_init_139 nl0_75 (by omega) rfl rfl hc ⟨Nat.le_of_ble_eq_true rfl, Nat.le_of_ble_eq_true rfl⟩ ?_
  have hnew := hc
  have hc := hc.up (Nat.le_succ _)
  show hh_V X 142 [(0, .ref 0)] [.ref 123, .int 2, .ref 120, .ref 120, .ref 0] 123 205580 (hg kX lX 124 (u2 (u2 (u2 (rW2 20 (u2 (rc_X2 97 98 (u2 (rc_X7 (u2 (u2 (rc_X6 (u2 (rc_X5 (u2 (rc_X4 (u2 (rc_X3 (u2 (rc_X1_12 (u2 (rc_X1_1 R) 0 0 (some 1))) 0 1 (some 12))) 0 3 (some 23))) 0 4 (some 70))) 0 5 (some 73))) 0 6 (some 88)) 0 7 (some 92))) 0 9 (some 93))) 0 10 (some 97))) 0 11 (some 99)) 120 0 (some 121)) 120 1 (some 122)) J (ic_X10 122 123 (ic_X10 121 122 (ic_X1_12 (ic_X1_1 I)))))
  refine hv_dup hX rfl dX0_init_142 ?_
  refine hv_callIN (ci := 10) (q := (RX10, TX10, 5)) (ret := none) hX dX0_init_143 (cc_X10 123 124 (by omega) rfl hc) (hh_nwm q515 rfl) rfl q517 q119 q516 rfl (by decide) np_X10_init rfl (show 123 < 124 by omega) rfl rfl ⟨Nat.le_of_ble_eq_true rfl, Nat.le_of_ble_eq_true rfl⟩ ⟨Nat.le_of_ble_eq_true rfl, Nat.le_of_ble_eq_true rfl⟩ (Nat.le_of_ble_eq_true rfl) ?_
  rintro _ _ ⟨rfl, rfl⟩
  have hc := cl_X10 123 124 (by omega) rfl hc
  show hh_V X 146 [(0, .ref 0)] [.ref 123, .int 2, .ref 120, .ref 120, .ref 0] 123 205580 (hg kX lX 124 (u2 (u2 (u2 (rW2 20 (u2 (rc_X2 97 98 (u2 (rc_X7 (u2 (u2 (rc_X6 (u2 (rc_X5 (u2 (rc_X4 (u2 (rc_X3 (u2 (rc_X1_12 (u2 (rc_X1_1 R) 0 0 (some 1))) 0 1 (some 12))) 0 3 (some 23))) 0 4 (some 70))) 0 5 (some 73))) 0 6 (some 88)) 0 7 (some 92))) 0 9 (some 93))) 0 10 (some 97))) 0 11 (some 99)) 120 0 (some 121)) 120 1 (some 122)) J (ic_X10 123 124 (ic_X10 122 123 (ic_X10 121 122 (ic_X1_12 (ic_X1_1 I))))))
  refine hv_aast (a := 24) (ci := 10) (q := (RX10, TX10, 5)) hX 8 rfl (by decide) rfl (by decide) rfl dX0_init_146 (show 120 < 124 by omega) rfl (show vp_in 2 4 from vp_in_iff.mpr (by decide)) (show 123 < 124 by omega) rfl ?_
  have hc := hc.R (k := 2) (v := some 123) (show 120 < 124 from (show 120 < 124 by omega))
  show hh_V X 147 [(0, .ref 0)] [.ref 120, .ref 0] 123 205580 (hg kX lX 124 (u2 (u2 (u2 (u2 (rW2 20 (u2 (rc_X2 97 98 (u2 (rc_X7 (u2 (u2 (rc_X6 (u2 (rc_X5 (u2 (rc_X4 (u2 (rc_X3 (u2 (rc_X1_12 (u2 (rc_X1_1 R) 0 0 (some 1))) 0 1 (some 12))) 0 3 (some 23))) 0 4 (some 70))) 0 5 (some 73))) 0 6 (some 88)) 0 7 (some 92))) 0 9 (some 93))) 0 10 (some 97))) 0 11 (some 99)) 120 0 (some 121)) 120 1 (some 122)) 120 2 (some 123)) J (ic_X10 123 124 (ic_X10 122 123 (ic_X10 121 122 (ic_X1_12 (ic_X1_1 I))))))
  refine hv_dup hX rfl dX0_init_147 ?_
  refine hv_iconst (v := 3) hX icx_3 dX0_init_148 ?_
  refine hg_new hX dX0_init_149 nl0_75 (by omega) rfl rfl hc ⟨Nat.le_of_ble_eq_true rfl, Nat.le_of_ble_eq_true rfl⟩ ?_
  have hnew := hc
  have hc := hc.up (Nat.le_succ _)
  show hh_V X 152 [(0, .ref 0)] [.ref 124, .int 3, .ref 120, .ref 120, .ref 0] 124 205585 (hg kX lX 125 (u2 (u2 (u2 (u2 (rW2 20 (u2 (rc_X2 97 98 (u2 (rc_X7 (u2 (u2 (rc_X6 (u2 (rc_X5 (u2 (rc_X4 (u2 (rc_X3 (u2 (rc_X1_12 (u2 (rc_X1_1 R) 0 0 (some 1))) 0 1 (some 12))) 0 3 (some 23))) 0 4 (some 70))) 0 5 (some 73))) 0 6 (some 88)) 0 7 (some 92))) 0 9 (some 93))) 0 10 (some 97))) 0 11 (some 99)) 120 0 (some 121)) 120 1 (some 122)) 120 2 (some 123)) J (ic_X10 123 124 (ic_X10 122 123 (ic_X10 121 122 (ic_X1_12 (ic_X1_1 I))))))
  refine hv_dup hX rfl dX0_init_152 ?_
  refine hv_callIN (ci := 10) (q := (RX10, TX10, 5)) (ret := none) hX dX0_init_153 (cc_X10 124 125 (by omega) rfl hc) (hh_nwm q515 rfl) rfl q517 q119 q516 rfl (by decide) np_X10_init rfl (show 124 < 125 by omega) rfl rfl ⟨Nat.le_of_ble_eq_true rfl, Nat.le_of_ble_eq_true rfl⟩ ⟨Nat.le_of_ble_eq_true rfl, Nat.le_of_ble_eq_true rfl⟩ (Nat.le_of_ble_eq_true rfl) ?_
  rintro _ _ ⟨rfl, rfl⟩
  have hc := cl_X10 124 125 (by omega) rfl hc
  show hh_V X 156 [(0, .ref 0)] [.ref 124, .int 3, .ref 120, .ref 120, .ref 0] 124 205585 (hg kX lX 125 (u2 (u2 (u2 (u2 (rW2 20 (u2 (rc_X2 97 98 (u2 (rc_X7 (u2 (u2 (rc_X6 (u2 (rc_X5 (u2 (rc_X4 (u2 (rc_X3 (u2 (rc_X1_12 (u2 (rc_X1_1 R) 0 0 (some 1))) 0 1 (some 12))) 0 3 (some 23))) 0 4 (some 70))) 0 5 (some 73))) 0 6 (some 88)) 0 7 (some 92))) 0 9 (some 93))) 0 10 (some 97))) 0 11 (some 99)) 120 0 (some 121)) 120 1 (some 122)) 120 2 (some 123)) J (ic_X10 124 125 (ic_X10 123 124 (ic_X10 122 123 (ic_X10 121 122 (ic_X1_12 (ic_X1_1 I)))))))
  refine hv_aast (a := 24) (ci := 10) (q := (RX10, TX10, 5)) hX 8 rfl (by decide) rfl (by decide) rfl dX0_init_156 (show 120 < 125 by omega) rfl (show vp_in 3 4 from vp_in_iff.mpr (by decide)) (show 124 < 125 by omega) rfl ?_
  have hc := hc.R (k := 3) (v := some 124) (show 120 < 125 from (show 120 < 125 by omega))
  show hh_V X 157 [(0, .ref 0)] [.ref 120, .ref 0] 124 205585 (hg kX lX 125 (u2 (u2 (u2 (u2 (u2 (rW2 20 (u2 (rc_X2 97 98 (u2 (rc_X7 (u2 (u2 (rc_X6 (u2 (rc_X5 (u2 (rc_X4 (u2 (rc_X3 (u2 (rc_X1_12 (u2 (rc_X1_1 R) 0 0 (some 1))) 0 1 (some 12))) 0 3 (some 23))) 0 4 (some 70))) 0 5 (some 73))) 0 6 (some 88)) 0 7 (some 92))) 0 9 (some 93))) 0 10 (some 97))) 0 11 (some 99)) 120 0 (some 121)) 120 1 (some 122)) 120 2 (some 123)) 120 3 (some 124)) J (ic_X10 124 125 (ic_X10 123 124 (ic_X10 122 123 (ic_X10 121 122 (ic_X1_12 (ic_X1_1 I)))))))
  refine hv_putFR (v := (some 120)) hX hNm dX0_init_157 fl0_78_0 ⟨RX0, TX0, 19, "HungryHedge", rfl, rfl, q600, .inl rfl⟩ (show 0 < 125 by omega) rfl ?_
  have hc := hc.R (k := 13) (v := (some 120)) (show 0 < 125 from (show 0 < 125 by omega))
  show hh_V X 160 [(0, .ref 0)] [] 124 205585 (hg kX lX 125 (u2 (u2 (u2 (u2 (u2 (u2 (rW2 20 (u2 (rc_X2 97 98 (u2 (rc_X7 (u2 (u2 (rc_X6 (u2 (rc_X5 (u2 (rc_X4 (u2 (rc_X3 (u2 (rc_X1_12 (u2 (rc_X1_1 R) 0 0 (some 1))) 0 1 (some 12))) 0 3 (some 23))) 0 4 (some 70))) 0 5 (some 73))) 0 6 (some 88)) 0 7 (some 92))) 0 9 (some 93))) 0 10 (some 97))) 0 11 (some 99)) 120 0 (some 121)) 120 1 (some 122)) 120 2 (some 123)) 120 3 (some 124)) 0 13 (some 120)) J (ic_X10 124 125 (ic_X10 123 124 (ic_X10 122 123 (ic_X10 121 122 (ic_X1_12 (ic_X1_1 I)))))))
  refine hv_aload_n hX dX0_init_160 rfl 0 rfl ?_
  refine hg_new hX dX0_init_161 nl0_82 (by omega) rfl rfl hc ⟨Nat.le_of_ble_eq_true rfl, Nat.le_of_ble_eq_true rfl⟩ ?_
  have hnew := hc
  have hc := hc.up (Nat.le_succ _)
  show hh_V X 164 [(0, .ref 0)] [.ref 125, .ref 0] 125 205591 (hg kX lX 126 (u2 (u2 (u2 (u2 (u2 (u2 (rW2 20 (u2 (rc_X2 97 98 (u2 (rc_X7 (u2 (u2 (rc_X6 (u2 (rc_X5 (u2 (rc_X4 (u2 (rc_X3 (u2 (rc_X1_12 (u2 (rc_X1_1 R) 0 0 (some 1))) 0 1 (some 12))) 0 3 (some 23))) 0 4 (some 70))) 0 5 (some 73))) 0 6 (some 88)) 0 7 (some 92))) 0 9 (some 93))) 0 10 (some 97))) 0 11 (some 99)) 120 0 (some 121)) 120 1 (some 122)) 120 2 (some 123)) 120 3 (some 124)) 0 13 (some 120)) J (ic_X10 124 125 (ic_X10 123 124 (ic_X10 122 123 (ic_X10 121 122 (ic_X1_12 (ic_X1_1 I)))))))
  refine hv_dup hX rfl dX0_init_164 ?_
  refine hv_callI (ci := 11) (q := (RX11, TX11, 6)) (host := "") (ret := none) hX dX0_init_165 (cc_X11 125 126 (show 125 < 126 by omega) rfl (hnew 125 (Nat.le_refl _)).2.2 hc) q544 rfl q546 q120 q545 rfl (by decide) np_X11_init rfl (show 125 < 126 by omega) rfl rfl ⟨Nat.le_of_ble_eq_true rfl, Nat.le_of_ble_eq_true rfl⟩ ⟨Nat.le_of_ble_eq_true rfl, Nat.le_of_ble_eq_true rfl⟩ (Nat.le_of_ble_eq_true rfl) ?_
  rintro _ _ ⟨rfl, rfl⟩
  have hc := hc
  show hh_V X 168 [(0, .ref 0)] [.ref 125, .ref 0] 125 205591 (hg kX lX 126 (u2 (u2 (u2 (u2 (u2 (u2 (rW2 20 (u2 (rc_X2 97 98 (u2 (rc_X7 (u2 (u2 (rc_X6 (u2 (rc_X5 (u2 (rc_X4 (u2 (rc_X3 (u2 (rc_X1_12 (u2 (rc_X1_1 R) 0 0 (some 1))) 0 1 (some 12))) 0 3 (some 23))) 0 4 (some 70))) 0 5 (some 73))) 0 6 (some 88)) 0 7 (some 92))) 0 9 (some 93))) 0 10 (some 97))) 0 11 (some 99)) 120 0 (some 121)) 120 1 (some 122)) 120 2 (some 123)) 120 3 (some 124)) 0 13 (some 120)) J (ic_X10 124 125 (ic_X10 123 124 (ic_X10 122 123 (ic_X10 121 122 (ic_X1_12 (ic_X1_1 I)))))))
  refine hv_putFR (v := (some 125)) hX hNm dX0_init_168 fl0_85_0 ⟨RX0, TX0, 19, "HungryHedge", rfl, rfl, q601, .inl rfl⟩ (show 0 < 126 by omega) rfl ?_
  have hc := hc.R (k := 14) (v := (some 125)) (show 0 < 126 from (show 0 < 126 by omega))
  show hh_V X 171 [(0, .ref 0)] [] 125 205591 (hg kX lX 126 (u2 (u2 (u2 (u2 (u2 (u2 (u2 (rW2 20 (u2 (rc_X2 97 98 (u2 (rc_X7 (u2 (u2 (rc_X6 (u2 (rc_X5 (u2 (rc_X4 (u2 (rc_X3 (u2 (rc_X1_12 (u2 (rc_X1_1 R) 0 0 (some 1))) 0 1 (some 12))) 0 3 (some 23))) 0 4 (some 70))) 0 5 (some 73))) 0 6 (some 88)) 0 7 (some 92))) 0 9 (some 93))) 0 10 (some 97))) 0 11 (some 99)) 120 0 (some 121)) 120 1 (some 122)) 120 2 (some 123)) 120 3 (some 124)) 0 13 (some 120)) 0 14 (some 125)) J (ic_X10 124 125 (ic_X10 123 124 (ic_X10 122 123 (ic_X10 121 122 (ic_X1_12 (ic_X1_1 I)))))))
  refine hv_aload_n hX dX0_init_171 rfl 0 rfl ?_
  refine hg_new hX dX0_init_172 nl0_89 (by omega) rfl rfl hc ⟨Nat.le_of_ble_eq_true rfl, Nat.le_of_ble_eq_true rfl⟩ ?_
  have hnew := hc
  have hc := hc.up (Nat.le_succ _)
  show hh_V X 175 [(0, .ref 0)] [.ref 126, .ref 0] 126 205597 (hg kX lX 127 (u2 (u2 (u2 (u2 (u2 (u2 (u2 (rW2 20 (u2 (rc_X2 97 98 (u2 (rc_X7 (u2 (u2 (rc_X6 (u2 (rc_X5 (u2 (rc_X4 (u2 (rc_X3 (u2 (rc_X1_12 (u2 (rc_X1_1 R) 0 0 (some 1))) 0 1 (some 12))) 0 3 (some 23))) 0 4 (some 70))) 0 5 (some 73))) 0 6 (some 88)) 0 7 (some 92))) 0 9 (some 93))) 0 10 (some 97))) 0 11 (some 99)) 120 0 (some 121)) 120 1 (some 122)) 120 2 (some 123)) 120 3 (some 124)) 0 13 (some 120)) 0 14 (some 125)) J (ic_X10 124 125 (ic_X10 123 124 (ic_X10 122 123 (ic_X10 121 122 (ic_X1_12 (ic_X1_1 I)))))))
  refine hv_dup hX rfl dX0_init_175 ?_
  refine hv_callI (ci := 12) (q := (RX12, TX12, 6)) (host := "") (ret := none) hX dX0_init_176 (cc_X12 126 127 (show 126 < 127 by omega) rfl (hnew 126 (Nat.le_refl _)).2.2 hc) q559 rfl q561 q121 q560 rfl (by decide) np_X12_init rfl (show 126 < 127 by omega) rfl rfl ⟨Nat.le_of_ble_eq_true rfl, Nat.le_of_ble_eq_true rfl⟩ ⟨Nat.le_of_ble_eq_true rfl, Nat.le_of_ble_eq_true rfl⟩ (Nat.le_of_ble_eq_true rfl) ?_
  rintro _ _ ⟨rfl, rfl⟩
  have hc := hc
  show hh_V X 179 [(0, .ref 0)] [.ref 126, .ref 0] 126 205597 (hg kX lX 127 (u2 (u2 (u2 (u2 (u2 (u2 (u2 (rW2 20 (u2 (rc_X2 97 98 (u2 (rc_X7 (u2 (u2 (rc_X6 (u2 (rc_X5 (u2 (rc_X4 (u2 (rc_X3 (u2 (rc_X1_12 (u2 (rc_X1_1 R) 0 0 (some 1))) 0 1 (some 12))) 0 3 (some 23))) 0 4 (some 70))) 0 5 (some 73))) 0 6 (some 88)) 0 7 (some 92))) 0 9 (some 93))) 0 10 (some 97))) 0 11 (some 99)) 120 0 (some 121)) 120 1 (some 122)) 120 2 (some 123)) 120 3 (some 124)) 0 13 (some 120)) 0 14 (some 125)) J (ic_X10 124 125 (ic_X10 123 124 (ic_X10 122 123 (ic_X10 121 122 (ic_X1_12 (ic_X1_1 I)))))))
  refine hv_putFR (v := (some 126)) hX hNm dX0_init_179 fl0_92_0 ⟨RX0, TX0, 19, "HungryHedge", rfl, rfl, q602, .inl rfl⟩ (show 0 < 127 by omega) rfl ?_
  have hc := hc.R (k := 15) (v := (some 126)) (show 0 < 127 from (show 0 < 127 by omega))
  show hh_V X 182 [(0, .ref 0)] [] 126 205597 (hg kX lX 127 (u2 (u2 (u2 (u2 (u2 (u2 (u2 (u2 (rW2 20 (u2 (rc_X2 97 98 (u2 (rc_X7 (u2 (u2 (rc_X6 (u2 (rc_X5 (u2 (rc_X4 (u2 (rc_X3 (u2 (rc_X1_12 (u2 (rc_X1_1 R) 0 0 (some 1))) 0 1 (some 12))) 0 3 (some 23))) 0 4 (some 70))) 0 5 (some 73))) 0 6 (some 88)) 0 7 (some 92))) 0 9 (some 93))) 0 10 (some 97))) 0 11 (some 99)) 120 0 (some 121)) 120 1 (some 122)) 120 2 (some 123)) 120 3 (some 124)) 0 13 (some 120)) 0 14 (some 125)) 0 15 (some 126)) J (ic_X10 124 125 (ic_X10 123 124 (ic_X10 122 123 (ic_X10 121 122 (ic_X1_12 (ic_X1_1 I)))))))
  refine hv_aload_n hX dX0_init_182 rfl 0 rfl ?_
  refine hv_bipush (v := 30) hX bix_30 dX0_init_183 ?_
  refine hg_newA (atype := .int) (a := 0) (N := 30) hX 0 rfl (by decide) rfl (by decide) rfl q196 dX0_init_185 (by decide) (by decide) (Nat.le_of_ble_eq_true rfl) (by omega) rfl rfl hc ⟨Nat.le_of_ble_eq_true rfl, Nat.le_of_ble_eq_true rfl⟩ ?_
  have hc := hc.up (Nat.le_succ _)
  show hh_V X 187 [(0, .ref 0)] [.ref 127, .ref 0] 127 205627 (hg kX lX 128 (u2 (u2 (u2 (u2 (u2 (u2 (u2 (u2 (rW2 20 (u2 (rc_X2 97 98 (u2 (rc_X7 (u2 (u2 (rc_X6 (u2 (rc_X5 (u2 (rc_X4 (u2 (rc_X3 (u2 (rc_X1_12 (u2 (rc_X1_1 R) 0 0 (some 1))) 0 1 (some 12))) 0 3 (some 23))) 0 4 (some 70))) 0 5 (some 73))) 0 6 (some 88)) 0 7 (some 92))) 0 9 (some 93))) 0 10 (some 97))) 0 11 (some 99)) 120 0 (some 121)) 120 1 (some 122)) 120 2 (some 123)) 120 3 (some 124)) 0 13 (some 120)) 0 14 (some 125)) 0 15 (some 126)) J (ic_X10 124 125 (ic_X10 123 124 (ic_X10 122 123 (ic_X10 121 122 (ic_X1_12 (ic_X1_1 I)))))))
  refine hv_putFR (v := (some 127)) hX hNm dX0_init_187 fl0_96_0 ⟨RX0, TX0, 19, "HungryHedge", rfl, rfl, q603, .inl rfl⟩ (show 0 < 128 by omega) rfl ?_
  have hc := hc.R (k := 16) (v := (some 127)) (show 0 < 128 from (show 0 < 128 by omega))
  show hh_V X 190 [(0, .ref 0)] [] 127 205627 (hg kX lX 128 (u2 (u2 (u2 (u2 (u2 (u2 (u2 (u2 (u2 (rW2 20 (u2 (rc_X2 97 98 (u2 (rc_X7 (u2 (u2 (rc_X6 (u2 (rc_X5 (u2 (rc_X4 (u2 (rc_X3 (u2 (rc_X1_12 (u2 (rc_X1_1 R) 0 0 (some 1))) 0 1 (some 12))) 0 3 (some 23))) 0 4 (some 70))) 0 5 (some 73))) 0 6 (some 88)) 0 7 (some 92))) 0 9 (some 93))) 0 10 (some 97))) 0 11 (some 99)) 120 0 (some 121)) 120 1 (some 122)) 120 2 (some 123)) 120 3 (some 124)) 0 13 (some 120)) 0 14 (some 125)) 0 15 (some 126)) 0 16 (some 127)) J (ic_X10 124 125 (ic_X10 123 124 (ic_X10 122 123 (ic_X10 121 122 (ic_X1_12 (ic_X1_1 I)))))))
  refine hv_aload_n hX dX0_init_190 rfl 0 rfl ?_
  refine hv_iconst (v := 4) hX icx_4 dX0_init_191 ?_
  refine hg_newQ (a := 25) (N := 4) (C := "HungryHedge$Shelf") hX 9 rfl (by decide) rfl (by decide) q565 dX0_init_192 (by decide) (by decide) (Nat.le_of_ble_eq_true rfl) (by omega) rfl rfl hc ⟨Nat.le_of_ble_eq_true rfl, Nat.le_of_ble_eq_true rfl⟩ ?_
  have hc := hc.up (Nat.le_succ _)
  show hh_V X 195 [(0, .ref 0)] [.ref 128, .ref 0] 128 205631 (hg kX lX 129 (u2 (u2 (u2 (u2 (u2 (u2 (u2 (u2 (u2 (rW2 20 (u2 (rc_X2 97 98 (u2 (rc_X7 (u2 (u2 (rc_X6 (u2 (rc_X5 (u2 (rc_X4 (u2 (rc_X3 (u2 (rc_X1_12 (u2 (rc_X1_1 R) 0 0 (some 1))) 0 1 (some 12))) 0 3 (some 23))) 0 4 (some 70))) 0 5 (some 73))) 0 6 (some 88)) 0 7 (some 92))) 0 9 (some 93))) 0 10 (some 97))) 0 11 (some 99)) 120 0 (some 121)) 120 1 (some 122)) 120 2 (some 123)) 120 3 (some 124)) 0 13 (some 120)) 0 14 (some 125)) 0 15 (some 126)) 0 16 (some 127)) J (ic_X10 124 125 (ic_X10 123 124 (ic_X10 122 123 (ic_X10 121 122 (ic_X1_12 (ic_X1_1 I)))))))
  refine hv_dup hX rfl dX0_init_195 ?_
  refine hv_iconst (v := 0) hX icx_0 dX0_init_196 ?_
  refine hg_new hX dX0_init_197 nl0_100 (by omega) rfl rfl hc ⟨Nat.le_of_ble_eq_true rfl, Nat.le_of_ble_eq_true rfl⟩ ?_
  have hnew := hc
  have hc := hc.up (Nat.le_succ _)
  show hh_V X 200 [(0, .ref 0)] [.ref 129, .int 0, .ref 128, .ref 128, .ref 0] 129 205634 (hg kX lX 130 (u2 (u2 (u2 (u2 (u2 (u2 (u2 (u2 (u2 (rW2 20 (u2 (rc_X2 97 98 (u2 (rc_X7 (u2 (u2 (rc_X6 (u2 (rc_X5 (u2 (rc_X4 (u2 (rc_X3 (u2 (rc_X1_12 (u2 (rc_X1_1 R) 0 0 (some 1))) 0 1 (some 12))) 0 3 (some 23))) 0 4 (some 70))) 0 5 (some 73))) 0 6 (some 88)) 0 7 (some 92))) 0 9 (some 93))) 0 10 (some 97))) 0 11 (some 99)) 120 0 (some 121)) 120 1 (some 122)) 120 2 (some 123)) 120 3 (some 124)) 0 13 (some 120)) 0 14 (some 125)) 0 15 (some 126)) 0 16 (some 127)) J (ic_X10 124 125 (ic_X10 123 124 (ic_X10 122 123 (ic_X10 121 122 (ic_X1_12 (ic_X1_1 I)))))))
  refine hv_dup hX rfl dX0_init_200 ?_
  refine hv_callIN (ci := 13) (q := (RX13, TX13, 3)) (ret := none) hX dX0_init_201 (cc_X13 129 130 (by omega) rfl hc) (hh_nwm q568 rfl) rfl q570 q122 q569 rfl (by decide) np_X13_init rfl (show 129 < 130 by omega) rfl rfl ⟨Nat.le_of_ble_eq_true rfl, Nat.le_of_ble_eq_true rfl⟩ ⟨Nat.le_of_ble_eq_true rfl, Nat.le_of_ble_eq_true rfl⟩ (Nat.le_of_ble_eq_true rfl) ?_
  rintro _ _ ⟨rfl, rfl⟩
  have hc := cl_X13 129 130 (by omega) rfl hc
  show hh_V X 204 [(0, .ref 0)] [.ref 129, .int 0, .ref 128, .ref 128, .ref 0] 129 205634 (hg kX lX 130 (u2 (u2 (u2 (u2 (u2 (u2 (u2 (u2 (u2 (rW2 20 (u2 (rc_X2 97 98 (u2 (rc_X7 (u2 (u2 (rc_X6 (u2 (rc_X5 (u2 (rc_X4 (u2 (rc_X3 (u2 (rc_X1_12 (u2 (rc_X1_1 R) 0 0 (some 1))) 0 1 (some 12))) 0 3 (some 23))) 0 4 (some 70))) 0 5 (some 73))) 0 6 (some 88)) 0 7 (some 92))) 0 9 (some 93))) 0 10 (some 97))) 0 11 (some 99)) 120 0 (some 121)) 120 1 (some 122)) 120 2 (some 123)) 120 3 (some 124)) 0 13 (some 120)) 0 14 (some 125)) 0 15 (some 126)) 0 16 (some 127)) J (ic_X13 129 130 (ic_X10 124 125 (ic_X10 123 124 (ic_X10 122 123 (ic_X10 121 122 (ic_X1_12 (ic_X1_1 I))))))))
  refine hv_aast (a := 25) (ci := 13) (q := (RX13, TX13, 3)) hX 9 rfl (by decide) rfl (by decide) rfl dX0_init_204 (show 128 < 130 by omega) rfl (show vp_in 0 4 from vp_in_iff.mpr (by decide)) (show 129 < 130 by omega) rfl ?_
  have hc := hc.R (k := 0) (v := some 129) (show 128 < 130 from (show 128 < 130 by omega))
  show hh_V X 205 [(0, .ref 0)] [.ref 128, .ref 0] 129 205634 (hg kX lX 130 (u2 (u2 (u2 (u2 (u2 (u2 (u2 (u2 (u2 (u2 (rW2 20 (u2 (rc_X2 97 98 (u2 (rc_X7 (u2 (u2 (rc_X6 (u2 (rc_X5 (u2 (rc_X4 (u2 (rc_X3 (u2 (rc_X1_12 (u2 (rc_X1_1 R) 0 0 (some 1))) 0 1 (some 12))) 0 3 (some 23))) 0 4 (some 70))) 0 5 (some 73))) 0 6 (some 88)) 0 7 (some 92))) 0 9 (some 93))) 0 10 (some 97))) 0 11 (some 99)) 120 0 (some 121)) 120 1 (some 122)) 120 2 (some 123)) 120 3 (some 124)) 0 13 (some 120)) 0 14 (some 125)) 0 15 (some 126)) 0 16 (some 127)) 128 0 (some 129)) J (ic_X13 129 130 (ic_X10 124 125 (ic_X10 123 124 (ic_X10 122 123 (ic_X10 121 122 (ic_X1_12 (ic_X1_1 I))))))))
  refine hv_dup hX rfl dX0_init_205 ?_
  refine hv_iconst (v := 1) hX icx_1 dX0_init_206 ?_
  refine hg_new hX dX0_init_207 nl0_100 (by omega) rfl rfl hc ⟨Nat.le_of_ble_eq_true rfl, Nat.le_of_ble_eq_true rfl⟩ ?_
  have hnew := hc
  have hc := hc.up (Nat.le_succ _)
  show hh_V X 210 [(0, .ref 0)] [.ref 130, .int 1, .ref 128, .ref 128, .ref 0] 130 205637 (hg kX lX 131 (u2 (u2 (u2 (u2 (u2 (u2 (u2 (u2 (u2 (u2 (rW2 20 (u2 (rc_X2 97 98 (u2 (rc_X7 (u2 (u2 (rc_X6 (u2 (rc_X5 (u2 (rc_X4 (u2 (rc_X3 (u2 (rc_X1_12 (u2 (rc_X1_1 R) 0 0 (some 1))) 0 1 (some 12))) 0 3 (some 23))) 0 4 (some 70))) 0 5 (some 73))) 0 6 (some 88)) 0 7 (some 92))) 0 9 (some 93))) 0 10 (some 97))) 0 11 (some 99)) 120 0 (some 121)) 120 1 (some 122)) 120 2 (some 123)) 120 3 (some 124)) 0 13 (some 120)) 0 14 (some 125)) 0 15 (some 126)) 0 16 (some 127)) 128 0 (some 129)) J (ic_X13 129 130 (ic_X10 124 125 (ic_X10 123 124 (ic_X10 122 123 (ic_X10 121 122 (ic_X1_12 (ic_X1_1 I))))))))
  refine hv_dup hX rfl dX0_init_210 ?_
  refine hv_callIN (ci := 13) (q := (RX13, TX13, 3)) (ret := none) hX dX0_init_211 (cc_X13 130 131 (by omega) rfl hc) (hh_nwm q568 rfl) rfl q570 q122 q569 rfl (by decide) np_X13_init rfl (show 130 < 131 by omega) rfl rfl ⟨Nat.le_of_ble_eq_true rfl, Nat.le_of_ble_eq_true rfl⟩ ⟨Nat.le_of_ble_eq_true rfl, Nat.le_of_ble_eq_true rfl⟩ (Nat.le_of_ble_eq_true rfl) ?_
  rintro _ _ ⟨rfl, rfl⟩
  have hc := cl_X13 130 131 (by omega) rfl hc
  show hh_V X 214 [(0, .ref 0)] [.ref 130, .int 1, .ref 128, .ref 128, .ref 0] 130 205637 (hg kX lX 131 (u2 (u2 (u2 (u2 (u2 (u2 (u2 (u2 (u2 (u2 (rW2 20 (u2 (rc_X2 97 98 (u2 (rc_X7 (u2 (u2 (rc_X6 (u2 (rc_X5 (u2 (rc_X4 (u2 (rc_X3 (u2 (rc_X1_12 (u2 (rc_X1_1 R) 0 0 (some 1))) 0 1 (some 12))) 0 3 (some 23))) 0 4 (some 70))) 0 5 (some 73))) 0 6 (some 88)) 0 7 (some 92))) 0 9 (some 93))) 0 10 (some 97))) 0 11 (some 99)) 120 0 (some 121)) 120 1 (some 122)) 120 2 (some 123)) 120 3 (some 124)) 0 13 (some 120)) 0 14 (some 125)) 0 15 (some 126)) 0 16 (some 127)) 128 0 (some 129)) J (ic_X13 130 131 (ic_X13 129 130 (ic_X10 124 125 (ic_X10 123 124 (ic_X10 122 123 (ic_X10 121 122 (ic_X1_12 (ic_X1_1 I)))))))))
  refine hv_aast (a := 25) (ci := 13) (q := (RX13, TX13, 3)) hX 9 rfl (by decide) rfl (by decide) rfl dX0_init_214 (show 128 < 131 by omega) rfl (show vp_in 1 4 from vp_in_iff.mpr (by decide)) (show 130 < 131 by omega) rfl ?_
  have hc := hc.R (k := 1) (v := some 130) (show 128 < 131 from (show 128 < 131 by omega))
  show hh_V X 215 [(0, .ref 0)] [.ref 128, .ref 0] 130 205637 (hg kX lX 131 (u2 (u2 (u2 (u2 (u2 (u2 (u2 (u2 (u2 (u2 (u2 (rW2 20 (u2 (rc_X2 97 98 (u2 (rc_X7 (u2 (u2 (rc_X6 (u2 (rc_X5 (u2 (rc_X4 (u2 (rc_X3 (u2 (rc_X1_12 (u2 (rc_X1_1 R) 0 0 (some 1))) 0 1 (some 12))) 0 3 (some 23))) 0 4 (some 70))) 0 5 (some 73))) 0 6 (some 88)) 0 7 (some 92))) 0 9 (some 93))) 0 10 (some 97))) 0 11 (some 99)) 120 0 (some 121)) 120 1 (some 122)) 120 2 (some 123)) 120 3 (some 124)) 0 13 (some 120)) 0 14 (some 125)) 0 15 (some 126)) 0 16 (some 127)) 128 0 (some 129)) 128 1 (some 130)) J (ic_X13 130 131 (ic_X13 129 130 (ic_X10 124 125 (ic_X10 123 124 (ic_X10 122 123 (ic_X10 121 122 (ic_X1_12 (ic_X1_1 I)))))))))
  refine hv_dup hX rfl dX0_init_215 ?_
  refine hv_iconst (v := 2) hX icx_2 dX0_init_216 ?_
  refine hg_new hX dX0_init_217 nl0_100 (by omega) rfl rfl hc ⟨Nat.le_of_ble_eq_true rfl, Nat.le_of_ble_eq_true rfl⟩ ?_
  have hnew := hc
  have hc := hc.up (Nat.le_succ _)
  show hh_V X 220 [(0, .ref 0)] [.ref 131, .int 2, .ref 128, .ref 128, .ref 0] 131 205640 (hg kX lX 132 (u2 (u2 (u2 (u2 (u2 (u2 (u2 (u2 (u2 (u2 (u2 (rW2 20 (u2 (rc_X2 97 98 (u2 (rc_X7 (u2 (u2 (rc_X6 (u2 (rc_X5 (u2 (rc_X4 (u2 (rc_X3 (u2 (rc_X1_12 (u2 (rc_X1_1 R) 0 0 (some 1))) 0 1 (some 12))) 0 3 (some 23))) 0 4 (some 70))) 0 5 (some 73))) 0 6 (some 88)) 0 7 (some 92))) 0 9 (some 93))) 0 10 (some 97))) 0 11 (some 99)) 120 0 (some 121)) 120 1 (some 122)) 120 2 (some 123)) 120 3 (some 124)) 0 13 (some 120)) 0 14 (some 125)) 0 15 (some 126)) 0 16 (some 127)) 128 0 (some 129)) 128 1 (some 130)) J (ic_X13 130 131 (ic_X13 129 130 (ic_X10 124 125 (ic_X10 123 124 (ic_X10 122 123 (ic_X10 121 122 (ic_X1_12 (ic_X1_1 I)))))))))
  refine hv_dup hX rfl dX0_init_220 ?_
  refine hv_callIN (ci := 13) (q := (RX13, TX13, 3)) (ret := none) hX dX0_init_221 (cc_X13 131 132 (by omega) rfl hc) (hh_nwm q568 rfl) rfl q570 q122 q569 rfl (by decide) np_X13_init rfl (show 131 < 132 by omega) rfl rfl ⟨Nat.le_of_ble_eq_true rfl, Nat.le_of_ble_eq_true rfl⟩ ⟨Nat.le_of_ble_eq_true rfl, Nat.le_of_ble_eq_true rfl⟩ (Nat.le_of_ble_eq_true rfl) ?_
  rintro _ _ ⟨rfl, rfl⟩
  have hc := cl_X13 131 132 (by omega) rfl hc
  show hh_V X 224 [(0, .ref 0)] [.ref 131, .int 2, .ref 128, .ref 128, .ref 0] 131 205640 (hg kX lX 132 (u2 (u2 (u2 (u2 (u2 (u2 (u2 (u2 (u2 (u2 (u2 (rW2 20 (u2 (rc_X2 97 98 (u2 (rc_X7 (u2 (u2 (rc_X6 (u2 (rc_X5 (u2 (rc_X4 (u2 (rc_X3 (u2 (rc_X1_12 (u2 (rc_X1_1 R) 0 0 (some 1))) 0 1 (some 12))) 0 3 (some 23))) 0 4 (some 70))) 0 5 (some 73))) 0 6 (some 88)) 0 7 (some 92))) 0 9 (some 93))) 0 10 (some 97))) 0 11 (some 99)) 120 0 (some 121)) 120 1 (some 122)) 120 2 (some 123)) 120 3 (some 124)) 0 13 (some 120)) 0 14 (some 125)) 0 15 (some 126)) 0 16 (some 127)) 128 0 (some 129)) 128 1 (some 130)) J (ic_X13 131 132 (ic_X13 130 131 (ic_X13 129 130 (ic_X10 124 125 (ic_X10 123 124 (ic_X10 122 123 (ic_X10 121 122 (ic_X1_12 (ic_X1_1 I))))))))))
  refine hv_aast (a := 25) (ci := 13) (q := (RX13, TX13, 3)) hX 9 rfl (by decide) rfl (by decide) rfl dX0_init_224 (show 128 < 132 by omega) rfl (show vp_in 2 4 from vp_in_iff.mpr (by decide)) (show 131 < 132 by omega) rfl ?_
  have hc := hc.R (k := 2) (v := some 131) (show 128 < 132 from (show 128 < 132 by omega))
  show hh_V X 225 [(0, .ref 0)] [.ref 128, .ref 0] 131 205640 (hg kX lX 132 (u2 (u2 (u2 (u2 (u2 (u2 (u2 (u2 (u2 (u2 (u2 (u2 (rW2 20 (u2 (rc_X2 97 98 (u2 (rc_X7 (u2 (u2 (rc_X6 (u2 (rc_X5 (u2 (rc_X4 (u2 (rc_X3 (u2 (rc_X1_12 (u2 (rc_X1_1 R) 0 0 (some 1))) 0 1 (some 12))) 0 3 (some 23))) 0 4 (some 70))) 0 5 (some 73))) 0 6 (some 88)) 0 7 (some 92))) 0 9 (some 93))) 0 10 (some 97))) 0 11 (some 99)) 120 0 (some 121)) 120 1 (some 122)) 120 2 (some 123)) 120 3 (some 124)) 0 13 (some 120)) 0 14 (some 125)) 0 15 (some 126)) 0 16 (some 127)) 128 0 (some 129)) 128 1 (some 130)) 128 2 (some 131)) J (ic_X13 131 132 (ic_X13 130 131 (ic_X13 129 130 (ic_X10 124 125 (ic_X10 123 124 (ic_X10 122 123 (ic_X10 121 122 (ic_X1_12 (ic_X1_1 I))))))))))
  refine hv_dup hX rfl dX0_init_225 ?_
  refine hv_iconst (v := 3) hX icx_3 dX0_init_226 ?_
  refine hg_new hX dX0_init_227 nl0_100 (by omega) rfl rfl hc ⟨Nat.le_of_ble_eq_true rfl, Nat.le_of_ble_eq_true rfl⟩ ?_
  have hnew := hc
  have hc := hc.up (Nat.le_succ _)
  show hh_V X 230 [(0, .ref 0)] [.ref 132, .int 3, .ref 128, .ref 128, .ref 0] 132 205643 (hg kX lX 133 (u2 (u2 (u2 (u2 (u2 (u2 (u2 (u2 (u2 (u2 (u2 (u2 (rW2 20 (u2 (rc_X2 97 98 (u2 (rc_X7 (u2 (u2 (rc_X6 (u2 (rc_X5 (u2 (rc_X4 (u2 (rc_X3 (u2 (rc_X1_12 (u2 (rc_X1_1 R) 0 0 (some 1))) 0 1 (some 12))) 0 3 (some 23))) 0 4 (some 70))) 0 5 (some 73))) 0 6 (some 88)) 0 7 (some 92))) 0 9 (some 93))) 0 10 (some 97))) 0 11 (some 99)) 120 0 (some 121)) 120 1 (some 122)) 120 2 (some 123)) 120 3 (some 124)) 0 13 (some 120)) 0 14 (some 125)) 0 15 (some 126)) 0 16 (some 127)) 128 0 (some 129)) 128 1 (some 130)) 128 2 (some 131)) J (ic_X13 131 132 (ic_X13 130 131 (ic_X13 129 130 (ic_X10 124 125 (ic_X10 123 124 (ic_X10 122 123 (ic_X10 121 122 (ic_X1_12 (ic_X1_1 I))))))))))
  refine hv_dup hX rfl dX0_init_230 ?_
  refine hv_callIN (ci := 13) (q := (RX13, TX13, 3)) (ret := none) hX dX0_init_231 (cc_X13 132 133 (by omega) rfl hc) (hh_nwm q568 rfl) rfl q570 q122 q569 rfl (by decide) np_X13_init rfl (show 132 < 133 by omega) rfl rfl ⟨Nat.le_of_ble_eq_true rfl, Nat.le_of_ble_eq_true rfl⟩ ⟨Nat.le_of_ble_eq_true rfl, Nat.le_of_ble_eq_true rfl⟩ (Nat.le_of_ble_eq_true rfl) ?_
  rintro _ _ ⟨rfl, rfl⟩
  have hc := cl_X13 132 133 (by omega) rfl hc
  show hh_V X 234 [(0, .ref 0)] [.ref 132, .int 3, .ref 128, .ref 128, .ref 0] 132 205643 (hg kX lX 133 (u2 (u2 (u2 (u2 (u2 (u2 (u2 (u2 (u2 (u2 (u2 (u2 (rW2 20 (u2 (rc_X2 97 98 (u2 (rc_X7 (u2 (u2 (rc_X6 (u2 (rc_X5 (u2 (rc_X4 (u2 (rc_X3 (u2 (rc_X1_12 (u2 (rc_X1_1 R) 0 0 (some 1))) 0 1 (some 12))) 0 3 (some 23))) 0 4 (some 70))) 0 5 (some 73))) 0 6 (some 88)) 0 7 (some 92))) 0 9 (some 93))) 0 10 (some 97))) 0 11 (some 99)) 120 0 (some 121)) 120 1 (some 122)) 120 2 (some 123)) 120 3 (some 124)) 0 13 (some 120)) 0 14 (some 125)) 0 15 (some 126)) 0 16 (some 127)) 128 0 (some 129)) 128 1 (some 130)) 128 2 (some 131)) J (ic_X13 132 133 (ic_X13 131 132 (ic_X13 130 131 (ic_X13 129 130 (ic_X10 124 125 (ic_X10 123 124 (ic_X10 122 123 (ic_X10 121 122 (ic_X1_12 (ic_X1_1 I)))))))))))
  refine hv_aast (a := 25) (ci := 13) (q := (RX13, TX13, 3)) hX 9 rfl (by decide) rfl (by decide) rfl dX0_init_234 (show 128 < 133 by omega) rfl (show vp_in 3 4 from vp_in_iff.mpr (by decide)) (show 132 < 133 by omega) rfl ?_
  have hc := hc.R (k := 3) (v := some 132) (show 128 < 133 from (show 128 < 133 by omega))
  show hh_V X 235 [(0, .ref 0)] [.ref 128, .ref 0] 132 205643 (hg kX lX 133 (u2 (u2 (u2 (u2 (u2 (u2 (u2 (u2 (u2 (u2 (u2 (u2 (u2 (rW2 20 (u2 (rc_X2 97 98 (u2 (rc_X7 (u2 (u2 (rc_X6 (u2 (rc_X5 (u2 (rc_X4 (u2 (rc_X3 (u2 (rc_X1_12 (u2 (rc_X1_1 R) 0 0 (some 1))) 0 1 (some 12))) 0 3 (some 23))) 0 4 (some 70))) 0 5 (some 73))) 0 6 (some 88)) 0 7 (some 92))) 0 9 (some 93))) 0 10 (some 97))) 0 11 (some 99)) 120 0 (some 121)) 120 1 (some 122)) 120 2 (some 123)) 120 3 (some 124)) 0 13 (some 120)) 0 14 (some 125)) 0 15 (some 126)) 0 16 (some 127)) 128 0 (some 129)) 128 1 (some 130)) 128 2 (some 131)) 128 3 (some 132)) J (ic_X13 132 133 (ic_X13 131 132 (ic_X13 130 131 (ic_X13 129 130 (ic_X10 124 125 (ic_X10 123 124 (ic_X10 122 123 (ic_X10 121 122 (ic_X1_12 (ic_X1_1 I)))))))))))
  refine hv_putFR (v := (some 128)) hX hNm dX0_init_235 fl0_103_0 ⟨RX0, TX0, 19, "HungryHedge", rfl, rfl, q605, .inl rfl⟩ (show 0 < 133 by omega) rfl ?_
  have hc := hc.R (k := 18) (v := (some 128)) (show 0 < 133 from (show 0 < 133 by omega))
  show hh_V X 238 [(0, .ref 0)] [] 132 205643 (hg kX lX 133 (u2 (u2 (u2 (u2 (u2 (u2 (u2 (u2 (u2 (u2 (u2 (u2 (u2 (u2 (rW2 20 (u2 (rc_X2 97 98 (u2 (rc_X7 (u2 (u2 (rc_X6 (u2 (rc_X5 (u2 (rc_X4 (u2 (rc_X3 (u2 (rc_X1_12 (u2 (rc_X1_1 R) 0 0 (some 1))) 0 1 (some 12))) 0 3 (some 23))) 0 4 (some 70))) 0 5 (some 73))) 0 6 (some 88)) 0 7 (some 92))) 0 9 (some 93))) 0 10 (some 97))) 0 11 (some 99)) 120 0 (some 121)) 120 1 (some 122)) 120 2 (some 123)) 120 3 (some 124)) 0 13 (some 120)) 0 14 (some 125)) 0 15 (some 126)) 0 16 (some 127)) 128 0 (some 129)) 128 1 (some 130)) 128 2 (some 131)) 128 3 (some 132)) 0 18 (some 128)) J (ic_X13 132 133 (ic_X13 131 132 (ic_X13 130 131 (ic_X13 129 130 (ic_X10 124 125 (ic_X10 123 124 (ic_X10 122 123 (ic_X10 121 122 (ic_X1_12 (ic_X1_1 I)))))))))))
  exact hv_vret hX hE dX0_init_238 ⟨rfl, rfl⟩
