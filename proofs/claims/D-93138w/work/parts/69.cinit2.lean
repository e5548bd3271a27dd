set_option maxRecDepth 100000
set_option maxHeartbeats 4000000
/-! CONSTRUCTORS, 2 -/
def ciT : Nat → xRd → xRd
  | 0, R => R
  | k + 1, R => u2 (u2 (ciT k R) (26 + 2 * k) 3 (some (26 + 2 * k + 1))) 25 k (some (26 + 2 * k))
theorem ciT_far {R : xRd} {r : Nat} (hr : r < 25) : ∀ k, ciT k R r = R r := by
  intro k
  induction k with
  | zero => rfl
  | succ k ih =>
    show u2 (u2 (ciT k R) _ _ _) _ _ _ r = _
    rw [u2r (by omega), u2r (by omega)]
    exact ih
theorem ckT : ∀ i, i < 22 → kX (26 + 2 * i) = 2 ∧ lX (26 + 2 * i) = 4 ∧ kX (26 + 2 * i + 1) = 100 ∧ lX (26 + 2 * i + 1) = 4 := by decide +kernel
theorem ckM : ∀ j, j < 13 → kX (75 + j) = 110 ∧ lX (75 + j) = 241 := by decide +kernel
theorem ckR : ∀ i, i < 20 → kX (100 + i) = 9 ∧ lX (100 + i) = 2 := by decide +kernel
theorem cc_X3_lp {X : hh_CX} {R : xRd} {J : mJ} {I : mI} {fr lo MC MS : Nat} (hX : hh_C X cX3_init RX3 ({ frames := fr, cells := MC, slots := MS, locals := lo })) (hfr : 2 ≤ fr ∧ 40 ≤ lo) (hz : 46 ≤ MC ∧ 201882 ≤ MS) (hN : hh_nL X = 3) (hR : R 23 1 = some 25) (hend : Cln 70 (ciT 22 R) J I → hh_V X 56 [(0, .ref 23), (1, .ref 0)] [] 46 201882 (hg kX lX 70 (ciT 22 R) J I)) : ∀ d i, i + d = 22 → Cln (26 + 2 * i) (ciT i R) J I → hh_V X 28 [(2, .int (nI i)), (0, .ref 23), (1, .ref 0)] [] (2 + 2 * i) (201706 + 8 * i) (hg kX lX (26 + 2 * i) (ciT i R) J I) := by
  intro d
  induction d with
  | zero =>
    intro i hi hc
    have e : i = 22 := by omega
    subst e
    refine hv_iload_n hX dX3_init_28 rfl 0 rfl ?_
    refine hv_aload_n hX dX3_init_29 rfl 1 rfl ?_
    refine hv_getR (v := .ref 25) hX dX3_init_30 fl3_22_3 (show 23 < 26 + 2 * 22 by decide) rfl (by show hh_av (ciT 22 R 23 1) = _; rw [ciT_far (by decide), hR]; rfl) ?_
    refine hv_alen (v := 22) (a := 20) hX 4 rfl dX3_init_33 (show 25 < 26 + 2 * 22 by decide) rfl rfl ?_
    refine hv_icmp_ge (tgt := 56) hX dX3_init_34 (by decide) (fun _ => ?_) (fun c9 => absurd (show (22 : Int32) ≤ nI 22 by decide) c9)
    refine hv_fewer [1, 2] (loc2 := [(0, .ref 23), (1, .ref 0)]) rfl ?_
    exact hend hc
  | succ d ih =>
    intro i hi0 hc
    have hi : i < 22 := by omega
    have kk := ckT i hi
    show hh_V X 28 [(2, .int (nI i)), (0, .ref 23), (1, .ref 0)] [] (2 + 2 * i + 0) (201706 + 8 * i + 0) (hg kX lX (26 + 2 * i) (ciT i R) J I)
    refine hv_iload_n hX dX3_init_28 rfl 0 rfl ?_
    refine hv_aload_n hX dX3_init_29 rfl 1 rfl ?_
    refine hv_getR (v := .ref 25) hX dX3_init_30 fl3_22_3 (show 23 < (26 + 2 * i) by omega) rfl (by show hh_av (ciT i R 23 1) = _; rw [ciT_far (by decide), hR]; rfl) ?_
    refine hv_alen (v := 22) (a := 20) hX 4 rfl dX3_init_33 (show 25 < (26 + 2 * i) by omega) rfl rfl ?_
    refine hv_icmp_ge (tgt := 56) hX dX3_init_34 (by decide) (fun c9 => absurd c9 (by rw [show (22 : Int32) = nI 22 from rfl, nI_leI (by decide) (by omega)]; omega)) (fun _ => ?_)
    refine hv_aload_n hX dX3_init_37 rfl 1 rfl ?_
    refine hv_getR (v := .ref 25) hX dX3_init_38 fl3_22_3 (show 23 < (26 + 2 * i) by omega) rfl (by show hh_av (ciT i R 23 1) = _; rw [ciT_far (by decide), hR]; rfl) ?_
    refine hv_iload_n hX dX3_init_41 rfl 0 rfl ?_
    refine hg_new hX dX3_init_42 nl3_20 (by omega) kk.1 kk.2.1 hc ⟨by dsimp only; omega, by dsimp only; omega⟩ ?_
    have hnew := hc
    have hc := hc.up (Nat.le_succ _)
    show hh_V X 45 [(2, .int (nI i)), (0, .ref 23), (1, .ref 0)] [.ref (26 + 2 * i), .int (nI i), .ref 25] (2 + 2 * i + 1) (201706 + 8 * i + 4) (hg kX lX ((26 + 2 * i) + 1) (ciT i R) J I)
    refine hv_dup hX rfl dX3_init_45 ?_
    refine hv_callIN (ci := 2) (q := (RX2, TX2, 4)) (ret := none) hX dX3_init_46 (cc_X2 (26 + 2 * i) ((26 + 2 * i) + 1) (by omega) (by omega) kk.1 kk.2.2.1 kk.2.2.2 hc) (hh_nwm q286 rfl) rfl q169 q108 q168 rfl (by decide) np_X2_init rfl (show (26 + 2 * i) < ((26 + 2 * i) + 1) by omega) kk.1 rfl ⟨by dsimp only; omega, by dsimp only; omega⟩ ⟨by dsimp only; omega, by dsimp only; omega⟩ (Nat.le_of_ble_eq_true rfl) ?_
    rintro _ _ ⟨rfl, rfl⟩
    have hc := cl_X2 (26 + 2 * i) ((26 + 2 * i) + 1) (by omega) (by omega) kk.1 kk.2.2.1 kk.2.2.2 hc
    show hh_V X 49 [(2, .int (nI i)), (0, .ref 23), (1, .ref 0)] [.ref (26 + 2 * i), .int (nI i), .ref 25] (2 + 2 * i + 2) (201706 + 8 * i + 8) (hg kX lX ((26 + 2 * i) + 2) (rc_X2 (26 + 2 * i) ((26 + 2 * i) + 1) (ciT i R)) J I)
    refine hv_aast (a := 20) (ci := 2) (q := (RX2, TX2, 4)) hX 4 rfl (by decide) rfl (by decide) rfl dX3_init_49 (show 25 < ((26 + 2 * i) + 2) by omega) rfl (show vp_in (nI i) 22 from vp_in_nI hi (by decide)) (show (26 + 2 * i) < ((26 + 2 * i) + 2) by omega) kk.1 ?_
    rw [nI_clamp (by omega)]
    have hc := hc.R (k := i) (v := some (26 + 2 * i)) (show 25 < ((26 + 2 * i) + 2) from (show 25 < ((26 + 2 * i) + 2) by omega))
    show hh_V X 50 [(2, .int (nI i)), (0, .ref 23), (1, .ref 0)] [] (2 + 2 * i + 2) (201706 + 8 * i + 8) (hg kX lX ((26 + 2 * i) + 2) (u2 (rc_X2 (26 + 2 * i) ((26 + 2 * i) + 1) (ciT i R)) 25 i (some (26 + 2 * i))) J I)
    refine hv_iinc (v := nI (i + 1)) (loc2 := [(2, .int (nI (i + 1))), (0, .ref 23), (1, .ref 0)]) hX dX3_init_50 0 rfl (by rw [icx_1]; exact nI_1 i) hN (Nat.le_of_ble_eq_true rfl) rfl ?_
    refine hv_goto (tgt := 28) hX dX3_init_53 (by decide) ?_
    exact ih (i + 1) (by omega) hc
def rc_X3 (R : xRd) : xRd := ciT 22 (u2 (u2 (u2 R 23 3 (some 0)) 23 0 (some 24)) 23 1 (some 25))
theorem ciT_cl {R : xRd} {J : mJ} {I : mI} (hc : Cln 26 R J I) : ∀ i, i ≤ 22 → Cln (26 + 2 * i) (ciT i R) J I := by
  intro i
  induction i with
  | zero => intro _; exact hc
  | succ i ih =>
    intro h
    exact (((ih (by omega)).up (show 26 + 2 * i ≤ 26 + 2 * (i + 1) by omega)).R (by omega)).R (by omega)
theorem cl_X3 {R : xRd} {J : mJ} {I : mI} (hc : Cln 24 R J I) : Cln 70 (rc_X3 R) J I := by
  have hc := hc.R (k := 3) (v := (some 0)) (show 23 < 24 from (show 23 < 24 by omega))
  have hc := hc.up (Nat.le_succ _)
  have hc := hc.R (k := 0) (v := (some 24)) (show 23 < 25 from (show 23 < 25 by omega))
  have hc := hc.up (Nat.le_succ _)
  have hc := hc.R (k := 1) (v := (some 25)) (show 23 < 26 from (show 23 < 26 by omega))
  exact ciT_cl hc 22 (by decide)
theorem cc_X3 {R : xRd} {J : mJ} {I : mI} (hc : Cln 24 R J I) : hh_Ct yX3_init cX3_init 3 none 2 40 [.ref 23, .ref 0] (hg kX lX 24 R J I) (fun v h' => v = none ∧ h' = hg kX lX 70 (rc_X3 R) J I) 46 201882 := by
  refine hh_Ct.ofN (own := RX3) rfl (by decide +kernel) (Nat.le_of_ble_eq_true rfl) ?_
  intro X hX hN hE hNm
  show hh_V X 0 [(0, .ref 23), (1, .ref 0)] [] 0 0 (hg kX lX 24 R J I)
  refine hv_aload_n hX dX3_init_0 rfl 0 rfl ?_
  refine hv_aload_n hX dX3_init_1 rfl 1 rfl ?_
  refine hv_putFR (v := (some 0)) hX hNm dX3_init_2 fl3_3_3 ⟨RX3, TX3, 4, "HungryHedge$Most", rfl, rfl, q290, .inl rfl⟩ (show 23 < 24 by omega) rfl ?_
  have hc := hc.R (k := 3) (v := (some 0)) (show 23 < 24 from (show 23 < 24 by omega))
  show hh_V X 5 [(0, .ref 23), (1, .ref 0)] [] 0 0 (hg kX lX 24 (u2 R 23 3 (some 0)) J I)
  refine hv_aload_n hX dX3_init_5 rfl 0 rfl ?_
  refine hv_objinit hX dX3_init_6 q282 q153 q154 hN ⟨Nat.le_of_ble_eq_true rfl, Nat.le_of_ble_eq_true rfl⟩ ?_
  refine hv_aload_n hX dX3_init_9 rfl 0 rfl ?_
  refine hv_ldc (v := 201684) hX dX3_init_10 q283 ?_
  refine hg_newA (atype := .int) (a := 0) (N := 201684) hX 0 rfl (by decide) rfl (by decide) rfl q196 dX3_init_12 (by decide) (by decide) (Nat.le_of_ble_eq_true rfl) (by omega) rfl rfl hc ⟨Nat.le_of_ble_eq_true rfl, Nat.le_of_ble_eq_true rfl⟩ ?_
  have hc := hc.up (Nat.le_succ _)
  show hh_V X 14 [(0, .ref 23), (1, .ref 0)] [.ref 24, .ref 23] 1 201684 (hg kX lX 25 (u2 R 23 3 (some 0)) J I)
  refine hv_putFR (v := (some 24)) hX hNm dX3_init_14 fl3_16_3 ⟨RX3, TX3, 4, "HungryHedge$Most", rfl, rfl, q287, .inl rfl⟩ (show 23 < 25 by omega) rfl ?_
  have hc := hc.R (k := 0) (v := (some 24)) (show 23 < 25 from (show 23 < 25 by omega))
  show hh_V X 17 [(0, .ref 23), (1, .ref 0)] [] 1 201684 (hg kX lX 25 (u2 (u2 R 23 3 (some 0)) 23 0 (some 24)) J I)
  refine hv_aload_n hX dX3_init_17 rfl 0 rfl ?_
  refine hv_bipush (v := 22) hX bix_22 dX3_init_18 ?_
  refine hg_newQ (a := 20) (N := 22) (C := "HungryHedge$Trip") hX 4 rfl (by decide) rfl (by decide) q284 dX3_init_20 (by decide) (by decide) (Nat.le_of_ble_eq_true rfl) (by omega) rfl rfl hc ⟨Nat.le_of_ble_eq_true rfl, Nat.le_of_ble_eq_true rfl⟩ ?_
  have hc := hc.up (Nat.le_succ _)
  show hh_V X 23 [(0, .ref 23), (1, .ref 0)] [.ref 25, .ref 23] 2 201706 (hg kX lX 26 (u2 (u2 R 23 3 (some 0)) 23 0 (some 24)) J I)
  refine hv_putFR (v := (some 25)) hX hNm dX3_init_23 fl3_22_3 ⟨RX3, TX3, 4, "HungryHedge$Most", rfl, rfl, q288, .inl rfl⟩ (show 23 < 26 by omega) rfl ?_
  have hc := hc.R (k := 1) (v := (some 25)) (show 23 < 26 from (show 23 < 26 by omega))
  show hh_V X 26 [(0, .ref 23), (1, .ref 0)] [] 2 201706 (hg kX lX 26 (u2 (u2 (u2 R 23 3 (some 0)) 23 0 (some 24)) 23 1 (some 25)) J I)
  refine hv_iconst (v := 0) hX icx_0 dX3_init_26 ?_
  refine hv_istore_n (loc2 := [(2, .int 0), (0, .ref 23), (1, .ref 0)]) hX dX3_init_27 rfl hN (Nat.le_of_ble_eq_true rfl) rfl ?_
  exact cc_X3_lp (R := (u2 (u2 (u2 R 23 3 (some 0)) 23 0 (some 24)) 23 1 (some 25))) hX ⟨Nat.le_of_ble_eq_true rfl, Nat.le_of_ble_eq_true rfl⟩ ⟨Nat.le_of_ble_eq_true rfl, Nat.le_of_ble_eq_true rfl⟩ hN (by unfold u2; rfl) (fun _ => hv_vret hX hE dX3_init_56 ⟨rfl, rfl⟩) 22 0 rfl hc
def rc_X4 (R : xRd) : xRd := (u2 (u2 (u2 R 70 4 (some 0)) 70 0 (some 71)) 70 1 (some 72))
theorem cl_X4 {R : xRd} {J : mJ} {I : mI} (hc : Cln 71 R J I) : Cln 73 (rc_X4 R) J I := by
  have hc := hc.R (k := 4) (v := (some 0)) (show 70 < 71 from (show 70 < 71 by omega))
  have hc := hc.up (Nat.le_succ _)
  have hc := hc.R (k := 0) (v := (some 71)) (show 70 < 72 from (show 70 < 72 by omega))
  have hc := hc.up (Nat.le_succ _)
  have hc := hc.R (k := 1) (v := (some 72)) (show 70 < 73 from (show 70 < 73 by omega))
  exact hc
theorem cc_X4 {R : xRd} {J : mJ} {I : mI} (hc : Cln 71 R J I) : hh_Ct yX4_init cX4_init 2 none 1 20 [.ref 70, .ref 0] (hg kX lX 71 R J I) (fun v h' => v = none ∧ h' = hg kX lX 73 (rc_X4 R) J I) 2 8 := by
  refine hh_Ct.ofN (own := RX4) rfl (by decide +kernel) (Nat.le_of_ble_eq_true rfl) ?_
  intro X hX hN hE hNm
  show hh_V X 0 [(0, .ref 70), (1, .ref 0)] [] 0 0 (hg kX lX 71 R J I)
  refine hv_aload_n hX dX4_init_0 rfl 0 rfl ?_
  refine hv_aload_n hX dX4_init_1 rfl 1 rfl ?_
  refine hv_putFR (v := (some 0)) hX hNm dX4_init_2 fl4_3_4 ⟨RX4, TX4, 5, "HungryHedge$Round", rfl, rfl, q313, .inl rfl⟩ (show 70 < 71 by omega) rfl ?_
  have hc := hc.R (k := 4) (v := (some 0)) (show 70 < 71 from (show 70 < 71 by omega))
  show hh_V X 5 [(0, .ref 70), (1, .ref 0)] [] 0 0 (hg kX lX 71 (u2 R 70 4 (some 0)) J I)
  refine hv_aload_n hX dX4_init_5 rfl 0 rfl ?_
  refine hv_objinit hX dX4_init_6 q305 q153 q154 hN ⟨Nat.le_of_ble_eq_true rfl, Nat.le_of_ble_eq_true rfl⟩ ?_
  refine hv_aload_n hX dX4_init_9 rfl 0 rfl ?_
  refine hv_iconst (v := 4) hX icx_4 dX4_init_10 ?_
  refine hg_newA (atype := .int) (a := 0) (N := 4) hX 0 rfl (by decide) rfl (by decide) rfl q196 dX4_init_11 (by decide) (by decide) (Nat.le_of_ble_eq_true rfl) (by omega) rfl rfl hc ⟨Nat.le_of_ble_eq_true rfl, Nat.le_of_ble_eq_true rfl⟩ ?_
  have hc := hc.up (Nat.le_succ _)
  show hh_V X 13 [(0, .ref 70), (1, .ref 0)] [.ref 71, .ref 70] 1 4 (hg kX lX 72 (u2 R 70 4 (some 0)) J I)
  refine hv_putFR (v := (some 71)) hX hNm dX4_init_13 fl4_15_4 ⟨RX4, TX4, 5, "HungryHedge$Round", rfl, rfl, q306, .inl rfl⟩ (show 70 < 72 by omega) rfl ?_
  have hc := hc.R (k := 0) (v := (some 71)) (show 70 < 72 from (show 70 < 72 by omega))
  show hh_V X 16 [(0, .ref 70), (1, .ref 0)] [] 1 4 (hg kX lX 72 (u2 (u2 R 70 4 (some 0)) 70 0 (some 71)) J I)
  refine hv_aload_n hX dX4_init_16 rfl 0 rfl ?_
  refine hv_iconst (v := 4) hX icx_4 dX4_init_17 ?_
  refine hg_newA (atype := .int) (a := 0) (N := 4) hX 0 rfl (by decide) rfl (by decide) rfl q196 dX4_init_18 (by decide) (by decide) (Nat.le_of_ble_eq_true rfl) (by omega) rfl rfl hc ⟨Nat.le_of_ble_eq_true rfl, Nat.le_of_ble_eq_true rfl⟩ ?_
  have hc := hc.up (Nat.le_succ _)
  show hh_V X 20 [(0, .ref 70), (1, .ref 0)] [.ref 72, .ref 70] 2 8 (hg kX lX 73 (u2 (u2 R 70 4 (some 0)) 70 0 (some 71)) J I)
  refine hv_putFR (v := (some 72)) hX hNm dX4_init_20 fl4_19_4 ⟨RX4, TX4, 5, "HungryHedge$Round", rfl, rfl, q307, .inl rfl⟩ (show 70 < 73 by omega) rfl ?_
  have hc := hc.R (k := 1) (v := (some 72)) (show 70 < 73 from (show 70 < 73 by omega))
  show hh_V X 23 [(0, .ref 70), (1, .ref 0)] [] 2 8 (hg kX lX 73 (u2 (u2 (u2 R 70 4 (some 0)) 70 0 (some 71)) 70 1 (some 72)) J I)
  exact hv_vret hX hE dX4_init_23 ⟨rfl, rfl⟩
def rc_X5 (R : xRd) : xRd := (u2 (hmul 13 74 (u2 R 73 1 (some 0))) 73 0 (some 74))
theorem cl_X5 {R : xRd} {J : mJ} {I : mI} (hc : Cln 74 R J I) : Cln 88 (rc_X5 R) J I := by
  have hc := hc.R (k := 1) (v := (some 0)) (show 73 < 74 from (show 73 < 74 by omega))
  have hc := (hmul_cl (N := 13) hc : Cln 88 (hmul 13 74 (u2 R 73 1 (some 0))) J I)
  have hc := hc.R (k := 0) (v := (some 74)) (show 73 < 88 from (show 73 < 88 by omega))
  exact hc
theorem cc_X5 {R : xRd} {J : mJ} {I : mI} (hc : Cln 74 R J I) : hh_Ct yX5_init cX5_init 2 none 1 20 [.ref 73, .ref 0] (hg kX lX 74 R J I) (fun v h' => v = none ∧ h' = hg kX lX 88 (rc_X5 R) J I) 14 3146 := by
  refine hh_Ct.ofN (own := RX5) rfl (by decide +kernel) (Nat.le_of_ble_eq_true rfl) ?_
  intro X hX hN hE hNm
  show hh_V X 0 [(0, .ref 73), (1, .ref 0)] [] 0 0 (hg kX lX 74 R J I)
  refine hv_aload_n hX dX5_init_0 rfl 0 rfl ?_
  refine hv_aload_n hX dX5_init_1 rfl 1 rfl ?_
  refine hv_putFR (v := (some 0)) hX hNm dX5_init_2 fl5_3_5 ⟨RX5, TX5, 2, "HungryHedge$Dares", rfl, rfl, q335, .inl rfl⟩ (show 73 < 74 by omega) rfl ?_
  have hc := hc.R (k := 1) (v := (some 0)) (show 73 < 74 from (show 73 < 74 by omega))
  show hh_V X 5 [(0, .ref 73), (1, .ref 0)] [] 0 0 (hg kX lX 74 (u2 R 73 1 (some 0)) J I)
  refine hv_aload_n hX dX5_init_5 rfl 0 rfl ?_
  refine hv_objinit hX dX5_init_6 q330 q153 q154 hN ⟨Nat.le_of_ble_eq_true rfl, Nat.le_of_ble_eq_true rfl⟩ ?_
  refine hv_aload_n hX dX5_init_9 rfl 0 rfl ?_
  refine hv_bipush (v := 13) hX bix_13 dX5_init_10 ?_
  refine hv_sipush (v := 241) hX six_241 dX5_init_12 ?_
  refine hg_multi (N := 13) (M := 241) hX q331 q341 dX5_init_15 ⟨by decide, by decide⟩ ⟨by decide, by decide⟩ (by decide) (by decide) (by decide) rfl rfl (fun i h1 h2 => by obtain ⟨j, rfl⟩ : ∃ j, i = 75 + j := ⟨i - 75, by omega⟩; exact ckM j (by omega)) hc ⟨Nat.le_of_ble_eq_true rfl, Nat.le_of_ble_eq_true rfl⟩ ?_
  have hc := (hmul_cl (N := 13) hc : Cln 88 (hmul 13 74 (u2 R 73 1 (some 0))) J I)
  show hh_V X 19 [(0, .ref 73), (1, .ref 0)] [.ref 74, .ref 73] 14 3146 (hg kX lX 88 (hmul 13 74 (u2 R 73 1 (some 0))) J I)
  refine hv_putFR (v := (some 74)) hX hNm dX5_init_19 fl5_17_5 ⟨RX5, TX5, 2, "HungryHedge$Dares", rfl, rfl, q333, .inl rfl⟩ (show 73 < 88 by omega) rfl ?_
  have hc := hc.R (k := 0) (v := (some 74)) (show 73 < 88 from (show 73 < 88 by omega))
  show hh_V X 22 [(0, .ref 73), (1, .ref 0)] [] 14 3146 (hg kX lX 88 (u2 (hmul 13 74 (u2 R 73 1 (some 0))) 73 0 (some 74)) J I)
  exact hv_vret hX hE dX5_init_22 ⟨rfl, rfl⟩
def rc_X6 (R : xRd) : xRd := (u2 (u2 (u2 (u2 R 88 5 (some 0)) 88 0 (some 89)) 88 1 (some 90)) 88 2 (some 91))
theorem cl_X6 {R : xRd} {J : mJ} {I : mI} (hc : Cln 89 R J I) : Cln 92 (rc_X6 R) J I := by
  have hc := hc.R (k := 5) (v := (some 0)) (show 88 < 89 from (show 88 < 89 by omega))
  have hc := hc.up (Nat.le_succ _)
  have hc := hc.R (k := 0) (v := (some 89)) (show 88 < 90 from (show 88 < 90 by omega))
  have hc := hc.up (Nat.le_succ _)
  have hc := hc.R (k := 1) (v := (some 90)) (show 88 < 91 from (show 88 < 91 by omega))
  have hc := hc.up (Nat.le_succ _)
  have hc := hc.R (k := 2) (v := (some 91)) (show 88 < 92 from (show 88 < 92 by omega))
  exact hc
theorem cc_X6 {R : xRd} {J : mJ} {I : mI} (hc : Cln 89 R J I) : hh_Ct yX6_init cX6_init 2 none 1 20 [.ref 88, .ref 0] (hg kX lX 89 R J I) (fun v h' => v = none ∧ h' = hg kX lX 92 (rc_X6 R) J I) 3 20 := by
  refine hh_Ct.ofN (own := RX6) rfl (by decide +kernel) (Nat.le_of_ble_eq_true rfl) ?_
  intro X hX hN hE hNm
  show hh_V X 0 [(0, .ref 88), (1, .ref 0)] [] 0 0 (hg kX lX 89 R J I)
  refine hv_aload_n hX dX6_init_0 rfl 0 rfl ?_
  refine hv_aload_n hX dX6_init_1 rfl 1 rfl ?_
  refine hv_putFR (v := (some 0)) hX hNm dX6_init_2 fl6_3_6 ⟨RX6, TX6, 6, "HungryHedge$Spread", rfl, rfl, q354, .inl rfl⟩ (show 88 < 89 by omega) rfl ?_
  have hc := hc.R (k := 5) (v := (some 0)) (show 88 < 89 from (show 88 < 89 by omega))
  show hh_V X 5 [(0, .ref 88), (1, .ref 0)] [] 0 0 (hg kX lX 89 (u2 R 88 5 (some 0)) J I)
  refine hv_aload_n hX dX6_init_5 rfl 0 rfl ?_
  refine hv_objinit hX dX6_init_6 q347 q153 q154 hN ⟨Nat.le_of_ble_eq_true rfl, Nat.le_of_ble_eq_true rfl⟩ ?_
  refine hv_aload_n hX dX6_init_9 rfl 0 rfl ?_
  refine hv_bipush (v := 8) hX bix_8 dX6_init_10 ?_
  refine hg_newA (atype := .int) (a := 0) (N := 8) hX 0 rfl (by decide) rfl (by decide) rfl q196 dX6_init_12 (by decide) (by decide) (Nat.le_of_ble_eq_true rfl) (by omega) rfl rfl hc ⟨Nat.le_of_ble_eq_true rfl, Nat.le_of_ble_eq_true rfl⟩ ?_
  have hc := hc.up (Nat.le_succ _)
  show hh_V X 14 [(0, .ref 88), (1, .ref 0)] [.ref 89, .ref 88] 1 8 (hg kX lX 90 (u2 R 88 5 (some 0)) J I)
  refine hv_putFR (v := (some 89)) hX hNm dX6_init_14 fl6_15_6 ⟨RX6, TX6, 6, "HungryHedge$Spread", rfl, rfl, q348, .inl rfl⟩ (show 88 < 90 by omega) rfl ?_
  have hc := hc.R (k := 0) (v := (some 89)) (show 88 < 90 from (show 88 < 90 by omega))
  show hh_V X 17 [(0, .ref 88), (1, .ref 0)] [] 1 8 (hg kX lX 90 (u2 (u2 R 88 5 (some 0)) 88 0 (some 89)) J I)
  refine hv_aload_n hX dX6_init_17 rfl 0 rfl ?_
  refine hv_bipush (v := 8) hX bix_8 dX6_init_18 ?_
  refine hg_newA (atype := .int) (a := 0) (N := 8) hX 0 rfl (by decide) rfl (by decide) rfl q196 dX6_init_20 (by decide) (by decide) (Nat.le_of_ble_eq_true rfl) (by omega) rfl rfl hc ⟨Nat.le_of_ble_eq_true rfl, Nat.le_of_ble_eq_true rfl⟩ ?_
  have hc := hc.up (Nat.le_succ _)
  show hh_V X 22 [(0, .ref 88), (1, .ref 0)] [.ref 90, .ref 88] 2 16 (hg kX lX 91 (u2 (u2 R 88 5 (some 0)) 88 0 (some 89)) J I)
  refine hv_putFR (v := (some 90)) hX hNm dX6_init_22 fl6_19_6 ⟨RX6, TX6, 6, "HungryHedge$Spread", rfl, rfl, q349, .inl rfl⟩ (show 88 < 91 by omega) rfl ?_
  have hc := hc.R (k := 1) (v := (some 90)) (show 88 < 91 from (show 88 < 91 by omega))
  show hh_V X 25 [(0, .ref 88), (1, .ref 0)] [] 2 16 (hg kX lX 91 (u2 (u2 (u2 R 88 5 (some 0)) 88 0 (some 89)) 88 1 (some 90)) J I)
  refine hv_aload_n hX dX6_init_25 rfl 0 rfl ?_
  refine hv_iconst (v := 4) hX icx_4 dX6_init_26 ?_
  refine hg_newA (atype := .int) (a := 0) (N := 4) hX 0 rfl (by decide) rfl (by decide) rfl q196 dX6_init_27 (by decide) (by decide) (Nat.le_of_ble_eq_true rfl) (by omega) rfl rfl hc ⟨Nat.le_of_ble_eq_true rfl, Nat.le_of_ble_eq_true rfl⟩ ?_
  have hc := hc.up (Nat.le_succ _)
  show hh_V X 29 [(0, .ref 88), (1, .ref 0)] [.ref 91, .ref 88] 3 20 (hg kX lX 92 (u2 (u2 (u2 R 88 5 (some 0)) 88 0 (some 89)) 88 1 (some 90)) J I)
  refine hv_putFR (v := (some 91)) hX hNm dX6_init_29 fl6_22_6 ⟨RX6, TX6, 6, "HungryHedge$Spread", rfl, rfl, q351, .inl rfl⟩ (show 88 < 92 by omega) rfl ?_
  have hc := hc.R (k := 2) (v := (some 91)) (show 88 < 92 from (show 88 < 92 by omega))
  show hh_V X 32 [(0, .ref 88), (1, .ref 0)] [] 3 20 (hg kX lX 92 (u2 (u2 (u2 (u2 R 88 5 (some 0)) 88 0 (some 89)) 88 1 (some 90)) 88 2 (some 91)) J I)
  exact hv_vret hX hE dX6_init_32 ⟨rfl, rfl⟩
def rc_X7 (R : xRd) : xRd := (u2 (u2 (u2 (u2 (u2 (u2 (u2 (u2 (u2 R 94 0 (some (1000000 + 0))) 94 1 (some (1000000 + 1))) 94 2 (some (1000000 + 2))) 94 3 (some (1000000 + 3))) 94 4 (some (1000000 + 4))) 94 5 (some (1000000 + 5))) 93 0 (some 94)) 93 1 (some 95)) 93 2 (some 96))
theorem cl_X7 {R : xRd} {J : mJ} {I : mI} (hc : Cln 94 R J I) : Cln 97 (rc_X7 R) J I := by
  have hc := hc.up (Nat.le_succ _)
  have hc := hc.R (k := 0) (v := some (1000000 + 0)) (show 94 < 95 from (show 94 < 95 by omega))
  have hc := hc.R (k := 1) (v := some (1000000 + 1)) (show 94 < 95 from (show 94 < 95 by omega))
  have hc := hc.R (k := 2) (v := some (1000000 + 2)) (show 94 < 95 from (show 94 < 95 by omega))
  have hc := hc.R (k := 3) (v := some (1000000 + 3)) (show 94 < 95 from (show 94 < 95 by omega))
  have hc := hc.R (k := 4) (v := some (1000000 + 4)) (show 94 < 95 from (show 94 < 95 by omega))
  have hc := hc.R (k := 5) (v := some (1000000 + 5)) (show 94 < 95 from (show 94 < 95 by omega))
  have hc := hc.R (k := 0) (v := (some 94)) (show 93 < 95 from (show 93 < 95 by omega))
  have hc := hc.up (Nat.le_succ _)
  have hc := hc
  have hc := hc.R (k := 1) (v := (some 95)) (show 93 < 96 from (show 93 < 96 by omega))
  have hc := hc.up (Nat.le_succ _)
  have hc := hc.R (k := 2) (v := (some 96)) (show 93 < 97 from (show 93 < 97 by omega))
  exact hc
theorem cc_X7 {R : xRd} {J : mJ} {I : mI} (hc : Cln 94 R J I) : hh_Ct yX7_init cX7_init 1 none 5 112 [.ref 93] (hg kX lX 94 R J I) (fun v h' => v = none ∧ h' = hg kX lX 97 (rc_X7 R) J I) 3 19 := by
  refine hh_Ct.ofN (own := RX7) rfl (by decide +kernel) (Nat.le_of_ble_eq_true rfl) ?_
  intro X hX hN hE hNm
  show hh_V X 0 [(0, .ref 93)] [] 0 0 (hg kX lX 94 R J I)
  refine hv_aload_n hX dX7_init_0 rfl 0 rfl ?_
  refine hv_objinit hX dX7_init_1 q373 q153 q154 hN ⟨Nat.le_of_ble_eq_true rfl, Nat.le_of_ble_eq_true rfl⟩ ?_
  refine hv_aload_n hX dX7_init_4 rfl 0 rfl ?_
  refine hv_bipush (v := 6) hX bix_6 dX7_init_5 ?_
  refine hg_newQ (a := 26) (N := 6) (C := "java/lang/String") hX 10 rfl (by decide) rfl (by decide) q374 dX7_init_7 (by decide) (by decide) (Nat.le_of_ble_eq_true rfl) (by omega) rfl rfl hc ⟨Nat.le_of_ble_eq_true rfl, Nat.le_of_ble_eq_true rfl⟩ ?_
  have hc := hc.up (Nat.le_succ _)
  show hh_V X 10 [(0, .ref 93)] [.ref 94, .ref 93] 1 6 (hg kX lX 95 R J I)
  refine hv_dup hX rfl dX7_init_10 ?_
  refine hv_iconst (v := 0) hX icx_0 dX7_init_11 ?_
  refine hv_ldcS (i := 0) (tx := "food") hX rfl rfl dX7_init_12 ?_
  refine hv_aastS (w := 0) hX (by decide) dX7_init_14 (show 94 < 95 by omega) rfl (show vp_in 0 6 from vp_in_iff.mpr (by decide)) ?_
  have hc := hc.R (k := 0) (v := some (1000000 + 0)) (show 94 < 95 from (show 94 < 95 by omega))
  show hh_V X 15 [(0, .ref 93)] [.ref 94, .ref 93] 1 6 (hg kX lX 95 (u2 R 94 0 (some (1000000 + 0))) J I)
  refine hv_dup hX rfl dX7_init_15 ?_
  refine hv_iconst (v := 1) hX icx_1 dX7_init_16 ?_
  refine hv_ldcS (i := 1) (tx := "miles") hX rfl rfl dX7_init_17 ?_
  refine hv_aastS (w := 1) hX (by decide) dX7_init_19 (show 94 < 95 by omega) rfl (show vp_in 1 6 from vp_in_iff.mpr (by decide)) ?_
  have hc := hc.R (k := 1) (v := some (1000000 + 1)) (show 94 < 95 from (show 94 < 95 by omega))
  show hh_V X 20 [(0, .ref 93)] [.ref 94, .ref 93] 1 6 (hg kX lX 95 (u2 (u2 R 94 0 (some (1000000 + 0))) 94 1 (some (1000000 + 1))) J I)
  refine hv_dup hX rfl dX7_init_20 ?_
  refine hv_iconst (v := 2) hX icx_2 dX7_init_21 ?_
  refine hv_ldcS (i := 2) (tx := "yield") hX rfl rfl dX7_init_22 ?_
  refine hv_aastS (w := 2) hX (by decide) dX7_init_24 (show 94 < 95 by omega) rfl (show vp_in 2 6 from vp_in_iff.mpr (by decide)) ?_
  have hc := hc.R (k := 2) (v := some (1000000 + 2)) (show 94 < 95 from (show 94 < 95 by omega))
  show hh_V X 25 [(0, .ref 93)] [.ref 94, .ref 93] 1 6 (hg kX lX 95 (u2 (u2 (u2 R 94 0 (some (1000000 + 0))) 94 1 (some (1000000 + 1))) 94 2 (some (1000000 + 2))) J I)
  refine hv_dup hX rfl dX7_init_25 ?_
  refine hv_iconst (v := 3) hX icx_3 dX7_init_26 ?_
  refine hv_ldcS (i := 3) (tx := "left") hX rfl rfl dX7_init_27 ?_
  refine hv_aastS (w := 3) hX (by decide) dX7_init_29 (show 94 < 95 by omega) rfl (show vp_in 3 6 from vp_in_iff.mpr (by decide)) ?_
  have hc := hc.R (k := 3) (v := some (1000000 + 3)) (show 94 < 95 from (show 94 < 95 by omega))
  show hh_V X 30 [(0, .ref 93)] [.ref 94, .ref 93] 1 6 (hg kX lX 95 (u2 (u2 (u2 (u2 R 94 0 (some (1000000 + 0))) 94 1 (some (1000000 + 1))) 94 2 (some (1000000 + 2))) 94 3 (some (1000000 + 3))) J I)
  refine hv_dup hX rfl dX7_init_30 ?_
  refine hv_iconst (v := 4) hX icx_4 dX7_init_31 ?_
  refine hv_ldcS (i := 4) (tx := "got") hX rfl rfl dX7_init_32 ?_
  refine hv_aastS (w := 4) hX (by decide) dX7_init_34 (show 94 < 95 by omega) rfl (show vp_in 4 6 from vp_in_iff.mpr (by decide)) ?_
  have hc := hc.R (k := 4) (v := some (1000000 + 4)) (show 94 < 95 from (show 94 < 95 by omega))
  show hh_V X 35 [(0, .ref 93)] [.ref 94, .ref 93] 1 6 (hg kX lX 95 (u2 (u2 (u2 (u2 (u2 R 94 0 (some (1000000 + 0))) 94 1 (some (1000000 + 1))) 94 2 (some (1000000 + 2))) 94 3 (some (1000000 + 3))) 94 4 (some (1000000 + 4))) J I)
  refine hv_dup hX rfl dX7_init_35 ?_
  refine hv_iconst (v := 5) hX icx_5 dX7_init_36 ?_
  refine hv_ldcS (i := 5) (tx := "here") hX rfl rfl dX7_init_37 ?_
  refine hv_aastS (w := 5) hX (by decide) dX7_init_39 (show 94 < 95 by omega) rfl (show vp_in 5 6 from vp_in_iff.mpr (by decide)) ?_
  have hc := hc.R (k := 5) (v := some (1000000 + 5)) (show 94 < 95 from (show 94 < 95 by omega))
  show hh_V X 40 [(0, .ref 93)] [.ref 94, .ref 93] 1 6 (hg kX lX 95 (u2 (u2 (u2 (u2 (u2 (u2 R 94 0 (some (1000000 + 0))) 94 1 (some (1000000 + 1))) 94 2 (some (1000000 + 2))) 94 3 (some (1000000 + 3))) 94 4 (some (1000000 + 4))) 94 5 (some (1000000 + 5))) J I)
  refine hv_putFR (v := (some 94)) hX hNm dX7_init_40 fl7_23_7 ⟨RX7, TX7, 11, "HungryHedge$Reader", rfl, rfl, q457, .inl rfl⟩ (show 93 < 95 by omega) rfl ?_
  have hc := hc.R (k := 0) (v := (some 94)) (show 93 < 95 from (show 93 < 95 by omega))
  show hh_V X 43 [(0, .ref 93)] [] 1 6 (hg kX lX 95 (u2 (u2 (u2 (u2 (u2 (u2 (u2 R 94 0 (some (1000000 + 0))) 94 1 (some (1000000 + 1))) 94 2 (some (1000000 + 2))) 94 3 (some (1000000 + 3))) 94 4 (some (1000000 + 4))) 94 5 (some (1000000 + 5))) 93 0 (some 94)) J I)
  refine hv_aload_n hX dX7_init_43 rfl 0 rfl ?_
  refine hg_new hX dX7_init_44 nl7_29 (by omega) rfl rfl hc ⟨Nat.le_of_ble_eq_true rfl, Nat.le_of_ble_eq_true rfl⟩ ?_
  have hnew := hc
  have hc := hc.up (Nat.le_succ _)
  show hh_V X 47 [(0, .ref 93)] [.ref 95, .ref 93] 2 13 (hg kX lX 96 (u2 (u2 (u2 (u2 (u2 (u2 (u2 R 94 0 (some (1000000 + 0))) 94 1 (some (1000000 + 1))) 94 2 (some (1000000 + 2))) 94 3 (some (1000000 + 3))) 94 4 (some (1000000 + 4))) 94 5 (some (1000000 + 5))) 93 0 (some 94)) J I)
  refine hv_dup hX rfl dX7_init_47 ?_
  refine hv_callI (ci := 8) (q := (RX8, TX8, 7)) (host := "") (ret := none) hX dX7_init_48 (cc_X8 95 96 (show 95 < 96 by omega) rfl (hnew 95 (Nat.le_refl _)).2.2 hc) q426 rfl q428 q117 q427 rfl (by decide) np_X8_init rfl (show 95 < 96 by omega) rfl rfl ⟨Nat.le_of_ble_eq_true rfl, Nat.le_of_ble_eq_true rfl⟩ ⟨Nat.le_of_ble_eq_true rfl, Nat.le_of_ble_eq_true rfl⟩ (Nat.le_of_ble_eq_true rfl) ?_
  rintro _ _ ⟨rfl, rfl⟩
  have hc := hc
  show hh_V X 51 [(0, .ref 93)] [.ref 95, .ref 93] 2 13 (hg kX lX 96 (u2 (u2 (u2 (u2 (u2 (u2 (u2 R 94 0 (some (1000000 + 0))) 94 1 (some (1000000 + 1))) 94 2 (some (1000000 + 2))) 94 3 (some (1000000 + 3))) 94 4 (some (1000000 + 4))) 94 5 (some (1000000 + 5))) 93 0 (some 94)) J I)
  refine hv_putFR (v := (some 95)) hX hNm dX7_init_51 fl7_32_7 ⟨RX7, TX7, 11, "HungryHedge$Reader", rfl, rfl, q458, .inl rfl⟩ (show 93 < 96 by omega) rfl ?_
  have hc := hc.R (k := 1) (v := (some 95)) (show 93 < 96 from (show 93 < 96 by omega))
  show hh_V X 54 [(0, .ref 93)] [] 2 13 (hg kX lX 96 (u2 (u2 (u2 (u2 (u2 (u2 (u2 (u2 R 94 0 (some (1000000 + 0))) 94 1 (some (1000000 + 1))) 94 2 (some (1000000 + 2))) 94 3 (some (1000000 + 3))) 94 4 (some (1000000 + 4))) 94 5 (some (1000000 + 5))) 93 0 (some 94)) 93 1 (some 95)) J I)
  refine hv_aload_n hX dX7_init_54 rfl 0 rfl ?_
  refine hv_bipush (v := 6) hX bix_6 dX7_init_55 ?_
  refine hg_newQ (a := 22) (N := 6) (C := "HungryHedge$Clause") hX 6 rfl (by decide) rfl (by decide) q456 dX7_init_57 (by decide) (by decide) (Nat.le_of_ble_eq_true rfl) (by omega) rfl rfl hc ⟨Nat.le_of_ble_eq_true rfl, Nat.le_of_ble_eq_true rfl⟩ ?_
  have hc := hc.up (Nat.le_succ _)
  show hh_V X 60 [(0, .ref 93)] [.ref 96, .ref 93] 3 19 (hg kX lX 97 (u2 (u2 (u2 (u2 (u2 (u2 (u2 (u2 R 94 0 (some (1000000 + 0))) 94 1 (some (1000000 + 1))) 94 2 (some (1000000 + 2))) 94 3 (some (1000000 + 3))) 94 4 (some (1000000 + 4))) 94 5 (some (1000000 + 5))) 93 0 (some 94)) 93 1 (some 95)) J I)
  refine hv_putFR (v := (some 96)) hX hNm dX7_init_60 fl7_38_7 ⟨RX7, TX7, 11, "HungryHedge$Reader", rfl, rfl, q459, .inl rfl⟩ (show 93 < 97 by omega) rfl ?_
  have hc := hc.R (k := 2) (v := (some 96)) (show 93 < 97 from (show 93 < 97 by omega))
  show hh_V X 63 [(0, .ref 93)] [] 3 19 (hg kX lX 97 (u2 (u2 (u2 (u2 (u2 (u2 (u2 (u2 (u2 R 94 0 (some (1000000 + 0))) 94 1 (some (1000000 + 1))) 94 2 (some (1000000 + 2))) 94 3 (some (1000000 + 3))) 94 4 (some (1000000 + 4))) 94 5 (some (1000000 + 5))) 93 0 (some 94)) 93 1 (some 95)) 93 2 (some 96)) J I)
  exact hv_vret hX hE dX7_init_63 ⟨rfl, rfl⟩
def rW2 : Nat → xRd → xRd
  | 0, R => R
  | k + 1, R => u2 (rW2 k R) 99 k (some (100 + k))
theorem rW2_cl {R : xRd} {J : mJ} {I : mI} (hc : Cln 100 R J I) : ∀ i, i ≤ 20 → Cln (100 + i) (rW2 i R) J I := by
  intro i
  induction i with
  | zero => intro _; exact hc
  | succ i ih =>
    intro h
    exact ((ih (by omega)).up (show 100 + i ≤ 100 + (i + 1) by omega)).R (by omega)
theorem cc_rows_lp {X : hh_CX} {R : xRd} {J : mJ} {I : mI} {fr lo MC MS : Nat} (hX : hh_C X cX0_someRows RX0 ({ frames := fr, cells := MC, slots := MS, locals := lo })) (hfr : 2 ≤ fr ∧ 40 ≤ lo) (hz : 21 ≤ MC ∧ 60 ≤ MS) (hN : hh_nL X = 2) (hend : hh_V X 30 [(0, .ref 99)] [] 21 60 (hg kX lX 120 (rW2 20 R) J I)) : ∀ d i, i + d = 20 → Cln (100 + i) (rW2 i R) J I → hh_V X 8 [(1, .int (nI i)), (0, .ref 99)] [] (1 + i) (20 + 2 * i) (hg kX lX (100 + i) (rW2 i R) J I) := by
  intro d
  induction d with
  | zero =>
    intro i hi hc
    have e : i = 20 := by omega
    subst e
    refine hv_iload_n hX dX0_someRows_8 rfl 0 rfl ?_
    refine hv_bipush (v := 20) hX bix_20 dX0_someRows_9 ?_
    refine hv_icmp_ge (tgt := 30) hX dX0_someRows_11 (by decide) (fun _ => ?_) (fun c9 => absurd (show (20 : Int32) ≤ nI 20 by decide) c9)
    refine hv_fewer [1] (loc2 := [(0, .ref 99)]) rfl ?_
    exact hend
  | succ d ih =>
    intro i hi0 hc
    have hi : i < 20 := by omega
    have kk := ckR i hi
    show hh_V X 8 [(1, .int (nI i)), (0, .ref 99)] [] (1 + i + 0) (20 + 2 * i + 0) (hg kX lX (100 + i) (rW2 i R) J I)
    refine hv_iload_n hX dX0_someRows_8 rfl 0 rfl ?_
    refine hv_bipush (v := 20) hX bix_20 dX0_someRows_9 ?_
    refine hv_icmp_ge (tgt := 30) hX dX0_someRows_11 (by decide) (fun c9 => absurd c9 (by rw [show (20 : Int32) = nI 20 from rfl, nI_leI (by decide) (by omega)]; omega)) (fun _ => ?_)
    refine hv_aload_n hX dX0_someRows_14 rfl 1 rfl ?_
    refine hv_iload_n hX dX0_someRows_15 rfl 0 rfl ?_
    refine hg_new hX dX0_someRows_16 nl0_331 (by omega) kk.1 kk.2 hc ⟨by dsimp only; omega, by dsimp only; omega⟩ ?_
    have hnew := hc
    have hc := hc.up (Nat.le_succ _)
    show hh_V X 19 [(1, .int (nI i)), (0, .ref 99)] [.ref (100 + i), .int (nI i), .ref 99] (1 + i + 1) (20 + 2 * i + 2) (hg kX lX ((100 + i) + 1) (rW2 i R) J I)
    refine hv_dup hX rfl dX0_someRows_19 ?_
    refine hv_callIN (ci := 9) (q := (RX9, TX9, 2)) (ret := none) hX dX0_someRows_20 (cc_X9 (100 + i) ((100 + i) + 1) (by omega) kk.1 hc) (hh_nwm q501 rfl) rfl q503 q118 q502 rfl (by decide) np_X9_init rfl (show (100 + i) < ((100 + i) + 1) by omega) kk.1 rfl ⟨by dsimp only; omega, by dsimp only; omega⟩ ⟨by dsimp only; omega, by dsimp only; omega⟩ (Nat.le_of_ble_eq_true rfl) ?_
    rintro _ _ ⟨rfl, rfl⟩
    have hc := hc
    show hh_V X 23 [(1, .int (nI i)), (0, .ref 99)] [.ref (100 + i), .int (nI i), .ref 99] (1 + i + 1) (20 + 2 * i + 2) (hg kX lX ((100 + i) + 1) (rW2 i R) J I)
    refine hv_aast (a := 23) (ci := 9) (q := (RX9, TX9, 2)) hX 7 rfl (by decide) rfl (by decide) rfl dX0_someRows_23 (show 99 < ((100 + i) + 1) by omega) rfl (show vp_in (nI i) 20 from vp_in_nI hi (by decide)) (show (100 + i) < ((100 + i) + 1) by omega) kk.1 ?_
    rw [nI_clamp (by omega)]
    have hc := hc.R (k := i) (v := some (100 + i)) (show 99 < ((100 + i) + 1) from (show 99 < ((100 + i) + 1) by omega))
    show hh_V X 24 [(1, .int (nI i)), (0, .ref 99)] [] (1 + i + 1) (20 + 2 * i + 2) (hg kX lX ((100 + i) + 1) (u2 (rW2 i R) 99 i (some (100 + i))) J I)
    refine hv_iinc (v := nI (i + 1)) (loc2 := [(1, .int (nI (i + 1))), (0, .ref 99)]) hX dX0_someRows_24 0 rfl (by rw [icx_1]; exact nI_1 i) hN (Nat.le_of_ble_eq_true rfl) rfl ?_
    refine hv_goto (tgt := 8) hX dX0_someRows_27 (by decide) ?_
    exact ih (i + 1) (by omega) hc
theorem cl_rows {R : xRd} {J : mJ} {I : mI} (hc : Cln 99 R J I) : Cln 120 (rW2 20 R) J I := rW2_cl (hc.up (by omega)) 20 (by decide)
theorem cc_rows {R : xRd} {J : mJ} {I : mI} (hc : Cln 99 R J I) : hh_Ct yX0_someRows cX0_someRows 2 (some (.array (.object "HungryHedge$Row"))) 2 40 [] (hg kX lX 99 R J I) (fun v h' => v = some (.ref 99) ∧ h' = hg kX lX 120 (rW2 20 R) J I) 21 60 := by
  refine hh_Ct.of (own := RX0) rfl (by decide +kernel) (Nat.le_of_ble_eq_true rfl) ?_
  intro X hX hN hE
  show hh_V X 0 [] [] 0 0 (hg kX lX 99 R J I)
  refine hv_bipush (v := 20) hX bix_20 dX0_someRows_0 ?_
  refine hg_newQ (a := 23) (N := 20) (C := "HungryHedge$Row") hX 7 rfl (by decide) rfl (by decide) q498 dX0_someRows_2 (by decide) (by decide) (Nat.le_of_ble_eq_true rfl) (by omega) rfl rfl hc ⟨Nat.le_of_ble_eq_true rfl, Nat.le_of_ble_eq_true rfl⟩ ?_
  have hc := hc.up (Nat.le_succ _)
  show hh_V X 5 [] [.ref 99] 1 20 (hg kX lX 100 R J I)
  refine hv_astore_n (loc2 := [(0, .ref 99)]) hX dX0_someRows_5 rfl hN (Nat.le_of_ble_eq_true rfl) rfl ?_
  refine hv_iconst (v := 0) hX icx_0 dX0_someRows_6 ?_
  refine hv_istore_n (loc2 := [(1, .int 0), (0, .ref 99)]) hX dX0_someRows_7 rfl hN (Nat.le_of_ble_eq_true rfl) rfl ?_
  refine cc_rows_lp (R := R) hX ⟨Nat.le_of_ble_eq_true rfl, Nat.le_of_ble_eq_true rfl⟩ ⟨Nat.le_of_ble_eq_true rfl, Nat.le_of_ble_eq_true rfl⟩ hN ?_ 20 0 rfl hc
  refine hv_aload_n hX dX0_someRows_30 rfl 0 rfl ?_
  exact hv_aret hX hE (.inr ⟨_, rfl⟩) (.inr ⟨_, rfl⟩) dX0_someRows_31 ⟨rfl, rfl⟩
