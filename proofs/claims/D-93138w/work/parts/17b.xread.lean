set_option maxRecDepth 100000
set_option maxHeartbeats 4000000
theorem bix_m100 : (Int8.ofInt (-100)).toInt32 = (-100) := by decide
theorem bix_61 : (Int8.ofInt 61).toInt32 = 61 := by decide
theorem six_999 : (Int16.ofInt 999).toInt32 = 999 := by decide
theorem fl0_290_8 : hh_FL RX0 290 8 6 0 false := ⟨RX8, TX8, 7, tyX8, "HungryHedge$Fault", by decide, rfl, in_X8, by decide, rfl, rfl, .inr ⟨"HungryHedge", hh_nwm q439 rfl⟩, tyX8_ok, .inl nmX8, rfl, rfl, .inl rfl⟩
theorem fl0_293_7 : hh_FL RX0 293 7 2 2 true := ⟨RX7, TX7, 11, tyX7, "HungryHedge$Reader", by decide, rfl, in_X7, by decide, rfl, rfl, .inr ⟨"HungryHedge", hh_nwm q460 rfl⟩, tyX7_ok, .inl nmX7, rfl, rfl, .inl rfl⟩
theorem fl0_298_7 : hh_FL RX0 298 7 8 0 false := ⟨RX7, TX7, 11, tyX7, "HungryHedge$Reader", by decide, rfl, in_X7, by decide, rfl, rfl, .inr ⟨"HungryHedge", hh_nwm q467 rfl⟩, tyX7_ok, .inl nmX7, rfl, rfl, .inl rfl⟩
theorem nl7_36 : hh_NL RX7 36 16 2 := ⟨RX16, TX16, tyX16, by decide, rfl, in_X16, tyX16_ok, rfl, by decide +kernel, q456, q1048, q133⟩
theorem nl7_100 : hh_NL RX7 100 17 5 := ⟨RX17, TX17, tyX17, by decide, rfl, in_X17, tyX17_ok, rfl, by decide +kernel, q1071, q1072, q134⟩
theorem nl7_126 : hh_NL RX7 126 18 1 := ⟨RX18, TX18, tyX18, by decide, rfl, in_X18, tyX18_ok, rfl, by decide +kernel, q1093, q1094, q135⟩
theorem nl7_136 : hh_NL RX7 136 19 2 := ⟨RX19, TX19, tyX19, by decide, rfl, in_X19, tyX19_ok, rfl, by decide +kernel, q1104, q1105, q136⟩
theorem nl7_146 : hh_NL RX7 146 20 2 := ⟨RX20, TX20, tyX20, by decide, rfl, in_X20, tyX20_ok, rfl, by decide +kernel, q1122, q1123, q137⟩
/-! HungryHedge$Reader.isWord(Ljava/lang/String;)Z -/
def x_X7_isWord_j60 (Q : Int32 → Prop) (k24 : Nat → Int32 → Int32 → xS → xRd → mJ → mI → Prop) (a1 : Nat) (a3 : Int32) (p0 : Int32) (s : xS) (rd : xRd) (J : mJ) (I : mI) : Prop :=
  k24 a1 p0 (a3 + 1) s rd J I
theorem w_X7_isWord_j60 {X : hh_CX} {S0 : xS} {R0 : xRd} {J0 : mJ} {I0 : mI} {Q : Int32 → Prop} (hX : hh_C X cX7_isWord RX7 (hrx 4 85 0 0)) (hN : hh_nL X = 4) (hE : hh_E X (some .boolean) (xQi (fun r9 S9 R9 J9 I9 => S0 = S9 ∧ R0 = R9 ∧ J0 = J9 ∧ I0 = I9 ∧ Q r9)) 0 0) {k24 : Nat → Int32 → Int32 → xS → xRd → mJ → mI → Prop} (hk24 : ∀ (b0 : Nat) (b1 : Int32) (b2 : Int32) (s : xS) (rd : xRd) (J : mJ) (I : mI), s = S0 → rd = R0 → J = J0 → I = I0 → k24 b0 b1 b2 s rd J I → hh_V X 24 [(0, .ref 93), (1, .ref (1000000 + b0)), (2, .int b1), (3, .int b2)] [] 0 0 (hx s rd J I)) : ∀ (a1 : Nat) (a3 : Int32) (p0 : Int32) (s : xS) (rd : xRd) (J : mJ) (I : mI), s = S0 → rd = R0 → J = J0 → I = I0 → x_X7_isWord_j60 Q k24 a1 a3 p0 s rd J I → hh_V X 60 [(0, .ref 93), (1, .ref (1000000 + a1)), (3, .int a3)] [.int p0] 0 0 (hx s rd J I) := by
  intro a1 a3 p0 s rd J I e0 e1 e2 e3 hf
  subst e0
  subst e1
  subst e2
  subst e3
  unfold x_X7_isWord_j60 at hf
  refine hv_istore_n (loc2 := [(2, .int p0), (0, .ref 93), (1, .ref (1000000 + a1)), (3, .int a3)]) hX dX7_isWord_60 rfl hN (Nat.le_of_ble_eq_true rfl) rfl ?_
  refine hv_iinc (v := (a3 + 1)) (loc2 := [(3, .int (a3 + 1)), (2, .int p0), (0, .ref 93), (1, .ref (1000000 + a1))]) hX dX7_isWord_61 3 rfl (congrArg (fun y => a3 + y) icx_1) hN (Nat.le_of_ble_eq_true rfl) rfl ?_
  refine hv_goto (tgt := 24) hX dX7_isWord_64 (by decide) ?_
  refine hv_fewer [2, 3, 1, 0] (loc2 := [(0, .ref 93), (1, .ref (1000000 + a1)), (2, .int p0), (3, .int (a3 + 1))]) rfl ?_
  exact hk24 _ _ _ _ _ _ _ rfl rfl rfl rfl hf
def x_X7_isWord_l24 (Q : Int32 → Prop) : Nat → Nat → Int32 → Int32 → xS → xRd → mJ → mI → Prop
  | 0, _, _, _, _, _, _, _ => False
  | n + 1, a1, a2, a3, s, rd, J, I =>
    a1 < 13 ∧ (((nI (hh_len.getD a1 0)) ≤ a3 →
      (a2 = 0 ∨ a2 = 1) ∧ (Q a2 )) ∧ (¬ (nI (hh_len.getD a1 0)) ≤ a3 →
      (a2 = 0 →
        (a2 = 0 ∨ a2 = 1) ∧ (Q a2 )) ∧ (¬ a2 = 0 →
        ∃ v4 : Nat, xR rd 93 3 = some v4 ∧ (xo s v4 101 ∧ (vp_in ((I 93 5) + a3) (xlen s v4) ∧ (a1 < 13 ∧ (vp_in a3 (hh_len.getD a1 0) ∧ (((I v4 ((I 93 5) + a3).toNatClampNeg) = ((hh_byt.getD a1 []).getD a3.toNatClampNeg 0) →
          x_X7_isWord_j60 Q  (fun b0 b1 b2 s rd J I => x_X7_isWord_l24 Q   n b0 b1 b2 s rd J I) a1 a3 1 s rd J I) ∧ (¬ (I v4 ((I 93 5) + a3).toNatClampNeg) = ((hh_byt.getD a1 []).getD a3.toNatClampNeg 0) →
          x_X7_isWord_j60 Q  (fun b0 b1 b2 s rd J I => x_X7_isWord_l24 Q   n b0 b1 b2 s rd J I) a1 a3 0 s rd J I)))))))))
theorem w_X7_isWord_l24 {X : hh_CX} {S0 : xS} {R0 : xRd} {J0 : mJ} {I0 : mI} {Q : Int32 → Prop} (hX : hh_C X cX7_isWord RX7 (hrx 4 85 0 0)) (hN : hh_nL X = 4) (hE : hh_E X (some .boolean) (xQi (fun r9 S9 R9 J9 I9 => S0 = S9 ∧ R0 = R9 ∧ J0 = J9 ∧ I0 = I9 ∧ Q r9)) 0 0) : ∀ (n : Nat) (a1 : Nat) (a2 : Int32) (a3 : Int32) (s : xS) (rd : xRd) (J : mJ) (I : mI), s = S0 → rd = R0 → J = J0 → I = I0 → x_X7_isWord_l24 Q  n a1 a2 a3 s rd J I → hh_V X 24 [(0, .ref 93), (1, .ref (1000000 + a1)), (2, .int a2), (3, .int a3)] [] 0 0 (hx s rd J I) := by
  intro n
  induction n with
  | zero => intro _ _ _ _ _ _ _ _ _ _ _ hf; exact hf.elim
  | succ n ih =>
    intro a1 a2 a3 s rd J I e0 e1 e2 e3 hf
    subst e0
    subst e1
    subst e2
    subst e3
    unfold x_X7_isWord_l24 at hf
    refine hv_iload_n hX dX7_isWord_24 rfl 3 rfl ?_
    refine hv_aload_n hX dX7_isWord_25 rfl 1 rfl ?_
    obtain ⟨gs, hf⟩ := hf
    refine hx_slen hX gs dX7_isWord_26 (lw_V q991 q992 q993 q125 q994) ⟨Nat.le_of_ble_eq_true rfl, Nat.le_of_ble_eq_true rfl⟩ ⟨Nat.le_of_ble_eq_true rfl, Nat.le_of_ble_eq_true rfl⟩ (Nat.le_of_ble_eq_true rfl) ?_
    refine hv_icmp_ge (tgt := 67) hX dX7_isWord_29 (by decide) (fun c2 => ?_) (fun c2 => ?_)
    · replace hf := hf.1 c2
      refine hv_iload_n hX dX7_isWord_67 rfl 2 rfl ?_
      obtain ⟨g, hf⟩ := hf
      exact hx_zret hX hE dX7_isWord_68 g ⟨rfl, rfl, rfl, rfl, hf⟩
    · replace hf := hf.2 c2
      refine hv_iload_n hX dX7_isWord_32 rfl 2 rfl ?_
      refine hv_if_eq (tgt := 67) hX dX7_isWord_33 (by decide) (fun c3 => ?_) (fun c3 => ?_)
      · replace hf := hf.1 c3
        refine hv_iload_n hX dX7_isWord_67 rfl 2 rfl ?_
        obtain ⟨g, hf⟩ := hf
        exact hx_zret hX hE dX7_isWord_68 g ⟨rfl, rfl, rfl, rfl, hf⟩
      · replace hf := hf.2 c3
        refine hv_aload_n hX dX7_isWord_36 rfl 0 rfl ?_
        obtain ⟨v4, gv4, hf⟩ := hf
        refine hx_getR (v := v4) hX dX7_isWord_37 fl7_49_7 (xo_c (by decide) rfl) gv4 ?_
        refine hv_aload_n hX dX7_isWord_40 rfl 0 rfl ?_
        refine hx_getI (v := (I 93 5)) hX dX7_isWord_41 fl7_42_7 (.inl rfl) (xo_c (by decide) rfl) rfl ?_
        refine hv_iload_n hX dX7_isWord_44 rfl 3 rfl ?_
        refine hv_iadd hX dX7_isWord_45 ?_
        obtain ⟨o5, hf⟩ := hf
        obtain ⟨g, hf⟩ := hf
        refine hx_bald (v := (I v4 ((I 93 5) + a3).toNatClampNeg)) hX dX7_isWord_46 o5 rfl g rfl ?_
        refine hv_aload_n hX dX7_isWord_47 rfl 1 rfl ?_
        refine hv_iload_n hX dX7_isWord_48 rfl 3 rfl ?_
        obtain ⟨gs, hf⟩ := hf
        obtain ⟨gi, hf⟩ := hf
        refine hx_schar hX gs gi dX7_isWord_49 (lw_V q1001 q1002 q1003 q125 q1004) ⟨Nat.le_of_ble_eq_true rfl, Nat.le_of_ble_eq_true rfl⟩ ⟨Nat.le_of_ble_eq_true rfl, Nat.le_of_ble_eq_true rfl⟩ (Nat.le_of_ble_eq_true rfl) ?_
        refine hv_icmp_ne (tgt := 59) hX dX7_isWord_52 (by decide) (fun c6 => ?_) (fun c6 => ?_)
        · replace hf := hf.2 c6
          refine hv_iconst (v := 0) hX icx_0 dX7_isWord_59 ?_
          refine hv_fewer [0, 1, 3] (loc2 := [(0, .ref 93), (1, .ref (1000000 + a1)), (3, .int a3)]) rfl ?_
          exact w_X7_isWord_j60 hX hN hE ih _ _ _ _ _ _ _ rfl rfl rfl rfl hf
        · replace hf := hf.1 c6
          refine hv_iconst (v := 1) hX icx_1 dX7_isWord_55 ?_
          refine hv_goto (tgt := 60) hX dX7_isWord_56 (by decide) ?_
          refine hv_fewer [0, 1, 3] (loc2 := [(0, .ref 93), (1, .ref (1000000 + a1)), (3, .int a3)]) rfl ?_
          exact w_X7_isWord_j60 hX hN hE ih _ _ _ _ _ _ _ rfl rfl rfl rfl hf
def x_X7_isWord_j21 (Q : Int32 → Prop) (a1 : Nat) (p0 : Int32) (s : xS) (rd : xRd) (J : mJ) (I : mI) : Prop :=
  ∃ n0 : Nat, x_X7_isWord_l24 Q   n0 a1 p0 0 s rd J I
theorem w_X7_isWord_j21 {X : hh_CX} {S0 : xS} {R0 : xRd} {J0 : mJ} {I0 : mI} {Q : Int32 → Prop} (hX : hh_C X cX7_isWord RX7 (hrx 4 85 0 0)) (hN : hh_nL X = 4) (hE : hh_E X (some .boolean) (xQi (fun r9 S9 R9 J9 I9 => S0 = S9 ∧ R0 = R9 ∧ J0 = J9 ∧ I0 = I9 ∧ Q r9)) 0 0) : ∀ (a1 : Nat) (p0 : Int32) (s : xS) (rd : xRd) (J : mJ) (I : mI), s = S0 → rd = R0 → J = J0 → I = I0 → x_X7_isWord_j21 Q  a1 p0 s rd J I → hh_V X 21 [(0, .ref 93), (1, .ref (1000000 + a1))] [.int p0] 0 0 (hx s rd J I) := by
  intro a1 p0 s rd J I e0 e1 e2 e3 hf
  subst e0
  subst e1
  subst e2
  subst e3
  unfold x_X7_isWord_j21 at hf
  refine hv_istore_n (loc2 := [(2, .int p0), (0, .ref 93), (1, .ref (1000000 + a1))]) hX dX7_isWord_21 rfl hN (Nat.le_of_ble_eq_true rfl) rfl ?_
  refine hv_iconst (v := 0) hX icx_0 dX7_isWord_22 ?_
  refine hv_istore_n (loc2 := [(3, .int 0), (2, .int p0), (0, .ref 93), (1, .ref (1000000 + a1))]) hX dX7_isWord_23 rfl hN (Nat.le_of_ble_eq_true rfl) rfl ?_
  refine hv_fewer [2, 3, 1, 0] (loc2 := [(0, .ref 93), (1, .ref (1000000 + a1)), (2, .int p0), (3, .int 0)]) rfl ?_
  obtain ⟨n0, hf⟩ := hf
  exact w_X7_isWord_l24 hX hN hE  n0 _ _ _ _ _ _ _ rfl rfl rfl rfl hf
def x_X7_isWord (a1 : Nat) (s : xS) (rd : xRd) (J : mJ) (I : mI) (Q : Int32 → Prop) : Prop :=
  a1 < 13 ∧ ((((I 93 6) - (I 93 5)) = (nI (hh_len.getD a1 0)) →
    x_X7_isWord_j21 Q   a1 1 s rd J I) ∧ (¬ ((I 93 6) - (I 93 5)) = (nI (hh_len.getD a1 0)) →
    x_X7_isWord_j21 Q   a1 0 s rd J I))
theorem ct_X7_isWord  (a1 : Nat) (s : xS) (rd : xRd) (J : mJ) (I : mI) (Q : Int32 → Prop) (hf : x_X7_isWord a1 s rd J I Q) : hh_Ct yX7_isWord cX7_isWord 4 (some .boolean) 4 85 [.ref 93, .ref (1000000 + a1)] (hx s rd J I) (xQi (fun r9 S9 R9 J9 I9 => s = S9 ∧ rd = R9 ∧ J = J9 ∧ I = I9 ∧ Q r9)) 0 0 := by
  refine hh_Ct.of (own := RX7) rfl (by decide +kernel) (Nat.le_of_ble_eq_true rfl) ?_
  intro X hX hN hE
  show hh_V X 0 [(0, .ref 93), (1, .ref (1000000 + a1))] [] 0 0 (hx s rd J I)
  unfold x_X7_isWord at hf
  refine hv_aload_n hX dX7_isWord_0 rfl 0 rfl ?_
  refine hx_getI (v := (I 93 6)) hX dX7_isWord_1 fl7_53_7 (.inl rfl) (xo_c (by decide) rfl) rfl ?_
  refine hv_aload_n hX dX7_isWord_4 rfl 0 rfl ?_
  refine hx_getI (v := (I 93 5)) hX dX7_isWord_5 fl7_42_7 (.inl rfl) (xo_c (by decide) rfl) rfl ?_
  refine hv_isub hX dX7_isWord_8 ?_
  refine hv_aload_n hX dX7_isWord_9 rfl 1 rfl ?_
  obtain ⟨gs, hf⟩ := hf
  refine hx_slen hX gs dX7_isWord_10 (lw_V q991 q992 q993 q125 q994) ⟨Nat.le_of_ble_eq_true rfl, Nat.le_of_ble_eq_true rfl⟩ ⟨Nat.le_of_ble_eq_true rfl, Nat.le_of_ble_eq_true rfl⟩ (Nat.le_of_ble_eq_true rfl) ?_
  refine hv_icmp_ne (tgt := 20) hX dX7_isWord_13 (by decide) (fun c1 => ?_) (fun c1 => ?_)
  · replace hf := hf.2 c1
    refine hv_iconst (v := 0) hX icx_0 dX7_isWord_20 ?_
    exact w_X7_isWord_j21 hX hN hE  _ _ _ _ _ _ rfl rfl rfl rfl hf
  · replace hf := hf.1 c1
    refine hv_iconst (v := 1) hX icx_1 dX7_isWord_16 ?_
    refine hv_goto (tgt := 21) hX dX7_isWord_17 (by decide) ?_
    exact w_X7_isWord_j21 hX hN hE  _ _ _ _ _ _ rfl rfl rfl rfl hf
/-! HungryHedge$Reader.may(Ljava/lang/String;)Z -/
def x_X7_may (a1 : Nat) (s : xS) (rd : xRd) (J : mJ) (I : mI) (Q : Int32 → mI → Prop) : Prop :=
  x_X7_isWord a1 s rd J I (fun r1 => (r1 = 0 →
    Q 0 I) ∧ (¬ r1 = 0 →
    x_X7_next s rd J I (fun I3 => Q 1 I3)))
theorem ct_X7_may  (a1 : Nat) (s : xS) (rd : xRd) (J : mJ) (I : mI) (Q : Int32 → mI → Prop) (hf : x_X7_may a1 s rd J I Q) : hh_Ct yX7_may cX7_may 2 (some .boolean) 5 108 [.ref 93, .ref (1000000 + a1)] (hx s rd J I) (xQi (fun r9 S9 R9 J9 I9 => s = S9 ∧ rd = R9 ∧ J = J9 ∧ Q r9 I9)) 0 0 := by
  refine hh_Ct.of (own := RX7) rfl (by decide +kernel) (Nat.le_of_ble_eq_true rfl) ?_
  intro X hX hN hE
  show hh_V X 0 [(0, .ref 93), (1, .ref (1000000 + a1))] [] 0 0 (hx s rd J I)
  unfold x_X7_may at hf
  refine hv_aload_n hX dX7_may_0 rfl 0 rfl ?_
  refine hv_aload_n hX dX7_may_1 rfl 1 rfl ?_
  refine hx_callVi (ci := 7) (q := (RX7, TX7, 11)) hX dX7_may_2 (ct_X7_isWord a1 s rd J I _ hf) (lw_V q987 q989 qs23 q113 q990) rfl (by decide) ⟨rfl, np_X7_isWord⟩ rfl (xo_c (by decide) rfl) rfl ⟨Nat.le_of_ble_eq_true rfl, Nat.le_of_ble_eq_true rfl⟩ ⟨Nat.le_of_ble_eq_true rfl, Nat.le_of_ble_eq_true rfl⟩ (Nat.le_of_ble_eq_true rfl) ?_
  intro r1 S9 R9 J9 I9 hq
  clear hf
  obtain ⟨rfl, rfl, rfl, rfl, hf⟩ := hq
  refine hv_if_ne (tgt := 10) hX dX7_may_5 (by decide) (fun c2 => ?_) (fun c2 => ?_)
  · replace hf := hf.2 c2
    refine hv_aload_n hX dX7_may_10 rfl 0 rfl ?_
    refine hx_callVv (ci := 7) (q := (RX7, TX7, 11)) hX dX7_may_11 (ct_X7_next s rd J I _ hf) (lw_V q956 q958 qs18 q113 q959) rfl (by decide) ⟨rfl, np_X7_next⟩ rfl (xo_c (by decide) rfl) rfl ⟨Nat.le_of_ble_eq_true rfl, Nat.le_of_ble_eq_true rfl⟩ ⟨Nat.le_of_ble_eq_true rfl, Nat.le_of_ble_eq_true rfl⟩ (Nat.le_of_ble_eq_true rfl) ?_
    intro  S9 R9 J9 I3 hq
    clear hf
    obtain ⟨rfl, rfl, rfl, hf⟩ := hq
    refine hv_iconst (v := 1) hX icx_1 dX7_may_14 ?_
    exact hx_zret hX hE dX7_may_15 (by decide) ⟨rfl, rfl, rfl, hf⟩
  · replace hf := hf.1 c2
    refine hv_iconst (v := 0) hX icx_0 dX7_may_8 ?_
    exact hx_zret hX hE dX7_may_9 (by decide) ⟨rfl, rfl, rfl, hf⟩
/-! HungryHedge$Reader.value()V -/
def x_X7_value_j68 (QX : Nat → mI → Prop) (Q : mI → Prop) (a1 : Int32) (p1 : Int32) (s : xS) (rd : xRd) (J : mJ) (I : mI) : Prop :=
  x_X7_need p1 s rd J I (fun c8 I7 => QX c8 I7) (fun I6 => x_X7_next s rd J I6 (fun I9 => ((2 : Int32) < a1 →
    Q (u2 (u2 I9 93 9 a1) 93 10 0)) ∧ (¬ (2 : Int32) < a1 →
    x_X7_number 3 s rd J (u2 I9 93 9 a1) (fun c14 I13 => QX c14 I13) (fun r12 I11 => Q (u2 I11 93 10 r12)))))
theorem w_X7_value_j68 {X : hh_CX} {S0 : xS} {R0 : xRd} {J0 : mJ} {QX : Nat → mI → Prop} {Q : mI → Prop} (hX : hh_C X cX7_value RX7 (hrx 5 108 0 0)) (hN : hh_nL X = 2) (hE : hh_EX X none (xQv (fun S9 R9 J9 I9 => S0 = S9 ∧ R0 = R9 ∧ J0 = J9 ∧ Q I9)) (xQX (fun c9 S9 R9 J9 I9 => S0 = S9 ∧ R0 = R9 ∧ J0 = J9 ∧ QX c9 I9)) 0 0) (hT : hh_XT X []) : ∀ (a1 : Int32) (p1 : Int32) (s : xS) (rd : xRd) (J : mJ) (I : mI), s = S0 → rd = R0 → J = J0 → x_X7_value_j68 QX Q  a1 p1 s rd J I → hh_V X 68 [(0, .ref 93), (1, .int a1)] [.int p1, .ref 93] 0 0 (hx s rd J I) := by
  intro a1 p1 s rd J I e0 e1 e2 hf
  subst e0
  subst e1
  subst e2
  unfold x_X7_value_j68 at hf
  refine hx_callVXv (ci := 7) (q := (RX7, TX7, 11)) hX dX7_value_68 (ct_X7_need p1 s rd J I _ _ hf) (lw_V q974 q976 qs21 q113 q977) rfl (by decide) ⟨rfl, np_X7_need⟩ rfl (xo_c (by decide) rfl) rfl ⟨Nat.le_of_ble_eq_true rfl, Nat.le_of_ble_eq_true rfl⟩ ⟨Nat.le_of_ble_eq_true rfl, Nat.le_of_ble_eq_true rfl⟩ (Nat.le_of_ble_eq_true rfl) ?_ ?_
  · intro c8 S9 R9 J9 I7 hq
    clear hf
    obtain ⟨rfl, rfl, rfl, hf⟩ := hq
    exact hx_out (c := c8) hX hE hT ⟨Nat.le_of_ble_eq_true rfl, Nat.le_of_ble_eq_true rfl⟩ ⟨rfl, rfl, rfl, hf⟩
  intro  S9 R9 J9 I6 hq
  clear hf
  obtain ⟨rfl, rfl, rfl, hf⟩ := hq
  refine hv_aload_n hX dX7_value_71 rfl 0 rfl ?_
  refine hx_callVv (ci := 7) (q := (RX7, TX7, 11)) hX dX7_value_72 (ct_X7_next s rd J I6 _ hf) (lw_V q956 q958 qs18 q113 q959) rfl (by decide) ⟨rfl, np_X7_next⟩ rfl (xo_c (by decide) rfl) rfl ⟨Nat.le_of_ble_eq_true rfl, Nat.le_of_ble_eq_true rfl⟩ ⟨Nat.le_of_ble_eq_true rfl, Nat.le_of_ble_eq_true rfl⟩ (Nat.le_of_ble_eq_true rfl) ?_
  intro  S9 R9 J9 I9 hq
  clear hf
  obtain ⟨rfl, rfl, rfl, hf⟩ := hq
  refine hv_aload_n hX dX7_value_75 rfl 0 rfl ?_
  refine hv_iload_n hX dX7_value_76 rfl 1 rfl ?_
  refine hx_putI hX dX7_value_77 fl7_88_7 (xo_c (by decide) rfl) ?_
  refine hv_aload_n hX dX7_value_80 rfl 0 rfl ?_
  refine hv_iload_n hX dX7_value_81 rfl 1 rfl ?_
  refine hv_iconst (v := 2) hX icx_2 dX7_value_82 ?_
  refine hv_icmp_gt (tgt := 94) hX dX7_value_83 (by decide) (fun c10 => ?_) (fun c10 => ?_)
  · replace hf := hf.1 c10
    refine hv_iconst (v := 0) hX icx_0 dX7_value_94 ?_
    refine hx_putI hX dX7_value_95 fl7_95_7 (xo_c (by decide) rfl) ?_
    exact hv_xret hX hE (fun X hX hE => hx_vret hX hE dX7_value_98 ⟨rfl, rfl, rfl, hf⟩)
  · replace hf := hf.2 c10
    refine hv_aload_n hX dX7_value_86 rfl 0 rfl ?_
    refine hv_iconst (v := 3) hX icx_3 dX7_value_87 ?_
    refine hx_callVXi (ci := 7) (q := (RX7, TX7, 11)) hX dX7_value_88 (ct_X7_number 3 s rd J (u2 I9 93 9 a1) _ _ hf) (lw_V q1044 q1046 qs25 q113 q1047) rfl (by decide) ⟨rfl, np_X7_number⟩ rfl (xo_c (by decide) rfl) rfl ⟨Nat.le_of_ble_eq_true rfl, Nat.le_of_ble_eq_true rfl⟩ ⟨Nat.le_of_ble_eq_true rfl, Nat.le_of_ble_eq_true rfl⟩ (Nat.le_of_ble_eq_true rfl) ?_ ?_
    · intro c14 S9 R9 J9 I13 hq
      clear hf
      obtain ⟨rfl, rfl, rfl, hf⟩ := hq
      exact hx_out (c := c14) hX hE hT ⟨Nat.le_of_ble_eq_true rfl, Nat.le_of_ble_eq_true rfl⟩ ⟨rfl, rfl, rfl, hf⟩
    intro r12 S9 R9 J9 I11 hq
    clear hf
    obtain ⟨rfl, rfl, rfl, hf⟩ := hq
    refine hv_goto (tgt := 95) hX dX7_value_91 (by decide) ?_
    refine hx_putI hX dX7_value_95 fl7_95_7 (xo_c (by decide) rfl) ?_
    exact hv_xret hX hE (fun X hX hE => hx_vret hX hE dX7_value_98 ⟨rfl, rfl, rfl, hf⟩)
def x_X7_value_j58 (QX : Nat → mI → Prop) (Q : mI → Prop) (a1 : Int32) (s : xS) (rd : xRd) (J : mJ) (I : mI) : Prop :=
  (a1 ≤ 0 →
    x_X7_value_j68 QX Q   a1 0 s rd J I) ∧ (¬ a1 ≤ 0 →
    x_X7_value_j68 QX Q   a1 1 s rd J I)
theorem w_X7_value_j58 {X : hh_CX} {S0 : xS} {R0 : xRd} {J0 : mJ} {QX : Nat → mI → Prop} {Q : mI → Prop} (hX : hh_C X cX7_value RX7 (hrx 5 108 0 0)) (hN : hh_nL X = 2) (hE : hh_EX X none (xQv (fun S9 R9 J9 I9 => S0 = S9 ∧ R0 = R9 ∧ J0 = J9 ∧ Q I9)) (xQX (fun c9 S9 R9 J9 I9 => S0 = S9 ∧ R0 = R9 ∧ J0 = J9 ∧ QX c9 I9)) 0 0) (hT : hh_XT X []) : ∀ (a1 : Int32) (s : xS) (rd : xRd) (J : mJ) (I : mI), s = S0 → rd = R0 → J = J0 → x_X7_value_j58 QX Q  a1 s rd J I → hh_V X 58 [(0, .ref 93), (1, .int a1)] [] 0 0 (hx s rd J I) := by
  intro a1 s rd J I e0 e1 e2 hf
  subst e0
  subst e1
  subst e2
  unfold x_X7_value_j58 at hf
  refine hv_aload_n hX dX7_value_58 rfl 0 rfl ?_
  refine hv_iload_n hX dX7_value_59 rfl 1 rfl ?_
  refine hv_if_le (tgt := 67) hX dX7_value_60 (by decide) (fun c5 => ?_) (fun c5 => ?_)
  · replace hf := hf.1 c5
    refine hv_iconst (v := 0) hX icx_0 dX7_value_67 ?_
    exact w_X7_value_j68 hX hN hE hT  _ _ _ _ _ _ rfl rfl rfl hf
  · replace hf := hf.2 c5
    refine hv_iconst (v := 1) hX icx_1 dX7_value_63 ?_
    refine hv_goto (tgt := 68) hX dX7_value_64 (by decide) ?_
    exact w_X7_value_j68 hX hN hE hT  _ _ _ _ _ _ rfl rfl rfl hf
def x_X7_value_l33 (QX : Nat → mI → Prop) (Q : mI → Prop) : Nat → Int32 → xS → xRd → mJ → mI → Prop
  | 0, _, _, _, _, _ => False
  | n + 1, a1, s, rd, J, I =>
    (a1 ≤ 0 →
      x_X7_value_j58 QX Q   a1 s rd J I) ∧ (¬ a1 ≤ 0 →
      vp_in (a1 - 1) 6 ∧ (∃ v15 : Nat, xR rd 94 (a1 - 1).toNatClampNeg = some (1000000 + v15) ∧ (x_X7_isWord v15 s rd J I (fun r16 => (r16 = 0 →
        x_X7_value_l33 QX Q   n (a1 + (-1)) s rd J I) ∧ (¬ r16 = 0 →
        x_X7_value_j58 QX Q   a1 s rd J I)))))
theorem w_X7_value_l33 {X : hh_CX} {S0 : xS} {R0 : xRd} {J0 : mJ} {QX : Nat → mI → Prop} {Q : mI → Prop} (hX : hh_C X cX7_value RX7 (hrx 5 108 0 0)) (hN : hh_nL X = 2) (hE : hh_EX X none (xQv (fun S9 R9 J9 I9 => S0 = S9 ∧ R0 = R9 ∧ J0 = J9 ∧ Q I9)) (xQX (fun c9 S9 R9 J9 I9 => S0 = S9 ∧ R0 = R9 ∧ J0 = J9 ∧ QX c9 I9)) 0 0) (hT : hh_XT X []) : ∀ (n : Nat) (a1 : Int32) (s : xS) (rd : xRd) (J : mJ) (I : mI), s = S0 → rd = R0 → J = J0 → x_X7_value_l33 QX Q  n a1 s rd J I → hh_V X 33 [(0, .ref 93), (1, .int a1)] [] 0 0 (hx s rd J I) := by
  intro n
  induction n with
  | zero => intro _ _ _ _ _ _ _ _ hf; exact hf.elim
  | succ n ih =>
    intro a1 s rd J I e0 e1 e2 hf
    subst e0
    subst e1
    subst e2
    unfold x_X7_value_l33 at hf
    refine hv_iload_n hX dX7_value_33 rfl 1 rfl ?_
    refine hv_if_le (tgt := 58) hX dX7_value_34 (by decide) (fun c4 => ?_) (fun c4 => ?_)
    · replace hf := hf.1 c4
      exact w_X7_value_j58 hX hN hE hT  _ _ _ _ _ rfl rfl rfl hf
    · replace hf := hf.2 c4
      refine hv_aload_n hX dX7_value_37 rfl 0 rfl ?_
      refine hv_aload_n hX dX7_value_38 rfl 0 rfl ?_
      refine hx_getR (v := 94) hX dX7_value_39 fl7_23_7 (xo_c (by decide) rfl) (xR_c rfl) ?_
      refine hv_iload_n hX dX7_value_42 rfl 1 rfl ?_
      refine hv_iconst (v := 1) hX icx_1 dX7_value_43 ?_
      refine hv_isub hX dX7_value_44 ?_
      obtain ⟨g, hf⟩ := hf
      obtain ⟨v15, gv15, hf⟩ := hf
      refine hx_aald (v := 1000000 + v15) (a := 26) hX 10 rfl (by decide) dX7_value_45 (xo_c (by decide) rfl) (xlen_c (by decide) rfl) g gv15 ?_
      refine hx_callVi (ci := 7) (q := (RX7, TX7, 11)) hX dX7_value_46 (ct_X7_isWord v15 s rd J I _ hf) (lw_V q987 q989 qs23 q113 q990) rfl (by decide) ⟨rfl, np_X7_isWord⟩ rfl (xo_c (by decide) rfl) rfl ⟨Nat.le_of_ble_eq_true rfl, Nat.le_of_ble_eq_true rfl⟩ ⟨Nat.le_of_ble_eq_true rfl, Nat.le_of_ble_eq_true rfl⟩ (Nat.le_of_ble_eq_true rfl) ?_
      intro r16 S9 R9 J9 I9 hq
      clear hf
      obtain ⟨rfl, rfl, rfl, rfl, hf⟩ := hq
      refine hv_if_ne (tgt := 58) hX dX7_value_49 (by decide) (fun c17 => ?_) (fun c17 => ?_)
      · replace hf := hf.2 c17
        exact w_X7_value_j58 hX hN hE hT  _ _ _ _ _ rfl rfl rfl hf
      · replace hf := hf.1 c17
        refine hv_iinc (v := (a1 + (-1))) (loc2 := [(1, .int (a1 + (-1))), (0, .ref 93)]) hX dX7_value_52 1 rfl (congrArg (fun y => a1 + y) icx_m1) hN (Nat.le_of_ble_eq_true rfl) rfl ?_
        refine hv_goto (tgt := 33) hX dX7_value_55 (by decide) ?_
        refine hv_fewer [1, 0] (loc2 := [(0, .ref 93), (1, .int (a1 + (-1)))]) rfl ?_
        exact ih _ _ _ _ _ rfl rfl rfl hf
def x_X7_value  (s : xS) (rd : xRd) (J : mJ) (I : mI) (QX : Nat → mI → Prop) (Q : mI → Prop) : Prop :=
  x_X7_here s rd J I (fun r1 => x_X7_isDigit r1 s rd J I (fun r2 => (r2 = 0 →
    ∃ n0 : Nat, x_X7_value_l33 QX Q   n0 6 s rd J I) ∧ (¬ r2 = 0 →
    x_X7_number 999 s rd J (u2 I 93 9 0) (fun c21 I20 => QX c21 I20) (fun r19 I18 => Q (u2 I18 93 10 r19)))))
theorem ct_X7_value   (s : xS) (rd : xRd) (J : mJ) (I : mI) (QX : Nat → mI → Prop) (Q : mI → Prop) (hf : x_X7_value  s rd J I QX Q) : hh_CtX yX7_value cX7_value 2 none 5 108 [.ref 93] (hx s rd J I) (xQv (fun S9 R9 J9 I9 => s = S9 ∧ rd = R9 ∧ J = J9 ∧ Q I9)) (xQX (fun c9 S9 R9 J9 I9 => s = S9 ∧ rd = R9 ∧ J = J9 ∧ QX c9 I9)) 0 0 := by
  refine hh_CtX.of (own := RX7) rfl (by decide +kernel) (Nat.le_of_ble_eq_true rfl) ?_
  intro X hX hN hE hT
  show hh_V X 0 [(0, .ref 93)] [] 0 0 (hx s rd J I)
  unfold x_X7_value at hf
  refine hv_aload_n hX dX7_value_0 rfl 0 rfl ?_
  refine hx_callVi (ci := 7) (q := (RX7, TX7, 11)) hX dX7_value_1 (ct_X7_here s rd J I _ hf) (lw_V q960 q962 qs19 q113 q963) rfl (by decide) ⟨rfl, np_X7_here⟩ rfl (xo_c (by decide) rfl) rfl ⟨Nat.le_of_ble_eq_true rfl, Nat.le_of_ble_eq_true rfl⟩ ⟨Nat.le_of_ble_eq_true rfl, Nat.le_of_ble_eq_true rfl⟩ (Nat.le_of_ble_eq_true rfl) ?_
  intro r1 S9 R9 J9 I9 hq
  clear hf
  obtain ⟨rfl, rfl, rfl, rfl, hf⟩ := hq
  refine hx_callSi hX dX7_value_4 (ct_X7_isDigit r1 s rd J I _ hf) (lw_S q967 q968 q113 q969) np_X7_isDigit rfl rfl ⟨Nat.le_of_ble_eq_true rfl, Nat.le_of_ble_eq_true rfl⟩ ⟨Nat.le_of_ble_eq_true rfl, Nat.le_of_ble_eq_true rfl⟩ (Nat.le_of_ble_eq_true rfl) ?_
  intro r2 S9 R9 J9 I9 hq
  clear hf
  obtain ⟨rfl, rfl, rfl, rfl, hf⟩ := hq
  refine hv_if_eq (tgt := 27) hX dX7_value_7 (by decide) (fun c3 => ?_) (fun c3 => ?_)
  · replace hf := hf.1 c3
    refine hv_aload_n hX dX7_value_27 rfl 0 rfl ?_
    refine hx_getR (v := 94) hX dX7_value_28 fl7_23_7 (xo_c (by decide) rfl) (xR_c rfl) ?_
    refine hx_alen (v := 6) hX 10 rfl dX7_value_31 (xo_c (by decide) rfl) (by rw [xlen_c (by decide) rfl]; rfl) ?_
    refine hv_istore_n (loc2 := [(1, .int 6), (0, .ref 93)]) hX dX7_value_32 rfl hN (Nat.le_of_ble_eq_true rfl) rfl ?_
    refine hv_fewer [1, 0] (loc2 := [(0, .ref 93), (1, .int 6)]) rfl ?_
    obtain ⟨n0, hf⟩ := hf
    exact w_X7_value_l33 hX hN hE hT  n0 _ _ _ _ _ rfl rfl rfl hf
  · replace hf := hf.2 c3
    refine hv_aload_n hX dX7_value_10 rfl 0 rfl ?_
    refine hv_iconst (v := 0) hX icx_0 dX7_value_11 ?_
    refine hx_putI hX dX7_value_12 fl7_88_7 (xo_c (by decide) rfl) ?_
    refine hv_aload_n hX dX7_value_15 rfl 0 rfl ?_
    refine hv_aload_n hX dX7_value_16 rfl 0 rfl ?_
    refine hv_sipush (v := 999) hX six_999 dX7_value_17 ?_
    refine hx_callVXi (ci := 7) (q := (RX7, TX7, 11)) hX dX7_value_20 (ct_X7_number 999 s rd J (u2 I 93 9 0) _ _ hf) (lw_V q1044 q1046 qs25 q113 q1047) rfl (by decide) ⟨rfl, np_X7_number⟩ rfl (xo_c (by decide) rfl) rfl ⟨Nat.le_of_ble_eq_true rfl, Nat.le_of_ble_eq_true rfl⟩ ⟨Nat.le_of_ble_eq_true rfl, Nat.le_of_ble_eq_true rfl⟩ (Nat.le_of_ble_eq_true rfl) ?_ ?_
    · intro c21 S9 R9 J9 I20 hq
      clear hf
      obtain ⟨rfl, rfl, rfl, hf⟩ := hq
      exact hx_out (c := c21) hX hE hT ⟨Nat.le_of_ble_eq_true rfl, Nat.le_of_ble_eq_true rfl⟩ ⟨rfl, rfl, rfl, hf⟩
    intro r19 S9 R9 J9 I18 hq
    clear hf
    obtain ⟨rfl, rfl, rfl, hf⟩ := hq
    refine hx_putI hX dX7_value_23 fl7_95_7 (xo_c (by decide) rfl) ?_
    exact hv_xret hX hE (fun X hX hE => hx_vret hX hE dX7_value_26 ⟨rfl, rfl, rfl, hf⟩)
/-! HungryHedge$Reader.compared()LHungryHedge$Cond; -/
def x_X7_compared_j43 (QX : Nat → xS → xRd → mJ → mI → Prop) (Q : Nat → xS → xRd → mJ → mI → Prop) (a1 : Int32) (a2 : Int32) (a3 : Int32) (p1 : Int32) (s : xS) (rd : xRd) (J : mJ) (I : mI) : Prop :=
  x_X7_need p1 s rd J I (fun c8 I7 => QX c8 s rd J I7) (fun I6 => x_X7_next s rd J I6 (fun I9 => x_X7_value s rd J I9 (fun c12 I11 => QX c12 s rd J I11) (fun I10 => xnw s rd J I10 17 5 (fun q13 s14 rd15 J16 I17 => x_X17_init q13 a1 a2 a3 (I17 93 9) (I17 93 10) s14 rd15 J16 I17 (fun I19 => Q q13 s14 rd15 J16 I19)))))
theorem w_X7_compared_j43 {X : hh_CX}  {QX : Nat → xS → xRd → mJ → mI → Prop} {Q : Nat → xS → xRd → mJ → mI → Prop} (hX : hh_C X cX7_compared RX7 (hrx 6 129 1 5)) (hN : hh_nL X = 4) (hE : hh_EX X (some (.object "HungryHedge$Cond")) (xQr (fun r9 S9 R9 J9 I9 => Q r9 S9 R9 J9 I9)) (xQX (fun c9 S9 R9 J9 I9 => QX c9 S9 R9 J9 I9)) 1 5) (hT : hh_XT X []) : ∀ (a1 : Int32) (a2 : Int32) (a3 : Int32) (p1 : Int32) (s : xS) (rd : xRd) (J : mJ) (I : mI), x_X7_compared_j43 QX Q  a1 a2 a3 p1 s rd J I → hh_V X 43 [(0, .ref 93), (1, .int a1), (2, .int a2), (3, .int a3)] [.int p1, .ref 93] 0 0 (hx s rd J I) := by
  intro a1 a2 a3 p1 s rd J I  hf
  unfold x_X7_compared_j43 at hf
  refine hx_callVXv (ci := 7) (q := (RX7, TX7, 11)) hX dX7_compared_43 (ct_X7_need p1 s rd J I _ _ hf) (lw_V q974 q976 qs21 q113 q977) rfl (by decide) ⟨rfl, np_X7_need⟩ rfl (xo_c (by decide) rfl) rfl ⟨Nat.le_of_ble_eq_true rfl, Nat.le_of_ble_eq_true rfl⟩ ⟨Nat.le_of_ble_eq_true rfl, Nat.le_of_ble_eq_true rfl⟩ (Nat.le_of_ble_eq_true rfl) ?_ ?_
  · intro c8 S9 R9 J9 I7 hq
    clear hf
    obtain ⟨rfl, rfl, rfl, hf⟩ := hq
    exact hx_out (c := c8) hX hE hT ⟨Nat.le_of_ble_eq_true rfl, Nat.le_of_ble_eq_true rfl⟩ hf
  intro  S9 R9 J9 I6 hq
  clear hf
  obtain ⟨rfl, rfl, rfl, hf⟩ := hq
  refine hv_aload_n hX dX7_compared_46 rfl 0 rfl ?_
  refine hx_callVv (ci := 7) (q := (RX7, TX7, 11)) hX dX7_compared_47 (ct_X7_next s rd J I6 _ hf) (lw_V q956 q958 qs18 q113 q959) rfl (by decide) ⟨rfl, np_X7_next⟩ rfl (xo_c (by decide) rfl) rfl ⟨Nat.le_of_ble_eq_true rfl, Nat.le_of_ble_eq_true rfl⟩ ⟨Nat.le_of_ble_eq_true rfl, Nat.le_of_ble_eq_true rfl⟩ (Nat.le_of_ble_eq_true rfl) ?_
  intro  S9 R9 J9 I9 hq
  clear hf
  obtain ⟨rfl, rfl, rfl, hf⟩ := hq
  refine hv_aload_n hX dX7_compared_50 rfl 0 rfl ?_
  refine hx_callVXv (ci := 7) (q := (RX7, TX7, 11)) hX dX7_compared_51 (ct_X7_value s rd J I9 _ _ hf) (lw_V q1067 q1069 qs30 q113 q1070) rfl (by decide) ⟨rfl, np_X7_value⟩ rfl (xo_c (by decide) rfl) rfl ⟨Nat.le_of_ble_eq_true rfl, Nat.le_of_ble_eq_true rfl⟩ ⟨Nat.le_of_ble_eq_true rfl, Nat.le_of_ble_eq_true rfl⟩ (Nat.le_of_ble_eq_true rfl) ?_ ?_
  · intro c12 S9 R9 J9 I11 hq
    clear hf
    obtain ⟨rfl, rfl, rfl, hf⟩ := hq
    exact hx_out (c := c12) hX hE hT ⟨Nat.le_of_ble_eq_true rfl, Nat.le_of_ble_eq_true rfl⟩ hf
  intro  S9 R9 J9 I10 hq
  clear hf
  obtain ⟨rfl, rfl, rfl, hf⟩ := hq
  refine hx_new hX dX7_compared_54 nl7_100 hf ⟨Nat.le_of_ble_eq_true rfl, Nat.le_of_ble_eq_true rfl⟩ ?_
  intro q13 s14 rd15 J16 I17 hf o18 mono
  refine hv_dup hX rfl dX7_compared_57 ?_
  refine hv_iload_n hX dX7_compared_58 rfl 1 rfl ?_
  refine hv_iload_n hX dX7_compared_59 rfl 2 rfl ?_
  refine hv_iload_n hX dX7_compared_60 rfl 3 rfl ?_
  refine hv_aload_n hX dX7_compared_61 rfl 0 rfl ?_
  refine hx_getI (v := (I17 93 9)) hX dX7_compared_62 fl7_88_7 (.inl rfl) (xo_c (by decide) rfl) rfl ?_
  refine hv_aload_n hX dX7_compared_65 rfl 0 rfl ?_
  refine hx_getI (v := (I17 93 10)) hX dX7_compared_66 fl7_95_7 (.inl rfl) (xo_c (by decide) rfl) rfl ?_
  refine hx_callIv (ci := 17) (q := (RX17, TX17, 5)) hX dX7_compared_69 (ct_X17_init q13 a1 a2 a3 (I17 93 9) (I17 93 10) s14 rd15 J16 I17 _ hf) q1073 rfl q1075 q134 q1074 rfl (by decide) np_X17_init rfl o18 rfl ⟨Nat.le_of_ble_eq_true rfl, Nat.le_of_ble_eq_true rfl⟩ ⟨Nat.le_of_ble_eq_true rfl, Nat.le_of_ble_eq_true rfl⟩ (Nat.le_of_ble_eq_true rfl) ?_
  intro  S9 R9 J9 I19 hq
  clear hf
  obtain ⟨rfl, rfl, rfl, hf⟩ := hq
  exact hv_xret hX hE (fun X hX hE => hx_aret hX hE (.inl ⟨_, rfl⟩) dX7_compared_72 hf)
def x_X7_compared_j38 (QX : Nat → xS → xRd → mJ → mI → Prop) (Q : Nat → xS → xRd → mJ → mI → Prop) (a1 : Int32) (a2 : Int32) (a3 : Int32) (s : xS) (rd : xRd) (J : mJ) (I : mI) : Prop :=
  x_X7_compared_j43 QX Q   a1 a2 a3 1 s rd J I
theorem w_X7_compared_j38 {X : hh_CX}  {QX : Nat → xS → xRd → mJ → mI → Prop} {Q : Nat → xS → xRd → mJ → mI → Prop} (hX : hh_C X cX7_compared RX7 (hrx 6 129 1 5)) (hN : hh_nL X = 4) (hE : hh_EX X (some (.object "HungryHedge$Cond")) (xQr (fun r9 S9 R9 J9 I9 => Q r9 S9 R9 J9 I9)) (xQX (fun c9 S9 R9 J9 I9 => QX c9 S9 R9 J9 I9)) 1 5) (hT : hh_XT X []) : ∀ (a1 : Int32) (a2 : Int32) (a3 : Int32) (s : xS) (rd : xRd) (J : mJ) (I : mI), x_X7_compared_j38 QX Q  a1 a2 a3 s rd J I → hh_V X 38 [(0, .ref 93), (1, .int a1), (2, .int a2), (3, .int a3)] [.ref 93] 0 0 (hx s rd J I) := by
  intro a1 a2 a3 s rd J I  hf
  unfold x_X7_compared_j38 at hf
  refine hv_iconst (v := 1) hX icx_1 dX7_compared_38 ?_
  refine hv_goto (tgt := 43) hX dX7_compared_39 (by decide) ?_
  exact w_X7_compared_j43 hX hN hE hT  _ _ _ _ _ _ _ _ hf
def x_X7_compared  (s : xS) (rd : xRd) (J : mJ) (I : mI) (QX : Nat → xS → xRd → mJ → mI → Prop) (Q : Nat → xS → xRd → mJ → mI → Prop) : Prop :=
  x_X7_value s rd J I (fun c3 I2 => QX c3 s rd J I2) (fun I1 => x_X7_here s rd J I1 (fun r4 => (r4 = 60 →
    x_X7_compared_j38 QX Q   (I1 93 9) (I1 93 10) r4 s rd J I1) ∧ (¬ r4 = 60 →
    (r4 = 61 →
      x_X7_compared_j38 QX Q   (I1 93 9) (I1 93 10) r4 s rd J I1) ∧ (¬ r4 = 61 →
      (r4 = 62 →
        x_X7_compared_j38 QX Q   (I1 93 9) (I1 93 10) r4 s rd J I1) ∧ (¬ r4 = 62 →
        x_X7_compared_j43 QX Q   (I1 93 9) (I1 93 10) r4 0 s rd J I1)))))
theorem ct_X7_compared   (s : xS) (rd : xRd) (J : mJ) (I : mI) (QX : Nat → xS → xRd → mJ → mI → Prop) (Q : Nat → xS → xRd → mJ → mI → Prop) (hf : x_X7_compared  s rd J I QX Q) : hh_CtX yX7_compared cX7_compared 4 (some (.object "HungryHedge$Cond")) 6 129 [.ref 93] (hx s rd J I) (xQr (fun r9 S9 R9 J9 I9 => Q r9 S9 R9 J9 I9)) (xQX (fun c9 S9 R9 J9 I9 => QX c9 S9 R9 J9 I9)) 1 5 := by
  refine hh_CtX.of (own := RX7) rfl (by decide +kernel) (Nat.le_of_ble_eq_true rfl) ?_
  intro X hX hN hE hT
  show hh_V X 0 [(0, .ref 93)] [] 0 0 (hx s rd J I)
  unfold x_X7_compared at hf
  refine hv_aload_n hX dX7_compared_0 rfl 0 rfl ?_
  refine hx_callVXv (ci := 7) (q := (RX7, TX7, 11)) hX dX7_compared_1 (ct_X7_value s rd J I _ _ hf) (lw_V q1067 q1069 qs30 q113 q1070) rfl (by decide) ⟨rfl, np_X7_value⟩ rfl (xo_c (by decide) rfl) rfl ⟨Nat.le_of_ble_eq_true rfl, Nat.le_of_ble_eq_true rfl⟩ ⟨Nat.le_of_ble_eq_true rfl, Nat.le_of_ble_eq_true rfl⟩ (Nat.le_of_ble_eq_true rfl) ?_ ?_
  · intro c3 S9 R9 J9 I2 hq
    clear hf
    obtain ⟨rfl, rfl, rfl, hf⟩ := hq
    exact hx_out (c := c3) hX hE hT ⟨Nat.le_of_ble_eq_true rfl, Nat.le_of_ble_eq_true rfl⟩ hf
  intro  S9 R9 J9 I1 hq
  clear hf
  obtain ⟨rfl, rfl, rfl, hf⟩ := hq
  refine hv_aload_n hX dX7_compared_4 rfl 0 rfl ?_
  refine hx_getI (v := (I1 93 9)) hX dX7_compared_5 fl7_88_7 (.inl rfl) (xo_c (by decide) rfl) rfl ?_
  refine hv_istore_n (loc2 := [(1, .int (I1 93 9)), (0, .ref 93)]) hX dX7_compared_8 rfl hN (Nat.le_of_ble_eq_true rfl) rfl ?_
  refine hv_aload_n hX dX7_compared_9 rfl 1 rfl ?_
  refine hx_getI (v := (I1 93 10)) hX dX7_compared_10 fl7_95_7 (.inl rfl) (xo_c (by decide) rfl) rfl ?_
  refine hv_istore_n (loc2 := [(2, .int (I1 93 10)), (1, .int (I1 93 9)), (0, .ref 93)]) hX dX7_compared_13 rfl hN (Nat.le_of_ble_eq_true rfl) rfl ?_
  refine hv_aload_n hX dX7_compared_14 rfl 2 rfl ?_
  refine hx_callVi (ci := 7) (q := (RX7, TX7, 11)) hX dX7_compared_15 (ct_X7_here s rd J I1 _ hf) (lw_V q960 q962 qs19 q113 q963) rfl (by decide) ⟨rfl, np_X7_here⟩ rfl (xo_c (by decide) rfl) rfl ⟨Nat.le_of_ble_eq_true rfl, Nat.le_of_ble_eq_true rfl⟩ ⟨Nat.le_of_ble_eq_true rfl, Nat.le_of_ble_eq_true rfl⟩ (Nat.le_of_ble_eq_true rfl) ?_
  intro r4 S9 R9 J9 I9 hq
  clear hf
  obtain ⟨rfl, rfl, rfl, rfl, hf⟩ := hq
  refine hv_istore_n (loc2 := [(3, .int r4), (2, .int (I1 93 10)), (1, .int (I1 93 9)), (0, .ref 93)]) hX dX7_compared_18 rfl hN (Nat.le_of_ble_eq_true rfl) rfl ?_
  refine hv_aload_n hX dX7_compared_19 rfl 3 rfl ?_
  refine hv_iload_n hX dX7_compared_20 rfl 0 rfl ?_
  refine hv_bipush (v := 60) hX bix_60 dX7_compared_21 ?_
  refine hv_icmp_eq (tgt := 38) hX dX7_compared_23 (by decide) (fun c5 => ?_) (fun c5 => ?_)
  · replace hf := hf.1 c5
    refine hv_fewer [3, 2, 1, 0] (loc2 := [(0, .ref 93), (1, .int (I1 93 9)), (2, .int (I1 93 10)), (3, .int r4)]) rfl ?_
    exact w_X7_compared_j38 hX hN hE hT  _ _ _ _ _ _ _ hf
  · replace hf := hf.2 c5
    refine hv_iload_n hX dX7_compared_26 rfl 0 rfl ?_
    refine hv_bipush (v := 61) hX bix_61 dX7_compared_27 ?_
    refine hv_icmp_eq (tgt := 38) hX dX7_compared_29 (by decide) (fun c20 => ?_) (fun c20 => ?_)
    · replace hf := hf.1 c20
      refine hv_fewer [3, 2, 1, 0] (loc2 := [(0, .ref 93), (1, .int (I1 93 9)), (2, .int (I1 93 10)), (3, .int r4)]) rfl ?_
      exact w_X7_compared_j38 hX hN hE hT  _ _ _ _ _ _ _ hf
    · replace hf := hf.2 c20
      refine hv_iload_n hX dX7_compared_32 rfl 0 rfl ?_
      refine hv_bipush (v := 62) hX bix_62 dX7_compared_33 ?_
      refine hv_icmp_ne (tgt := 42) hX dX7_compared_35 (by decide) (fun c21 => ?_) (fun c21 => ?_)
      · replace hf := hf.2 c21
        refine hv_iconst (v := 0) hX icx_0 dX7_compared_42 ?_
        refine hv_fewer [3, 2, 1, 0] (loc2 := [(0, .ref 93), (1, .int (I1 93 9)), (2, .int (I1 93 10)), (3, .int r4)]) rfl ?_
        exact w_X7_compared_j43 hX hN hE hT  _ _ _ _ _ _ _ _ hf
      · replace hf := hf.1 c21
        refine hv_fewer [3, 2, 1, 0] (loc2 := [(0, .ref 93), (1, .int (I1 93 9)), (2, .int (I1 93 10)), (3, .int r4)]) rfl ?_
        exact w_X7_compared_j38 hX hN hE hT  _ _ _ _ _ _ _ hf
/-! HungryHedge$Reader.must(Ljava/lang/String;)V -/
def x_X7_must (a1 : Nat) (s : xS) (rd : xRd) (J : mJ) (I : mI) (QX : Nat → mI → Prop) (Q : mI → Prop) : Prop :=
  x_X7_isWord a1 s rd J I (fun r1 => x_X7_need r1 s rd J I (fun c4 I3 => QX c4 I3) (fun I2 => x_X7_next s rd J I2 (fun I5 => Q I5)))
theorem ct_X7_must  (a1 : Nat) (s : xS) (rd : xRd) (J : mJ) (I : mI) (QX : Nat → mI → Prop) (Q : mI → Prop) (hf : x_X7_must a1 s rd J I QX Q) : hh_CtX yX7_must cX7_must 2 none 5 108 [.ref 93, .ref (1000000 + a1)] (hx s rd J I) (xQv (fun S9 R9 J9 I9 => s = S9 ∧ rd = R9 ∧ J = J9 ∧ Q I9)) (xQX (fun c9 S9 R9 J9 I9 => s = S9 ∧ rd = R9 ∧ J = J9 ∧ QX c9 I9)) 0 0 := by
  refine hh_CtX.of (own := RX7) rfl (by decide +kernel) (Nat.le_of_ble_eq_true rfl) ?_
  intro X hX hN hE hT
  show hh_V X 0 [(0, .ref 93), (1, .ref (1000000 + a1))] [] 0 0 (hx s rd J I)
  unfold x_X7_must at hf
  refine hv_aload_n hX dX7_must_0 rfl 0 rfl ?_
  refine hv_aload_n hX dX7_must_1 rfl 0 rfl ?_
  refine hv_aload_n hX dX7_must_2 rfl 1 rfl ?_
  refine hx_callVi (ci := 7) (q := (RX7, TX7, 11)) hX dX7_must_3 (ct_X7_isWord a1 s rd J I _ hf) (lw_V q987 q989 qs23 q113 q990) rfl (by decide) ⟨rfl, np_X7_isWord⟩ rfl (xo_c (by decide) rfl) rfl ⟨Nat.le_of_ble_eq_true rfl, Nat.le_of_ble_eq_true rfl⟩ ⟨Nat.le_of_ble_eq_true rfl, Nat.le_of_ble_eq_true rfl⟩ (Nat.le_of_ble_eq_true rfl) ?_
  intro r1 S9 R9 J9 I9 hq
  clear hf
  obtain ⟨rfl, rfl, rfl, rfl, hf⟩ := hq
  refine hx_callVXv (ci := 7) (q := (RX7, TX7, 11)) hX dX7_must_6 (ct_X7_need r1 s rd J I _ _ hf) (lw_V q974 q976 qs21 q113 q977) rfl (by decide) ⟨rfl, np_X7_need⟩ rfl (xo_c (by decide) rfl) rfl ⟨Nat.le_of_ble_eq_true rfl, Nat.le_of_ble_eq_true rfl⟩ ⟨Nat.le_of_ble_eq_true rfl, Nat.le_of_ble_eq_true rfl⟩ (Nat.le_of_ble_eq_true rfl) ?_ ?_
  · intro c4 S9 R9 J9 I3 hq
    clear hf
    obtain ⟨rfl, rfl, rfl, hf⟩ := hq
    exact hx_out (c := c4) hX hE hT ⟨Nat.le_of_ble_eq_true rfl, Nat.le_of_ble_eq_true rfl⟩ ⟨rfl, rfl, rfl, hf⟩
  intro  S9 R9 J9 I2 hq
  clear hf
  obtain ⟨rfl, rfl, rfl, hf⟩ := hq
  refine hv_aload_n hX dX7_must_9 rfl 0 rfl ?_
  refine hx_callVv (ci := 7) (q := (RX7, TX7, 11)) hX dX7_must_10 (ct_X7_next s rd J I2 _ hf) (lw_V q956 q958 qs18 q113 q959) rfl (by decide) ⟨rfl, np_X7_next⟩ rfl (xo_c (by decide) rfl) rfl ⟨Nat.le_of_ble_eq_true rfl, Nat.le_of_ble_eq_true rfl⟩ ⟨Nat.le_of_ble_eq_true rfl, Nat.le_of_ble_eq_true rfl⟩ (Nat.le_of_ble_eq_true rfl) ?_
  intro  S9 R9 J9 I5 hq
  clear hf
  obtain ⟨rfl, rfl, rfl, hf⟩ := hq
  exact hv_xret hX hE (fun X hX hE => hx_vret hX hE dX7_must_13 ⟨rfl, rfl, rfl, hf⟩)
/-! HungryHedge$Reader.one()LHungryHedge$Cond; -/
def x_X7_one_j93 (QX : Nat → xS → xRd → mJ → mI → Prop) (Q : Nat → xS → xRd → mJ → mI → Prop) (pf : Nat → xS → xRd → mJ → mI → (Nat → xS → xRd → mJ → mI → Prop) → (Nat → xS → xRd → mJ → mI → Prop) → Prop) (a1 : Int32) (a2 : Nat) (bb : Nat) (s : xS) (rd : xRd) (J : mJ) (I : mI) : Prop :=
  (a1 = 0 →
    Q a2 s rd J I) ∧ (¬ a1 = 0 →
    ∃ b24 : Nat, bb = b24 + 1 ∧ (xnw s rd J I 18 1 (fun q18 s19 rd20 J21 I22 => x_X18_init q18 a2 s19 rd20 J21 I22 (fun rd25 => Q q18 s19 rd25 J21 I22))))
theorem w_X7_one_j93 {X : hh_CX} {MC MS : Nat} {pf : Nat → xS → xRd → mJ → mI → (Nat → xS → xRd → mJ → mI → Prop) → (Nat → xS → xRd → mJ → mI → Prop) → Prop} {F L : Nat}  {QX : Nat → xS → xRd → mJ → mI → Prop} {Q : Nat → xS → xRd → mJ → mI → Prop} (hX : hh_C X cX7_one RX7 (hrx (F + 7) (L + 200) MC MS)) (hN : hh_nL X = 3) (hE : hh_EX X (some (.object "HungryHedge$Cond")) (xQr (fun r9 S9 R9 J9 I9 => Q r9 S9 R9 J9 I9)) (xQX (fun c9 S9 R9 J9 I9 => QX c9 S9 R9 J9 I9)) MC MS) (hT : hh_XT X []) (hpf : ∀ (bb : Nat) (s : xS) (rd : xRd) (J : mJ) (I : mI) (QX : Nat → xS → xRd → mJ → mI → Prop) (Q : Nat → xS → xRd → mJ → mI → Prop), pf bb s rd J I QX Q → hh_CtX yX7_cond cX7_cond 2 (some (.object "HungryHedge$Cond")) F L [.ref 93] (hx s rd J I) (xQr (fun r9 S9 R9 J9 I9 => Q r9 S9 R9 J9 I9)) (xQX (fun c9 S9 R9 J9 I9 => QX c9 S9 R9 J9 I9)) bb (5 * bb)) : ∀ (a1 : Int32) (a2 : Nat) (bb : Nat) (s : xS) (rd : xRd) (J : mJ) (I : mI), x_X7_one_j93 QX Q pf  a1 a2 bb s rd J I → ∀ z k : Nat, z + bb ≤ MC → k + 5 * bb ≤ MS → hh_V X 93 [(1, .int a1), (2, .ref a2)] [] z k (hx s rd J I) := by
  intro a1 a2 bb s rd J I  hf
  intro z k hz hk
  unfold x_X7_one_j93 at hf
  refine hv_iload_n hX dX7_one_93 rfl 0 rfl ?_
  refine hv_if_eq (tgt := 108) hX dX7_one_94 (by decide) (fun c17 => ?_) (fun c17 => ?_)
  · replace hf := hf.1 c17
    refine hv_aload_n hX dX7_one_108 rfl 1 rfl ?_
    refine hv_widen (z' := MC) (k' := MS) (by omega) (by omega) ?_
    exact hv_xret hX hE (fun X hX hE => hx_aret hX hE (.inl ⟨_, rfl⟩) dX7_one_109 hf)
  · replace hf := hf.2 c17
    obtain ⟨b24, eb24, hf⟩ := hf
    refine hx_new hX dX7_one_97 nl7_126 hf ⟨by dsimp only [hrx]; omega, by dsimp only [hrx]; omega⟩ ?_
    intro q18 s19 rd20 J21 I22 hf o23 mono
    refine hv_bud (b := b24) (MC := MC) (MS := MS) ?_ (by omega) (by omega)
    clear hz hk
    intro z k hz hk
    refine hv_dup hX rfl dX7_one_100 ?_
    refine hv_aload_n hX dX7_one_101 rfl 1 rfl ?_
    refine hx_callIv (ci := 18) (q := (RX18, TX18, 1)) hX dX7_one_102 (ct_X18_init q18 a2 s19 rd20 J21 I22 _ hf) q1095 rfl q1097 q135 q1096 rfl (by decide) np_X18_init rfl o23 rfl ⟨by dsimp only [hrx]; omega, by dsimp only [hrx]; omega⟩ ⟨by dsimp only [hrx]; omega, by dsimp only [hrx]; omega⟩ (Nat.le_of_ble_eq_true rfl) ?_
    intro  S9 rd25 J9 I9 hq
    clear hf
    obtain ⟨rfl, rfl, rfl, hf⟩ := hq
    refine hv_bud (b := b24) (MC := MC) (MS := MS) ?_ (by omega) (by omega)
    clear hz hk
    intro z k hz hk
    refine hv_goto (tgt := 109) hX dX7_one_105 (by decide) ?_
    refine hv_widen (z' := MC) (k' := MS) (by omega) (by omega) ?_
    exact hv_xret hX hE (fun X hX hE => hx_aret hX hE (.inl ⟨_, rfl⟩) dX7_one_109 hf)
def x_X7_one_j47 (QX : Nat → xS → xRd → mJ → mI → Prop) (Q : Nat → xS → xRd → mJ → mI → Prop) (pf : Nat → xS → xRd → mJ → mI → (Nat → xS → xRd → mJ → mI → Prop) → (Nat → xS → xRd → mJ → mI → Prop) → Prop) (a1 : Int32) (p1 : Int32) (bb : Nat) (s : xS) (rd : xRd) (J : mJ) (I : mI) : Prop :=
  x_X7_need p1 s rd J I (fun c29 I28 => QX c29 s rd J I28) (fun I27 => x_X7_next s rd J (u2 I27 93 7 ((I27 93 7) + 1)) (fun I30 => ∃ b31 b32 : Nat, bb = b31 + b32 ∧ (pf b31 s rd J I30 (fun c42 s38 rd39 J40 I41 => QX c42 s38 rd39 J40 I41) (fun r37 s33 rd34 J35 I36 => x_X7_must 9 s33 rd34 J35 I36 (fun c45 I44 => QX c45 s33 rd34 J35 I44) (fun I43 => x_X7_one_j93 QX Q pf   a1 r37 b32 s33 rd34 J35 (u2 I43 93 7 ((I43 93 7) - 1)))))))
theorem w_X7_one_j47 {X : hh_CX} {MC MS : Nat} {pf : Nat → xS → xRd → mJ → mI → (Nat → xS → xRd → mJ → mI → Prop) → (Nat → xS → xRd → mJ → mI → Prop) → Prop} {F L : Nat}  {QX : Nat → xS → xRd → mJ → mI → Prop} {Q : Nat → xS → xRd → mJ → mI → Prop} (hX : hh_C X cX7_one RX7 (hrx (F + 7) (L + 200) MC MS)) (hN : hh_nL X = 3) (hE : hh_EX X (some (.object "HungryHedge$Cond")) (xQr (fun r9 S9 R9 J9 I9 => Q r9 S9 R9 J9 I9)) (xQX (fun c9 S9 R9 J9 I9 => QX c9 S9 R9 J9 I9)) MC MS) (hT : hh_XT X []) (hpf : ∀ (bb : Nat) (s : xS) (rd : xRd) (J : mJ) (I : mI) (QX : Nat → xS → xRd → mJ → mI → Prop) (Q : Nat → xS → xRd → mJ → mI → Prop), pf bb s rd J I QX Q → hh_CtX yX7_cond cX7_cond 2 (some (.object "HungryHedge$Cond")) F L [.ref 93] (hx s rd J I) (xQr (fun r9 S9 R9 J9 I9 => Q r9 S9 R9 J9 I9)) (xQX (fun c9 S9 R9 J9 I9 => QX c9 S9 R9 J9 I9)) bb (5 * bb)) : ∀ (a1 : Int32) (p1 : Int32) (bb : Nat) (s : xS) (rd : xRd) (J : mJ) (I : mI), x_X7_one_j47 QX Q pf  a1 p1 bb s rd J I → ∀ z k : Nat, z + bb ≤ MC → k + 5 * bb ≤ MS → hh_V X 47 [(0, .ref 93), (1, .int a1)] [.int p1, .ref 93] z k (hx s rd J I) := by
  intro a1 p1 bb s rd J I  hf
  intro z k hz hk
  unfold x_X7_one_j47 at hf
  refine hx_callVXv (ci := 7) (q := (RX7, TX7, 11)) hX dX7_one_47 (ct_X7_need p1 s rd J I _ _ hf) (lw_V q974 q976 qs21 q113 q977) rfl (by decide) ⟨rfl, np_X7_need⟩ rfl (xo_c (by decide) rfl) rfl ⟨by dsimp only [hrx]; omega, by dsimp only [hrx]; omega⟩ ⟨by dsimp only [hrx]; omega, by dsimp only [hrx]; omega⟩ (Nat.le_of_ble_eq_true rfl) ?_ ?_
  · intro c29 S9 R9 J9 I28 hq
    clear hf
    obtain ⟨rfl, rfl, rfl, hf⟩ := hq
    exact hx_out (c := c29) hX hE hT ⟨by omega, by omega⟩ hf
  intro  S9 R9 J9 I27 hq
  clear hf
  obtain ⟨rfl, rfl, rfl, hf⟩ := hq
  refine hv_bud (b := bb) (MC := MC) (MS := MS) ?_ (by omega) (by omega)
  clear hz hk
  intro z k hz hk
  refine hv_aload_n hX dX7_one_50 rfl 0 rfl ?_
  refine hv_dup hX rfl dX7_one_51 ?_
  refine hx_getI (v := (I27 93 7)) hX dX7_one_52 fl7_110_7 (.inl rfl) (xo_c (by decide) rfl) rfl ?_
  refine hv_iconst (v := 1) hX icx_1 dX7_one_55 ?_
  refine hv_iadd hX dX7_one_56 ?_
  refine hx_putI hX dX7_one_57 fl7_110_7 (xo_c (by decide) rfl) ?_
  refine hv_aload_n hX dX7_one_60 rfl 0 rfl ?_
  refine hx_callVv (ci := 7) (q := (RX7, TX7, 11)) hX dX7_one_61 (ct_X7_next s rd J (u2 I27 93 7 ((I27 93 7) + 1)) _ hf) (lw_V q956 q958 qs18 q113 q959) rfl (by decide) ⟨rfl, np_X7_next⟩ rfl (xo_c (by decide) rfl) rfl ⟨by dsimp only [hrx]; omega, by dsimp only [hrx]; omega⟩ ⟨by dsimp only [hrx]; omega, by dsimp only [hrx]; omega⟩ (Nat.le_of_ble_eq_true rfl) ?_
  intro  S9 R9 J9 I30 hq
  clear hf
  obtain ⟨rfl, rfl, rfl, hf⟩ := hq
  refine hv_bud (b := bb) (MC := MC) (MS := MS) ?_ (by omega) (by omega)
  clear hz hk
  intro z k hz hk
  refine hv_aload_n hX dX7_one_64 rfl 0 rfl ?_
  obtain ⟨b31, b32, eb32, hf⟩ := hf
  refine hx_callVXr (ci := 7) (q := (RX7, TX7, 11)) hX dX7_one_65 (hpf  b31 s rd J I30 _ _ hf) (lw_V q1049 q1051 qs26 q113 q1052) rfl (by decide) ⟨rfl, np_X7_cond⟩ rfl (xo_c (by decide) rfl) rfl ⟨by dsimp only [hrx]; omega, by dsimp only [hrx]; omega⟩ ⟨by dsimp only [hrx]; omega, by dsimp only [hrx]; omega⟩ (Nat.le_of_ble_eq_true rfl) ?_ ?_
  · intro c42 s38 rd39 J40 I41 hq
    clear hf
    have hf := hq
    exact hx_out (c := c42) hX hE hT ⟨by omega, by omega⟩ hf
  intro r37 s33 rd34 J35 I36 hq
  clear hf
  have hf := hq
  refine hv_bud (b := b32) (MC := MC) (MS := MS) ?_ (by omega) (by omega)
  clear hz hk
  intro z k hz hk
  refine hv_astore_n (loc2 := [(2, .ref r37), (0, .ref 93), (1, .int a1)]) hX dX7_one_68 rfl hN (Nat.le_of_ble_eq_true rfl) rfl ?_
  refine hv_aload_n hX dX7_one_69 rfl 1 rfl ?_
  refine hv_ldcS (i := 9) (tx := ")") hX rfl rfl dX7_one_70 ?_
  refine hx_callVXv (ci := 7) (q := (RX7, TX7, 11)) hX dX7_one_72 (ct_X7_must 9 s33 rd34 J35 I36 _ _ hf) (lw_V q1040 q1042 qs24 q113 q1043) rfl (by decide) ⟨rfl, np_X7_must⟩ rfl (xo_c (by decide) rfl) rfl ⟨by dsimp only [hrx]; omega, by dsimp only [hrx]; omega⟩ ⟨by dsimp only [hrx]; omega, by dsimp only [hrx]; omega⟩ (Nat.le_of_ble_eq_true rfl) ?_ ?_
  · intro c45 S9 R9 J9 I44 hq
    clear hf
    obtain ⟨rfl, rfl, rfl, hf⟩ := hq
    exact hx_out (c := c45) hX hE hT ⟨by omega, by omega⟩ hf
  intro  S9 R9 J9 I43 hq
  clear hf
  obtain ⟨rfl, rfl, rfl, hf⟩ := hq
  refine hv_bud (b := b32) (MC := MC) (MS := MS) ?_ (by omega) (by omega)
  clear hz hk
  intro z k hz hk
  refine hv_aload_n hX dX7_one_75 rfl 1 rfl ?_
  refine hv_dup hX rfl dX7_one_76 ?_
  refine hx_getI (v := (I43 93 7)) hX dX7_one_77 fl7_110_7 (.inl rfl) (xo_c (by decide) rfl) rfl ?_
  refine hv_iconst (v := 1) hX icx_1 dX7_one_80 ?_
  refine hv_isub hX dX7_one_81 ?_
  refine hx_putI hX dX7_one_82 fl7_110_7 (xo_c (by decide) rfl) ?_
  refine hv_goto (tgt := 93) hX dX7_one_85 (by decide) ?_
  refine hv_fewer [2, 0] (loc2 := [(1, .int a1), (2, .ref r37)]) rfl ?_
  exact w_X7_one_j93 hX hN hE hT hpf  _ _ _ _ _ _ _ hf _ _ hz hk
def x_X7_one_j20 (QX : Nat → xS → xRd → mJ → mI → Prop) (Q : Nat → xS → xRd → mJ → mI → Prop) (pf : Nat → xS → xRd → mJ → mI → (Nat → xS → xRd → mJ → mI → Prop) → (Nat → xS → xRd → mJ → mI → Prop) → Prop) (k2 : Int32 → Nat → xS → xRd → mJ → mI → Prop) (p0 : Int32) (bb : Nat) (s : xS) (rd : xRd) (J : mJ) (I : mI) : Prop :=
  k2 p0 bb s rd J I
theorem w_X7_one_j20 {X : hh_CX} {MC MS : Nat} {pf : Nat → xS → xRd → mJ → mI → (Nat → xS → xRd → mJ → mI → Prop) → (Nat → xS → xRd → mJ → mI → Prop) → Prop} {F L : Nat}  {QX : Nat → xS → xRd → mJ → mI → Prop} {Q : Nat → xS → xRd → mJ → mI → Prop} (hX : hh_C X cX7_one RX7 (hrx (F + 7) (L + 200) MC MS)) (hN : hh_nL X = 3) (hE : hh_EX X (some (.object "HungryHedge$Cond")) (xQr (fun r9 S9 R9 J9 I9 => Q r9 S9 R9 J9 I9)) (xQX (fun c9 S9 R9 J9 I9 => QX c9 S9 R9 J9 I9)) MC MS) (hT : hh_XT X []) (hpf : ∀ (bb : Nat) (s : xS) (rd : xRd) (J : mJ) (I : mI) (QX : Nat → xS → xRd → mJ → mI → Prop) (Q : Nat → xS → xRd → mJ → mI → Prop), pf bb s rd J I QX Q → hh_CtX yX7_cond cX7_cond 2 (some (.object "HungryHedge$Cond")) F L [.ref 93] (hx s rd J I) (xQr (fun r9 S9 R9 J9 I9 => Q r9 S9 R9 J9 I9)) (xQX (fun c9 S9 R9 J9 I9 => QX c9 S9 R9 J9 I9)) bb (5 * bb)) {k2 : Int32 → Nat → xS → xRd → mJ → mI → Prop} (hk2 : ∀ (b0 : Int32) (b1 : Nat) (s : xS) (rd : xRd) (J : mJ) (I : mI), k2 b0 b1 s rd J I → ∀ z k : Nat, z + b1 ≤ MC → k + 5 * b1 ≤ MS → hh_V X 2 [(0, .ref 93), (1, .int b0)] [] z k (hx s rd J I)) : ∀ (p0 : Int32) (bb : Nat) (s : xS) (rd : xRd) (J : mJ) (I : mI), x_X7_one_j20 QX Q pf k2 p0 bb s rd J I → ∀ z k : Nat, z + bb ≤ MC → k + 5 * bb ≤ MS → hh_V X 20 [(0, .ref 93)] [.int p0] z k (hx s rd J I) := by
  intro p0 bb s rd J I  hf
  intro z k hz hk
  unfold x_X7_one_j20 at hf
  refine hv_istore_n (loc2 := [(1, .int p0), (0, .ref 93)]) hX dX7_one_20 rfl hN (Nat.le_of_ble_eq_true rfl) rfl ?_
  refine hv_goto (tgt := 2) hX dX7_one_21 (by decide) ?_
  refine hv_fewer [1, 0] (loc2 := [(0, .ref 93), (1, .int p0)]) rfl ?_
  exact hk2 _ _ _ _ _ _ hf _ _ hz hk
def x_X7_one_l2 (QX : Nat → xS → xRd → mJ → mI → Prop) (Q : Nat → xS → xRd → mJ → mI → Prop) (pf : Nat → xS → xRd → mJ → mI → (Nat → xS → xRd → mJ → mI → Prop) → (Nat → xS → xRd → mJ → mI → Prop) → Prop) : Nat → Int32 → Nat → xS → xRd → mJ → mI → Prop
  | 0, _, _, _, _, _, _ => False
  | n + 1, a1, bb, s, rd, J, I =>
    x_X7_may 8 s rd J I (fun r2 I1 => (r2 = 0 →
      x_X7_here s rd J I1 (fun r4 => (r4 = 40 →
        ((3 : Int32) ≤ (I1 93 7) →
          x_X7_one_j47 QX Q pf   a1 0 bb s rd J I1) ∧ (¬ (3 : Int32) ≤ (I1 93 7) →
          x_X7_one_j47 QX Q pf   a1 1 bb s rd J I1)) ∧ (¬ r4 = 40 →
        ∃ b6 : Nat, bb = b6 + 1 ∧ (x_X7_compared s rd J I1 (fun c16 s12 rd13 J14 I15 => QX c16 s12 rd13 J14 I15) (fun r11 s7 rd8 J9 I10 => x_X7_one_j93 QX Q pf   a1 r11 b6 s7 rd8 J9 I10))))) ∧ (¬ r2 = 0 →
      (a1 = 0 →
        x_X7_one_j20 QX Q pf  (fun b0 b1 s rd J I => x_X7_one_l2 QX Q pf   n b0 b1 s rd J I) 1 bb s rd J I1) ∧ (¬ a1 = 0 →
        x_X7_one_j20 QX Q pf  (fun b0 b1 s rd J I => x_X7_one_l2 QX Q pf   n b0 b1 s rd J I) 0 bb s rd J I1)))
theorem w_X7_one_l2 {X : hh_CX} {MC MS : Nat} {pf : Nat → xS → xRd → mJ → mI → (Nat → xS → xRd → mJ → mI → Prop) → (Nat → xS → xRd → mJ → mI → Prop) → Prop} {F L : Nat}  {QX : Nat → xS → xRd → mJ → mI → Prop} {Q : Nat → xS → xRd → mJ → mI → Prop} (hX : hh_C X cX7_one RX7 (hrx (F + 7) (L + 200) MC MS)) (hN : hh_nL X = 3) (hE : hh_EX X (some (.object "HungryHedge$Cond")) (xQr (fun r9 S9 R9 J9 I9 => Q r9 S9 R9 J9 I9)) (xQX (fun c9 S9 R9 J9 I9 => QX c9 S9 R9 J9 I9)) MC MS) (hT : hh_XT X []) (hpf : ∀ (bb : Nat) (s : xS) (rd : xRd) (J : mJ) (I : mI) (QX : Nat → xS → xRd → mJ → mI → Prop) (Q : Nat → xS → xRd → mJ → mI → Prop), pf bb s rd J I QX Q → hh_CtX yX7_cond cX7_cond 2 (some (.object "HungryHedge$Cond")) F L [.ref 93] (hx s rd J I) (xQr (fun r9 S9 R9 J9 I9 => Q r9 S9 R9 J9 I9)) (xQX (fun c9 S9 R9 J9 I9 => QX c9 S9 R9 J9 I9)) bb (5 * bb)) : ∀ (n : Nat) (a1 : Int32) (bb : Nat) (s : xS) (rd : xRd) (J : mJ) (I : mI), x_X7_one_l2 QX Q pf  n a1 bb s rd J I → ∀ z k : Nat, z + bb ≤ MC → k + 5 * bb ≤ MS → hh_V X 2 [(0, .ref 93), (1, .int a1)] [] z k (hx s rd J I) := by
  intro n
  induction n with
  | zero => intro _ _ _ _ _ _  hf; exact hf.elim
  | succ n ih =>
    intro a1 bb s rd J I  hf
    intro z k hz hk
    unfold x_X7_one_l2 at hf
    refine hv_aload_n hX dX7_one_2 rfl 0 rfl ?_
    refine hv_ldcS (i := 8) (tx := "not") hX rfl rfl dX7_one_3 ?_
    refine hx_callVi (ci := 7) (q := (RX7, TX7, 11)) hX dX7_one_5 (ct_X7_may 8 s rd J I _ hf) (lw_V q983 q985 qs22 q113 q986) rfl (by decide) ⟨rfl, np_X7_may⟩ rfl (xo_c (by decide) rfl) rfl ⟨by dsimp only [hrx]; omega, by dsimp only [hrx]; omega⟩ ⟨by dsimp only [hrx]; omega, by dsimp only [hrx]; omega⟩ (Nat.le_of_ble_eq_true rfl) ?_
    intro r2 S9 R9 J9 I1 hq
    clear hf
    obtain ⟨rfl, rfl, rfl, hf⟩ := hq
    refine hv_bud (b := bb) (MC := MC) (MS := MS) ?_ (by omega) (by omega)
    clear hz hk
    intro z k hz hk
    refine hv_if_eq (tgt := 24) hX dX7_one_8 (by decide) (fun c3 => ?_) (fun c3 => ?_)
    · replace hf := hf.1 c3
      refine hv_aload_n hX dX7_one_24 rfl 0 rfl ?_
      refine hx_callVi (ci := 7) (q := (RX7, TX7, 11)) hX dX7_one_25 (ct_X7_here s rd J I1 _ hf) (lw_V q960 q962 qs19 q113 q963) rfl (by decide) ⟨rfl, np_X7_here⟩ rfl (xo_c (by decide) rfl) rfl ⟨by dsimp only [hrx]; omega, by dsimp only [hrx]; omega⟩ ⟨by dsimp only [hrx]; omega, by dsimp only [hrx]; omega⟩ (Nat.le_of_ble_eq_true rfl) ?_
      intro r4 S9 R9 J9 I9 hq
      clear hf
      obtain ⟨rfl, rfl, rfl, rfl, hf⟩ := hq
      refine hv_bud (b := bb) (MC := MC) (MS := MS) ?_ (by omega) (by omega)
      clear hz hk
      intro z k hz hk
      refine hv_bipush (v := 40) hX bix_40 dX7_one_28 ?_
      refine hv_icmp_ne (tgt := 88) hX dX7_one_30 (by decide) (fun c5 => ?_) (fun c5 => ?_)
      · replace hf := hf.2 c5
        refine hv_aload_n hX dX7_one_88 rfl 0 rfl ?_
        obtain ⟨b6, eb6, hf⟩ := hf
        refine hx_callVXr (ci := 7) (q := (RX7, TX7, 11)) hX dX7_one_89 (ct_X7_compared s rd J I1 _ _ hf) (lw_V q1063 q1065 qs29 q113 q1066) rfl (by decide) ⟨rfl, np_X7_compared⟩ rfl (xo_c (by decide) rfl) rfl ⟨by dsimp only [hrx]; omega, by dsimp only [hrx]; omega⟩ ⟨by dsimp only [hrx]; omega, by dsimp only [hrx]; omega⟩ (Nat.le_of_ble_eq_true rfl) ?_ ?_
        · intro c16 s12 rd13 J14 I15 hq
          clear hf
          have hf := hq
          exact hx_out (c := c16) hX hE hT ⟨by omega, by omega⟩ hf
        intro r11 s7 rd8 J9 I10 hq
        clear hf
        have hf := hq
        refine hv_bud (b := b6) (MC := MC) (MS := MS) ?_ (by omega) (by omega)
        clear hz hk
        intro z k hz hk
        refine hv_astore_n (loc2 := [(2, .ref r11), (0, .ref 93), (1, .int a1)]) hX dX7_one_92 rfl hN (Nat.le_of_ble_eq_true rfl) rfl ?_
        refine hv_fewer [2, 0] (loc2 := [(1, .int a1), (2, .ref r11)]) rfl ?_
        exact w_X7_one_j93 hX hN hE hT hpf  _ _ _ _ _ _ _ hf _ _ hz hk
      · replace hf := hf.1 c5
        refine hv_aload_n hX dX7_one_33 rfl 0 rfl ?_
        refine hv_aload_n hX dX7_one_34 rfl 0 rfl ?_
        refine hx_getI (v := (I1 93 7)) hX dX7_one_35 fl7_110_7 (.inl rfl) (xo_c (by decide) rfl) rfl ?_
        refine hv_iconst (v := 3) hX icx_3 dX7_one_38 ?_
        refine hv_icmp_ge (tgt := 46) hX dX7_one_39 (by decide) (fun c26 => ?_) (fun c26 => ?_)
        · replace hf := hf.1 c26
          refine hv_iconst (v := 0) hX icx_0 dX7_one_46 ?_
          exact w_X7_one_j47 hX hN hE hT hpf  _ _ _ _ _ _ _ hf _ _ hz hk
        · replace hf := hf.2 c26
          refine hv_iconst (v := 1) hX icx_1 dX7_one_42 ?_
          refine hv_goto (tgt := 47) hX dX7_one_43 (by decide) ?_
          exact w_X7_one_j47 hX hN hE hT hpf  _ _ _ _ _ _ _ hf _ _ hz hk
    · replace hf := hf.2 c3
      refine hv_iload_n hX dX7_one_11 rfl 1 rfl ?_
      refine hv_if_ne (tgt := 19) hX dX7_one_12 (by decide) (fun c46 => ?_) (fun c46 => ?_)
      · replace hf := hf.2 c46
        refine hv_iconst (v := 0) hX icx_0 dX7_one_19 ?_
        refine hv_fewer [0] (loc2 := [(0, .ref 93)]) rfl ?_
        exact w_X7_one_j20 hX hN hE hT hpf ih _ _ _ _ _ _ hf _ _ hz hk
      · replace hf := hf.1 c46
        refine hv_iconst (v := 1) hX icx_1 dX7_one_15 ?_
        refine hv_goto (tgt := 20) hX dX7_one_16 (by decide) ?_
        refine hv_fewer [0] (loc2 := [(0, .ref 93)]) rfl ?_
        exact w_X7_one_j20 hX hN hE hT hpf ih _ _ _ _ _ _ hf _ _ hz hk
def x_X7_one (pf : Nat → xS → xRd → mJ → mI → (Nat → xS → xRd → mJ → mI → Prop) → (Nat → xS → xRd → mJ → mI → Prop) → Prop) (bb : Nat) (s : xS) (rd : xRd) (J : mJ) (I : mI) (QX : Nat → xS → xRd → mJ → mI → Prop) (Q : Nat → xS → xRd → mJ → mI → Prop) : Prop :=
  ∃ n0 : Nat, x_X7_one_l2 QX Q pf   n0 0 bb s rd J I
theorem ct_X7_one {pf : Nat → xS → xRd → mJ → mI → (Nat → xS → xRd → mJ → mI → Prop) → (Nat → xS → xRd → mJ → mI → Prop) → Prop} {F L : Nat}  (hpf : ∀ (bb : Nat) (s : xS) (rd : xRd) (J : mJ) (I : mI) (QX : Nat → xS → xRd → mJ → mI → Prop) (Q : Nat → xS → xRd → mJ → mI → Prop), pf bb s rd J I QX Q → hh_CtX yX7_cond cX7_cond 2 (some (.object "HungryHedge$Cond")) F L [.ref 93] (hx s rd J I) (xQr (fun r9 S9 R9 J9 I9 => Q r9 S9 R9 J9 I9)) (xQX (fun c9 S9 R9 J9 I9 => QX c9 S9 R9 J9 I9)) bb (5 * bb)) (bb : Nat) (s : xS) (rd : xRd) (J : mJ) (I : mI) (QX : Nat → xS → xRd → mJ → mI → Prop) (Q : Nat → xS → xRd → mJ → mI → Prop) (hf : x_X7_one pf bb s rd J I QX Q) : hh_CtX yX7_one cX7_one 3 (some (.object "HungryHedge$Cond")) (F + 7) (L + 200) [.ref 93] (hx s rd J I) (xQr (fun r9 S9 R9 J9 I9 => Q r9 S9 R9 J9 I9)) (xQX (fun c9 S9 R9 J9 I9 => QX c9 S9 R9 J9 I9)) bb (5 * bb) := by
  refine hh_CtX.of (own := RX7) rfl (by decide +kernel) (Nat.le_of_ble_eq_true rfl) ?_
  intro X hX hN hE hT
  show hh_V X 0 [(0, .ref 93)] [] 0 0 (hx s rd J I)
  unfold x_X7_one at hf
  refine hv_bud (b := bb) (MC := bb) (MS := 5 * bb) ?_ (by omega) (by omega)
  intro z k hz hk
  refine hv_iconst (v := 0) hX icx_0 dX7_one_0 ?_
  refine hv_istore_n (loc2 := [(1, .int 0), (0, .ref 93)]) hX dX7_one_1 rfl hN (Nat.le_of_ble_eq_true rfl) rfl ?_
  refine hv_fewer [1, 0] (loc2 := [(0, .ref 93), (1, .int 0)]) rfl ?_
  obtain ⟨n0, hf⟩ := hf
  exact w_X7_one_l2 hX hN hE hT hpf  n0 _ _ _ _ _ _ hf _ _ hz hk
/-! HungryHedge$Reader.all()LHungryHedge$Cond; -/
def x_X7_all_l5 (QX : Nat → xS → xRd → mJ → mI → Prop) (Q : Nat → xS → xRd → mJ → mI → Prop) (pf : Nat → xS → xRd → mJ → mI → (Nat → xS → xRd → mJ → mI → Prop) → (Nat → xS → xRd → mJ → mI → Prop) → Prop) : Nat → Nat → Nat → xS → xRd → mJ → mI → Prop
  | 0, _, _, _, _, _, _ => False
  | n + 1, a1, bb, s, rd, J, I =>
    x_X7_may 10 s rd J I (fun r14 I13 => (r14 = 0 →
      Q a1 s rd J I13) ∧ (¬ r14 = 0 →
      ∃ b22 : Nat, bb = b22 + 1 ∧ (xnw s rd J I13 19 2 (fun q16 s17 rd18 J19 I20 => ∃ b23 b24 : Nat, b22 = b23 + b24 ∧ (x_X7_one pf b23 s17 rd18 J19 I20 (fun c34 s30 rd31 J32 I33 => QX c34 s30 rd31 J32 I33) (fun r29 s25 rd26 J27 I28 => xo s25 q16 19 ∧ (x_X19_init q16 a1 r29 s25 rd26 J27 I28 (fun rd35 => x_X7_all_l5 QX Q pf   n q16 b24 s25 rd35 J27 I28))))))))
theorem w_X7_all_l5 {X : hh_CX} {MC MS : Nat} {pf : Nat → xS → xRd → mJ → mI → (Nat → xS → xRd → mJ → mI → Prop) → (Nat → xS → xRd → mJ → mI → Prop) → Prop} {F L : Nat}  {QX : Nat → xS → xRd → mJ → mI → Prop} {Q : Nat → xS → xRd → mJ → mI → Prop} (hX : hh_C X cX7_all RX7 (hrx (F + 8) (L + 222) MC MS)) (hN : hh_nL X = 2) (hE : hh_EX X (some (.object "HungryHedge$Cond")) (xQr (fun r9 S9 R9 J9 I9 => Q r9 S9 R9 J9 I9)) (xQX (fun c9 S9 R9 J9 I9 => QX c9 S9 R9 J9 I9)) MC MS) (hT : hh_XT X []) (hpf : ∀ (bb : Nat) (s : xS) (rd : xRd) (J : mJ) (I : mI) (QX : Nat → xS → xRd → mJ → mI → Prop) (Q : Nat → xS → xRd → mJ → mI → Prop), pf bb s rd J I QX Q → hh_CtX yX7_cond cX7_cond 2 (some (.object "HungryHedge$Cond")) F L [.ref 93] (hx s rd J I) (xQr (fun r9 S9 R9 J9 I9 => Q r9 S9 R9 J9 I9)) (xQX (fun c9 S9 R9 J9 I9 => QX c9 S9 R9 J9 I9)) bb (5 * bb)) : ∀ (n : Nat) (a1 : Nat) (bb : Nat) (s : xS) (rd : xRd) (J : mJ) (I : mI), x_X7_all_l5 QX Q pf  n a1 bb s rd J I → ∀ z k : Nat, z + bb ≤ MC → k + 5 * bb ≤ MS → hh_V X 5 [(0, .ref 93), (1, .ref a1)] [] z k (hx s rd J I) := by
  intro n
  induction n with
  | zero => intro _ _ _ _ _ _  hf; exact hf.elim
  | succ n ih =>
    intro a1 bb s rd J I  hf
    intro z k hz hk
    unfold x_X7_all_l5 at hf
    refine hv_aload_n hX dX7_all_5 rfl 0 rfl ?_
    refine hv_ldcS (i := 10) (tx := "and") hX rfl rfl dX7_all_6 ?_
    refine hx_callVi (ci := 7) (q := (RX7, TX7, 11)) hX dX7_all_8 (ct_X7_may 10 s rd J I _ hf) (lw_V q983 q985 qs22 q113 q986) rfl (by decide) ⟨rfl, np_X7_may⟩ rfl (xo_c (by decide) rfl) rfl ⟨by dsimp only [hrx]; omega, by dsimp only [hrx]; omega⟩ ⟨by dsimp only [hrx]; omega, by dsimp only [hrx]; omega⟩ (Nat.le_of_ble_eq_true rfl) ?_
    intro r14 S9 R9 J9 I13 hq
    clear hf
    obtain ⟨rfl, rfl, rfl, hf⟩ := hq
    refine hv_bud (b := bb) (MC := MC) (MS := MS) ?_ (by omega) (by omega)
    clear hz hk
    intro z k hz hk
    refine hv_if_eq (tgt := 30) hX dX7_all_11 (by decide) (fun c15 => ?_) (fun c15 => ?_)
    · replace hf := hf.1 c15
      refine hv_aload_n hX dX7_all_30 rfl 1 rfl ?_
      refine hv_widen (z' := MC) (k' := MS) (by omega) (by omega) ?_
      exact hv_xret hX hE (fun X hX hE => hx_aret hX hE (.inl ⟨_, rfl⟩) dX7_all_31 hf)
    · replace hf := hf.2 c15
      obtain ⟨b22, eb22, hf⟩ := hf
      refine hx_new hX dX7_all_14 nl7_136 hf ⟨by dsimp only [hrx]; omega, by dsimp only [hrx]; omega⟩ ?_
      intro q16 s17 rd18 J19 I20 hf o21 mono
      refine hv_bud (b := b22) (MC := MC) (MS := MS) ?_ (by omega) (by omega)
      clear hz hk
      intro z k hz hk
      refine hv_dup hX rfl dX7_all_17 ?_
      refine hv_aload_n hX dX7_all_18 rfl 1 rfl ?_
      refine hv_aload_n hX dX7_all_19 rfl 0 rfl ?_
      obtain ⟨b23, b24, eb24, hf⟩ := hf
      refine hx_callVXr (ci := 7) (q := (RX7, TX7, 11)) hX dX7_all_20 (ct_X7_one hpf  b23 s17 rd18 J19 I20 _ _ hf) (lw_V q1057 q1059 qs28 q113 q1060) rfl (by decide) ⟨rfl, np_X7_one⟩ rfl (xo_c (by decide) rfl) rfl ⟨by dsimp only [hrx]; omega, by dsimp only [hrx]; omega⟩ ⟨by dsimp only [hrx]; omega, by dsimp only [hrx]; omega⟩ (Nat.le_of_ble_eq_true rfl) ?_ ?_
      · intro c34 s30 rd31 J32 I33 hq
        clear hf
        have hf := hq
        exact hx_out (c := c34) hX hE hT ⟨by omega, by omega⟩ hf
      intro r29 s25 rd26 J27 I28 hq
      clear hf
      have hf := hq
      refine hv_bud (b := b24) (MC := MC) (MS := MS) ?_ (by omega) (by omega)
      clear hz hk
      intro z k hz hk
      obtain ⟨o36, hf⟩ := hf
      refine hx_callIv (ci := 19) (q := (RX19, TX19, 2)) hX dX7_all_23 (ct_X19_init q16 a1 r29 s25 rd26 J27 I28 _ hf) q1106 rfl q1108 q136 q1107 rfl (by decide) np_X19_init rfl o36 rfl ⟨by dsimp only [hrx]; omega, by dsimp only [hrx]; omega⟩ ⟨by dsimp only [hrx]; omega, by dsimp only [hrx]; omega⟩ (Nat.le_of_ble_eq_true rfl) ?_
      intro  S9 rd35 J9 I9 hq
      clear hf
      obtain ⟨rfl, rfl, rfl, hf⟩ := hq
      refine hv_bud (b := b24) (MC := MC) (MS := MS) ?_ (by omega) (by omega)
      clear hz hk
      intro z k hz hk
      refine hv_astore_n (loc2 := [(1, .ref q16), (0, .ref 93)]) hX dX7_all_26 rfl hN (Nat.le_of_ble_eq_true rfl) rfl ?_
      refine hv_goto (tgt := 5) hX dX7_all_27 (by decide) ?_
      refine hv_fewer [1, 0] (loc2 := [(0, .ref 93), (1, .ref q16)]) rfl ?_
      exact ih _ _ _ _ _ _ hf _ _ hz hk
def x_X7_all (pf : Nat → xS → xRd → mJ → mI → (Nat → xS → xRd → mJ → mI → Prop) → (Nat → xS → xRd → mJ → mI → Prop) → Prop) (bb : Nat) (s : xS) (rd : xRd) (J : mJ) (I : mI) (QX : Nat → xS → xRd → mJ → mI → Prop) (Q : Nat → xS → xRd → mJ → mI → Prop) : Prop :=
  ∃ b1 b2 : Nat, bb = b1 + b2 ∧ (x_X7_one pf b1 s rd J I (fun c12 s8 rd9 J10 I11 => QX c12 s8 rd9 J10 I11) (fun r7 s3 rd4 J5 I6 => ∃ n0 : Nat, x_X7_all_l5 QX Q pf   n0 r7 b2 s3 rd4 J5 I6))
theorem ct_X7_all {pf : Nat → xS → xRd → mJ → mI → (Nat → xS → xRd → mJ → mI → Prop) → (Nat → xS → xRd → mJ → mI → Prop) → Prop} {F L : Nat}  (hpf : ∀ (bb : Nat) (s : xS) (rd : xRd) (J : mJ) (I : mI) (QX : Nat → xS → xRd → mJ → mI → Prop) (Q : Nat → xS → xRd → mJ → mI → Prop), pf bb s rd J I QX Q → hh_CtX yX7_cond cX7_cond 2 (some (.object "HungryHedge$Cond")) F L [.ref 93] (hx s rd J I) (xQr (fun r9 S9 R9 J9 I9 => Q r9 S9 R9 J9 I9)) (xQX (fun c9 S9 R9 J9 I9 => QX c9 S9 R9 J9 I9)) bb (5 * bb)) (bb : Nat) (s : xS) (rd : xRd) (J : mJ) (I : mI) (QX : Nat → xS → xRd → mJ → mI → Prop) (Q : Nat → xS → xRd → mJ → mI → Prop) (hf : x_X7_all pf bb s rd J I QX Q) : hh_CtX yX7_all cX7_all 2 (some (.object "HungryHedge$Cond")) (F + 8) (L + 222) [.ref 93] (hx s rd J I) (xQr (fun r9 S9 R9 J9 I9 => Q r9 S9 R9 J9 I9)) (xQX (fun c9 S9 R9 J9 I9 => QX c9 S9 R9 J9 I9)) bb (5 * bb) := by
  refine hh_CtX.of (own := RX7) rfl (by decide +kernel) (Nat.le_of_ble_eq_true rfl) ?_
  intro X hX hN hE hT
  show hh_V X 0 [(0, .ref 93)] [] 0 0 (hx s rd J I)
  unfold x_X7_all at hf
  refine hv_bud (b := bb) (MC := bb) (MS := 5 * bb) ?_ (by omega) (by omega)
  intro z k hz hk
  refine hv_aload_n hX dX7_all_0 rfl 0 rfl ?_
  obtain ⟨b1, b2, eb2, hf⟩ := hf
  refine hx_callVXr (ci := 7) (q := (RX7, TX7, 11)) hX dX7_all_1 (ct_X7_one hpf  b1 s rd J I _ _ hf) (lw_V q1057 q1059 qs28 q113 q1060) rfl (by decide) ⟨rfl, np_X7_one⟩ rfl (xo_c (by decide) rfl) rfl ⟨by dsimp only [hrx]; omega, by dsimp only [hrx]; omega⟩ ⟨by dsimp only [hrx]; omega, by dsimp only [hrx]; omega⟩ (Nat.le_of_ble_eq_true rfl) ?_ ?_
  · intro c12 s8 rd9 J10 I11 hq
    clear hf
    have hf := hq
    exact hx_out (c := c12) hX hE hT ⟨by omega, by omega⟩ hf
  intro r7 s3 rd4 J5 I6 hq
  clear hf
  have hf := hq
  refine hv_bud (b := b2) (MC := bb) (MS := (5 * bb)) ?_ (by omega) (by omega)
  clear hz hk
  intro z k hz hk
  refine hv_astore_n (loc2 := [(1, .ref r7), (0, .ref 93)]) hX dX7_all_4 rfl hN (Nat.le_of_ble_eq_true rfl) rfl ?_
  refine hv_fewer [1, 0] (loc2 := [(0, .ref 93), (1, .ref r7)]) rfl ?_
  obtain ⟨n0, hf⟩ := hf
  exact w_X7_all_l5 hX hN hE hT hpf  n0 _ _ _ _ _ _ hf _ _ hz hk
/-! HungryHedge$Reader.cond()LHungryHedge$Cond; -/
def x_X7_cond_l5 (QX : Nat → xS → xRd → mJ → mI → Prop) (Q : Nat → xS → xRd → mJ → mI → Prop) (pf : Nat → xS → xRd → mJ → mI → (Nat → xS → xRd → mJ → mI → Prop) → (Nat → xS → xRd → mJ → mI → Prop) → Prop) : Nat → Nat → Nat → xS → xRd → mJ → mI → Prop
  | 0, _, _, _, _, _, _ => False
  | n + 1, a1, bb, s, rd, J, I =>
    x_X7_may 11 s rd J I (fun r14 I13 => (r14 = 0 →
      Q a1 s rd J I13) ∧ (¬ r14 = 0 →
      ∃ b22 : Nat, bb = b22 + 1 ∧ (xnw s rd J I13 20 2 (fun q16 s17 rd18 J19 I20 => ∃ b23 b24 : Nat, b22 = b23 + b24 ∧ (x_X7_all pf b23 s17 rd18 J19 I20 (fun c34 s30 rd31 J32 I33 => QX c34 s30 rd31 J32 I33) (fun r29 s25 rd26 J27 I28 => xo s25 q16 20 ∧ (x_X20_init q16 a1 r29 s25 rd26 J27 I28 (fun rd35 => x_X7_cond_l5 QX Q pf   n q16 b24 s25 rd35 J27 I28))))))))
theorem w_X7_cond_l5 {X : hh_CX} {MC MS : Nat} {pf : Nat → xS → xRd → mJ → mI → (Nat → xS → xRd → mJ → mI → Prop) → (Nat → xS → xRd → mJ → mI → Prop) → Prop} {F L : Nat}  {QX : Nat → xS → xRd → mJ → mI → Prop} {Q : Nat → xS → xRd → mJ → mI → Prop} (hX : hh_C X cX7_cond RX7 (hrx (F + 9) (L + 243) MC MS)) (hN : hh_nL X = 2) (hE : hh_EX X (some (.object "HungryHedge$Cond")) (xQr (fun r9 S9 R9 J9 I9 => Q r9 S9 R9 J9 I9)) (xQX (fun c9 S9 R9 J9 I9 => QX c9 S9 R9 J9 I9)) MC MS) (hT : hh_XT X []) (hpf : ∀ (bb : Nat) (s : xS) (rd : xRd) (J : mJ) (I : mI) (QX : Nat → xS → xRd → mJ → mI → Prop) (Q : Nat → xS → xRd → mJ → mI → Prop), pf bb s rd J I QX Q → hh_CtX yX7_cond cX7_cond 2 (some (.object "HungryHedge$Cond")) F L [.ref 93] (hx s rd J I) (xQr (fun r9 S9 R9 J9 I9 => Q r9 S9 R9 J9 I9)) (xQX (fun c9 S9 R9 J9 I9 => QX c9 S9 R9 J9 I9)) bb (5 * bb)) : ∀ (n : Nat) (a1 : Nat) (bb : Nat) (s : xS) (rd : xRd) (J : mJ) (I : mI), x_X7_cond_l5 QX Q pf  n a1 bb s rd J I → ∀ z k : Nat, z + bb ≤ MC → k + 5 * bb ≤ MS → hh_V X 5 [(0, .ref 93), (1, .ref a1)] [] z k (hx s rd J I) := by
  intro n
  induction n with
  | zero => intro _ _ _ _ _ _  hf; exact hf.elim
  | succ n ih =>
    intro a1 bb s rd J I  hf
    intro z k hz hk
    unfold x_X7_cond_l5 at hf
    refine hv_aload_n hX dX7_cond_5 rfl 0 rfl ?_
    refine hv_ldcS (i := 11) (tx := "or") hX rfl rfl dX7_cond_6 ?_
    refine hx_callVi (ci := 7) (q := (RX7, TX7, 11)) hX dX7_cond_8 (ct_X7_may 11 s rd J I _ hf) (lw_V q983 q985 qs22 q113 q986) rfl (by decide) ⟨rfl, np_X7_may⟩ rfl (xo_c (by decide) rfl) rfl ⟨by dsimp only [hrx]; omega, by dsimp only [hrx]; omega⟩ ⟨by dsimp only [hrx]; omega, by dsimp only [hrx]; omega⟩ (Nat.le_of_ble_eq_true rfl) ?_
    intro r14 S9 R9 J9 I13 hq
    clear hf
    obtain ⟨rfl, rfl, rfl, hf⟩ := hq
    refine hv_bud (b := bb) (MC := MC) (MS := MS) ?_ (by omega) (by omega)
    clear hz hk
    intro z k hz hk
    refine hv_if_eq (tgt := 30) hX dX7_cond_11 (by decide) (fun c15 => ?_) (fun c15 => ?_)
    · replace hf := hf.1 c15
      refine hv_aload_n hX dX7_cond_30 rfl 1 rfl ?_
      refine hv_widen (z' := MC) (k' := MS) (by omega) (by omega) ?_
      exact hv_xret hX hE (fun X hX hE => hx_aret hX hE (.inl ⟨_, rfl⟩) dX7_cond_31 hf)
    · replace hf := hf.2 c15
      obtain ⟨b22, eb22, hf⟩ := hf
      refine hx_new hX dX7_cond_14 nl7_146 hf ⟨by dsimp only [hrx]; omega, by dsimp only [hrx]; omega⟩ ?_
      intro q16 s17 rd18 J19 I20 hf o21 mono
      refine hv_bud (b := b22) (MC := MC) (MS := MS) ?_ (by omega) (by omega)
      clear hz hk
      intro z k hz hk
      refine hv_dup hX rfl dX7_cond_17 ?_
      refine hv_aload_n hX dX7_cond_18 rfl 1 rfl ?_
      refine hv_aload_n hX dX7_cond_19 rfl 0 rfl ?_
      obtain ⟨b23, b24, eb24, hf⟩ := hf
      refine hx_callVXr (ci := 7) (q := (RX7, TX7, 11)) hX dX7_cond_20 (ct_X7_all hpf  b23 s17 rd18 J19 I20 _ _ hf) (lw_V q1053 q1055 qs27 q113 q1056) rfl (by decide) ⟨rfl, np_X7_all⟩ rfl (xo_c (by decide) rfl) rfl ⟨by dsimp only [hrx]; omega, by dsimp only [hrx]; omega⟩ ⟨by dsimp only [hrx]; omega, by dsimp only [hrx]; omega⟩ (Nat.le_of_ble_eq_true rfl) ?_ ?_
      · intro c34 s30 rd31 J32 I33 hq
        clear hf
        have hf := hq
        exact hx_out (c := c34) hX hE hT ⟨by omega, by omega⟩ hf
      intro r29 s25 rd26 J27 I28 hq
      clear hf
      have hf := hq
      refine hv_bud (b := b24) (MC := MC) (MS := MS) ?_ (by omega) (by omega)
      clear hz hk
      intro z k hz hk
      obtain ⟨o36, hf⟩ := hf
      refine hx_callIv (ci := 20) (q := (RX20, TX20, 2)) hX dX7_cond_23 (ct_X20_init q16 a1 r29 s25 rd26 J27 I28 _ hf) q1124 rfl q1126 q137 q1125 rfl (by decide) np_X20_init rfl o36 rfl ⟨by dsimp only [hrx]; omega, by dsimp only [hrx]; omega⟩ ⟨by dsimp only [hrx]; omega, by dsimp only [hrx]; omega⟩ (Nat.le_of_ble_eq_true rfl) ?_
      intro  S9 rd35 J9 I9 hq
      clear hf
      obtain ⟨rfl, rfl, rfl, hf⟩ := hq
      refine hv_bud (b := b24) (MC := MC) (MS := MS) ?_ (by omega) (by omega)
      clear hz hk
      intro z k hz hk
      refine hv_astore_n (loc2 := [(1, .ref q16), (0, .ref 93)]) hX dX7_cond_26 rfl hN (Nat.le_of_ble_eq_true rfl) rfl ?_
      refine hv_goto (tgt := 5) hX dX7_cond_27 (by decide) ?_
      refine hv_fewer [1, 0] (loc2 := [(0, .ref 93), (1, .ref q16)]) rfl ?_
      exact ih _ _ _ _ _ _ hf _ _ hz hk
def x_X7_cond_b (pf : Nat → xS → xRd → mJ → mI → (Nat → xS → xRd → mJ → mI → Prop) → (Nat → xS → xRd → mJ → mI → Prop) → Prop) (bb : Nat) (s : xS) (rd : xRd) (J : mJ) (I : mI) (QX : Nat → xS → xRd → mJ → mI → Prop) (Q : Nat → xS → xRd → mJ → mI → Prop) : Prop :=
  ∃ b1 b2 : Nat, bb = b1 + b2 ∧ (x_X7_all pf b1 s rd J I (fun c12 s8 rd9 J10 I11 => QX c12 s8 rd9 J10 I11) (fun r7 s3 rd4 J5 I6 => ∃ n0 : Nat, x_X7_cond_l5 QX Q pf   n0 r7 b2 s3 rd4 J5 I6))
theorem ct_X7_cond_b {pf : Nat → xS → xRd → mJ → mI → (Nat → xS → xRd → mJ → mI → Prop) → (Nat → xS → xRd → mJ → mI → Prop) → Prop} {F L : Nat}  (hpf : ∀ (bb : Nat) (s : xS) (rd : xRd) (J : mJ) (I : mI) (QX : Nat → xS → xRd → mJ → mI → Prop) (Q : Nat → xS → xRd → mJ → mI → Prop), pf bb s rd J I QX Q → hh_CtX yX7_cond cX7_cond 2 (some (.object "HungryHedge$Cond")) F L [.ref 93] (hx s rd J I) (xQr (fun r9 S9 R9 J9 I9 => Q r9 S9 R9 J9 I9)) (xQX (fun c9 S9 R9 J9 I9 => QX c9 S9 R9 J9 I9)) bb (5 * bb)) (bb : Nat) (s : xS) (rd : xRd) (J : mJ) (I : mI) (QX : Nat → xS → xRd → mJ → mI → Prop) (Q : Nat → xS → xRd → mJ → mI → Prop) (hf : x_X7_cond_b pf bb s rd J I QX Q) : hh_CtX yX7_cond cX7_cond 2 (some (.object "HungryHedge$Cond")) (F + 9) (L + 243) [.ref 93] (hx s rd J I) (xQr (fun r9 S9 R9 J9 I9 => Q r9 S9 R9 J9 I9)) (xQX (fun c9 S9 R9 J9 I9 => QX c9 S9 R9 J9 I9)) bb (5 * bb) := by
  refine hh_CtX.of (own := RX7) rfl (by decide +kernel) (Nat.le_of_ble_eq_true rfl) ?_
  intro X hX hN hE hT
  show hh_V X 0 [(0, .ref 93)] [] 0 0 (hx s rd J I)
  unfold x_X7_cond_b at hf
  refine hv_bud (b := bb) (MC := bb) (MS := 5 * bb) ?_ (by omega) (by omega)
  intro z k hz hk
  refine hv_aload_n hX dX7_cond_0 rfl 0 rfl ?_
  obtain ⟨b1, b2, eb2, hf⟩ := hf
  refine hx_callVXr (ci := 7) (q := (RX7, TX7, 11)) hX dX7_cond_1 (ct_X7_all hpf  b1 s rd J I _ _ hf) (lw_V q1053 q1055 qs27 q113 q1056) rfl (by decide) ⟨rfl, np_X7_all⟩ rfl (xo_c (by decide) rfl) rfl ⟨by dsimp only [hrx]; omega, by dsimp only [hrx]; omega⟩ ⟨by dsimp only [hrx]; omega, by dsimp only [hrx]; omega⟩ (Nat.le_of_ble_eq_true rfl) ?_ ?_
  · intro c12 s8 rd9 J10 I11 hq
    clear hf
    have hf := hq
    exact hx_out (c := c12) hX hE hT ⟨by omega, by omega⟩ hf
  intro r7 s3 rd4 J5 I6 hq
  clear hf
  have hf := hq
  refine hv_bud (b := b2) (MC := bb) (MS := (5 * bb)) ?_ (by omega) (by omega)
  clear hz hk
  intro z k hz hk
  refine hv_astore_n (loc2 := [(1, .ref r7), (0, .ref 93)]) hX dX7_cond_4 rfl hN (Nat.le_of_ble_eq_true rfl) rfl ?_
  refine hv_fewer [1, 0] (loc2 := [(0, .ref 93), (1, .ref r7)]) rfl ?_
  obtain ⟨n0, hf⟩ := hf
  exact w_X7_cond_l5 hX hN hE hT hpf  n0 _ _ _ _ _ _ hf _ _ hz hk
def x_X7_cond : Nat → Nat → xS → xRd → mJ → mI → (Nat → xS → xRd → mJ → mI → Prop) → (Nat → xS → xRd → mJ → mI → Prop) → Prop
  | 0, _, _, _, _, _, _, _ => False
  | n + 1, bb, s, rd, J, I, QX, Q => x_X7_cond_b (fun bb s rd J I QX Q => x_X7_cond n bb s rd J I QX Q) bb s rd J I QX Q
theorem ct_X7_cond : ∀ (n : Nat) (bb : Nat) (s : xS) (rd : xRd) (J : mJ) (I : mI) (QX : Nat → xS → xRd → mJ → mI → Prop) (Q : Nat → xS → xRd → mJ → mI → Prop), x_X7_cond n bb s rd J I QX Q → hh_CtX yX7_cond cX7_cond 2 (some (.object "HungryHedge$Cond")) (9 * n) (243 * n) [.ref 93] (hx s rd J I) (xQr (fun r9 S9 R9 J9 I9 => Q r9 S9 R9 J9 I9)) (xQX (fun c9 S9 R9 J9 I9 => QX c9 S9 R9 J9 I9)) bb (5 * bb) := by
  intro n
  induction n with
  | zero => intro _ _ _ _ _ _ _ hf; exact hf.elim
  | succ n ih =>
    intro bb s rd J I QX Q hf
    exact ct_X7_cond_b (F := 9 * n) (L := 243 * n) ih bb s rd J I QX Q hf
/-! HungryHedge$Reader.whole()LHungryHedge$Clause; -/
def x_X7_whole_j41 (QX : Nat → xS → xRd → mJ → mI → Prop) (Q : Nat → xS → xRd → mJ → mI → Prop) (a1 : Int32) (bb : Nat) (s : xS) (rd : xRd) (J : mJ) (I : mI) : Prop :=
  ∃ b14 : Nat, bb = b14 + 1 ∧ (xnw s rd J I 16 2 (fun q8 s9 rd10 J11 I12 => ∃ b15 b16 : Nat, b14 = b15 + b16 ∧ (x_X7_cond 5 b15 s9 rd10 J11 I12 (fun c26 s22 rd23 J24 I25 => QX c26 s22 rd23 J24 I25) (fun r21 s17 rd18 J19 I20 => xo s17 q8 16 ∧ (x_X16_init q8 a1 r21 s17 rd18 J19 I20 (fun rd27 I28 => x_X7_must 12 s17 rd27 J19 I28 (fun c32 I31 => QX c32 s17 rd27 J19 I31) (fun I30 => Q q8 s17 rd27 J19 I30)))))))
theorem w_X7_whole_j41 {X : hh_CX} {MC MS : Nat}  {QX : Nat → xS → xRd → mJ → mI → Prop} {Q : Nat → xS → xRd → mJ → mI → Prop} (hX : hh_C X cX7_whole RX7 (hrx 46 1236 MC MS)) (hN : hh_nL X = 3) (hE : hh_EX X (some (.object "HungryHedge$Clause")) (xQr (fun r9 S9 R9 J9 I9 => Q r9 S9 R9 J9 I9)) (xQX (fun c9 S9 R9 J9 I9 => QX c9 S9 R9 J9 I9)) MC MS) (hT : hh_XT X []) : ∀ (a1 : Int32) (bb : Nat) (s : xS) (rd : xRd) (J : mJ) (I : mI), x_X7_whole_j41 QX Q  a1 bb s rd J I → ∀ z k : Nat, z + bb ≤ MC → k + 5 * bb ≤ MS → hh_V X 41 [(0, .ref 93), (1, .int a1)] [] z k (hx s rd J I) := by
  intro a1 bb s rd J I  hf
  intro z k hz hk
  unfold x_X7_whole_j41 at hf
  obtain ⟨b14, eb14, hf⟩ := hf
  refine hx_new hX dX7_whole_41 nl7_36 hf ⟨by dsimp only [hrx]; omega, by dsimp only [hrx]; omega⟩ ?_
  intro q8 s9 rd10 J11 I12 hf o13 mono
  refine hv_bud (b := b14) (MC := MC) (MS := MS) ?_ (by omega) (by omega)
  clear hz hk
  intro z k hz hk
  refine hv_dup hX rfl dX7_whole_44 ?_
  refine hv_iload_n hX dX7_whole_45 rfl 1 rfl ?_
  refine hv_aload_n hX dX7_whole_46 rfl 0 rfl ?_
  obtain ⟨b15, b16, eb16, hf⟩ := hf
  refine hx_callVXr (ci := 7) (q := (RX7, TX7, 11)) hX dX7_whole_47 (ct_X7_cond 5  b15 s9 rd10 J11 I12 _ _ hf) (lw_V q1049 q1051 qs26 q113 q1052) rfl (by decide) ⟨rfl, np_X7_cond⟩ rfl (xo_c (by decide) rfl) rfl ⟨Nat.le_of_ble_eq_true rfl, Nat.le_of_ble_eq_true rfl⟩ ⟨by dsimp only [hrx]; omega, by dsimp only [hrx]; omega⟩ (Nat.le_of_ble_eq_true rfl) ?_ ?_
  · intro c26 s22 rd23 J24 I25 hq
    clear hf
    have hf := hq
    exact hx_out (c := c26) hX hE hT ⟨by omega, by omega⟩ hf
  intro r21 s17 rd18 J19 I20 hq
  clear hf
  have hf := hq
  refine hv_bud (b := b16) (MC := MC) (MS := MS) ?_ (by omega) (by omega)
  clear hz hk
  intro z k hz hk
  obtain ⟨o29, hf⟩ := hf
  refine hx_callIv (ci := 16) (q := (RX16, TX16, 2)) hX dX7_whole_50 (ct_X16_init q8 a1 r21 s17 rd18 J19 I20 _ hf) q1131 rfl q1133 q133 q1132 rfl (by decide) np_X16_init rfl o29 rfl ⟨Nat.le_of_ble_eq_true rfl, Nat.le_of_ble_eq_true rfl⟩ ⟨by dsimp only [hrx]; omega, by dsimp only [hrx]; omega⟩ (Nat.le_of_ble_eq_true rfl) ?_
  intro  S9 rd27 J9 I28 hq
  clear hf
  obtain ⟨rfl, rfl, hf⟩ := hq
  refine hv_bud (b := b16) (MC := MC) (MS := MS) ?_ (by omega) (by omega)
  clear hz hk
  intro z k hz hk
  refine hv_astore_n (loc2 := [(2, .ref q8), (0, .ref 93), (1, .int a1)]) hX dX7_whole_53 rfl hN (Nat.le_of_ble_eq_true rfl) rfl ?_
  refine hv_aload_n hX dX7_whole_54 rfl 1 rfl ?_
  refine hv_ldcS (i := 12) (tx := ";") hX rfl rfl dX7_whole_55 ?_
  refine hx_callVXv (ci := 7) (q := (RX7, TX7, 11)) hX dX7_whole_57 (ct_X7_must 12 s17 rd27 J19 I28 _ _ hf) (lw_V q1040 q1042 qs24 q113 q1043) rfl (by decide) ⟨rfl, np_X7_must⟩ rfl (xo_c (by decide) rfl) rfl ⟨Nat.le_of_ble_eq_true rfl, Nat.le_of_ble_eq_true rfl⟩ ⟨by dsimp only [hrx]; omega, by dsimp only [hrx]; omega⟩ (Nat.le_of_ble_eq_true rfl) ?_ ?_
  · intro c32 S9 R9 J9 I31 hq
    clear hf
    obtain ⟨rfl, rfl, rfl, hf⟩ := hq
    exact hx_out (c := c32) hX hE hT ⟨by omega, by omega⟩ hf
  intro  S9 R9 J9 I30 hq
  clear hf
  obtain ⟨rfl, rfl, rfl, hf⟩ := hq
  refine hv_bud (b := b16) (MC := MC) (MS := MS) ?_ (by omega) (by omega)
  clear hz hk
  intro z k hz hk
  refine hv_aload_n hX dX7_whole_60 rfl 0 rfl ?_
  refine hv_widen (z' := MC) (k' := MS) (by omega) (by omega) ?_
  exact hv_xret hX hE (fun X hX hE => hx_aret hX hE (.inl ⟨_, rfl⟩) dX7_whole_61 hf)
def x_X7_whole_j15 (QX : Nat → xS → xRd → mJ → mI → Prop) (Q : Nat → xS → xRd → mJ → mI → Prop) (p1 : Int32) (bb : Nat) (s : xS) (rd : xRd) (J : mJ) (I : mI) : Prop :=
  x_X7_need p1 s rd J I (fun c4 I3 => QX c4 s rd J I3) (fun I2 => x_X7_may 6 s rd J I2 (fun r6 I5 => (r6 = 0 →
    x_X7_must 7 s rd J I5 (fun c35 I34 => QX c35 s rd J I34) (fun I33 => x_X7_number 3 s rd J I33 (fun c39 I38 => QX c39 s rd J I38) (fun r37 I36 => x_X7_whole_j41 QX Q   r37 bb s rd J I36))) ∧ (¬ r6 = 0 →
    x_X7_whole_j41 QX Q   (-1) bb s rd J I5)))
theorem w_X7_whole_j15 {X : hh_CX} {MC MS : Nat}  {QX : Nat → xS → xRd → mJ → mI → Prop} {Q : Nat → xS → xRd → mJ → mI → Prop} (hX : hh_C X cX7_whole RX7 (hrx 46 1236 MC MS)) (hN : hh_nL X = 3) (hE : hh_EX X (some (.object "HungryHedge$Clause")) (xQr (fun r9 S9 R9 J9 I9 => Q r9 S9 R9 J9 I9)) (xQX (fun c9 S9 R9 J9 I9 => QX c9 S9 R9 J9 I9)) MC MS) (hT : hh_XT X []) : ∀ (p1 : Int32) (bb : Nat) (s : xS) (rd : xRd) (J : mJ) (I : mI), x_X7_whole_j15 QX Q  p1 bb s rd J I → ∀ z k : Nat, z + bb ≤ MC → k + 5 * bb ≤ MS → hh_V X 15 [(0, .ref 93)] [.int p1, .ref 93] z k (hx s rd J I) := by
  intro p1 bb s rd J I  hf
  intro z k hz hk
  unfold x_X7_whole_j15 at hf
  refine hx_callVXv (ci := 7) (q := (RX7, TX7, 11)) hX dX7_whole_15 (ct_X7_need p1 s rd J I _ _ hf) (lw_V q974 q976 qs21 q113 q977) rfl (by decide) ⟨rfl, np_X7_need⟩ rfl (xo_c (by decide) rfl) rfl ⟨Nat.le_of_ble_eq_true rfl, Nat.le_of_ble_eq_true rfl⟩ ⟨by dsimp only [hrx]; omega, by dsimp only [hrx]; omega⟩ (Nat.le_of_ble_eq_true rfl) ?_ ?_
  · intro c4 S9 R9 J9 I3 hq
    clear hf
    obtain ⟨rfl, rfl, rfl, hf⟩ := hq
    exact hx_out (c := c4) hX hE hT ⟨by omega, by omega⟩ hf
  intro  S9 R9 J9 I2 hq
  clear hf
  obtain ⟨rfl, rfl, rfl, hf⟩ := hq
  refine hv_bud (b := bb) (MC := MC) (MS := MS) ?_ (by omega) (by omega)
  clear hz hk
  intro z k hz hk
  refine hv_iconst (v := (-1)) hX icx_m1 dX7_whole_18 ?_
  refine hv_istore_n (loc2 := [(1, .int (-1)), (0, .ref 93)]) hX dX7_whole_19 rfl hN (Nat.le_of_ble_eq_true rfl) rfl ?_
  refine hv_aload_n hX dX7_whole_20 rfl 1 rfl ?_
  refine hv_ldcS (i := 6) (tx := "feed") hX rfl rfl dX7_whole_21 ?_
  refine hx_callVi (ci := 7) (q := (RX7, TX7, 11)) hX dX7_whole_23 (ct_X7_may 6 s rd J I2 _ hf) (lw_V q983 q985 qs22 q113 q986) rfl (by decide) ⟨rfl, np_X7_may⟩ rfl (xo_c (by decide) rfl) rfl ⟨Nat.le_of_ble_eq_true rfl, Nat.le_of_ble_eq_true rfl⟩ ⟨by dsimp only [hrx]; omega, by dsimp only [hrx]; omega⟩ (Nat.le_of_ble_eq_true rfl) ?_
  intro r6 S9 R9 J9 I5 hq
  clear hf
  obtain ⟨rfl, rfl, rfl, hf⟩ := hq
  refine hv_bud (b := bb) (MC := MC) (MS := MS) ?_ (by omega) (by omega)
  clear hz hk
  intro z k hz hk
  refine hv_if_ne (tgt := 41) hX dX7_whole_26 (by decide) (fun c7 => ?_) (fun c7 => ?_)
  · replace hf := hf.2 c7
    refine hv_fewer [1, 0] (loc2 := [(0, .ref 93), (1, .int (-1))]) rfl ?_
    exact w_X7_whole_j41 hX hN hE hT  _ _ _ _ _ _ hf _ _ hz hk
  · replace hf := hf.1 c7
    refine hv_aload_n hX dX7_whole_29 rfl 1 rfl ?_
    refine hv_ldcS (i := 7) (tx := "go") hX rfl rfl dX7_whole_30 ?_
    refine hx_callVXv (ci := 7) (q := (RX7, TX7, 11)) hX dX7_whole_32 (ct_X7_must 7 s rd J I5 _ _ hf) (lw_V q1040 q1042 qs24 q113 q1043) rfl (by decide) ⟨rfl, np_X7_must⟩ rfl (xo_c (by decide) rfl) rfl ⟨Nat.le_of_ble_eq_true rfl, Nat.le_of_ble_eq_true rfl⟩ ⟨by dsimp only [hrx]; omega, by dsimp only [hrx]; omega⟩ (Nat.le_of_ble_eq_true rfl) ?_ ?_
    · intro c35 S9 R9 J9 I34 hq
      clear hf
      obtain ⟨rfl, rfl, rfl, hf⟩ := hq
      exact hx_out (c := c35) hX hE hT ⟨by omega, by omega⟩ hf
    intro  S9 R9 J9 I33 hq
    clear hf
    obtain ⟨rfl, rfl, rfl, hf⟩ := hq
    refine hv_bud (b := bb) (MC := MC) (MS := MS) ?_ (by omega) (by omega)
    clear hz hk
    intro z k hz hk
    refine hv_aload_n hX dX7_whole_35 rfl 1 rfl ?_
    refine hv_iconst (v := 3) hX icx_3 dX7_whole_36 ?_
    refine hx_callVXi (ci := 7) (q := (RX7, TX7, 11)) hX dX7_whole_37 (ct_X7_number 3 s rd J I33 _ _ hf) (lw_V q1044 q1046 qs25 q113 q1047) rfl (by decide) ⟨rfl, np_X7_number⟩ rfl (xo_c (by decide) rfl) rfl ⟨Nat.le_of_ble_eq_true rfl, Nat.le_of_ble_eq_true rfl⟩ ⟨by dsimp only [hrx]; omega, by dsimp only [hrx]; omega⟩ (Nat.le_of_ble_eq_true rfl) ?_ ?_
    · intro c39 S9 R9 J9 I38 hq
      clear hf
      obtain ⟨rfl, rfl, rfl, hf⟩ := hq
      exact hx_out (c := c39) hX hE hT ⟨by omega, by omega⟩ hf
    intro r37 S9 R9 J9 I36 hq
    clear hf
    obtain ⟨rfl, rfl, rfl, hf⟩ := hq
    refine hv_bud (b := bb) (MC := MC) (MS := MS) ?_ (by omega) (by omega)
    clear hz hk
    intro z k hz hk
    refine hv_istore_n (loc2 := [(1, .int r37), (0, .ref 93)]) hX dX7_whole_40 rfl hN (Nat.le_of_ble_eq_true rfl) rfl ?_
    refine hv_fewer [1, 0] (loc2 := [(0, .ref 93), (1, .int r37)]) rfl ?_
    exact w_X7_whole_j41 hX hN hE hT  _ _ _ _ _ _ hf _ _ hz hk
def x_X7_whole (bb : Nat) (s : xS) (rd : xRd) (J : mJ) (I : mI) (QX : Nat → xS → xRd → mJ → mI → Prop) (Q : Nat → xS → xRd → mJ → mI → Prop) : Prop :=
  ((6 : Int32) ≤ (I 93 8) →
    x_X7_whole_j15 QX Q   0 bb s rd J I) ∧ (¬ (6 : Int32) ≤ (I 93 8) →
    x_X7_whole_j15 QX Q   1 bb s rd J I)
theorem ct_X7_whole  (bb : Nat) (s : xS) (rd : xRd) (J : mJ) (I : mI) (QX : Nat → xS → xRd → mJ → mI → Prop) (Q : Nat → xS → xRd → mJ → mI → Prop) (hf : x_X7_whole bb s rd J I QX Q) : hh_CtX yX7_whole cX7_whole 3 (some (.object "HungryHedge$Clause")) 46 1236 [.ref 93] (hx s rd J I) (xQr (fun r9 S9 R9 J9 I9 => Q r9 S9 R9 J9 I9)) (xQX (fun c9 S9 R9 J9 I9 => QX c9 S9 R9 J9 I9)) bb (5 * bb) := by
  refine hh_CtX.of (own := RX7) rfl (by decide +kernel) (Nat.le_of_ble_eq_true rfl) ?_
  intro X hX hN hE hT
  show hh_V X 0 [(0, .ref 93)] [] 0 0 (hx s rd J I)
  unfold x_X7_whole at hf
  refine hv_bud (b := bb) (MC := bb) (MS := 5 * bb) ?_ (by omega) (by omega)
  intro z k hz hk
  refine hv_aload_n hX dX7_whole_0 rfl 0 rfl ?_
  refine hv_aload_n hX dX7_whole_1 rfl 0 rfl ?_
  refine hx_getI (v := (I 93 8)) hX dX7_whole_2 fl7_149_7 (.inl rfl) (xo_c (by decide) rfl) rfl ?_
  refine hv_bipush (v := 6) hX bix_6 dX7_whole_5 ?_
  refine hv_icmp_ge (tgt := 14) hX dX7_whole_7 (by decide) (fun c1 => ?_) (fun c1 => ?_)
  · replace hf := hf.1 c1
    refine hv_iconst (v := 0) hX icx_0 dX7_whole_14 ?_
    exact w_X7_whole_j15 hX hN hE hT  _ _ _ _ _ _ hf _ _ hz hk
  · replace hf := hf.2 c1
    refine hv_iconst (v := 1) hX icx_1 dX7_whole_10 ?_
    refine hv_goto (tgt := 15) hX dX7_whole_11 (by decide) ?_
    exact w_X7_whole_j15 hX hN hE hT  _ _ _ _ _ _ hf _ _ hz hk
/-! HungryHedge$Reader.read([BI)V -/
def x_X7_read_j61 (QX : Nat → xS → xRd → mJ → mI → Prop) (Q : xS → xRd → mJ → mI → Prop) (k29 : Nat → xS → xRd → mJ → mI → Prop) (p1 : Int32) (bb : Nat) (s : xS) (rd : xRd) (J : mJ) (I : mI) : Prop :=
  ∃ b4 b5 : Nat, bb = b4 + b5 ∧ (x_X7_whole b4 s rd J I (fun c15 s11 rd12 J13 I14 => QX c15 s11 rd12 J13 I14) (fun r10 s6 rd7 J8 I9 => vp_in p1 6 ∧ (xo s6 r10 16 ∧ (xR0 96 p1.toNatClampNeg = none ∧ (k29 b5 s6 (u2 rd7 96 p1.toNatClampNeg (some r10)) J8 (u2 I9 93 8 ((I9 93 8) + 1)))))))
theorem w_X7_read_j61 {X : hh_CX} {MC MS : Nat}  {QX : Nat → xS → xRd → mJ → mI → Prop} {Q : xS → xRd → mJ → mI → Prop} (hX : hh_C X cX7_read RX7 (hrx 47 1258 MC MS)) (hN : hh_nL X = 3) (hE : hh_EX X none (xQv (fun S9 R9 J9 I9 => Q S9 R9 J9 I9)) (xQX (fun c9 S9 R9 J9 I9 => QX c9 S9 R9 J9 I9)) MC MS) (hT : hh_XT X []) {k29 : Nat → xS → xRd → mJ → mI → Prop} (hk29 : ∀ (b0 : Nat) (s : xS) (rd : xRd) (J : mJ) (I : mI), k29 b0 s rd J I → ∀ z k : Nat, z + b0 ≤ MC → k + 5 * b0 ≤ MS → hh_V X 29 [(0, .ref 93)] [] z k (hx s rd J I)) : ∀ (p1 : Int32) (bb : Nat) (s : xS) (rd : xRd) (J : mJ) (I : mI), x_X7_read_j61 QX Q k29 p1 bb s rd J I → ∀ z k : Nat, z + bb ≤ MC → k + 5 * bb ≤ MS → hh_V X 61 [(0, .ref 93)] [.int p1, .ref 96] z k (hx s rd J I) := by
  intro p1 bb s rd J I  hf
  intro z k hz hk
  unfold x_X7_read_j61 at hf
  refine hv_aload_n hX dX7_read_61 rfl 0 rfl ?_
  obtain ⟨b4, b5, eb5, hf⟩ := hf
  refine hx_callVXr (ci := 7) (q := (RX7, TX7, 11)) hX dX7_read_62 (ct_X7_whole b4 s rd J I _ _ hf) (lw_V q970 q972 qs20 q113 q973) rfl (by decide) ⟨rfl, np_X7_whole⟩ rfl (xo_c (by decide) rfl) rfl ⟨Nat.le_of_ble_eq_true rfl, Nat.le_of_ble_eq_true rfl⟩ ⟨by dsimp only [hrx]; omega, by dsimp only [hrx]; omega⟩ (Nat.le_of_ble_eq_true rfl) ?_ ?_
  · intro c15 s11 rd12 J13 I14 hq
    clear hf
    have hf := hq
    exact hx_out (c := c15) hX hE hT ⟨by omega, by omega⟩ hf
  intro r10 s6 rd7 J8 I9 hq
  clear hf
  have hf := hq
  refine hv_bud (b := b5) (MC := MC) (MS := MS) ?_ (by omega) (by omega)
  clear hz hk
  intro z k hz hk
  obtain ⟨g, hf⟩ := hf
  obtain ⟨o16, hf⟩ := hf
  obtain ⟨g0, hf⟩ := hf
  refine hx_aast (a := 22) hX 6 rfl (by decide) (q := (RX16, TX16, 2)) rfl (by decide) rfl dX7_read_65 (xo_c (by decide) rfl) (xlen_c (by decide) rfl) g o16 g0 ?_
  refine hv_aload_n hX dX7_read_66 rfl 0 rfl ?_
  refine hv_dup hX rfl dX7_read_67 ?_
  refine hx_getI (v := (I9 93 8)) hX dX7_read_68 fl7_149_7 (.inl rfl) (xo_c (by decide) rfl) rfl ?_
  refine hv_iconst (v := 1) hX icx_1 dX7_read_71 ?_
  refine hv_iadd hX dX7_read_72 ?_
  refine hx_putI hX dX7_read_73 fl7_149_7 (xo_c (by decide) rfl) ?_
  refine hv_goto (tgt := 29) hX dX7_read_76 (by decide) ?_
  exact hk29 _ _ _ _ _ hf _ _ hz hk
def x_X7_read_l29 (QX : Nat → xS → xRd → mJ → mI → Prop) (Q : xS → xRd → mJ → mI → Prop) : Nat → Nat → xS → xRd → mJ → mI → Prop
  | 0, _, _, _, _, _ => False
  | n + 1, bb, s, rd, J, I =>
    ((I 93 4) ≤ (I 93 5) →
      Q s rd J I) ∧ (¬ (I 93 4) ≤ (I 93 5) →
      ((6 : Int32) ≤ (I 93 8) →
        x_X7_read_j61 QX Q  (fun b0 s rd J I => x_X7_read_l29 QX Q   n b0 s rd J I) 0 bb s rd J I) ∧ (¬ (6 : Int32) ≤ (I 93 8) →
        x_X7_read_j61 QX Q  (fun b0 s rd J I => x_X7_read_l29 QX Q   n b0 s rd J I) (I 93 8) bb s rd J I))
theorem w_X7_read_l29 {X : hh_CX} {MC MS : Nat}  {QX : Nat → xS → xRd → mJ → mI → Prop} {Q : xS → xRd → mJ → mI → Prop} (hX : hh_C X cX7_read RX7 (hrx 47 1258 MC MS)) (hN : hh_nL X = 3) (hE : hh_EX X none (xQv (fun S9 R9 J9 I9 => Q S9 R9 J9 I9)) (xQX (fun c9 S9 R9 J9 I9 => QX c9 S9 R9 J9 I9)) MC MS) (hT : hh_XT X []) : ∀ (n : Nat) (bb : Nat) (s : xS) (rd : xRd) (J : mJ) (I : mI), x_X7_read_l29 QX Q  n bb s rd J I → ∀ z k : Nat, z + bb ≤ MC → k + 5 * bb ≤ MS → hh_V X 29 [(0, .ref 93)] [] z k (hx s rd J I) := by
  intro n
  induction n with
  | zero => intro _ _ _ _ _  hf; exact hf.elim
  | succ n ih =>
    intro bb s rd J I  hf
    intro z k hz hk
    unfold x_X7_read_l29 at hf
    refine hv_aload_n hX dX7_read_29 rfl 0 rfl ?_
    refine hx_getI (v := (I 93 5)) hX dX7_read_30 fl7_42_7 (.inl rfl) (xo_c (by decide) rfl) rfl ?_
    refine hv_aload_n hX dX7_read_33 rfl 0 rfl ?_
    refine hx_getI (v := (I 93 4)) hX dX7_read_34 fl7_46_7 (.inl rfl) (xo_c (by decide) rfl) rfl ?_
    refine hv_icmp_ge (tgt := 79) hX dX7_read_37 (by decide) (fun c2 => ?_) (fun c2 => ?_)
    · replace hf := hf.1 c2
      refine hv_widen (z' := MC) (k' := MS) (by omega) (by omega) ?_
      exact hv_xret hX hE (fun X hX hE => hx_vret hX hE dX7_read_79 hf)
    · replace hf := hf.2 c2
      refine hv_aload_n hX dX7_read_40 rfl 0 rfl ?_
      refine hx_getR (v := 96) hX dX7_read_41 fl7_38_7 (xo_c (by decide) rfl) (xR_c rfl) ?_
      refine hv_aload_n hX dX7_read_44 rfl 0 rfl ?_
      refine hx_getI (v := (I 93 8)) hX dX7_read_45 fl7_149_7 (.inl rfl) (xo_c (by decide) rfl) rfl ?_
      refine hv_bipush (v := 6) hX bix_6 dX7_read_48 ?_
      refine hv_icmp_ge (tgt := 60) hX dX7_read_50 (by decide) (fun c3 => ?_) (fun c3 => ?_)
      · replace hf := hf.1 c3
        refine hv_iconst (v := 0) hX icx_0 dX7_read_60 ?_
        exact w_X7_read_j61 hX hN hE hT ih _ _ _ _ _ _ hf _ _ hz hk
      · replace hf := hf.2 c3
        refine hv_aload_n hX dX7_read_53 rfl 0 rfl ?_
        refine hx_getI (v := (I 93 8)) hX dX7_read_54 fl7_149_7 (.inl rfl) (xo_c (by decide) rfl) rfl ?_
        refine hv_goto (tgt := 61) hX dX7_read_57 (by decide) ?_
        exact w_X7_read_j61 hX hN hE hT ih _ _ _ _ _ _ hf _ _ hz hk
def x_X7_read (a1 : Nat) (a2 : Int32) (bb : Nat) (s : xS) (rd : xRd) (J : mJ) (I : mI) (QX : Nat → xS → xRd → mJ → mI → Prop) (Q : xS → xRd → mJ → mI → Prop) : Prop :=
  x_X7_next s (u2 rd 93 3 (some a1)) J (u2 (u2 (u2 (u2 I 93 4 a2) 93 6 0) 93 7 0) 93 8 0) (fun I1 => ∃ n0 : Nat, x_X7_read_l29 QX Q   n0 bb s (u2 rd 93 3 (some a1)) J I1)
theorem ct_X7_read  (a1 : Nat) (a2 : Int32) (bb : Nat) (s : xS) (rd : xRd) (J : mJ) (I : mI) (QX : Nat → xS → xRd → mJ → mI → Prop) (Q : xS → xRd → mJ → mI → Prop) (hf : x_X7_read a1 a2 bb s rd J I QX Q) : hh_CtX yX7_read cX7_read 3 none 47 1258 [.ref 93, .ref a1, .int a2] (hx s rd J I) (xQv (fun S9 R9 J9 I9 => Q S9 R9 J9 I9)) (xQX (fun c9 S9 R9 J9 I9 => QX c9 S9 R9 J9 I9)) bb (5 * bb) := by
  refine hh_CtX.of (own := RX7) rfl (by decide +kernel) (Nat.le_of_ble_eq_true rfl) ?_
  intro X hX hN hE hT
  show hh_V X 0 [(0, .ref 93), (1, .ref a1), (2, .int a2)] [] 0 0 (hx s rd J I)
  unfold x_X7_read at hf
  refine hv_bud (b := bb) (MC := bb) (MS := 5 * bb) ?_ (by omega) (by omega)
  intro z k hz hk
  refine hv_aload_n hX dX7_read_0 rfl 0 rfl ?_
  refine hv_aload_n hX dX7_read_1 rfl 1 rfl ?_
  refine hx_putO (v := (some a1)) hX dX7_read_2 fl7_49_7 (xo_c (by decide) rfl) rfl ?_
  refine hv_aload_n hX dX7_read_5 rfl 0 rfl ?_
  refine hv_iload_n hX dX7_read_6 rfl 2 rfl ?_
  refine hx_putI hX dX7_read_7 fl7_46_7 (xo_c (by decide) rfl) ?_
  refine hv_aload_n hX dX7_read_10 rfl 0 rfl ?_
  refine hv_iconst (v := 0) hX icx_0 dX7_read_11 ?_
  refine hx_putI hX dX7_read_12 fl7_53_7 (xo_c (by decide) rfl) ?_
  refine hv_aload_n hX dX7_read_15 rfl 0 rfl ?_
  refine hv_iconst (v := 0) hX icx_0 dX7_read_16 ?_
  refine hx_putI hX dX7_read_17 fl7_110_7 (xo_c (by decide) rfl) ?_
  refine hv_aload_n hX dX7_read_20 rfl 0 rfl ?_
  refine hv_iconst (v := 0) hX icx_0 dX7_read_21 ?_
  refine hx_putI hX dX7_read_22 fl7_149_7 (xo_c (by decide) rfl) ?_
  refine hv_aload_n hX dX7_read_25 rfl 0 rfl ?_
  refine hx_callVv (ci := 7) (q := (RX7, TX7, 11)) hX dX7_read_26 (ct_X7_next s (u2 rd 93 3 (some a1)) J (u2 (u2 (u2 (u2 I 93 4 a2) 93 6 0) 93 7 0) 93 8 0) _ hf) (lw_V q956 q958 qs18 q113 q959) rfl (by decide) ⟨rfl, np_X7_next⟩ rfl (xo_c (by decide) rfl) rfl ⟨Nat.le_of_ble_eq_true rfl, Nat.le_of_ble_eq_true rfl⟩ ⟨by dsimp only [hrx]; omega, by dsimp only [hrx]; omega⟩ (Nat.le_of_ble_eq_true rfl) ?_
  intro  S9 R9 J9 I1 hq
  clear hf
  obtain ⟨rfl, rfl, rfl, hf⟩ := hq
  refine hv_bud (b := bb) (MC := bb) (MS := (5 * bb)) ?_ (by omega) (by omega)
  clear hz hk
  intro z k hz hk
  refine hv_fewer [0] (loc2 := [(0, .ref 93)]) rfl ?_
  obtain ⟨n0, hf⟩ := hf
  exact w_X7_read_l29 hX hN hE hT  n0 _ _ _ _ _ hf _ _ hz hk
/-! HungryHedge.read()I -/
def x_X0_read  (s : xS) (rd : xRd) (J : mJ) (I : mI) (Q : Int32 → xS → xRd → mJ → mI → Prop) : Prop :=
  x_X7_read 92 (I 0 8) 256 s rd J (u2 I 0 8 0) (fun c9 s5 rd6 J7 I8 => (c9 = 2 ∧ (Q ((-100) - (I8 95 6)) s5 rd6 J7 I8))) (fun s1 rd2 J3 I4 => (¬ (0 : Int32) < 0 ∧ ¬ (0 : Int32) < 0 ∧ ¬ (6 : Int32) < 0 ∧ (0 : Int32).toNatClampNeg + (6 : Int32).toNatClampNeg ≤ (xlen s1 96) ∧ (0 : Int32).toNatClampNeg + (6 : Int32).toNatClampNeg ≤ (xlen s1 9)) ∧ ((∀ i, i < (6 : Int32).toNatClampNeg → ∀ y, xR rd2 96 ((0 : Int32).toNatClampNeg + i) = some y → xo s1 y 16) ∧ (Q (I4 93 8) s1 (ur rd2 9 (va_cpy (xR rd2 96) (xR rd2 9) (0 : Int32).toNatClampNeg (0 : Int32).toNatClampNeg (6 : Int32).toNatClampNeg)) J3 (u2 I4 1 2 (I4 93 8)))))
theorem ct_X0_read   (s : xS) (rd : xRd) (J : mJ) (I : mI) (Q : Int32 → xS → xRd → mJ → mI → Prop) (hf : x_X0_read  s rd J I Q) : hh_CtW yX0_read cX0_read 3 (some .int) [((10 : Nat), (22 : Nat), (25 : Nat), (288 : Nat))] 48 1280 [.ref 0] (hx s rd J I) (xQi (fun r9 S9 R9 J9 I9 => Q r9 S9 R9 J9 I9)) 256 1280 := by
  refine hh_CtW.of (own := RX0) rfl (by decide +kernel) (Nat.le_of_ble_eq_true rfl) ?_
  intro X hX hN hE hT
  show hh_V X 0 [(0, .ref 0)] [] 0 0 (hx s rd J I)
  unfold x_X0_read at hf
  refine hv_aload_n hX dX0_read_0 rfl 0 rfl ?_
  refine hx_getI (v := (I 0 8)) hX dX0_read_1 fl0_281_0 (.inl rfl) (xo_c (by decide) rfl) rfl ?_
  refine hv_istore_n (loc2 := [(1, .int (I 0 8)), (0, .ref 0)]) hX dX0_read_4 rfl hN (Nat.le_of_ble_eq_true rfl) rfl ?_
  refine hv_aload_n hX dX0_read_5 rfl 1 rfl ?_
  refine hv_iconst (v := 0) hX icx_0 dX0_read_6 ?_
  refine hx_putI hX dX0_read_7 fl0_281_0 (xo_c (by decide) rfl) ?_
  refine hv_aload_n hX dX0_read_10 rfl 1 rfl ?_
  refine hx_getR (v := 93) hX dX0_read_11 fl0_56_0 (xo_c (by decide) rfl) (xR_c rfl) ?_
  refine hv_aload_n hX dX0_read_14 rfl 1 rfl ?_
  refine hx_getR (v := 92) hX dX0_read_15 fl0_49_0 (xo_c (by decide) rfl) (xR_c rfl) ?_
  refine hv_iload_n hX dX0_read_18 rfl 0 rfl ?_
  refine hx_callVXv (ci := 7) (q := (RX7, TX7, 11)) hX dX0_read_19 (ct_X7_read 92 (I 0 8) 256 s rd J (u2 I 0 8 0) _ _ hf) (lw_V q952 q953 q954 q113 q955) rfl (by decide) ⟨rfl, np_X7_read⟩ rfl (xo_c (by decide) rfl) rfl ⟨Nat.le_of_ble_eq_true rfl, Nat.le_of_ble_eq_true rfl⟩ ⟨Nat.le_of_ble_eq_true rfl, Nat.le_of_ble_eq_true rfl⟩ (Nat.le_of_ble_eq_true rfl) ?_ ?_
  · intro c9 s5 rd6 J7 I8 hq
    clear hf
    have hf := hq
    rcases hf with ⟨rfl, hf⟩
    · skip
      refine ht_catch (r := 95) hX hT (⟨10, 22, 25, 288⟩ : ExceptionTableEntry) (ht_takes.here (by decide) (by decide) q951 (hh_nwm q384 rfl)) ?_
      refine hv_astore_n (loc2 := [(2, .ref 95), (1, .int (I 0 8)), (0, .ref 0)]) hX dX0_read_25 rfl hN (Nat.le_of_ble_eq_true rfl) rfl ?_
      refine hv_bipush (v := (-100)) hX bix_m100 dX0_read_26 ?_
      refine hv_aload_n hX dX0_read_28 rfl 0 rfl ?_
      refine hx_getI (v := (I8 95 6)) hX dX0_read_29 fl0_290_8 (.inl rfl) (xo_c (by decide) rfl) rfl ?_
      refine hv_isub hX dX0_read_32 ?_
      exact hx_iret hX hE dX0_read_33 hf
  intro  s1 rd2 J3 I4 hq
  clear hf
  have hf := hq
  refine hv_goto (tgt := 34) hX dX0_read_22 (by decide) ?_
  refine hv_aload_n hX dX0_read_34 rfl 1 rfl ?_
  refine hx_getR (v := 93) hX dX0_read_35 fl0_56_0 (xo_c (by decide) rfl) (xR_c rfl) ?_
  refine hx_getR (v := 96) hX dX0_read_38 fl0_293_7 (xo_c (by decide) rfl) (xR_c rfl) ?_
  refine hv_iconst (v := 0) hX icx_0 dX0_read_41 ?_
  refine hv_aload_n hX dX0_read_42 rfl 1 rfl ?_
  refine hx_getR (v := 1) hX dX0_read_43 fl0_10_0 (xo_c (by decide) rfl) (xR_c rfl) ?_
  refine hx_getR (v := 9) hX dX0_read_46 fl0_297_1 (xo_c (by decide) rfl) (xR_c rfl) ?_
  refine hv_iconst (v := 0) hX icx_0 dX0_read_49 ?_
  refine hv_bipush (v := 6) hX bix_6 dX0_read_50 ?_
  obtain ⟨g, hf⟩ := hf
  obtain ⟨g2, hf⟩ := hf
  refine hx_copyR (a := 22) hX 6 rfl (by decide) (q := (RX16, TX16, 2)) rfl (by decide) rfl dX0_read_52 q688 q690 q689 q126 (xo_c (by decide) rfl) (xo_c (by decide) rfl) g g2 (fun _ => rfl) ⟨Nat.le_of_ble_eq_true rfl, Nat.le_of_ble_eq_true rfl⟩ ?_
  refine hv_aload_n hX dX0_read_55 rfl 1 rfl ?_
  refine hx_getR (v := 1) hX dX0_read_56 fl0_10_0 (xo_c (by decide) rfl) (xR_c rfl) ?_
  refine hv_aload_n hX dX0_read_59 rfl 1 rfl ?_
  refine hx_getR (v := 93) hX dX0_read_60 fl0_56_0 (xo_c (by decide) rfl) (xR_c rfl) ?_
  refine hx_getI (v := (I4 93 8)) hX dX0_read_63 fl0_298_7 (.inl rfl) (xo_c (by decide) rfl) rfl ?_
  refine hx_putI hX dX0_read_66 fl0_301_1 (xo_c (by decide) rfl) ?_
  refine hv_aload_n hX dX0_read_69 rfl 1 rfl ?_
  refine hx_getR (v := 1) hX dX0_read_70 fl0_10_0 (xo_c (by decide) rfl) (xR_c rfl) ?_
  refine hx_getI (v := (I4 93 8)) hX dX0_read_73 fl0_301_1 (.inl rfl) (xo_c (by decide) rfl) (u2_self _ _ _ _) ?_
  exact hx_iret hX hE dX0_read_76 hf
