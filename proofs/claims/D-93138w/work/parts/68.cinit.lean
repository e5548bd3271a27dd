set_option maxRecDepth 100000
set_option maxHeartbeats 4000000
/-! CONSTRUCTORS -/
theorem bix_28 : (Int8.ofInt 28).toInt32 = 28 := by decide
theorem bix_16 : (Int8.ofInt 16).toInt32 = 16 := by decide
theorem bix_22 : (Int8.ofInt 22).toInt32 = 22 := by decide
theorem six_241 : (Int16.ofInt 241).toInt32 = 241 := by decide
theorem bix_44 : (Int8.ofInt 44).toInt32 = 44 := by decide
theorem six_210 : (Int16.ofInt 210).toInt32 = 210 := by decide
theorem bix_24 : (Int8.ofInt 24).toInt32 = 24 := by decide
theorem six_3133 : (Int16.ofInt 3133).toInt32 = 3133 := by decide
theorem six_160 : (Int16.ofInt 160).toInt32 = 160 := by decide
theorem six_400 : (Int16.ofInt 400).toInt32 = 400 := by decide
theorem flJ0_7_8 : hh_FL RJ0 7 8 0 2 false := ⟨RX8, TX8, 7, tyX8, "java/lang/Throwable", by decide, rfl, in_X8, by decide, rfl, rfl, .inl q442, tyX8_ok, .inl nmX8, rfl, rfl, .inl rfl⟩
theorem flJ0_17_8 : hh_FL RJ0 17 8 1 2 false := ⟨RX8, TX8, 7, tyX8, "java/lang/Throwable", by decide, rfl, in_X8, by decide, rfl, rfl, .inl q443, tyX8_ok, .inl nmX8, rfl, rfl, .inl rfl⟩
theorem flJ0_24_8 : hh_FL RJ0 24 8 2 2 false := ⟨RX8, TX8, 7, tyX8, "java/lang/Throwable", by decide, rfl, in_X8, by decide, rfl, rfl, .inl q444, tyX8_ok, .inl nmX8, rfl, rfl, .inl rfl⟩
theorem flJ0_31_8 : hh_FL RJ0 31 8 3 2 false := ⟨RX8, TX8, 7, tyX8, "java/lang/Throwable", by decide, rfl, in_X8, by decide, rfl, rfl, .inl q441, tyX8_ok, .inl nmX8, rfl, rfl, .inl rfl⟩
theorem flJ0_7_11 : hh_FL RJ0 7 11 0 2 false := ⟨RX11, TX11, 6, tyX11, "java/lang/Throwable", by decide, rfl, in_X11, by decide, rfl, rfl, .inl q442, tyX11_ok, .inl nmX11, rfl, rfl, .inl rfl⟩
theorem flJ0_17_11 : hh_FL RJ0 17 11 1 2 false := ⟨RX11, TX11, 6, tyX11, "java/lang/Throwable", by decide, rfl, in_X11, by decide, rfl, rfl, .inl q443, tyX11_ok, .inl nmX11, rfl, rfl, .inl rfl⟩
theorem flJ0_24_11 : hh_FL RJ0 24 11 2 2 false := ⟨RX11, TX11, 6, tyX11, "java/lang/Throwable", by decide, rfl, in_X11, by decide, rfl, rfl, .inl q444, tyX11_ok, .inl nmX11, rfl, rfl, .inl rfl⟩
theorem flJ0_31_11 : hh_FL RJ0 31 11 3 2 false := ⟨RX11, TX11, 6, tyX11, "java/lang/Throwable", by decide, rfl, in_X11, by decide, rfl, rfl, .inl q441, tyX11_ok, .inl nmX11, rfl, rfl, .inl rfl⟩
theorem flJ0_7_12 : hh_FL RJ0 7 12 0 2 false := ⟨RX12, TX12, 6, tyX12, "java/lang/Throwable", by decide, rfl, in_X12, by decide, rfl, rfl, .inl q442, tyX12_ok, .inl nmX12, rfl, rfl, .inl rfl⟩
theorem flJ0_17_12 : hh_FL RJ0 17 12 1 2 false := ⟨RX12, TX12, 6, tyX12, "java/lang/Throwable", by decide, rfl, in_X12, by decide, rfl, rfl, .inl q443, tyX12_ok, .inl nmX12, rfl, rfl, .inl rfl⟩
theorem flJ0_24_12 : hh_FL RJ0 24 12 2 2 false := ⟨RX12, TX12, 6, tyX12, "java/lang/Throwable", by decide, rfl, in_X12, by decide, rfl, rfl, .inl q444, tyX12_ok, .inl nmX12, rfl, rfl, .inl rfl⟩
theorem flJ0_31_12 : hh_FL RJ0 31 12 3 2 false := ⟨RX12, TX12, 6, tyX12, "java/lang/Throwable", by decide, rfl, in_X12, by decide, rfl, rfl, .inl q441, tyX12_ok, .inl nmX12, rfl, rfl, .inl rfl⟩
theorem fl14_7_14 : hh_FL RX14 7 14 2 0 false := ⟨RX14, TX14, 74, tyX14, "HungryHedgeModel", by decide, rfl, in_X14, by decide, rfl, rfl, .inl q1698, tyX14_ok, .inl nmX14, rfl, rfl, .inl rfl⟩
theorem fl14_13_14 : hh_FL RX14 13 14 4 0 false := ⟨RX14, TX14, 74, tyX14, "HungryHedgeModel", by decide, rfl, in_X14, by decide, rfl, rfl, .inl q1700, tyX14_ok, .inl nmX14, rfl, rfl, .inl rfl⟩
theorem fl14_16_14 : hh_FL RX14 16 14 5 0 false := ⟨RX14, TX14, 74, tyX14, "HungryHedgeModel", by decide, rfl, in_X14, by decide, rfl, rfl, .inl q1701, tyX14_ok, .inl nmX14, rfl, rfl, .inl rfl⟩
theorem fl14_19_14 : hh_FL RX14 19 14 11 2 true := ⟨RX14, TX14, 74, tyX14, "HungryHedgeModel", by decide, rfl, in_X14, by decide, rfl, rfl, .inl q1707, tyX14_ok, .inl nmX14, rfl, rfl, .inl rfl⟩
theorem fl14_23_14 : hh_FL RX14 23 14 13 2 true := ⟨RX14, TX14, 74, tyX14, "HungryHedgeModel", by decide, rfl, in_X14, by decide, rfl, rfl, .inl q1709, tyX14_ok, .inl nmX14, rfl, rfl, .inl rfl⟩
theorem fl14_26_14 : hh_FL RX14 26 14 14 2 true := ⟨RX14, TX14, 74, tyX14, "HungryHedgeModel", by decide, rfl, in_X14, by decide, rfl, rfl, .inl q1710, tyX14_ok, .inl nmX14, rfl, rfl, .inl rfl⟩
theorem fl14_29_14 : hh_FL RX14 29 14 15 2 true := ⟨RX14, TX14, 74, tyX14, "HungryHedgeModel", by decide, rfl, in_X14, by decide, rfl, rfl, .inl q1711, tyX14_ok, .inl nmX14, rfl, rfl, .inl rfl⟩
theorem fl14_32_14 : hh_FL RX14 32 14 16 2 true := ⟨RX14, TX14, 74, tyX14, "HungryHedgeModel", by decide, rfl, in_X14, by decide, rfl, rfl, .inl q1712, tyX14_ok, .inl nmX14, rfl, rfl, .inl rfl⟩
theorem fl14_35_14 : hh_FL RX14 35 14 17 2 true := ⟨RX14, TX14, 74, tyX14, "HungryHedgeModel", by decide, rfl, in_X14, by decide, rfl, rfl, .inl q1713, tyX14_ok, .inl nmX14, rfl, rfl, .inl rfl⟩
theorem fl14_38_14 : hh_FL RX14 38 14 18 0 false := ⟨RX14, TX14, 74, tyX14, "HungryHedgeModel", by decide, rfl, in_X14, by decide, rfl, rfl, .inl q1714, tyX14_ok, .inl nmX14, rfl, rfl, .inl rfl⟩
theorem fl14_42_14 : hh_FL RX14 42 14 23 2 true := ⟨RX14, TX14, 74, tyX14, "HungryHedgeModel", by decide, rfl, in_X14, by decide, rfl, rfl, .inl q1719, tyX14_ok, .inl nmX14, rfl, rfl, .inl rfl⟩
theorem fl14_45_14 : hh_FL RX14 45 14 24 2 true := ⟨RX14, TX14, 74, tyX14, "HungryHedgeModel", by decide, rfl, in_X14, by decide, rfl, rfl, .inl q1720, tyX14_ok, .inl nmX14, rfl, rfl, .inl rfl⟩
theorem fl14_48_14 : hh_FL RX14 48 14 25 2 true := ⟨RX14, TX14, 74, tyX14, "HungryHedgeModel", by decide, rfl, in_X14, by decide, rfl, rfl, .inl q1721, tyX14_ok, .inl nmX14, rfl, rfl, .inl rfl⟩
theorem fl14_51_14 : hh_FL RX14 51 14 26 2 true := ⟨RX14, TX14, 74, tyX14, "HungryHedgeModel", by decide, rfl, in_X14, by decide, rfl, rfl, .inl q1722, tyX14_ok, .inl nmX14, rfl, rfl, .inl rfl⟩
theorem fl14_54_14 : hh_FL RX14 54 14 27 2 true := ⟨RX14, TX14, 74, tyX14, "HungryHedgeModel", by decide, rfl, in_X14, by decide, rfl, rfl, .inl q1723, tyX14_ok, .inl nmX14, rfl, rfl, .inl rfl⟩
theorem fl14_57_14 : hh_FL RX14 57 14 28 2 true := ⟨RX14, TX14, 74, tyX14, "HungryHedgeModel", by decide, rfl, in_X14, by decide, rfl, rfl, .inl q1724, tyX14_ok, .inl nmX14, rfl, rfl, .inl rfl⟩
theorem fl14_60_14 : hh_FL RX14 60 14 29 2 true := ⟨RX14, TX14, 74, tyX14, "HungryHedgeModel", by decide, rfl, in_X14, by decide, rfl, rfl, .inl q1725, tyX14_ok, .inl nmX14, rfl, rfl, .inl rfl⟩
theorem fl14_63_14 : hh_FL RX14 63 14 30 2 true := ⟨RX14, TX14, 74, tyX14, "HungryHedgeModel", by decide, rfl, in_X14, by decide, rfl, rfl, .inl q1726, tyX14_ok, .inl nmX14, rfl, rfl, .inl rfl⟩
theorem fl14_66_14 : hh_FL RX14 66 14 33 2 true := ⟨RX14, TX14, 74, tyX14, "HungryHedgeModel", by decide, rfl, in_X14, by decide, rfl, rfl, .inl q1729, tyX14_ok, .inl nmX14, rfl, rfl, .inl rfl⟩
theorem fl14_70_14 : hh_FL RX14 70 14 34 0 false := ⟨RX14, TX14, 74, tyX14, "HungryHedgeModel", by decide, rfl, in_X14, by decide, rfl, rfl, .inl q1730, tyX14_ok, .inl nmX14, rfl, rfl, .inl rfl⟩
theorem fl14_73_14 : hh_FL RX14 73 14 35 2 true := ⟨RX14, TX14, 74, tyX14, "HungryHedgeModel", by decide, rfl, in_X14, by decide, rfl, rfl, .inl q1731, tyX14_ok, .inl nmX14, rfl, rfl, .inl rfl⟩
theorem fl14_76_14 : hh_FL RX14 76 14 36 2 true := ⟨RX14, TX14, 74, tyX14, "HungryHedgeModel", by decide, rfl, in_X14, by decide, rfl, rfl, .inl q1732, tyX14_ok, .inl nmX14, rfl, rfl, .inl rfl⟩
theorem fl14_79_14 : hh_FL RX14 79 14 37 2 true := ⟨RX14, TX14, 74, tyX14, "HungryHedgeModel", by decide, rfl, in_X14, by decide, rfl, rfl, .inl q1733, tyX14_ok, .inl nmX14, rfl, rfl, .inl rfl⟩
theorem fl14_82_14 : hh_FL RX14 82 14 38 2 true := ⟨RX14, TX14, 74, tyX14, "HungryHedgeModel", by decide, rfl, in_X14, by decide, rfl, rfl, .inl q1734, tyX14_ok, .inl nmX14, rfl, rfl, .inl rfl⟩
theorem fl14_85_14 : hh_FL RX14 85 14 45 2 true := ⟨RX14, TX14, 74, tyX14, "HungryHedgeModel", by decide, rfl, in_X14, by decide, rfl, rfl, .inl q1741, tyX14_ok, .inl nmX14, rfl, rfl, .inl rfl⟩
theorem fl14_88_14 : hh_FL RX14 88 14 46 2 true := ⟨RX14, TX14, 74, tyX14, "HungryHedgeModel", by decide, rfl, in_X14, by decide, rfl, rfl, .inl q1742, tyX14_ok, .inl nmX14, rfl, rfl, .inl rfl⟩
theorem fl14_91_14 : hh_FL RX14 91 14 47 2 true := ⟨RX14, TX14, 74, tyX14, "HungryHedgeModel", by decide, rfl, in_X14, by decide, rfl, rfl, .inl q1743, tyX14_ok, .inl nmX14, rfl, rfl, .inl rfl⟩
theorem fl14_94_14 : hh_FL RX14 94 14 48 2 true := ⟨RX14, TX14, 74, tyX14, "HungryHedgeModel", by decide, rfl, in_X14, by decide, rfl, rfl, .inl q1744, tyX14_ok, .inl nmX14, rfl, rfl, .inl rfl⟩
theorem fl14_97_14 : hh_FL RX14 97 14 55 2 true := ⟨RX14, TX14, 74, tyX14, "HungryHedgeModel", by decide, rfl, in_X14, by decide, rfl, rfl, .inl q1751, tyX14_ok, .inl nmX14, rfl, rfl, .inl rfl⟩
theorem fl14_100_14 : hh_FL RX14 100 14 56 2 true := ⟨RX14, TX14, 74, tyX14, "HungryHedgeModel", by decide, rfl, in_X14, by decide, rfl, rfl, .inl q1752, tyX14_ok, .inl nmX14, rfl, rfl, .inl rfl⟩
theorem fl14_103_14 : hh_FL RX14 103 14 58 2 true := ⟨RX14, TX14, 74, tyX14, "HungryHedgeModel", by decide, rfl, in_X14, by decide, rfl, rfl, .inl q1754, tyX14_ok, .inl nmX14, rfl, rfl, .inl rfl⟩
theorem fl14_106_14 : hh_FL RX14 106 14 59 2 true := ⟨RX14, TX14, 74, tyX14, "HungryHedgeModel", by decide, rfl, in_X14, by decide, rfl, rfl, .inl q1755, tyX14_ok, .inl nmX14, rfl, rfl, .inl rfl⟩
theorem fl14_109_14 : hh_FL RX14 109 14 60 2 true := ⟨RX14, TX14, 74, tyX14, "HungryHedgeModel", by decide, rfl, in_X14, by decide, rfl, rfl, .inl q1756, tyX14_ok, .inl nmX14, rfl, rfl, .inl rfl⟩
theorem fl14_112_14 : hh_FL RX14 112 14 61 2 true := ⟨RX14, TX14, 74, tyX14, "HungryHedgeModel", by decide, rfl, in_X14, by decide, rfl, rfl, .inl q1757, tyX14_ok, .inl nmX14, rfl, rfl, .inl rfl⟩
theorem fl14_115_14 : hh_FL RX14 115 14 62 2 true := ⟨RX14, TX14, 74, tyX14, "HungryHedgeModel", by decide, rfl, in_X14, by decide, rfl, rfl, .inl q1758, tyX14_ok, .inl nmX14, rfl, rfl, .inl rfl⟩
theorem fl14_118_14 : hh_FL RX14 118 14 63 2 true := ⟨RX14, TX14, 74, tyX14, "HungryHedgeModel", by decide, rfl, in_X14, by decide, rfl, rfl, .inl q1759, tyX14_ok, .inl nmX14, rfl, rfl, .inl rfl⟩
theorem fl14_121_14 : hh_FL RX14 121 14 67 2 true := ⟨RX14, TX14, 74, tyX14, "HungryHedgeModel", by decide, rfl, in_X14, by decide, rfl, rfl, .inl q1763, tyX14_ok, .inl nmX14, rfl, rfl, .inl rfl⟩
theorem fl14_124_14 : hh_FL RX14 124 14 71 2 true := ⟨RX14, TX14, 74, tyX14, "HungryHedgeModel", by decide, rfl, in_X14, by decide, rfl, rfl, .inl q1767, tyX14_ok, .inl nmX14, rfl, rfl, .inl rfl⟩
theorem fl14_127_14 : hh_FL RX14 127 14 73 2 true := ⟨RX14, TX14, 74, tyX14, "HungryHedgeModel", by decide, rfl, in_X14, by decide, rfl, rfl, .inl q1769, tyX14_ok, .inl nmX14, rfl, rfl, .inl rfl⟩
theorem nl1_52 : hh_NL RX1 52 2 4 := ⟨RX2, TX2, tyX2, by decide, rfl, in_X2, tyX2_ok, rfl, by decide +kernel, q165, q166, q108⟩
theorem nl3_20 : hh_NL RX3 20 2 4 := ⟨RX2, TX2, tyX2, by decide, rfl, in_X2, tyX2_ok, rfl, by decide +kernel, q284, q166, q108⟩
theorem nl7_29 : hh_NL RX7 29 8 7 := ⟨RX8, TX8, tyX8, by decide, rfl, in_X8, tyX8_ok, rfl, by decide +kernel, q382, q383, q117⟩
theorem nl0_7 : hh_NL RX0 7 1 17 := ⟨RX1, TX1, tyX1, by decide, rfl, in_X1, tyX1_ok, rfl, by decide +kernel, q155, q156, q107⟩
theorem nl0_19 : hh_NL RX0 19 3 4 := ⟨RX3, TX3, tyX3, by decide, rfl, in_X3, tyX3_ok, rfl, by decide +kernel, q277, q278, q109⟩
theorem nl0_28 : hh_NL RX0 28 4 5 := ⟨RX4, TX4, tyX4, by decide, rfl, in_X4, tyX4_ok, rfl, by decide +kernel, q300, q301, q110⟩
theorem nl0_35 : hh_NL RX0 35 5 2 := ⟨RX5, TX5, tyX5, by decide, rfl, in_X5, tyX5_ok, rfl, by decide +kernel, q325, q326, q111⟩
theorem nl0_42 : hh_NL RX0 42 6 6 := ⟨RX6, TX6, tyX6, by decide, rfl, in_X6, tyX6_ok, rfl, by decide +kernel, q342, q343, q112⟩
theorem nl0_53 : hh_NL RX0 53 7 11 := ⟨RX7, TX7, tyX7, by decide, rfl, in_X7, tyX7_ok, rfl, by decide +kernel, q368, q369, q113⟩
theorem nl0_60 : hh_NL RX0 60 2 4 := ⟨RX2, TX2, tyX2, by decide, rfl, in_X2, tyX2_ok, rfl, by decide +kernel, q493, q166, q108⟩
theorem nl0_75 : hh_NL RX0 75 10 5 := ⟨RX10, TX10, tyX10, by decide, rfl, in_X10, tyX10_ok, rfl, by decide +kernel, q512, q514, q119⟩
theorem nl0_82 : hh_NL RX0 82 11 6 := ⟨RX11, TX11, tyX11, by decide, rfl, in_X11, tyX11_ok, rfl, by decide +kernel, q535, q536, q120⟩
theorem nl0_89 : hh_NL RX0 89 12 6 := ⟨RX12, TX12, tyX12, by decide, rfl, in_X12, tyX12_ok, rfl, by decide +kernel, q550, q551, q121⟩
theorem nl0_100 : hh_NL RX0 100 13 3 := ⟨RX13, TX13, tyX13, by decide, rfl, in_X13, tyX13_ok, rfl, by decide +kernel, q565, q567, q122⟩
abbrev kX : Nat → Nat := xK (fun _ => 0)
abbrev lX : Nat → Nat := xL (fun _ => 0)
theorem hmul_cl {N n m : Nat} {R : xRd} {J : mJ} {I : mI} (hc : Cln n R J I) (hm : n < m := by omega) : Cln m (hmul N n R) J I := fun r hr => ⟨(hc r (by omega)).1, (hc r (by omega)).2.1, fun k => by show (if r = n then _ else R r k) = none; rw [if_neg (by omega)]; exact (hc r (by omega)).2.2 k⟩
theorem thr_eq {R : xRd} {q : Nat} {w w2 : Option Nat} (hR : ∀ k, R q k = none) : u2 (u2 (u2 (u2 (u2 (u2 (u2 R q 0 (some q)) q 1 w) q 2 w2) q 1 none) q 3 none) q 0 none) q 2 none = R := by
  funext i k
  by_cases e : i = q
  · subst e
    rw [hR k]
    by_cases e2 : k = 2
    · rw [e2, u2_self]
    · rw [u2_ne _ _ (.inr e2)]
      by_cases e0 : k = 0
      · rw [e0, u2_self]
      · rw [u2_ne _ _ (.inr e0)]
        by_cases e3 : k = 3
        · rw [e3, u2_self]
        · rw [u2_ne _ _ (.inr e3)]
          by_cases e1 : k = 1
          · rw [e1, u2_self]
          · rw [u2_ne _ _ (.inr e1), u2_ne _ _ (.inr e2), u2_ne _ _ (.inr e1), u2_ne _ _ (.inr e0)]
            exact hR k
  · rw [u2_ne _ _ (.inl e), u2_ne _ _ (.inl e), u2_ne _ _ (.inl e), u2_ne _ _ (.inl e), u2_ne _ _ (.inl e), u2_ne _ _ (.inl e), u2_ne _ _ (.inl e)]
theorem cc_J0_8 (q n : Nat) (hq : q < n) (k0 : kX q = 8) {R : xRd} {J : mJ} {I : mI} (hR : ∀ k, R q k = none) (hc : Cln n R J I) : hh_Ct yJ0_init_2 cJ0_init_2 5 none 1 20 [.ref q, .null, .null, .int 0, .int 0] (hg kX lX n R J I) (fun v h' => v = none ∧ h' = hg kX lX n R J I) 0 0 := by
  refine hh_Ct.ofN (own := RJ0) rfl (by decide +kernel) (Nat.le_of_ble_eq_true rfl) ?_
  intro X hX hN hE hNm
  show hh_V X 0 [(0, .ref q), (1, .null), (2, .null), (3, .int 0), (4, .int 0)] [] 0 0 (hg kX lX n R J I)
  refine hv_aload_n hX dJ0_init_2_0 rfl 0 rfl ?_
  refine hv_objinit hX dJ0_init_2_1 q407 q153 q154 hN ⟨Nat.le_of_ble_eq_true rfl, Nat.le_of_ble_eq_true rfl⟩ ?_
  refine hv_aload_n hX dJ0_init_2_4 rfl 0 rfl ?_
  refine hv_aload_n hX dJ0_init_2_5 rfl 0 rfl ?_
  refine hv_putR (v := (some q)) hX dJ0_init_2_6 flJ0_7_8 (show q < n by omega) k0 ?_
  have hc := hc.R (k := 0) (v := (some q)) (show q < n from (show q < n by omega))
  show hh_V X 9 [(0, .ref q), (1, .null), (2, .null), (3, .int 0), (4, .int 0)] [] 0 0 (hg kX lX n (u2 R q 0 (some q)) J I)
  refine hv_aload_n hX dJ0_init_2_9 rfl 0 rfl ?_
  refine hv_gets (q := (1000200, "UNASSIGNED_STACK", "[Ljava/lang/StackTraceElement;")) hX (by decide) q408 dJ0_init_2_10 (fun w10 => ?_)
  refine hv_putR (v := w10) hX dJ0_init_2_13 flJ0_17_8 (show q < n by omega) k0 ?_
  have hc := hc.R (k := 1) (v := w10) (show q < n from (show q < n by omega))
  show hh_V X 16 [(0, .ref q), (1, .null), (2, .null), (3, .int 0), (4, .int 0)] [] 0 0 (hg kX lX n (u2 (u2 R q 0 (some q)) q 1 w10) J I)
  refine hv_aload_n hX dJ0_init_2_16 rfl 0 rfl ?_
  refine hv_gets (q := (1000201, "SUPPRESSED_SENTINEL", "Ljava/util/List;")) hX (by decide) q410 dJ0_init_2_17 (fun w17 => ?_)
  refine hv_putR (v := w17) hX dJ0_init_2_20 flJ0_24_8 (show q < n by omega) k0 ?_
  have hc := hc.R (k := 2) (v := w17) (show q < n from (show q < n by omega))
  show hh_V X 23 [(0, .ref q), (1, .null), (2, .null), (3, .int 0), (4, .int 0)] [] 0 0 (hg kX lX n (u2 (u2 (u2 R q 0 (some q)) q 1 w10) q 2 w17) J I)
  refine hv_iload hX dJ0_init_2_23 4 rfl ?_
  refine hv_if_eq (tgt := 36) hX dJ0_init_2_25 (by decide) (fun _ => ?_) (fun z => absurd rfl z)
  refine hv_aload_n hX dJ0_init_2_36 rfl 0 rfl ?_
  refine hv_null hX dJ0_init_2_37 ?_
  refine hv_putR (v := none) hX dJ0_init_2_38 flJ0_17_8 (show q < n by omega) k0 ?_
  have hc := hc.R (k := 1) (v := none) (show q < n from (show q < n by omega))
  show hh_V X 41 [(0, .ref q), (1, .null), (2, .null), (3, .int 0), (4, .int 0)] [] 0 0 (hg kX lX n (u2 (u2 (u2 (u2 R q 0 (some q)) q 1 w10) q 2 w17) q 1 none) J I)
  refine hv_aload_n hX dJ0_init_2_41 rfl 0 rfl ?_
  refine hv_aload_nN hX dJ0_init_2_42 rfl 1 rfl ?_
  refine hv_putR (v := none) hX dJ0_init_2_43 flJ0_31_8 (show q < n by omega) k0 ?_
  have hc := hc.R (k := 3) (v := none) (show q < n from (show q < n by omega))
  show hh_V X 46 [(0, .ref q), (1, .null), (2, .null), (3, .int 0), (4, .int 0)] [] 0 0 (hg kX lX n (u2 (u2 (u2 (u2 (u2 R q 0 (some q)) q 1 w10) q 2 w17) q 1 none) q 3 none) J I)
  refine hv_aload_n hX dJ0_init_2_46 rfl 0 rfl ?_
  refine hv_aload_nN hX dJ0_init_2_47 rfl 2 rfl ?_
  refine hv_putR (v := none) hX dJ0_init_2_48 flJ0_7_8 (show q < n by omega) k0 ?_
  have hc := hc.R (k := 0) (v := none) (show q < n from (show q < n by omega))
  show hh_V X 51 [(0, .ref q), (1, .null), (2, .null), (3, .int 0), (4, .int 0)] [] 0 0 (hg kX lX n (u2 (u2 (u2 (u2 (u2 (u2 R q 0 (some q)) q 1 w10) q 2 w17) q 1 none) q 3 none) q 0 none) J I)
  refine hv_iload_n hX dJ0_init_2_51 rfl 3 rfl ?_
  refine hv_if_ne (tgt := 60) hX dJ0_init_2_52 (by decide) (fun z => absurd rfl z) (fun _ => ?_)
  refine hv_aload_n hX dJ0_init_2_55 rfl 0 rfl ?_
  refine hv_null hX dJ0_init_2_56 ?_
  refine hv_putR (v := none) hX dJ0_init_2_57 flJ0_24_8 (show q < n by omega) k0 ?_
  have hc := hc.R (k := 2) (v := none) (show q < n from (show q < n by omega))
  show hh_V X 60 [(0, .ref q), (1, .null), (2, .null), (3, .int 0), (4, .int 0)] [] 0 0 (hg kX lX n (u2 (u2 (u2 (u2 (u2 (u2 (u2 R q 0 (some q)) q 1 w10) q 2 w17) q 1 none) q 3 none) q 0 none) q 2 none) J I)
  exact hv_vret hX hE dJ0_init_2_60 ⟨rfl, congrArg (fun R => hg kX lX n R J I) (thr_eq hR)⟩
theorem cc_J1_8 (q n : Nat) (hq : q < n) (k0 : kX q = 8) {R : xRd} {J : mJ} {I : mI} (hR : ∀ k, R q k = none) (hc : Cln n R J I) : hh_Ct yJ1_init cJ1_init 5 none 2 44 [.ref q, .null, .null, .int 0, .int 0] (hg kX lX n R J I) (fun v h' => v = none ∧ h' = hg kX lX n R J I) 0 0 := by
  refine hh_Ct.ofN (own := RJ1) rfl (by decide +kernel) (Nat.le_of_ble_eq_true rfl) ?_
  intro X hX hN hE hNm
  show hh_V X 0 [(0, .ref q), (1, .null), (2, .null), (3, .int 0), (4, .int 0)] [] 0 0 (hg kX lX n R J I)
  refine hv_aload_n hX dJ1_init_0 rfl 0 rfl ?_
  refine hv_aload_nN hX dJ1_init_1 rfl 1 rfl ?_
  refine hv_aload_nN hX dJ1_init_2 rfl 2 rfl ?_
  refine hv_iload_n hX dJ1_init_3 rfl 3 rfl ?_
  refine hv_iload hX dJ1_init_4 4 rfl ?_
  refine hv_callI (ci := 8) (q := (RX8, TX8, 7)) (host := "") (ret := none) hX dJ1_init_6 (cc_J0_8 q n hq k0 hR hc) q435 rfl q437 q114 q436 rfl (by decide) (by decide +kernel) rfl (show q < n by omega) k0 rfl ⟨Nat.le_of_ble_eq_true rfl, Nat.le_of_ble_eq_true rfl⟩ ⟨Nat.le_of_ble_eq_true rfl, Nat.le_of_ble_eq_true rfl⟩ (Nat.le_of_ble_eq_true rfl) ?_
  rintro _ _ ⟨rfl, rfl⟩
  have hc := hc
  show hh_V X 9 [(0, .ref q), (1, .null), (2, .null), (3, .int 0), (4, .int 0)] [] 0 0 (hg kX lX n R J I)
  exact hv_vret hX hE dJ1_init_9 ⟨rfl, rfl⟩
theorem cc_J2_8 (q n : Nat) (hq : q < n) (k0 : kX q = 8) {R : xRd} {J : mJ} {I : mI} (hR : ∀ k, R q k = none) (hc : Cln n R J I) : hh_Ct yJ2_init cJ2_init 5 none 3 68 [.ref q, .null, .null, .int 0, .int 0] (hg kX lX n R J I) (fun v h' => v = none ∧ h' = hg kX lX n R J I) 0 0 := by
  refine hh_Ct.ofN (own := RJ2) rfl (by decide +kernel) (Nat.le_of_ble_eq_true rfl) ?_
  intro X hX hN hE hNm
  show hh_V X 0 [(0, .ref q), (1, .null), (2, .null), (3, .int 0), (4, .int 0)] [] 0 0 (hg kX lX n R J I)
  refine hv_aload_n hX dJ2_init_0 rfl 0 rfl ?_
  refine hv_aload_nN hX dJ2_init_1 rfl 1 rfl ?_
  refine hv_aload_nN hX dJ2_init_2 rfl 2 rfl ?_
  refine hv_iload_n hX dJ2_init_3 rfl 3 rfl ?_
  refine hv_iload hX dJ2_init_4 4 rfl ?_
  refine hv_callI (ci := 8) (q := (RX8, TX8, 7)) (host := "") (ret := none) hX dJ2_init_6 (cc_J1_8 q n hq k0 hR hc) q432 rfl q434 q115 q433 rfl (by decide) (by decide +kernel) rfl (show q < n by omega) k0 rfl ⟨Nat.le_of_ble_eq_true rfl, Nat.le_of_ble_eq_true rfl⟩ ⟨Nat.le_of_ble_eq_true rfl, Nat.le_of_ble_eq_true rfl⟩ (Nat.le_of_ble_eq_true rfl) ?_
  rintro _ _ ⟨rfl, rfl⟩
  have hc := hc
  show hh_V X 9 [(0, .ref q), (1, .null), (2, .null), (3, .int 0), (4, .int 0)] [] 0 0 (hg kX lX n R J I)
  exact hv_vret hX hE dJ2_init_9 ⟨rfl, rfl⟩
theorem cc_X8 (q n : Nat) (hq : q < n) (k0 : kX q = 8) {R : xRd} {J : mJ} {I : mI} (hR : ∀ k, R q k = none) (hc : Cln n R J I) : hh_Ct yX8_init cX8_init 1 none 4 92 [.ref q] (hg kX lX n R J I) (fun v h' => v = none ∧ h' = hg kX lX n R J I) 0 0 := by
  refine hh_Ct.ofN (own := RX8) rfl (by decide +kernel) (Nat.le_of_ble_eq_true rfl) ?_
  intro X hX hN hE hNm
  show hh_V X 0 [(0, .ref q)] [] 0 0 (hg kX lX n R J I)
  refine hv_aload_n hX dX8_init_0 rfl 0 rfl ?_
  refine hv_null hX dX8_init_1 ?_
  refine hv_null hX dX8_init_2 ?_
  refine hv_iconst (v := 0) hX icx_0 dX8_init_3 ?_
  refine hv_iconst (v := 0) hX icx_0 dX8_init_4 ?_
  refine hv_callI (ci := 8) (q := (RX8, TX8, 7)) (host := "") (ret := none) hX dX8_init_5 (cc_J2_8 q n hq k0 hR hc) q429 rfl q431 q116 q430 rfl (by decide) (by decide +kernel) rfl (show q < n by omega) k0 rfl ⟨Nat.le_of_ble_eq_true rfl, Nat.le_of_ble_eq_true rfl⟩ ⟨Nat.le_of_ble_eq_true rfl, Nat.le_of_ble_eq_true rfl⟩ (Nat.le_of_ble_eq_true rfl) ?_
  rintro _ _ ⟨rfl, rfl⟩
  have hc := hc
  show hh_V X 8 [(0, .ref q)] [] 0 0 (hg kX lX n R J I)
  exact hv_vret hX hE dX8_init_8 ⟨rfl, rfl⟩
theorem cc_J0_11 (q n : Nat) (hq : q < n) (k0 : kX q = 11) {R : xRd} {J : mJ} {I : mI} (hR : ∀ k, R q k = none) (hc : Cln n R J I) : hh_Ct yJ0_init_2 cJ0_init_2 5 none 1 20 [.ref q, .null, .null, .int 0, .int 0] (hg kX lX n R J I) (fun v h' => v = none ∧ h' = hg kX lX n R J I) 0 0 := by
  refine hh_Ct.ofN (own := RJ0) rfl (by decide +kernel) (Nat.le_of_ble_eq_true rfl) ?_
  intro X hX hN hE hNm
  show hh_V X 0 [(0, .ref q), (1, .null), (2, .null), (3, .int 0), (4, .int 0)] [] 0 0 (hg kX lX n R J I)
  refine hv_aload_n hX dJ0_init_2_0 rfl 0 rfl ?_
  refine hv_objinit hX dJ0_init_2_1 q407 q153 q154 hN ⟨Nat.le_of_ble_eq_true rfl, Nat.le_of_ble_eq_true rfl⟩ ?_
  refine hv_aload_n hX dJ0_init_2_4 rfl 0 rfl ?_
  refine hv_aload_n hX dJ0_init_2_5 rfl 0 rfl ?_
  refine hv_putR (v := (some q)) hX dJ0_init_2_6 flJ0_7_11 (show q < n by omega) k0 ?_
  have hc := hc.R (k := 0) (v := (some q)) (show q < n from (show q < n by omega))
  show hh_V X 9 [(0, .ref q), (1, .null), (2, .null), (3, .int 0), (4, .int 0)] [] 0 0 (hg kX lX n (u2 R q 0 (some q)) J I)
  refine hv_aload_n hX dJ0_init_2_9 rfl 0 rfl ?_
  refine hv_gets (q := (1000200, "UNASSIGNED_STACK", "[Ljava/lang/StackTraceElement;")) hX (by decide) q408 dJ0_init_2_10 (fun w10 => ?_)
  refine hv_putR (v := w10) hX dJ0_init_2_13 flJ0_17_11 (show q < n by omega) k0 ?_
  have hc := hc.R (k := 1) (v := w10) (show q < n from (show q < n by omega))
  show hh_V X 16 [(0, .ref q), (1, .null), (2, .null), (3, .int 0), (4, .int 0)] [] 0 0 (hg kX lX n (u2 (u2 R q 0 (some q)) q 1 w10) J I)
  refine hv_aload_n hX dJ0_init_2_16 rfl 0 rfl ?_
  refine hv_gets (q := (1000201, "SUPPRESSED_SENTINEL", "Ljava/util/List;")) hX (by decide) q410 dJ0_init_2_17 (fun w17 => ?_)
  refine hv_putR (v := w17) hX dJ0_init_2_20 flJ0_24_11 (show q < n by omega) k0 ?_
  have hc := hc.R (k := 2) (v := w17) (show q < n from (show q < n by omega))
  show hh_V X 23 [(0, .ref q), (1, .null), (2, .null), (3, .int 0), (4, .int 0)] [] 0 0 (hg kX lX n (u2 (u2 (u2 R q 0 (some q)) q 1 w10) q 2 w17) J I)
  refine hv_iload hX dJ0_init_2_23 4 rfl ?_
  refine hv_if_eq (tgt := 36) hX dJ0_init_2_25 (by decide) (fun _ => ?_) (fun z => absurd rfl z)
  refine hv_aload_n hX dJ0_init_2_36 rfl 0 rfl ?_
  refine hv_null hX dJ0_init_2_37 ?_
  refine hv_putR (v := none) hX dJ0_init_2_38 flJ0_17_11 (show q < n by omega) k0 ?_
  have hc := hc.R (k := 1) (v := none) (show q < n from (show q < n by omega))
  show hh_V X 41 [(0, .ref q), (1, .null), (2, .null), (3, .int 0), (4, .int 0)] [] 0 0 (hg kX lX n (u2 (u2 (u2 (u2 R q 0 (some q)) q 1 w10) q 2 w17) q 1 none) J I)
  refine hv_aload_n hX dJ0_init_2_41 rfl 0 rfl ?_
  refine hv_aload_nN hX dJ0_init_2_42 rfl 1 rfl ?_
  refine hv_putR (v := none) hX dJ0_init_2_43 flJ0_31_11 (show q < n by omega) k0 ?_
  have hc := hc.R (k := 3) (v := none) (show q < n from (show q < n by omega))
  show hh_V X 46 [(0, .ref q), (1, .null), (2, .null), (3, .int 0), (4, .int 0)] [] 0 0 (hg kX lX n (u2 (u2 (u2 (u2 (u2 R q 0 (some q)) q 1 w10) q 2 w17) q 1 none) q 3 none) J I)
  refine hv_aload_n hX dJ0_init_2_46 rfl 0 rfl ?_
  refine hv_aload_nN hX dJ0_init_2_47 rfl 2 rfl ?_
  refine hv_putR (v := none) hX dJ0_init_2_48 flJ0_7_11 (show q < n by omega) k0 ?_
  have hc := hc.R (k := 0) (v := none) (show q < n from (show q < n by omega))
  show hh_V X 51 [(0, .ref q), (1, .null), (2, .null), (3, .int 0), (4, .int 0)] [] 0 0 (hg kX lX n (u2 (u2 (u2 (u2 (u2 (u2 R q 0 (some q)) q 1 w10) q 2 w17) q 1 none) q 3 none) q 0 none) J I)
  refine hv_iload_n hX dJ0_init_2_51 rfl 3 rfl ?_
  refine hv_if_ne (tgt := 60) hX dJ0_init_2_52 (by decide) (fun z => absurd rfl z) (fun _ => ?_)
  refine hv_aload_n hX dJ0_init_2_55 rfl 0 rfl ?_
  refine hv_null hX dJ0_init_2_56 ?_
  refine hv_putR (v := none) hX dJ0_init_2_57 flJ0_24_11 (show q < n by omega) k0 ?_
  have hc := hc.R (k := 2) (v := none) (show q < n from (show q < n by omega))
  show hh_V X 60 [(0, .ref q), (1, .null), (2, .null), (3, .int 0), (4, .int 0)] [] 0 0 (hg kX lX n (u2 (u2 (u2 (u2 (u2 (u2 (u2 R q 0 (some q)) q 1 w10) q 2 w17) q 1 none) q 3 none) q 0 none) q 2 none) J I)
  exact hv_vret hX hE dJ0_init_2_60 ⟨rfl, congrArg (fun R => hg kX lX n R J I) (thr_eq hR)⟩
theorem cc_J1_11 (q n : Nat) (hq : q < n) (k0 : kX q = 11) {R : xRd} {J : mJ} {I : mI} (hR : ∀ k, R q k = none) (hc : Cln n R J I) : hh_Ct yJ1_init cJ1_init 5 none 2 44 [.ref q, .null, .null, .int 0, .int 0] (hg kX lX n R J I) (fun v h' => v = none ∧ h' = hg kX lX n R J I) 0 0 := by
  refine hh_Ct.ofN (own := RJ1) rfl (by decide +kernel) (Nat.le_of_ble_eq_true rfl) ?_
  intro X hX hN hE hNm
  show hh_V X 0 [(0, .ref q), (1, .null), (2, .null), (3, .int 0), (4, .int 0)] [] 0 0 (hg kX lX n R J I)
  refine hv_aload_n hX dJ1_init_0 rfl 0 rfl ?_
  refine hv_aload_nN hX dJ1_init_1 rfl 1 rfl ?_
  refine hv_aload_nN hX dJ1_init_2 rfl 2 rfl ?_
  refine hv_iload_n hX dJ1_init_3 rfl 3 rfl ?_
  refine hv_iload hX dJ1_init_4 4 rfl ?_
  refine hv_callI (ci := 11) (q := (RX11, TX11, 6)) (host := "") (ret := none) hX dJ1_init_6 (cc_J0_11 q n hq k0 hR hc) q435 rfl q437 q114 q436 rfl (by decide) (by decide +kernel) rfl (show q < n by omega) k0 rfl ⟨Nat.le_of_ble_eq_true rfl, Nat.le_of_ble_eq_true rfl⟩ ⟨Nat.le_of_ble_eq_true rfl, Nat.le_of_ble_eq_true rfl⟩ (Nat.le_of_ble_eq_true rfl) ?_
  rintro _ _ ⟨rfl, rfl⟩
  have hc := hc
  show hh_V X 9 [(0, .ref q), (1, .null), (2, .null), (3, .int 0), (4, .int 0)] [] 0 0 (hg kX lX n R J I)
  exact hv_vret hX hE dJ1_init_9 ⟨rfl, rfl⟩
theorem cc_J2_11 (q n : Nat) (hq : q < n) (k0 : kX q = 11) {R : xRd} {J : mJ} {I : mI} (hR : ∀ k, R q k = none) (hc : Cln n R J I) : hh_Ct yJ2_init cJ2_init 5 none 3 68 [.ref q, .null, .null, .int 0, .int 0] (hg kX lX n R J I) (fun v h' => v = none ∧ h' = hg kX lX n R J I) 0 0 := by
  refine hh_Ct.ofN (own := RJ2) rfl (by decide +kernel) (Nat.le_of_ble_eq_true rfl) ?_
  intro X hX hN hE hNm
  show hh_V X 0 [(0, .ref q), (1, .null), (2, .null), (3, .int 0), (4, .int 0)] [] 0 0 (hg kX lX n R J I)
  refine hv_aload_n hX dJ2_init_0 rfl 0 rfl ?_
  refine hv_aload_nN hX dJ2_init_1 rfl 1 rfl ?_
  refine hv_aload_nN hX dJ2_init_2 rfl 2 rfl ?_
  refine hv_iload_n hX dJ2_init_3 rfl 3 rfl ?_
  refine hv_iload hX dJ2_init_4 4 rfl ?_
  refine hv_callI (ci := 11) (q := (RX11, TX11, 6)) (host := "") (ret := none) hX dJ2_init_6 (cc_J1_11 q n hq k0 hR hc) q432 rfl q434 q115 q433 rfl (by decide) (by decide +kernel) rfl (show q < n by omega) k0 rfl ⟨Nat.le_of_ble_eq_true rfl, Nat.le_of_ble_eq_true rfl⟩ ⟨Nat.le_of_ble_eq_true rfl, Nat.le_of_ble_eq_true rfl⟩ (Nat.le_of_ble_eq_true rfl) ?_
  rintro _ _ ⟨rfl, rfl⟩
  have hc := hc
  show hh_V X 9 [(0, .ref q), (1, .null), (2, .null), (3, .int 0), (4, .int 0)] [] 0 0 (hg kX lX n R J I)
  exact hv_vret hX hE dJ2_init_9 ⟨rfl, rfl⟩
theorem cc_X11 (q n : Nat) (hq : q < n) (k0 : kX q = 11) {R : xRd} {J : mJ} {I : mI} (hR : ∀ k, R q k = none) (hc : Cln n R J I) : hh_Ct yX11_init cX11_init 1 none 4 92 [.ref q] (hg kX lX n R J I) (fun v h' => v = none ∧ h' = hg kX lX n R J I) 0 0 := by
  refine hh_Ct.ofN (own := RX11) rfl (by decide +kernel) (Nat.le_of_ble_eq_true rfl) ?_
  intro X hX hN hE hNm
  show hh_V X 0 [(0, .ref q)] [] 0 0 (hg kX lX n R J I)
  refine hv_aload_n hX dX11_init_0 rfl 0 rfl ?_
  refine hv_null hX dX11_init_1 ?_
  refine hv_null hX dX11_init_2 ?_
  refine hv_iconst (v := 0) hX icx_0 dX11_init_3 ?_
  refine hv_iconst (v := 0) hX icx_0 dX11_init_4 ?_
  refine hv_callI (ci := 11) (q := (RX11, TX11, 6)) (host := "") (ret := none) hX dX11_init_5 (cc_J2_11 q n hq k0 hR hc) q547 rfl q431 q116 q430 rfl (by decide) (by decide +kernel) rfl (show q < n by omega) k0 rfl ⟨Nat.le_of_ble_eq_true rfl, Nat.le_of_ble_eq_true rfl⟩ ⟨Nat.le_of_ble_eq_true rfl, Nat.le_of_ble_eq_true rfl⟩ (Nat.le_of_ble_eq_true rfl) ?_
  rintro _ _ ⟨rfl, rfl⟩
  have hc := hc
  show hh_V X 8 [(0, .ref q)] [] 0 0 (hg kX lX n R J I)
  exact hv_vret hX hE dX11_init_8 ⟨rfl, rfl⟩
theorem cc_J0_12 (q n : Nat) (hq : q < n) (k0 : kX q = 12) {R : xRd} {J : mJ} {I : mI} (hR : ∀ k, R q k = none) (hc : Cln n R J I) : hh_Ct yJ0_init_2 cJ0_init_2 5 none 1 20 [.ref q, .null, .null, .int 0, .int 0] (hg kX lX n R J I) (fun v h' => v = none ∧ h' = hg kX lX n R J I) 0 0 := by
  refine hh_Ct.ofN (own := RJ0) rfl (by decide +kernel) (Nat.le_of_ble_eq_true rfl) ?_
  intro X hX hN hE hNm
  show hh_V X 0 [(0, .ref q), (1, .null), (2, .null), (3, .int 0), (4, .int 0)] [] 0 0 (hg kX lX n R J I)
  refine hv_aload_n hX dJ0_init_2_0 rfl 0 rfl ?_
  refine hv_objinit hX dJ0_init_2_1 q407 q153 q154 hN ⟨Nat.le_of_ble_eq_true rfl, Nat.le_of_ble_eq_true rfl⟩ ?_
  refine hv_aload_n hX dJ0_init_2_4 rfl 0 rfl ?_
  refine hv_aload_n hX dJ0_init_2_5 rfl 0 rfl ?_
  refine hv_putR (v := (some q)) hX dJ0_init_2_6 flJ0_7_12 (show q < n by omega) k0 ?_
  have hc := hc.R (k := 0) (v := (some q)) (show q < n from (show q < n by omega))
  show hh_V X 9 [(0, .ref q), (1, .null), (2, .null), (3, .int 0), (4, .int 0)] [] 0 0 (hg kX lX n (u2 R q 0 (some q)) J I)
  refine hv_aload_n hX dJ0_init_2_9 rfl 0 rfl ?_
  refine hv_gets (q := (1000200, "UNASSIGNED_STACK", "[Ljava/lang/StackTraceElement;")) hX (by decide) q408 dJ0_init_2_10 (fun w10 => ?_)
  refine hv_putR (v := w10) hX dJ0_init_2_13 flJ0_17_12 (show q < n by omega) k0 ?_
  have hc := hc.R (k := 1) (v := w10) (show q < n from (show q < n by omega))
  show hh_V X 16 [(0, .ref q), (1, .null), (2, .null), (3, .int 0), (4, .int 0)] [] 0 0 (hg kX lX n (u2 (u2 R q 0 (some q)) q 1 w10) J I)
  refine hv_aload_n hX dJ0_init_2_16 rfl 0 rfl ?_
  refine hv_gets (q := (1000201, "SUPPRESSED_SENTINEL", "Ljava/util/List;")) hX (by decide) q410 dJ0_init_2_17 (fun w17 => ?_)
  refine hv_putR (v := w17) hX dJ0_init_2_20 flJ0_24_12 (show q < n by omega) k0 ?_
  have hc := hc.R (k := 2) (v := w17) (show q < n from (show q < n by omega))
  show hh_V X 23 [(0, .ref q), (1, .null), (2, .null), (3, .int 0), (4, .int 0)] [] 0 0 (hg kX lX n (u2 (u2 (u2 R q 0 (some q)) q 1 w10) q 2 w17) J I)
  refine hv_iload hX dJ0_init_2_23 4 rfl ?_
  refine hv_if_eq (tgt := 36) hX dJ0_init_2_25 (by decide) (fun _ => ?_) (fun z => absurd rfl z)
  refine hv_aload_n hX dJ0_init_2_36 rfl 0 rfl ?_
  refine hv_null hX dJ0_init_2_37 ?_
  refine hv_putR (v := none) hX dJ0_init_2_38 flJ0_17_12 (show q < n by omega) k0 ?_
  have hc := hc.R (k := 1) (v := none) (show q < n from (show q < n by omega))
  show hh_V X 41 [(0, .ref q), (1, .null), (2, .null), (3, .int 0), (4, .int 0)] [] 0 0 (hg kX lX n (u2 (u2 (u2 (u2 R q 0 (some q)) q 1 w10) q 2 w17) q 1 none) J I)
  refine hv_aload_n hX dJ0_init_2_41 rfl 0 rfl ?_
  refine hv_aload_nN hX dJ0_init_2_42 rfl 1 rfl ?_
  refine hv_putR (v := none) hX dJ0_init_2_43 flJ0_31_12 (show q < n by omega) k0 ?_
  have hc := hc.R (k := 3) (v := none) (show q < n from (show q < n by omega))
  show hh_V X 46 [(0, .ref q), (1, .null), (2, .null), (3, .int 0), (4, .int 0)] [] 0 0 (hg kX lX n (u2 (u2 (u2 (u2 (u2 R q 0 (some q)) q 1 w10) q 2 w17) q 1 none) q 3 none) J I)
  refine hv_aload_n hX dJ0_init_2_46 rfl 0 rfl ?_
  refine hv_aload_nN hX dJ0_init_2_47 rfl 2 rfl ?_
  refine hv_putR (v := none) hX dJ0_init_2_48 flJ0_7_12 (show q < n by omega) k0 ?_
  have hc := hc.R (k := 0) (v := none) (show q < n from (show q < n by omega))
  show hh_V X 51 [(0, .ref q), (1, .null), (2, .null), (3, .int 0), (4, .int 0)] [] 0 0 (hg kX lX n (u2 (u2 (u2 (u2 (u2 (u2 R q 0 (some q)) q 1 w10) q 2 w17) q 1 none) q 3 none) q 0 none) J I)
  refine hv_iload_n hX dJ0_init_2_51 rfl 3 rfl ?_
  refine hv_if_ne (tgt := 60) hX dJ0_init_2_52 (by decide) (fun z => absurd rfl z) (fun _ => ?_)
  refine hv_aload_n hX dJ0_init_2_55 rfl 0 rfl ?_
  refine hv_null hX dJ0_init_2_56 ?_
  refine hv_putR (v := none) hX dJ0_init_2_57 flJ0_24_12 (show q < n by omega) k0 ?_
  have hc := hc.R (k := 2) (v := none) (show q < n from (show q < n by omega))
  show hh_V X 60 [(0, .ref q), (1, .null), (2, .null), (3, .int 0), (4, .int 0)] [] 0 0 (hg kX lX n (u2 (u2 (u2 (u2 (u2 (u2 (u2 R q 0 (some q)) q 1 w10) q 2 w17) q 1 none) q 3 none) q 0 none) q 2 none) J I)
  exact hv_vret hX hE dJ0_init_2_60 ⟨rfl, congrArg (fun R => hg kX lX n R J I) (thr_eq hR)⟩
theorem cc_J1_12 (q n : Nat) (hq : q < n) (k0 : kX q = 12) {R : xRd} {J : mJ} {I : mI} (hR : ∀ k, R q k = none) (hc : Cln n R J I) : hh_Ct yJ1_init cJ1_init 5 none 2 44 [.ref q, .null, .null, .int 0, .int 0] (hg kX lX n R J I) (fun v h' => v = none ∧ h' = hg kX lX n R J I) 0 0 := by
  refine hh_Ct.ofN (own := RJ1) rfl (by decide +kernel) (Nat.le_of_ble_eq_true rfl) ?_
  intro X hX hN hE hNm
  show hh_V X 0 [(0, .ref q), (1, .null), (2, .null), (3, .int 0), (4, .int 0)] [] 0 0 (hg kX lX n R J I)
  refine hv_aload_n hX dJ1_init_0 rfl 0 rfl ?_
  refine hv_aload_nN hX dJ1_init_1 rfl 1 rfl ?_
  refine hv_aload_nN hX dJ1_init_2 rfl 2 rfl ?_
  refine hv_iload_n hX dJ1_init_3 rfl 3 rfl ?_
  refine hv_iload hX dJ1_init_4 4 rfl ?_
  refine hv_callI (ci := 12) (q := (RX12, TX12, 6)) (host := "") (ret := none) hX dJ1_init_6 (cc_J0_12 q n hq k0 hR hc) q435 rfl q437 q114 q436 rfl (by decide) (by decide +kernel) rfl (show q < n by omega) k0 rfl ⟨Nat.le_of_ble_eq_true rfl, Nat.le_of_ble_eq_true rfl⟩ ⟨Nat.le_of_ble_eq_true rfl, Nat.le_of_ble_eq_true rfl⟩ (Nat.le_of_ble_eq_true rfl) ?_
  rintro _ _ ⟨rfl, rfl⟩
  have hc := hc
  show hh_V X 9 [(0, .ref q), (1, .null), (2, .null), (3, .int 0), (4, .int 0)] [] 0 0 (hg kX lX n R J I)
  exact hv_vret hX hE dJ1_init_9 ⟨rfl, rfl⟩
theorem cc_J2_12 (q n : Nat) (hq : q < n) (k0 : kX q = 12) {R : xRd} {J : mJ} {I : mI} (hR : ∀ k, R q k = none) (hc : Cln n R J I) : hh_Ct yJ2_init cJ2_init 5 none 3 68 [.ref q, .null, .null, .int 0, .int 0] (hg kX lX n R J I) (fun v h' => v = none ∧ h' = hg kX lX n R J I) 0 0 := by
  refine hh_Ct.ofN (own := RJ2) rfl (by decide +kernel) (Nat.le_of_ble_eq_true rfl) ?_
  intro X hX hN hE hNm
  show hh_V X 0 [(0, .ref q), (1, .null), (2, .null), (3, .int 0), (4, .int 0)] [] 0 0 (hg kX lX n R J I)
  refine hv_aload_n hX dJ2_init_0 rfl 0 rfl ?_
  refine hv_aload_nN hX dJ2_init_1 rfl 1 rfl ?_
  refine hv_aload_nN hX dJ2_init_2 rfl 2 rfl ?_
  refine hv_iload_n hX dJ2_init_3 rfl 3 rfl ?_
  refine hv_iload hX dJ2_init_4 4 rfl ?_
  refine hv_callI (ci := 12) (q := (RX12, TX12, 6)) (host := "") (ret := none) hX dJ2_init_6 (cc_J1_12 q n hq k0 hR hc) q432 rfl q434 q115 q433 rfl (by decide) (by decide +kernel) rfl (show q < n by omega) k0 rfl ⟨Nat.le_of_ble_eq_true rfl, Nat.le_of_ble_eq_true rfl⟩ ⟨Nat.le_of_ble_eq_true rfl, Nat.le_of_ble_eq_true rfl⟩ (Nat.le_of_ble_eq_true rfl) ?_
  rintro _ _ ⟨rfl, rfl⟩
  have hc := hc
  show hh_V X 9 [(0, .ref q), (1, .null), (2, .null), (3, .int 0), (4, .int 0)] [] 0 0 (hg kX lX n R J I)
  exact hv_vret hX hE dJ2_init_9 ⟨rfl, rfl⟩
theorem cc_X12 (q n : Nat) (hq : q < n) (k0 : kX q = 12) {R : xRd} {J : mJ} {I : mI} (hR : ∀ k, R q k = none) (hc : Cln n R J I) : hh_Ct yX12_init cX12_init 1 none 4 92 [.ref q] (hg kX lX n R J I) (fun v h' => v = none ∧ h' = hg kX lX n R J I) 0 0 := by
  refine hh_Ct.ofN (own := RX12) rfl (by decide +kernel) (Nat.le_of_ble_eq_true rfl) ?_
  intro X hX hN hE hNm
  show hh_V X 0 [(0, .ref q)] [] 0 0 (hg kX lX n R J I)
  refine hv_aload_n hX dX12_init_0 rfl 0 rfl ?_
  refine hv_null hX dX12_init_1 ?_
  refine hv_null hX dX12_init_2 ?_
  refine hv_iconst (v := 0) hX icx_0 dX12_init_3 ?_
  refine hv_iconst (v := 0) hX icx_0 dX12_init_4 ?_
  refine hv_callI (ci := 12) (q := (RX12, TX12, 6)) (host := "") (ret := none) hX dX12_init_5 (cc_J2_12 q n hq k0 hR hc) q562 rfl q431 q116 q430 rfl (by decide) (by decide +kernel) rfl (show q < n by omega) k0 rfl ⟨Nat.le_of_ble_eq_true rfl, Nat.le_of_ble_eq_true rfl⟩ ⟨Nat.le_of_ble_eq_true rfl, Nat.le_of_ble_eq_true rfl⟩ (Nat.le_of_ble_eq_true rfl) ?_
  rintro _ _ ⟨rfl, rfl⟩
  have hc := hc
  show hh_V X 8 [(0, .ref q)] [] 0 0 (hg kX lX n R J I)
  exact hv_vret hX hE dX12_init_8 ⟨rfl, rfl⟩
def rc_X2 (q n : Nat) (R : xRd) : xRd := (u2 R q 3 (some n))
theorem cl_X2 (q n : Nat) (hq : q < n) (hn : n < 1000) (k0 : kX q = 2) (k1 : kX n = 100) (l1 : lX n = 4) {R : xRd} {J : mJ} {I : mI} (hc : Cln n R J I) : Cln (n + 1) (rc_X2 q n R) J I := by
  have hc := hc.up (Nat.le_succ _)
  have hc := hc.R (k := 3) (v := (some n)) (show q < (n + 1) from (show q < (n + 1) by omega))
  exact hc
theorem cc_X2 (q n : Nat) (hq : q < n) (hn : n < 1000) (k0 : kX q = 2) (k1 : kX n = 100) (l1 : lX n = 4) {R : xRd} {J : mJ} {I : mI} (hc : Cln n R J I) : hh_Ct yX2_init cX2_init 1 none 1 20 [.ref q] (hg kX lX n R J I) (fun v h' => v = none ∧ h' = hg kX lX (n + 1) (rc_X2 q n R) J I) 1 4 := by
  refine hh_Ct.ofN (own := RX2) rfl (by decide +kernel) (Nat.le_of_ble_eq_true rfl) ?_
  intro X hX hN hE hNm
  show hh_V X 0 [(0, .ref q)] [] 0 0 (hg kX lX n R J I)
  refine hv_aload_n hX dX2_init_0 rfl 0 rfl ?_
  refine hv_objinit hX dX2_init_1 q170 q153 q154 hN ⟨Nat.le_of_ble_eq_true rfl, Nat.le_of_ble_eq_true rfl⟩ ?_
  refine hv_aload_n hX dX2_init_4 rfl 0 rfl ?_
  refine hv_iconst (v := 4) hX icx_4 dX2_init_5 ?_
  refine hg_newA (atype := .int) (a := 0) (N := 4) hX 0 rfl (by decide) rfl (by decide) rfl q196 dX2_init_6 (by decide) (by decide) (Nat.le_of_ble_eq_true rfl) (by omega) k1 l1 hc ⟨Nat.le_of_ble_eq_true rfl, Nat.le_of_ble_eq_true rfl⟩ ?_
  have hc := hc.up (Nat.le_succ _)
  show hh_V X 8 [(0, .ref q)] [.ref n, .ref q] 1 4 (hg kX lX (n + 1) R J I)
  refine hv_putFR (v := (some n)) hX hNm dX2_init_8 fl2_9_2 ⟨RX2, TX2, 4, "HungryHedge$Trip", rfl, rfl, q183, .inl rfl⟩ (show q < (n + 1) by omega) k0 ?_
  have hc := hc.R (k := 3) (v := (some n)) (show q < (n + 1) from (show q < (n + 1) by omega))
  show hh_V X 11 [(0, .ref q)] [] 1 4 (hg kX lX (n + 1) (u2 R q 3 (some n)) J I)
  exact hv_vret hX hE dX2_init_11 ⟨rfl, rfl⟩
theorem cl_X9 (q n : Nat) (hq : q < n) (k0 : kX q = 9) {R : xRd} {J : mJ} {I : mI} (hc : Cln n R J I) : Cln n R J I := by

  exact hc
theorem cc_X9 (q n : Nat) (hq : q < n) (k0 : kX q = 9) {R : xRd} {J : mJ} {I : mI} (hc : Cln n R J I) : hh_Ct yX9_init cX9_init 1 none 1 20 [.ref q] (hg kX lX n R J I) (fun v h' => v = none ∧ h' = hg kX lX n R J I) 0 0 := by
  refine hh_Ct.ofN (own := RX9) rfl (by decide +kernel) (Nat.le_of_ble_eq_true rfl) ?_
  intro X hX hN hE hNm
  show hh_V X 0 [(0, .ref q)] [] 0 0 (hg kX lX n R J I)
  refine hv_aload_n hX dX9_init_0 rfl 0 rfl ?_
  refine hv_objinit hX dX9_init_1 q504 q153 q154 hN ⟨Nat.le_of_ble_eq_true rfl, Nat.le_of_ble_eq_true rfl⟩ ?_
  exact hv_vret hX hE dX9_init_4 ⟨rfl, rfl⟩
def ic_X10 (q n : Nat) (I : mI) : mI := (u2 I q 4 (-1))
theorem cl_X10 (q n : Nat) (hq : q < n) (k0 : kX q = 10) {R : xRd} {J : mJ} {I : mI} (hc : Cln n R J I) : Cln n R J (ic_X10 q n I) := by
  have hc := hc.I (k := 4) (v := (-1)) (show q < n from (show q < n by omega))
  exact hc
theorem cc_X10 (q n : Nat) (hq : q < n) (k0 : kX q = 10) {R : xRd} {J : mJ} {I : mI} (hc : Cln n R J I) : hh_Ct yX10_init cX10_init 1 none 1 20 [.ref q] (hg kX lX n R J I) (fun v h' => v = none ∧ h' = hg kX lX n R J (ic_X10 q n I)) 0 0 := by
  refine hh_Ct.ofN (own := RX10) rfl (by decide +kernel) (Nat.le_of_ble_eq_true rfl) ?_
  intro X hX hN hE hNm
  show hh_V X 0 [(0, .ref q)] [] 0 0 (hg kX lX n R J I)
  refine hv_aload_n hX dX10_init_0 rfl 0 rfl ?_
  refine hv_objinit hX dX10_init_1 q518 q153 q154 hN ⟨Nat.le_of_ble_eq_true rfl, Nat.le_of_ble_eq_true rfl⟩ ?_
  refine hv_aload_n hX dX10_init_4 rfl 0 rfl ?_
  refine hv_iconst (v := (-1)) hX icx_m1 dX10_init_5 ?_
  refine hv_putI hX dX10_init_6 fl10_7_10 (show q < n by omega) k0 ?_
  have hc := hc.I (k := 4) (v := (-1)) (show q < n from (show q < n by omega))
  show hh_V X 9 [(0, .ref q)] [] 0 0 (hg kX lX n R J (u2 I q 4 (-1)))
  exact hv_vret hX hE dX10_init_9 ⟨rfl, rfl⟩
def ic_X13 (q n : Nat) (I : mI) : mI := (u2 I q 0 4)
theorem cl_X13 (q n : Nat) (hq : q < n) (k0 : kX q = 13) {R : xRd} {J : mJ} {I : mI} (hc : Cln n R J I) : Cln n R J (ic_X13 q n I) := by
  have hc := hc.I (k := 0) (v := 4) (show q < n from (show q < n by omega))
  exact hc
theorem cc_X13 (q n : Nat) (hq : q < n) (k0 : kX q = 13) {R : xRd} {J : mJ} {I : mI} (hc : Cln n R J I) : hh_Ct yX13_init cX13_init 1 none 1 20 [.ref q] (hg kX lX n R J I) (fun v h' => v = none ∧ h' = hg kX lX n R J (ic_X13 q n I)) 0 0 := by
  refine hh_Ct.ofN (own := RX13) rfl (by decide +kernel) (Nat.le_of_ble_eq_true rfl) ?_
  intro X hX hN hE hNm
  show hh_V X 0 [(0, .ref q)] [] 0 0 (hg kX lX n R J I)
  refine hv_aload_n hX dX13_init_0 rfl 0 rfl ?_
  refine hv_objinit hX dX13_init_1 q571 q153 q154 hN ⟨Nat.le_of_ble_eq_true rfl, Nat.le_of_ble_eq_true rfl⟩ ?_
  refine hv_aload_n hX dX13_init_4 rfl 0 rfl ?_
  refine hv_iconst (v := 4) hX icx_4 dX13_init_5 ?_
  refine hv_putI hX dX13_init_6 fl13_7_13 (show q < n by omega) k0 ?_
  have hc := hc.I (k := 0) (v := 4) (show q < n from (show q < n by omega))
  show hh_V X 9 [(0, .ref q)] [] 0 0 (hg kX lX n R J (u2 I q 0 4))
  exact hv_vret hX hE dX13_init_9 ⟨rfl, rfl⟩
def rc_X1_1 (R : xRd) : xRd := (u2 (rc_X2 10 11 (u2 (u2 (u2 (u2 (u2 (u2 (u2 (u2 R 1 8 (some 2)) 1 9 (some 3)) 1 10 (some 4)) 1 11 (some 5)) 1 12 (some 6)) 1 13 (some 7)) 1 14 (some 8)) 1 15 (some 9))) 1 16 (some 10))
def ic_X1_1 (I : mI) : mI := (u2 (u2 (u2 I 1 3 10) 1 4 5) 1 7 2)
theorem cl_X1_1 {R : xRd} {J : mJ} {I : mI} (hc : Cln 2 R J I) : Cln 12 (rc_X1_1 R) J (ic_X1_1 I) := by
  have hc := hc.I (k := 3) (v := 10) (show 1 < 2 from (show 1 < 2 by omega))
  have hc := hc.I (k := 4) (v := 5) (show 1 < 2 from (show 1 < 2 by omega))
  have hc := hc.I (k := 7) (v := 2) (show 1 < 2 from (show 1 < 2 by omega))
  have hc := hc.up (Nat.le_succ _)
  have hc := hc.R (k := 8) (v := (some 2)) (show 1 < 3 from (show 1 < 3 by omega))
  have hc := hc.up (Nat.le_succ _)
  have hc := hc.R (k := 9) (v := (some 3)) (show 1 < 4 from (show 1 < 4 by omega))
  have hc := hc.up (Nat.le_succ _)
  have hc := hc.R (k := 10) (v := (some 4)) (show 1 < 5 from (show 1 < 5 by omega))
  have hc := hc.up (Nat.le_succ _)
  have hc := hc.R (k := 11) (v := (some 5)) (show 1 < 6 from (show 1 < 6 by omega))
  have hc := hc.up (Nat.le_succ _)
  have hc := hc.R (k := 12) (v := (some 6)) (show 1 < 7 from (show 1 < 7 by omega))
  have hc := hc.up (Nat.le_succ _)
  have hc := hc.R (k := 13) (v := (some 7)) (show 1 < 8 from (show 1 < 8 by omega))
  have hc := hc.up (Nat.le_succ _)
  have hc := hc.R (k := 14) (v := (some 8)) (show 1 < 9 from (show 1 < 9 by omega))
  have hc := hc.up (Nat.le_succ _)
  have hc := hc.R (k := 15) (v := (some 9)) (show 1 < 10 from (show 1 < 10 by omega))
  have hc := hc.up (Nat.le_succ _)
  have hc := cl_X2 10 11 (by omega) (by omega) rfl rfl rfl hc
  have hc := hc.R (k := 16) (v := (some 10)) (show 1 < 12 from (show 1 < 12 by omega))
  exact hc
theorem cc_X1_1 {R : xRd} {J : mJ} {I : mI} (hc : Cln 2 R J I) : hh_Ct yX1_init cX1_init 1 none 2 40 [.ref 1] (hg kX lX 2 R J I) (fun v h' => v = none ∧ h' = hg kX lX 12 (rc_X1_1 R) J (ic_X1_1 I)) 10 78 := by
  refine hh_Ct.ofN (own := RX1) rfl (by decide +kernel) (Nat.le_of_ble_eq_true rfl) ?_
  intro X hX hN hE hNm
  show hh_V X 0 [(0, .ref 1)] [] 0 0 (hg kX lX 2 R J I)
  refine hv_aload_n hX dX1_init_0 rfl 0 rfl ?_
  refine hv_objinit hX dX1_init_1 q160 q153 q154 hN ⟨Nat.le_of_ble_eq_true rfl, Nat.le_of_ble_eq_true rfl⟩ ?_
  refine hv_aload_n hX dX1_init_4 rfl 0 rfl ?_
  refine hv_bipush (v := 10) hX bix_10 dX1_init_5 ?_
  refine hv_putI hX dX1_init_7 fl1_9_1 (show 1 < 2 by omega) rfl ?_
  have hc := hc.I (k := 3) (v := 10) (show 1 < 2 from (show 1 < 2 by omega))
  show hh_V X 10 [(0, .ref 1)] [] 0 0 (hg kX lX 2 R J (u2 I 1 3 10))
  refine hv_aload_n hX dX1_init_10 rfl 0 rfl ?_
  refine hv_iconst (v := 5) hX icx_5 dX1_init_11 ?_
  refine hv_putI hX dX1_init_12 fl1_15_1 (show 1 < 2 by omega) rfl ?_
  have hc := hc.I (k := 4) (v := 5) (show 1 < 2 from (show 1 < 2 by omega))
  show hh_V X 15 [(0, .ref 1)] [] 0 0 (hg kX lX 2 R J (u2 (u2 I 1 3 10) 1 4 5))
  refine hv_aload_n hX dX1_init_15 rfl 0 rfl ?_
  refine hv_iconst (v := 2) hX icx_2 dX1_init_16 ?_
  refine hv_putI hX dX1_init_17 fl1_18_1 (show 1 < 2 by omega) rfl ?_
  have hc := hc.I (k := 7) (v := 2) (show 1 < 2 from (show 1 < 2 by omega))
  show hh_V X 20 [(0, .ref 1)] [] 0 0 (hg kX lX 2 R J (u2 (u2 (u2 I 1 3 10) 1 4 5) 1 7 2))
  refine hv_aload_n hX dX1_init_20 rfl 0 rfl ?_
  refine hv_iconst (v := 4) hX icx_4 dX1_init_21 ?_
  refine hg_newA (atype := .int) (a := 0) (N := 4) hX 0 rfl (by decide) rfl (by decide) rfl q196 dX1_init_22 (by decide) (by decide) (Nat.le_of_ble_eq_true rfl) (by omega) rfl rfl hc ⟨Nat.le_of_ble_eq_true rfl, Nat.le_of_ble_eq_true rfl⟩ ?_
  have hc := hc.up (Nat.le_succ _)
  show hh_V X 24 [(0, .ref 1)] [.ref 2, .ref 1] 1 4 (hg kX lX 3 R J (u2 (u2 (u2 I 1 3 10) 1 4 5) 1 7 2))
  refine hv_putFR (v := (some 2)) hX hNm dX1_init_24 fl1_21_1 ⟨RX1, TX1, 17, "HungryHedge$Kept", rfl, rfl, q221, .inl rfl⟩ (show 1 < 3 by omega) rfl ?_
  have hc := hc.R (k := 8) (v := (some 2)) (show 1 < 3 from (show 1 < 3 by omega))
  show hh_V X 27 [(0, .ref 1)] [] 1 4 (hg kX lX 3 (u2 R 1 8 (some 2)) J (u2 (u2 (u2 I 1 3 10) 1 4 5) 1 7 2))
  refine hv_aload_n hX dX1_init_27 rfl 0 rfl ?_
  refine hv_iconst (v := 4) hX icx_4 dX1_init_28 ?_
  refine hg_newA (atype := .int) (a := 0) (N := 4) hX 0 rfl (by decide) rfl (by decide) rfl q196 dX1_init_29 (by decide) (by decide) (Nat.le_of_ble_eq_true rfl) (by omega) rfl rfl hc ⟨Nat.le_of_ble_eq_true rfl, Nat.le_of_ble_eq_true rfl⟩ ?_
  have hc := hc.up (Nat.le_succ _)
  show hh_V X 31 [(0, .ref 1)] [.ref 3, .ref 1] 2 8 (hg kX lX 4 (u2 R 1 8 (some 2)) J (u2 (u2 (u2 I 1 3 10) 1 4 5) 1 7 2))
  refine hv_putFR (v := (some 3)) hX hNm dX1_init_31 fl1_25_1 ⟨RX1, TX1, 17, "HungryHedge$Kept", rfl, rfl, q223, .inl rfl⟩ (show 1 < 4 by omega) rfl ?_
  have hc := hc.R (k := 9) (v := (some 3)) (show 1 < 4 from (show 1 < 4 by omega))
  show hh_V X 34 [(0, .ref 1)] [] 2 8 (hg kX lX 4 (u2 (u2 R 1 8 (some 2)) 1 9 (some 3)) J (u2 (u2 (u2 I 1 3 10) 1 4 5) 1 7 2))
  refine hv_aload_n hX dX1_init_34 rfl 0 rfl ?_
  refine hv_iconst (v := 4) hX icx_4 dX1_init_35 ?_
  refine hg_newA (atype := .int) (a := 0) (N := 4) hX 0 rfl (by decide) rfl (by decide) rfl q196 dX1_init_36 (by decide) (by decide) (Nat.le_of_ble_eq_true rfl) (by omega) rfl rfl hc ⟨Nat.le_of_ble_eq_true rfl, Nat.le_of_ble_eq_true rfl⟩ ?_
  have hc := hc.up (Nat.le_succ _)
  show hh_V X 38 [(0, .ref 1)] [.ref 4, .ref 1] 3 12 (hg kX lX 5 (u2 (u2 R 1 8 (some 2)) 1 9 (some 3)) J (u2 (u2 (u2 I 1 3 10) 1 4 5) 1 7 2))
  refine hv_putFR (v := (some 4)) hX hNm dX1_init_38 fl1_28_1 ⟨RX1, TX1, 17, "HungryHedge$Kept", rfl, rfl, q226, .inl rfl⟩ (show 1 < 5 by omega) rfl ?_
  have hc := hc.R (k := 10) (v := (some 4)) (show 1 < 5 from (show 1 < 5 by omega))
  show hh_V X 41 [(0, .ref 1)] [] 3 12 (hg kX lX 5 (u2 (u2 (u2 R 1 8 (some 2)) 1 9 (some 3)) 1 10 (some 4)) J (u2 (u2 (u2 I 1 3 10) 1 4 5) 1 7 2))
  refine hv_aload_n hX dX1_init_41 rfl 0 rfl ?_
  refine hv_iconst (v := 4) hX icx_4 dX1_init_42 ?_
  refine hg_newA (atype := .int) (a := 0) (N := 4) hX 0 rfl (by decide) rfl (by decide) rfl q196 dX1_init_43 (by decide) (by decide) (Nat.le_of_ble_eq_true rfl) (by omega) rfl rfl hc ⟨Nat.le_of_ble_eq_true rfl, Nat.le_of_ble_eq_true rfl⟩ ?_
  have hc := hc.up (Nat.le_succ _)
  show hh_V X 45 [(0, .ref 1)] [.ref 5, .ref 1] 4 16 (hg kX lX 6 (u2 (u2 (u2 R 1 8 (some 2)) 1 9 (some 3)) 1 10 (some 4)) J (u2 (u2 (u2 I 1 3 10) 1 4 5) 1 7 2))
  refine hv_putFR (v := (some 5)) hX hNm dX1_init_45 fl1_31_1 ⟨RX1, TX1, 17, "HungryHedge$Kept", rfl, rfl, q228, .inl rfl⟩ (show 1 < 6 by omega) rfl ?_
  have hc := hc.R (k := 11) (v := (some 5)) (show 1 < 6 from (show 1 < 6 by omega))
  show hh_V X 48 [(0, .ref 1)] [] 4 16 (hg kX lX 6 (u2 (u2 (u2 (u2 R 1 8 (some 2)) 1 9 (some 3)) 1 10 (some 4)) 1 11 (some 5)) J (u2 (u2 (u2 I 1 3 10) 1 4 5) 1 7 2))
  refine hv_aload_n hX dX1_init_48 rfl 0 rfl ?_
  refine hv_bipush (v := 28) hX bix_28 dX1_init_49 ?_
  refine hg_newA (atype := .int) (a := 0) (N := 28) hX 0 rfl (by decide) rfl (by decide) rfl q196 dX1_init_51 (by decide) (by decide) (Nat.le_of_ble_eq_true rfl) (by omega) rfl rfl hc ⟨Nat.le_of_ble_eq_true rfl, Nat.le_of_ble_eq_true rfl⟩ ?_
  have hc := hc.up (Nat.le_succ _)
  show hh_V X 53 [(0, .ref 1)] [.ref 6, .ref 1] 5 44 (hg kX lX 7 (u2 (u2 (u2 (u2 R 1 8 (some 2)) 1 9 (some 3)) 1 10 (some 4)) 1 11 (some 5)) J (u2 (u2 (u2 I 1 3 10) 1 4 5) 1 7 2))
  refine hv_putFR (v := (some 6)) hX hNm dX1_init_53 fl1_34_1 ⟨RX1, TX1, 17, "HungryHedge$Kept", rfl, rfl, q231, .inl rfl⟩ (show 1 < 7 by omega) rfl ?_
  have hc := hc.R (k := 12) (v := (some 6)) (show 1 < 7 from (show 1 < 7 by omega))
  show hh_V X 56 [(0, .ref 1)] [] 5 44 (hg kX lX 7 (u2 (u2 (u2 (u2 (u2 R 1 8 (some 2)) 1 9 (some 3)) 1 10 (some 4)) 1 11 (some 5)) 1 12 (some 6)) J (u2 (u2 (u2 I 1 3 10) 1 4 5) 1 7 2))
  refine hv_aload_n hX dX1_init_56 rfl 0 rfl ?_
  refine hv_bipush (v := 16) hX bix_16 dX1_init_57 ?_
  refine hg_newA (atype := .int) (a := 0) (N := 16) hX 0 rfl (by decide) rfl (by decide) rfl q196 dX1_init_59 (by decide) (by decide) (Nat.le_of_ble_eq_true rfl) (by omega) rfl rfl hc ⟨Nat.le_of_ble_eq_true rfl, Nat.le_of_ble_eq_true rfl⟩ ?_
  have hc := hc.up (Nat.le_succ _)
  show hh_V X 61 [(0, .ref 1)] [.ref 7, .ref 1] 6 60 (hg kX lX 8 (u2 (u2 (u2 (u2 (u2 R 1 8 (some 2)) 1 9 (some 3)) 1 10 (some 4)) 1 11 (some 5)) 1 12 (some 6)) J (u2 (u2 (u2 I 1 3 10) 1 4 5) 1 7 2))
  refine hv_putFR (v := (some 7)) hX hNm dX1_init_61 fl1_37_1 ⟨RX1, TX1, 17, "HungryHedge$Kept", rfl, rfl, q233, .inl rfl⟩ (show 1 < 8 by omega) rfl ?_
  have hc := hc.R (k := 13) (v := (some 7)) (show 1 < 8 from (show 1 < 8 by omega))
  show hh_V X 64 [(0, .ref 1)] [] 6 60 (hg kX lX 8 (u2 (u2 (u2 (u2 (u2 (u2 R 1 8 (some 2)) 1 9 (some 3)) 1 10 (some 4)) 1 11 (some 5)) 1 12 (some 6)) 1 13 (some 7)) J (u2 (u2 (u2 I 1 3 10) 1 4 5) 1 7 2))
  refine hv_aload_n hX dX1_init_64 rfl 0 rfl ?_
  refine hv_iconst (v := 4) hX icx_4 dX1_init_65 ?_
  refine hg_newQ (a := 21) (N := 4) (C := "HungryHedge$Risk") hX 5 rfl (by decide) rfl (by decide) q161 dX1_init_66 (by decide) (by decide) (Nat.le_of_ble_eq_true rfl) (by omega) rfl rfl hc ⟨Nat.le_of_ble_eq_true rfl, Nat.le_of_ble_eq_true rfl⟩ ?_
  have hc := hc.up (Nat.le_succ _)
  show hh_V X 69 [(0, .ref 1)] [.ref 8, .ref 1] 7 64 (hg kX lX 9 (u2 (u2 (u2 (u2 (u2 (u2 R 1 8 (some 2)) 1 9 (some 3)) 1 10 (some 4)) 1 11 (some 5)) 1 12 (some 6)) 1 13 (some 7)) J (u2 (u2 (u2 I 1 3 10) 1 4 5) 1 7 2))
  refine hv_putFR (v := (some 8)) hX hNm dX1_init_69 fl1_42_1 ⟨RX1, TX1, 17, "HungryHedge$Kept", rfl, rfl, q235, .inl rfl⟩ (show 1 < 9 by omega) rfl ?_
  have hc := hc.R (k := 14) (v := (some 8)) (show 1 < 9 from (show 1 < 9 by omega))
  show hh_V X 72 [(0, .ref 1)] [] 7 64 (hg kX lX 9 (u2 (u2 (u2 (u2 (u2 (u2 (u2 R 1 8 (some 2)) 1 9 (some 3)) 1 10 (some 4)) 1 11 (some 5)) 1 12 (some 6)) 1 13 (some 7)) 1 14 (some 8)) J (u2 (u2 (u2 I 1 3 10) 1 4 5) 1 7 2))
  refine hv_aload_n hX dX1_init_72 rfl 0 rfl ?_
  refine hv_bipush (v := 6) hX bix_6 dX1_init_73 ?_
  refine hg_newQ (a := 22) (N := 6) (C := "HungryHedge$Clause") hX 6 rfl (by decide) rfl (by decide) q163 dX1_init_75 (by decide) (by decide) (Nat.le_of_ble_eq_true rfl) (by omega) rfl rfl hc ⟨Nat.le_of_ble_eq_true rfl, Nat.le_of_ble_eq_true rfl⟩ ?_
  have hc := hc.up (Nat.le_succ _)
  show hh_V X 78 [(0, .ref 1)] [.ref 9, .ref 1] 8 70 (hg kX lX 10 (u2 (u2 (u2 (u2 (u2 (u2 (u2 R 1 8 (some 2)) 1 9 (some 3)) 1 10 (some 4)) 1 11 (some 5)) 1 12 (some 6)) 1 13 (some 7)) 1 14 (some 8)) J (u2 (u2 (u2 I 1 3 10) 1 4 5) 1 7 2))
  refine hv_putFR (v := (some 9)) hX hNm dX1_init_78 fl1_48_1 ⟨RX1, TX1, 17, "HungryHedge$Kept", rfl, rfl, q238, .inl rfl⟩ (show 1 < 10 by omega) rfl ?_
  have hc := hc.R (k := 15) (v := (some 9)) (show 1 < 10 from (show 1 < 10 by omega))
  show hh_V X 81 [(0, .ref 1)] [] 8 70 (hg kX lX 10 (u2 (u2 (u2 (u2 (u2 (u2 (u2 (u2 R 1 8 (some 2)) 1 9 (some 3)) 1 10 (some 4)) 1 11 (some 5)) 1 12 (some 6)) 1 13 (some 7)) 1 14 (some 8)) 1 15 (some 9)) J (u2 (u2 (u2 I 1 3 10) 1 4 5) 1 7 2))
  refine hv_aload_n hX dX1_init_81 rfl 0 rfl ?_
  refine hg_new hX dX1_init_82 nl1_52 (by omega) rfl rfl hc ⟨Nat.le_of_ble_eq_true rfl, Nat.le_of_ble_eq_true rfl⟩ ?_
  have hnew := hc
  have hc := hc.up (Nat.le_succ _)
  show hh_V X 85 [(0, .ref 1)] [.ref 10, .ref 1] 9 74 (hg kX lX 11 (u2 (u2 (u2 (u2 (u2 (u2 (u2 (u2 R 1 8 (some 2)) 1 9 (some 3)) 1 10 (some 4)) 1 11 (some 5)) 1 12 (some 6)) 1 13 (some 7)) 1 14 (some 8)) 1 15 (some 9)) J (u2 (u2 (u2 I 1 3 10) 1 4 5) 1 7 2))
  refine hv_dup hX rfl dX1_init_85 ?_
  refine hv_callIN (ci := 2) (q := (RX2, TX2, 4)) (ret := none) hX dX1_init_86 (cc_X2 10 11 (by omega) (by omega) rfl rfl rfl hc) (hh_nwm q167 rfl) rfl q169 q108 q168 rfl (by decide) np_X2_init rfl (show 10 < 11 by omega) rfl rfl ⟨Nat.le_of_ble_eq_true rfl, Nat.le_of_ble_eq_true rfl⟩ ⟨Nat.le_of_ble_eq_true rfl, Nat.le_of_ble_eq_true rfl⟩ (Nat.le_of_ble_eq_true rfl) ?_
  rintro _ _ ⟨rfl, rfl⟩
  have hc := cl_X2 10 11 (by omega) (by omega) rfl rfl rfl hc
  show hh_V X 89 [(0, .ref 1)] [.ref 10, .ref 1] 10 78 (hg kX lX 12 (rc_X2 10 11 (u2 (u2 (u2 (u2 (u2 (u2 (u2 (u2 R 1 8 (some 2)) 1 9 (some 3)) 1 10 (some 4)) 1 11 (some 5)) 1 12 (some 6)) 1 13 (some 7)) 1 14 (some 8)) 1 15 (some 9))) J (u2 (u2 (u2 I 1 3 10) 1 4 5) 1 7 2))
  refine hv_putFR (v := (some 10)) hX hNm dX1_init_89 fl1_55_1 ⟨RX1, TX1, 17, "HungryHedge$Kept", rfl, rfl, q240, .inl rfl⟩ (show 1 < 12 by omega) rfl ?_
  have hc := hc.R (k := 16) (v := (some 10)) (show 1 < 12 from (show 1 < 12 by omega))
  show hh_V X 92 [(0, .ref 1)] [] 10 78 (hg kX lX 12 (u2 (rc_X2 10 11 (u2 (u2 (u2 (u2 (u2 (u2 (u2 (u2 R 1 8 (some 2)) 1 9 (some 3)) 1 10 (some 4)) 1 11 (some 5)) 1 12 (some 6)) 1 13 (some 7)) 1 14 (some 8)) 1 15 (some 9))) 1 16 (some 10)) J (u2 (u2 (u2 I 1 3 10) 1 4 5) 1 7 2))
  exact hv_vret hX hE dX1_init_92 ⟨rfl, rfl⟩
def rc_X1_12 (R : xRd) : xRd := (u2 (rc_X2 21 22 (u2 (u2 (u2 (u2 (u2 (u2 (u2 (u2 R 12 8 (some 13)) 12 9 (some 14)) 12 10 (some 15)) 12 11 (some 16)) 12 12 (some 17)) 12 13 (some 18)) 12 14 (some 19)) 12 15 (some 20))) 12 16 (some 21))
def ic_X1_12 (I : mI) : mI := (u2 (u2 (u2 I 12 3 10) 12 4 5) 12 7 2)
theorem cl_X1_12 {R : xRd} {J : mJ} {I : mI} (hc : Cln 13 R J I) : Cln 23 (rc_X1_12 R) J (ic_X1_12 I) := by
  have hc := hc.I (k := 3) (v := 10) (show 12 < 13 from (show 12 < 13 by omega))
  have hc := hc.I (k := 4) (v := 5) (show 12 < 13 from (show 12 < 13 by omega))
  have hc := hc.I (k := 7) (v := 2) (show 12 < 13 from (show 12 < 13 by omega))
  have hc := hc.up (Nat.le_succ _)
  have hc := hc.R (k := 8) (v := (some 13)) (show 12 < 14 from (show 12 < 14 by omega))
  have hc := hc.up (Nat.le_succ _)
  have hc := hc.R (k := 9) (v := (some 14)) (show 12 < 15 from (show 12 < 15 by omega))
  have hc := hc.up (Nat.le_succ _)
  have hc := hc.R (k := 10) (v := (some 15)) (show 12 < 16 from (show 12 < 16 by omega))
  have hc := hc.up (Nat.le_succ _)
  have hc := hc.R (k := 11) (v := (some 16)) (show 12 < 17 from (show 12 < 17 by omega))
  have hc := hc.up (Nat.le_succ _)
  have hc := hc.R (k := 12) (v := (some 17)) (show 12 < 18 from (show 12 < 18 by omega))
  have hc := hc.up (Nat.le_succ _)
  have hc := hc.R (k := 13) (v := (some 18)) (show 12 < 19 from (show 12 < 19 by omega))
  have hc := hc.up (Nat.le_succ _)
  have hc := hc.R (k := 14) (v := (some 19)) (show 12 < 20 from (show 12 < 20 by omega))
  have hc := hc.up (Nat.le_succ _)
  have hc := hc.R (k := 15) (v := (some 20)) (show 12 < 21 from (show 12 < 21 by omega))
  have hc := hc.up (Nat.le_succ _)
  have hc := cl_X2 21 22 (by omega) (by omega) rfl rfl rfl hc
  have hc := hc.R (k := 16) (v := (some 21)) (show 12 < 23 from (show 12 < 23 by omega))
  exact hc
theorem cc_X1_12 {R : xRd} {J : mJ} {I : mI} (hc : Cln 13 R J I) : hh_Ct yX1_init cX1_init 1 none 2 40 [.ref 12] (hg kX lX 13 R J I) (fun v h' => v = none ∧ h' = hg kX lX 23 (rc_X1_12 R) J (ic_X1_12 I)) 10 78 := by
  refine hh_Ct.ofN (own := RX1) rfl (by decide +kernel) (Nat.le_of_ble_eq_true rfl) ?_
  intro X hX hN hE hNm
  show hh_V X 0 [(0, .ref 12)] [] 0 0 (hg kX lX 13 R J I)
  refine hv_aload_n hX dX1_init_0 rfl 0 rfl ?_
  refine hv_objinit hX dX1_init_1 q160 q153 q154 hN ⟨Nat.le_of_ble_eq_true rfl, Nat.le_of_ble_eq_true rfl⟩ ?_
  refine hv_aload_n hX dX1_init_4 rfl 0 rfl ?_
  refine hv_bipush (v := 10) hX bix_10 dX1_init_5 ?_
  refine hv_putI hX dX1_init_7 fl1_9_1 (show 12 < 13 by omega) rfl ?_
  have hc := hc.I (k := 3) (v := 10) (show 12 < 13 from (show 12 < 13 by omega))
  show hh_V X 10 [(0, .ref 12)] [] 0 0 (hg kX lX 13 R J (u2 I 12 3 10))
  refine hv_aload_n hX dX1_init_10 rfl 0 rfl ?_
  refine hv_iconst (v := 5) hX icx_5 dX1_init_11 ?_
  refine hv_putI hX dX1_init_12 fl1_15_1 (show 12 < 13 by omega) rfl ?_
  have hc := hc.I (k := 4) (v := 5) (show 12 < 13 from (show 12 < 13 by omega))
  show hh_V X 15 [(0, .ref 12)] [] 0 0 (hg kX lX 13 R J (u2 (u2 I 12 3 10) 12 4 5))
  refine hv_aload_n hX dX1_init_15 rfl 0 rfl ?_
  refine hv_iconst (v := 2) hX icx_2 dX1_init_16 ?_
  refine hv_putI hX dX1_init_17 fl1_18_1 (show 12 < 13 by omega) rfl ?_
  have hc := hc.I (k := 7) (v := 2) (show 12 < 13 from (show 12 < 13 by omega))
  show hh_V X 20 [(0, .ref 12)] [] 0 0 (hg kX lX 13 R J (u2 (u2 (u2 I 12 3 10) 12 4 5) 12 7 2))
  refine hv_aload_n hX dX1_init_20 rfl 0 rfl ?_
  refine hv_iconst (v := 4) hX icx_4 dX1_init_21 ?_
  refine hg_newA (atype := .int) (a := 0) (N := 4) hX 0 rfl (by decide) rfl (by decide) rfl q196 dX1_init_22 (by decide) (by decide) (Nat.le_of_ble_eq_true rfl) (by omega) rfl rfl hc ⟨Nat.le_of_ble_eq_true rfl, Nat.le_of_ble_eq_true rfl⟩ ?_
  have hc := hc.up (Nat.le_succ _)
  show hh_V X 24 [(0, .ref 12)] [.ref 13, .ref 12] 1 4 (hg kX lX 14 R J (u2 (u2 (u2 I 12 3 10) 12 4 5) 12 7 2))
  refine hv_putFR (v := (some 13)) hX hNm dX1_init_24 fl1_21_1 ⟨RX1, TX1, 17, "HungryHedge$Kept", rfl, rfl, q221, .inl rfl⟩ (show 12 < 14 by omega) rfl ?_
  have hc := hc.R (k := 8) (v := (some 13)) (show 12 < 14 from (show 12 < 14 by omega))
  show hh_V X 27 [(0, .ref 12)] [] 1 4 (hg kX lX 14 (u2 R 12 8 (some 13)) J (u2 (u2 (u2 I 12 3 10) 12 4 5) 12 7 2))
  refine hv_aload_n hX dX1_init_27 rfl 0 rfl ?_
  refine hv_iconst (v := 4) hX icx_4 dX1_init_28 ?_
  refine hg_newA (atype := .int) (a := 0) (N := 4) hX 0 rfl (by decide) rfl (by decide) rfl q196 dX1_init_29 (by decide) (by decide) (Nat.le_of_ble_eq_true rfl) (by omega) rfl rfl hc ⟨Nat.le_of_ble_eq_true rfl, Nat.le_of_ble_eq_true rfl⟩ ?_
  have hc := hc.up (Nat.le_succ _)
  show hh_V X 31 [(0, .ref 12)] [.ref 14, .ref 12] 2 8 (hg kX lX 15 (u2 R 12 8 (some 13)) J (u2 (u2 (u2 I 12 3 10) 12 4 5) 12 7 2))
  refine hv_putFR (v := (some 14)) hX hNm dX1_init_31 fl1_25_1 ⟨RX1, TX1, 17, "HungryHedge$Kept", rfl, rfl, q223, .inl rfl⟩ (show 12 < 15 by omega) rfl ?_
  have hc := hc.R (k := 9) (v := (some 14)) (show 12 < 15 from (show 12 < 15 by omega))
  show hh_V X 34 [(0, .ref 12)] [] 2 8 (hg kX lX 15 (u2 (u2 R 12 8 (some 13)) 12 9 (some 14)) J (u2 (u2 (u2 I 12 3 10) 12 4 5) 12 7 2))
  refine hv_aload_n hX dX1_init_34 rfl 0 rfl ?_
  refine hv_iconst (v := 4) hX icx_4 dX1_init_35 ?_
  refine hg_newA (atype := .int) (a := 0) (N := 4) hX 0 rfl (by decide) rfl (by decide) rfl q196 dX1_init_36 (by decide) (by decide) (Nat.le_of_ble_eq_true rfl) (by omega) rfl rfl hc ⟨Nat.le_of_ble_eq_true rfl, Nat.le_of_ble_eq_true rfl⟩ ?_
  have hc := hc.up (Nat.le_succ _)
  show hh_V X 38 [(0, .ref 12)] [.ref 15, .ref 12] 3 12 (hg kX lX 16 (u2 (u2 R 12 8 (some 13)) 12 9 (some 14)) J (u2 (u2 (u2 I 12 3 10) 12 4 5) 12 7 2))
  refine hv_putFR (v := (some 15)) hX hNm dX1_init_38 fl1_28_1 ⟨RX1, TX1, 17, "HungryHedge$Kept", rfl, rfl, q226, .inl rfl⟩ (show 12 < 16 by omega) rfl ?_
  have hc := hc.R (k := 10) (v := (some 15)) (show 12 < 16 from (show 12 < 16 by omega))
  show hh_V X 41 [(0, .ref 12)] [] 3 12 (hg kX lX 16 (u2 (u2 (u2 R 12 8 (some 13)) 12 9 (some 14)) 12 10 (some 15)) J (u2 (u2 (u2 I 12 3 10) 12 4 5) 12 7 2))
  refine hv_aload_n hX dX1_init_41 rfl 0 rfl ?_
  refine hv_iconst (v := 4) hX icx_4 dX1_init_42 ?_
  refine hg_newA (atype := .int) (a := 0) (N := 4) hX 0 rfl (by decide) rfl (by decide) rfl q196 dX1_init_43 (by decide) (by decide) (Nat.le_of_ble_eq_true rfl) (by omega) rfl rfl hc ⟨Nat.le_of_ble_eq_true rfl, Nat.le_of_ble_eq_true rfl⟩ ?_
  have hc := hc.up (Nat.le_succ _)
  show hh_V X 45 [(0, .ref 12)] [.ref 16, .ref 12] 4 16 (hg kX lX 17 (u2 (u2 (u2 R 12 8 (some 13)) 12 9 (some 14)) 12 10 (some 15)) J (u2 (u2 (u2 I 12 3 10) 12 4 5) 12 7 2))
  refine hv_putFR (v := (some 16)) hX hNm dX1_init_45 fl1_31_1 ⟨RX1, TX1, 17, "HungryHedge$Kept", rfl, rfl, q228, .inl rfl⟩ (show 12 < 17 by omega) rfl ?_
  have hc := hc.R (k := 11) (v := (some 16)) (show 12 < 17 from (show 12 < 17 by omega))
  show hh_V X 48 [(0, .ref 12)] [] 4 16 (hg kX lX 17 (u2 (u2 (u2 (u2 R 12 8 (some 13)) 12 9 (some 14)) 12 10 (some 15)) 12 11 (some 16)) J (u2 (u2 (u2 I 12 3 10) 12 4 5) 12 7 2))
  refine hv_aload_n hX dX1_init_48 rfl 0 rfl ?_
  refine hv_bipush (v := 28) hX bix_28 dX1_init_49 ?_
  refine hg_newA (atype := .int) (a := 0) (N := 28) hX 0 rfl (by decide) rfl (by decide) rfl q196 dX1_init_51 (by decide) (by decide) (Nat.le_of_ble_eq_true rfl) (by omega) rfl rfl hc ⟨Nat.le_of_ble_eq_true rfl, Nat.le_of_ble_eq_true rfl⟩ ?_
  have hc := hc.up (Nat.le_succ _)
  show hh_V X 53 [(0, .ref 12)] [.ref 17, .ref 12] 5 44 (hg kX lX 18 (u2 (u2 (u2 (u2 R 12 8 (some 13)) 12 9 (some 14)) 12 10 (some 15)) 12 11 (some 16)) J (u2 (u2 (u2 I 12 3 10) 12 4 5) 12 7 2))
  refine hv_putFR (v := (some 17)) hX hNm dX1_init_53 fl1_34_1 ⟨RX1, TX1, 17, "HungryHedge$Kept", rfl, rfl, q231, .inl rfl⟩ (show 12 < 18 by omega) rfl ?_
  have hc := hc.R (k := 12) (v := (some 17)) (show 12 < 18 from (show 12 < 18 by omega))
  show hh_V X 56 [(0, .ref 12)] [] 5 44 (hg kX lX 18 (u2 (u2 (u2 (u2 (u2 R 12 8 (some 13)) 12 9 (some 14)) 12 10 (some 15)) 12 11 (some 16)) 12 12 (some 17)) J (u2 (u2 (u2 I 12 3 10) 12 4 5) 12 7 2))
  refine hv_aload_n hX dX1_init_56 rfl 0 rfl ?_
  refine hv_bipush (v := 16) hX bix_16 dX1_init_57 ?_
  refine hg_newA (atype := .int) (a := 0) (N := 16) hX 0 rfl (by decide) rfl (by decide) rfl q196 dX1_init_59 (by decide) (by decide) (Nat.le_of_ble_eq_true rfl) (by omega) rfl rfl hc ⟨Nat.le_of_ble_eq_true rfl, Nat.le_of_ble_eq_true rfl⟩ ?_
  have hc := hc.up (Nat.le_succ _)
  show hh_V X 61 [(0, .ref 12)] [.ref 18, .ref 12] 6 60 (hg kX lX 19 (u2 (u2 (u2 (u2 (u2 R 12 8 (some 13)) 12 9 (some 14)) 12 10 (some 15)) 12 11 (some 16)) 12 12 (some 17)) J (u2 (u2 (u2 I 12 3 10) 12 4 5) 12 7 2))
  refine hv_putFR (v := (some 18)) hX hNm dX1_init_61 fl1_37_1 ⟨RX1, TX1, 17, "HungryHedge$Kept", rfl, rfl, q233, .inl rfl⟩ (show 12 < 19 by omega) rfl ?_
  have hc := hc.R (k := 13) (v := (some 18)) (show 12 < 19 from (show 12 < 19 by omega))
  show hh_V X 64 [(0, .ref 12)] [] 6 60 (hg kX lX 19 (u2 (u2 (u2 (u2 (u2 (u2 R 12 8 (some 13)) 12 9 (some 14)) 12 10 (some 15)) 12 11 (some 16)) 12 12 (some 17)) 12 13 (some 18)) J (u2 (u2 (u2 I 12 3 10) 12 4 5) 12 7 2))
  refine hv_aload_n hX dX1_init_64 rfl 0 rfl ?_
  refine hv_iconst (v := 4) hX icx_4 dX1_init_65 ?_
  refine hg_newQ (a := 21) (N := 4) (C := "HungryHedge$Risk") hX 5 rfl (by decide) rfl (by decide) q161 dX1_init_66 (by decide) (by decide) (Nat.le_of_ble_eq_true rfl) (by omega) rfl rfl hc ⟨Nat.le_of_ble_eq_true rfl, Nat.le_of_ble_eq_true rfl⟩ ?_
  have hc := hc.up (Nat.le_succ _)
  show hh_V X 69 [(0, .ref 12)] [.ref 19, .ref 12] 7 64 (hg kX lX 20 (u2 (u2 (u2 (u2 (u2 (u2 R 12 8 (some 13)) 12 9 (some 14)) 12 10 (some 15)) 12 11 (some 16)) 12 12 (some 17)) 12 13 (some 18)) J (u2 (u2 (u2 I 12 3 10) 12 4 5) 12 7 2))
  refine hv_putFR (v := (some 19)) hX hNm dX1_init_69 fl1_42_1 ⟨RX1, TX1, 17, "HungryHedge$Kept", rfl, rfl, q235, .inl rfl⟩ (show 12 < 20 by omega) rfl ?_
  have hc := hc.R (k := 14) (v := (some 19)) (show 12 < 20 from (show 12 < 20 by omega))
  show hh_V X 72 [(0, .ref 12)] [] 7 64 (hg kX lX 20 (u2 (u2 (u2 (u2 (u2 (u2 (u2 R 12 8 (some 13)) 12 9 (some 14)) 12 10 (some 15)) 12 11 (some 16)) 12 12 (some 17)) 12 13 (some 18)) 12 14 (some 19)) J (u2 (u2 (u2 I 12 3 10) 12 4 5) 12 7 2))
  refine hv_aload_n hX dX1_init_72 rfl 0 rfl ?_
  refine hv_bipush (v := 6) hX bix_6 dX1_init_73 ?_
  refine hg_newQ (a := 22) (N := 6) (C := "HungryHedge$Clause") hX 6 rfl (by decide) rfl (by decide) q163 dX1_init_75 (by decide) (by decide) (Nat.le_of_ble_eq_true rfl) (by omega) rfl rfl hc ⟨Nat.le_of_ble_eq_true rfl, Nat.le_of_ble_eq_true rfl⟩ ?_
  have hc := hc.up (Nat.le_succ _)
  show hh_V X 78 [(0, .ref 12)] [.ref 20, .ref 12] 8 70 (hg kX lX 21 (u2 (u2 (u2 (u2 (u2 (u2 (u2 R 12 8 (some 13)) 12 9 (some 14)) 12 10 (some 15)) 12 11 (some 16)) 12 12 (some 17)) 12 13 (some 18)) 12 14 (some 19)) J (u2 (u2 (u2 I 12 3 10) 12 4 5) 12 7 2))
  refine hv_putFR (v := (some 20)) hX hNm dX1_init_78 fl1_48_1 ⟨RX1, TX1, 17, "HungryHedge$Kept", rfl, rfl, q238, .inl rfl⟩ (show 12 < 21 by omega) rfl ?_
  have hc := hc.R (k := 15) (v := (some 20)) (show 12 < 21 from (show 12 < 21 by omega))
  show hh_V X 81 [(0, .ref 12)] [] 8 70 (hg kX lX 21 (u2 (u2 (u2 (u2 (u2 (u2 (u2 (u2 R 12 8 (some 13)) 12 9 (some 14)) 12 10 (some 15)) 12 11 (some 16)) 12 12 (some 17)) 12 13 (some 18)) 12 14 (some 19)) 12 15 (some 20)) J (u2 (u2 (u2 I 12 3 10) 12 4 5) 12 7 2))
  refine hv_aload_n hX dX1_init_81 rfl 0 rfl ?_
  refine hg_new hX dX1_init_82 nl1_52 (by omega) rfl rfl hc ⟨Nat.le_of_ble_eq_true rfl, Nat.le_of_ble_eq_true rfl⟩ ?_
  have hnew := hc
  have hc := hc.up (Nat.le_succ _)
  show hh_V X 85 [(0, .ref 12)] [.ref 21, .ref 12] 9 74 (hg kX lX 22 (u2 (u2 (u2 (u2 (u2 (u2 (u2 (u2 R 12 8 (some 13)) 12 9 (some 14)) 12 10 (some 15)) 12 11 (some 16)) 12 12 (some 17)) 12 13 (some 18)) 12 14 (some 19)) 12 15 (some 20)) J (u2 (u2 (u2 I 12 3 10) 12 4 5) 12 7 2))
  refine hv_dup hX rfl dX1_init_85 ?_
  refine hv_callIN (ci := 2) (q := (RX2, TX2, 4)) (ret := none) hX dX1_init_86 (cc_X2 21 22 (by omega) (by omega) rfl rfl rfl hc) (hh_nwm q167 rfl) rfl q169 q108 q168 rfl (by decide) np_X2_init rfl (show 21 < 22 by omega) rfl rfl ⟨Nat.le_of_ble_eq_true rfl, Nat.le_of_ble_eq_true rfl⟩ ⟨Nat.le_of_ble_eq_true rfl, Nat.le_of_ble_eq_true rfl⟩ (Nat.le_of_ble_eq_true rfl) ?_
  rintro _ _ ⟨rfl, rfl⟩
  have hc := cl_X2 21 22 (by omega) (by omega) rfl rfl rfl hc
  show hh_V X 89 [(0, .ref 12)] [.ref 21, .ref 12] 10 78 (hg kX lX 23 (rc_X2 21 22 (u2 (u2 (u2 (u2 (u2 (u2 (u2 (u2 R 12 8 (some 13)) 12 9 (some 14)) 12 10 (some 15)) 12 11 (some 16)) 12 12 (some 17)) 12 13 (some 18)) 12 14 (some 19)) 12 15 (some 20))) J (u2 (u2 (u2 I 12 3 10) 12 4 5) 12 7 2))
  refine hv_putFR (v := (some 21)) hX hNm dX1_init_89 fl1_55_1 ⟨RX1, TX1, 17, "HungryHedge$Kept", rfl, rfl, q240, .inl rfl⟩ (show 12 < 23 by omega) rfl ?_
  have hc := hc.R (k := 16) (v := (some 21)) (show 12 < 23 from (show 12 < 23 by omega))
  show hh_V X 92 [(0, .ref 12)] [] 10 78 (hg kX lX 23 (u2 (rc_X2 21 22 (u2 (u2 (u2 (u2 (u2 (u2 (u2 (u2 R 12 8 (some 13)) 12 9 (some 14)) 12 10 (some 15)) 12 11 (some 16)) 12 12 (some 17)) 12 13 (some 18)) 12 14 (some 19)) 12 15 (some 20))) 12 16 (some 21)) J (u2 (u2 (u2 I 12 3 10) 12 4 5) 12 7 2))
  exact hv_vret hX hE dX1_init_92 ⟨rfl, rfl⟩
