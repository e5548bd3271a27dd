set_option maxRecDepth 100000
set_option maxHeartbeats 4000000
theorem ic_m1 : Int32.ofInt (-1) = (-1) := by decide
theorem ic_0 : Int32.ofInt 0 = 0 := by decide
theorem ic_1 : Int32.ofInt 1 = 1 := by decide
theorem ic_2 : Int32.ofInt 2 = 2 := by decide
theorem ic_3 : Int32.ofInt 3 = 3 := by decide
theorem ic_4 : Int32.ofInt 4 = 4 := by decide
theorem ic_5 : Int32.ofInt 5 = 5 := by decide
theorem bi_m100 : (Int8.ofInt (-100)).toInt32 = (-100) := by decide
theorem bi_m15 : (Int8.ofInt (-15)).toInt32 = (-15) := by decide
theorem bi_m14 : (Int8.ofInt (-14)).toInt32 = (-14) := by decide
theorem bi_m13 : (Int8.ofInt (-13)).toInt32 = (-13) := by decide
theorem bi_m12 : (Int8.ofInt (-12)).toInt32 = (-12) := by decide
theorem bi_m11 : (Int8.ofInt (-11)).toInt32 = (-11) := by decide
theorem bi_m9 : (Int8.ofInt (-9)).toInt32 = (-9) := by decide
theorem bi_m4 : (Int8.ofInt (-4)).toInt32 = (-4) := by decide
theorem bi_m3 : (Int8.ofInt (-3)).toInt32 = (-3) := by decide
theorem bi_m2 : (Int8.ofInt (-2)).toInt32 = (-2) := by decide
theorem bi_6 : (Int8.ofInt 6).toInt32 = 6 := by decide
theorem bi_7 : (Int8.ofInt 7).toInt32 = 7 := by decide
theorem bi_8 : (Int8.ofInt 8).toInt32 = 8 := by decide
theorem bi_9 : (Int8.ofInt 9).toInt32 = 9 := by decide
theorem bi_10 : (Int8.ofInt 10).toInt32 = 10 := by decide
theorem bi_11 : (Int8.ofInt 11).toInt32 = 11 := by decide
theorem bi_12 : (Int8.ofInt 12).toInt32 = 12 := by decide
theorem bi_13 : (Int8.ofInt 13).toInt32 = 13 := by decide
theorem bi_15 : (Int8.ofInt 15).toInt32 = 15 := by decide
theorem bi_16 : (Int8.ofInt 16).toInt32 = 16 := by decide
theorem bi_17 : (Int8.ofInt 17).toInt32 = 17 := by decide
theorem bi_20 : (Int8.ofInt 20).toInt32 = 20 := by decide
theorem bi_30 : (Int8.ofInt 30).toInt32 = 30 := by decide
theorem bi_31 : (Int8.ofInt 31).toInt32 = 31 := by decide
theorem bi_32 : (Int8.ofInt 32).toInt32 = 32 := by decide
theorem bi_40 : (Int8.ofInt 40).toInt32 = 40 := by decide
theorem bi_41 : (Int8.ofInt 41).toInt32 = 41 := by decide
theorem bi_44 : (Int8.ofInt 44).toInt32 = 44 := by decide
theorem bi_48 : (Int8.ofInt 48).toInt32 = 48 := by decide
theorem bi_49 : (Int8.ofInt 49).toInt32 = 49 := by decide
theorem bi_50 : (Int8.ofInt 50).toInt32 = 50 := by decide
theorem bi_57 : (Int8.ofInt 57).toInt32 = 57 := by decide
theorem bi_59 : (Int8.ofInt 59).toInt32 = 59 := by decide
theorem bi_60 : (Int8.ofInt 60).toInt32 = 60 := by decide
theorem bi_61 : (Int8.ofInt 61).toInt32 = 61 := by decide
theorem bi_62 : (Int8.ofInt 62).toInt32 = 62 := by decide
theorem bi_63 : (Int8.ofInt 63).toInt32 = 63 := by decide
theorem bi_70 : (Int8.ofInt 70).toInt32 = 70 := by decide
theorem bi_71 : (Int8.ofInt 71).toInt32 = 71 := by decide
theorem bi_72 : (Int8.ofInt 72).toInt32 = 72 := by decide
theorem bi_73 : (Int8.ofInt 73).toInt32 = 73 := by decide
theorem bi_97 : (Int8.ofInt 97).toInt32 = 97 := by decide
theorem bi_100 : (Int8.ofInt 100).toInt32 = 100 := by decide
theorem bi_101 : (Int8.ofInt 101).toInt32 = 101 := by decide
theorem bi_102 : (Int8.ofInt 102).toInt32 = 102 := by decide
theorem bi_103 : (Int8.ofInt 103).toInt32 = 103 := by decide
theorem bi_122 : (Int8.ofInt 122).toInt32 = 122 := by decide
theorem si_200 : (Int16.ofInt 200).toInt32 = 200 := by decide
theorem si_210 : (Int16.ofInt 210).toInt32 = 210 := by decide
theorem si_240 : (Int16.ofInt 240).toInt32 = 240 := by decide
theorem si_241 : (Int16.ofInt 241).toInt32 = 241 := by decide
theorem si_300 : (Int16.ofInt 300).toInt32 = 300 := by decide
theorem si_343 : (Int16.ofInt 343).toInt32 = 343 := by decide
theorem si_999 : (Int16.ofInt 999).toInt32 = 999 := by decide
theorem si_1024 : (Int16.ofInt 1024).toInt32 = 1024 := by decide
theorem si_2401 : (Int16.ofInt 2401).toInt32 = 2401 := by decide
theorem si_3000 : (Int16.ofInt 3000).toInt32 = 3000 := by decide
/-! in(III)Z -/
def m_in (a0 : Int32) (a1 : Int32) (a2 : Int32) (I : mI) (J : mJ) (Q : Int32 → mI → mJ → Prop) : Prop :=
  (a0 < a1 →
    Q 0 I J) ∧ (¬ a0 < a1 →
    (a2 < a0 →
      Q 0 I J) ∧ (¬ a2 < a0 →
      Q 1 I J))
theorem ct_in (a0 : Int32) (a1 : Int32) (a2 : Int32) (I : mI) (J : mJ) (Q : Int32 → mI → mJ → Prop) (hf : m_in a0 a1 a2 I J Q) : hh_Ct yX14_in cX14_in 3 (some .boolean) 0 0 [.int a0, .int a1, .int a2] (hm I J) (mQi Q) 0 0 := by
  refine hh_Ct.of (own := RX14) rfl (by decide +kernel) (Nat.le_of_ble_eq_true rfl) ?_
  intro X hX hN hE
  show hh_V X 0 [(0, .int a0), (1, .int a1), (2, .int a2)] [] 0 0 (hm I J)
  unfold m_in at hf
  refine hv_iload_n hX dX14_in_0 rfl 0 rfl ?_
  refine hv_iload_n hX dX14_in_1 rfl 1 rfl ?_
  refine hv_icmp_lt (tgt := 14) hX dX14_in_2 (by decide) (fun c1 => ?_) (fun c1 => ?_)
  · replace hf := hf.1 c1
    refine hv_iconst (v := 0) hX ic_0 dX14_in_14 ?_
    exact hm_zret hX hE dX14_in_15 (by decide) hf
  · replace hf := hf.2 c1
    refine hv_iload_n hX dX14_in_5 rfl 0 rfl ?_
    refine hv_iload_n hX dX14_in_6 rfl 2 rfl ?_
    refine hv_icmp_gt (tgt := 14) hX dX14_in_7 (by decide) (fun c2 => ?_) (fun c2 => ?_)
    · replace hf := hf.1 c2
      refine hv_iconst (v := 0) hX ic_0 dX14_in_14 ?_
      exact hm_zret hX hE dX14_in_15 (by decide) hf
    · replace hf := hf.2 c2
      refine hv_iconst (v := 1) hX ic_1 dX14_in_10 ?_
      refine hv_goto (tgt := 15) hX dX14_in_11 (by decide) ?_
      exact hm_zret hX hE dX14_in_15 (by decide) hf
theorem np_in : yX14_in.cls ≠ "java/lang/invoke/MethodHandle" ∧ yX14_in.cls ≠ "java/lang/invoke/VarHandle" ∧ (parseMethodDescriptor yX14_in.desc).map (fun d => d.parameters.length) = some 3 := by decide +kernel
theorem gd_in {idx : Nat} (h : Cond.methodLink RX14 idx yX14_in ∈ lw_all) : GoodIn lw_all (va_wsS RX14 idx yX14_in (ws_ yX14_in cX14_in 3 (some .boolean))) := lw_S h q1924 q123 q1925
/-! unit(I)I -/
def m_unit (a0 : Int32) (I : mI) (J : mJ) (Q : Int32 → mI → mJ → Prop) : Prop :=
  (a0 = 0 →
    Q 1 I J) ∧ (¬ a0 = 0 →
    (a0 = 1 →
      Q 7 I J) ∧ (¬ a0 = 1 →
      (a0 = 2 →
        Q 49 I J) ∧ (¬ a0 = 2 →
        Q 343 I J)))
theorem ct_unit (a0 : Int32) (I : mI) (J : mJ) (Q : Int32 → mI → mJ → Prop) (hf : m_unit a0 I J Q) : hh_Ct yX14_unit cX14_unit 1 (some .int) 0 0 [.int a0] (hm I J) (mQi Q) 0 0 := by
  refine hh_Ct.of (own := RX14) rfl (by decide +kernel) (Nat.le_of_ble_eq_true rfl) ?_
  intro X hX hN hE
  show hh_V X 0 [(0, .int a0)] [] 0 0 (hm I J)
  unfold m_unit at hf
  refine hv_iload_n hX dX14_unit_0 rfl 0 rfl ?_
  refine hv_if_ne (tgt := 8) hX dX14_unit_1 (by decide) (fun c1 => ?_) (fun c1 => ?_)
  · replace hf := hf.2 c1
    refine hv_iload_n hX dX14_unit_8 rfl 0 rfl ?_
    refine hv_iconst (v := 1) hX ic_1 dX14_unit_9 ?_
    refine hv_icmp_ne (tgt := 18) hX dX14_unit_10 (by decide) (fun c2 => ?_) (fun c2 => ?_)
    · replace hf := hf.2 c2
      refine hv_iload_n hX dX14_unit_18 rfl 0 rfl ?_
      refine hv_iconst (v := 2) hX ic_2 dX14_unit_19 ?_
      refine hv_icmp_ne (tgt := 28) hX dX14_unit_20 (by decide) (fun c3 => ?_) (fun c3 => ?_)
      · replace hf := hf.2 c3
        refine hv_sipush (v := 343) hX si_343 dX14_unit_28 ?_
        exact hm_iret hX hE dX14_unit_31 hf
      · replace hf := hf.1 c3
        refine hv_bipush (v := 49) hX bi_49 dX14_unit_23 ?_
        refine hv_goto (tgt := 31) hX dX14_unit_25 (by decide) ?_
        exact hm_iret hX hE dX14_unit_31 hf
    · replace hf := hf.1 c2
      refine hv_bipush (v := 7) hX bi_7 dX14_unit_13 ?_
      refine hv_goto (tgt := 31) hX dX14_unit_15 (by decide) ?_
      exact hm_iret hX hE dX14_unit_31 hf
  · replace hf := hf.1 c1
    refine hv_iconst (v := 1) hX ic_1 dX14_unit_4 ?_
    refine hv_goto (tgt := 31) hX dX14_unit_5 (by decide) ?_
    exact hm_iret hX hE dX14_unit_31 hf
theorem np_unit : yX14_unit.cls ≠ "java/lang/invoke/MethodHandle" ∧ yX14_unit.cls ≠ "java/lang/invoke/VarHandle" ∧ (parseMethodDescriptor yX14_unit.desc).map (fun d => d.parameters.length) = some 1 := by decide +kernel
theorem gd_unit {idx : Nat} (h : Cond.methodLink RX14 idx yX14_unit ∈ lw_all) : GoodIn lw_all (va_wsS RX14 idx yX14_unit (ws_ yX14_unit cX14_unit 1 (some .int))) := lw_S h q1930 q123 q1931
/-! foodIn(II)I -/
def m_foodIn (a0 : Int32) (a1 : Int32) (I : mI) (J : mJ) (Q : Int32 → mI → mJ → Prop) : Prop :=
  m_unit a1 I J (fun r1 I2 J3 => ¬ r1 = 0 ∧ (Q ((a0 / r1) - (a0 / r1) / 7 * 7) I2 J3))
theorem ct_foodIn (a0 : Int32) (a1 : Int32) (I : mI) (J : mJ) (Q : Int32 → mI → mJ → Prop) (hf : m_foodIn a0 a1 I J Q) : hh_Ct yX14_foodIn cX14_foodIn 2 (some .int) 1 20 [.int a0, .int a1] (hm I J) (mQi Q) 0 0 := by
  refine hh_Ct.of (own := RX14) rfl (by decide +kernel) (Nat.le_of_ble_eq_true rfl) ?_
  intro X hX hN hE
  show hh_V X 0 [(0, .int a0), (1, .int a1)] [] 0 0 (hm I J)
  unfold m_foodIn at hf
  refine hv_iload_n hX dX14_foodIn_0 rfl 0 rfl ?_
  refine hv_iload_n hX dX14_foodIn_1 rfl 1 rfl ?_
  refine hm_callSi hX dX14_foodIn_2 (ct_unit a1 I J _ hf) (gd_unit q1929) np_unit rfl rfl ⟨Nat.le_of_ble_eq_true rfl, Nat.le_of_ble_eq_true rfl⟩ ⟨Nat.le_refl _, Nat.le_refl _⟩ (Nat.le_of_ble_eq_true rfl) ?_
  intro r1 I2 J3 hf
  obtain ⟨g, hf⟩ := hf
  refine hv_idiv hX g dX14_foodIn_5 ?_
  refine hv_bipush (v := 7) hX bi_7 dX14_foodIn_6 ?_
  refine hv_irem hX (by decide) dX14_foodIn_8 ?_
  exact hm_iret hX hE dX14_foodIn_9 hf
theorem np_foodIn : yX14_foodIn.cls ≠ "java/lang/invoke/MethodHandle" ∧ yX14_foodIn.cls ≠ "java/lang/invoke/VarHandle" ∧ (parseMethodDescriptor yX14_foodIn.desc).map (fun d => d.parameters.length) = some 2 := by decide +kernel
theorem gd_foodIn {idx : Nat} (h : Cond.methodLink RX14 idx yX14_foodIn ∈ lw_all) : GoodIn lw_all (va_wsS RX14 idx yX14_foodIn (ws_ yX14_foodIn cX14_foodIn 2 (some .int))) := lw_S h q1927 q123 q1928
/-! patch(III)I -/
def m_patch_l144 (Q : Int32 → mI → mJ → Prop) : Nat → Int32 → Int32 → mI → mJ → Prop
  | 0, _, _, _, _ => False
  | n + 1, a4, a5, I, J =>
    ((4 : Int32) ≤ a5 →
      Q a4 (u2 (u2 I 0 8 ((I 0 8) + 1)) 0 18 ((I 0 18) + 1)) J) ∧ (¬ (4 : Int32) ≤ a5 →
      vp_in ((4 * a4) + a5) 16 ∧ (vp_in ((4 * a5) + a4) 16 ∧ (m_patch_l144 Q n a4 (a5 + 1) (u2 (u2 I 2 ((4 * a4) + a5).toNatClampNeg 0) 2 ((4 * a5) + a4).toNatClampNeg 0) J)))
theorem w_patch_l144 {X : hh_CX} {Q : Int32 → mI → mJ → Prop} (hX : hh_C X cX14_patch RX14 (hrm 2 41)) (hN : hh_nL X = 6) (hE : hh_E X (some .int) (mQi Q) 0 0) : ∀ (n : Nat) (a4 : Int32) (a5 : Int32) (I : mI) (J : mJ), m_patch_l144 Q  n a4 a5 I J → hh_V X 144 [(0, .ref 0), (4, .int a4), (5, .int a5)] [] 0 0 (hm I J) := by
  intro n
  induction n with
  | zero => intro _ _ _ _ hf; exact hf.elim
  | succ n ih =>
    intro a4 a5 I J hf
    unfold m_patch_l144 at hf
    refine hv_iload hX dX14_patch_144 2 rfl ?_
    refine hv_iconst (v := 4) hX ic_4 dX14_patch_146 ?_
    refine hv_icmp_ge (tgt := 182) hX dX14_patch_147 (by decide) (fun c21 => ?_) (fun c21 => ?_)
    · replace hf := hf.1 c21
      refine hv_aload_n hX dX14_patch_182 rfl 0 rfl ?_
      refine hv_dup hX rfl dX14_patch_183 ?_
      refine hm_getI (v := (I 0 8)) hX dX14_patch_184 mfl130 (.inl rfl) rfl ?_
      refine hv_iconst (v := 1) hX ic_1 dX14_patch_187 ?_
      refine hv_iadd hX dX14_patch_188 ?_
      refine hm_putI hX dX14_patch_189 mfl130 ?_
      refine hv_aload_n hX dX14_patch_192 rfl 0 rfl ?_
      refine hv_dup hX rfl dX14_patch_193 ?_
      refine hm_getI (v := (I 0 18)) hX dX14_patch_194 mfl38 (.inl rfl) ((u2_ne _ _ (.inr (by decide)))) ?_
      refine hv_iconst (v := 1) hX ic_1 dX14_patch_197 ?_
      refine hv_iadd hX dX14_patch_198 ?_
      refine hm_putI hX dX14_patch_199 mfl38 ?_
      refine hv_iload hX dX14_patch_202 1 rfl ?_
      exact hm_iret hX hE dX14_patch_204 hf
    · replace hf := hf.2 c21
      refine hv_aload_n hX dX14_patch_150 rfl 0 rfl ?_
      refine hm_getR hX dX14_patch_151 mfl23 2 rfl ?_
      refine hv_iconst (v := 4) hX ic_4 dX14_patch_154 ?_
      refine hv_iload hX dX14_patch_155 1 rfl ?_
      refine hv_imul hX dX14_patch_157 ?_
      refine hv_iload hX dX14_patch_158 2 rfl ?_
      refine hv_iadd hX dX14_patch_160 ?_
      refine hv_iconst (v := 0) hX ic_0 dX14_patch_161 ?_
      obtain ⟨g, hf⟩ := hf
      refine hm_iast hX dX14_patch_162 (by decide) rfl rfl g ?_
      refine hv_aload_n hX dX14_patch_163 rfl 0 rfl ?_
      refine hm_getR hX dX14_patch_164 mfl23 2 rfl ?_
      refine hv_iconst (v := 4) hX ic_4 dX14_patch_167 ?_
      refine hv_iload hX dX14_patch_168 2 rfl ?_
      refine hv_imul hX dX14_patch_170 ?_
      refine hv_iload hX dX14_patch_171 1 rfl ?_
      refine hv_iadd hX dX14_patch_173 ?_
      refine hv_iconst (v := 0) hX ic_0 dX14_patch_174 ?_
      obtain ⟨g, hf⟩ := hf
      refine hm_iast hX dX14_patch_175 (by decide) rfl rfl g ?_
      refine hv_iinc (v := (a5 + 1)) (loc2 := [(5, .int (a5 + 1)), (0, .ref 0), (4, .int a4)]) hX dX14_patch_176 2 rfl (congrArg (fun y => a5 + y) ic_1) hN (Nat.le_of_ble_eq_true rfl) rfl ?_
      refine hv_goto (tgt := 144) hX dX14_patch_179 (by decide) ?_
      refine hv_fewer [1, 2, 0] (loc2 := [(0, .ref 0), (4, .int a4), (5, .int (a5 + 1))]) rfl ?_
      exact ih _ _ _ _ hf
def m_patch_l51 (Q : Int32 → mI → mJ → Prop) : Nat → Int32 → Int32 → Int32 → Int32 → Int32 → mI → mJ → Prop
  | 0, _, _, _, _, _, _, _ => False
  | n + 1, a1, a2, a3, a4, a5, I, J =>
    ((11 : Int32) ≤ a5 →
      vp_in (11 * a4) 44 ∧ (vp_in ((11 * a4) + 1) 44 ∧ (vp_in ((11 * a4) + 2) 44 ∧ (m_foodIn (I 0 12) a4 (u2 (u2 (u2 I 1 (11 * a4).toNatClampNeg a1) 1 ((11 * a4) + 1).toNatClampNeg a2) 1 ((11 * a4) + 2).toNatClampNeg a3) J (fun r15 I16 J17 => m_unit a4 I16 J17 (fun r18 I19 J20 => ∃ n0 : Nat, m_patch_l144 Q  n0 a4 0 (u2 I19 0 12 ((I 0 12) + ((a2 - r15) * r18))) J20)))))) ∧ (¬ (11 : Int32) ≤ a5 →
      vp_in ((11 * a4) + a5) 44 ∧ (m_patch_l51 Q n a1 a2 a3 a4 (a5 + 1) (u2 I 1 ((11 * a4) + a5).toNatClampNeg 0) J))
theorem w_patch_l51 {X : hh_CX} {Q : Int32 → mI → mJ → Prop} (hX : hh_C X cX14_patch RX14 (hrm 2 41)) (hN : hh_nL X = 6) (hE : hh_E X (some .int) (mQi Q) 0 0) : ∀ (n : Nat) (a1 : Int32) (a2 : Int32) (a3 : Int32) (a4 : Int32) (a5 : Int32) (I : mI) (J : mJ), m_patch_l51 Q  n a1 a2 a3 a4 a5 I J → hh_V X 51 [(0, .ref 0), (1, .int a1), (2, .int a2), (3, .int a3), (4, .int a4), (5, .int a5)] [] 0 0 (hm I J) := by
  intro n
  induction n with
  | zero => intro _ _ _ _ _ _ _ hf; exact hf.elim
  | succ n ih =>
    intro a1 a2 a3 a4 a5 I J hf
    unfold m_patch_l51 at hf
    refine hv_iload hX dX14_patch_51 5 rfl ?_
    refine hv_bipush (v := 11) hX bi_11 dX14_patch_53 ?_
    refine hv_icmp_ge (tgt := 78) hX dX14_patch_55 (by decide) (fun c14 => ?_) (fun c14 => ?_)
    · replace hf := hf.1 c14
      refine hv_aload_n hX dX14_patch_78 rfl 0 rfl ?_
      refine hm_getR hX dX14_patch_79 mfl19 1 rfl ?_
      refine hv_bipush (v := 11) hX bi_11 dX14_patch_82 ?_
      refine hv_iload hX dX14_patch_84 4 rfl ?_
      refine hv_imul hX dX14_patch_86 ?_
      refine hv_iload_n hX dX14_patch_87 rfl 1 rfl ?_
      obtain ⟨g, hf⟩ := hf
      refine hm_iast hX dX14_patch_88 (by decide) rfl rfl g ?_
      refine hv_aload_n hX dX14_patch_89 rfl 0 rfl ?_
      refine hm_getR hX dX14_patch_90 mfl19 1 rfl ?_
      refine hv_bipush (v := 11) hX bi_11 dX14_patch_93 ?_
      refine hv_iload hX dX14_patch_95 4 rfl ?_
      refine hv_imul hX dX14_patch_97 ?_
      refine hv_iconst (v := 1) hX ic_1 dX14_patch_98 ?_
      refine hv_iadd hX dX14_patch_99 ?_
      refine hv_iload_n hX dX14_patch_100 rfl 2 rfl ?_
      obtain ⟨g, hf⟩ := hf
      refine hm_iast hX dX14_patch_101 (by decide) rfl rfl g ?_
      refine hv_aload_n hX dX14_patch_102 rfl 0 rfl ?_
      refine hm_getR hX dX14_patch_103 mfl19 1 rfl ?_
      refine hv_bipush (v := 11) hX bi_11 dX14_patch_106 ?_
      refine hv_iload hX dX14_patch_108 4 rfl ?_
      refine hv_imul hX dX14_patch_110 ?_
      refine hv_iconst (v := 2) hX ic_2 dX14_patch_111 ?_
      refine hv_iadd hX dX14_patch_112 ?_
      refine hv_iload_n hX dX14_patch_113 rfl 3 rfl ?_
      obtain ⟨g, hf⟩ := hf
      refine hm_iast hX dX14_patch_114 (by decide) rfl rfl g ?_
      refine hv_aload_n hX dX14_patch_115 rfl 0 rfl ?_
      refine hv_dup hX rfl dX14_patch_116 ?_
      refine hm_getI (v := (I 0 12)) hX dX14_patch_117 mfl141 (.inl rfl) ((u2_ne _ _ (.inl (by decide))) |>.trans (u2_ne _ _ (.inl (by decide))) |>.trans (u2_ne _ _ (.inl (by decide)))) ?_
      refine hv_iload_n hX dX14_patch_120 rfl 2 rfl ?_
      refine hv_aload_n hX dX14_patch_121 rfl 0 rfl ?_
      refine hm_getI (v := (I 0 12)) hX dX14_patch_122 mfl141 (.inl rfl) ((u2_ne _ _ (.inl (by decide))) |>.trans (u2_ne _ _ (.inl (by decide))) |>.trans (u2_ne _ _ (.inl (by decide)))) ?_
      refine hv_iload hX dX14_patch_125 4 rfl ?_
      refine hm_callSi hX dX14_patch_127 (ct_foodIn (I 0 12) a4 (u2 (u2 (u2 I 1 (11 * a4).toNatClampNeg a1) 1 ((11 * a4) + 1).toNatClampNeg a2) 1 ((11 * a4) + 2).toNatClampNeg a3) J _ hf) (gd_foodIn q1926) np_foodIn rfl rfl ⟨Nat.le_of_ble_eq_true rfl, Nat.le_of_ble_eq_true rfl⟩ ⟨Nat.le_refl _, Nat.le_refl _⟩ (Nat.le_of_ble_eq_true rfl) ?_
      intro r15 I16 J17 hf
      refine hv_isub hX dX14_patch_130 ?_
      refine hv_iload hX dX14_patch_131 4 rfl ?_
      refine hm_callSi hX dX14_patch_133 (ct_unit a4 I16 J17 _ hf) (gd_unit q1929) np_unit rfl rfl ⟨Nat.le_of_ble_eq_true rfl, Nat.le_of_ble_eq_true rfl⟩ ⟨Nat.le_refl _, Nat.le_refl _⟩ (Nat.le_of_ble_eq_true rfl) ?_
      intro r18 I19 J20 hf
      refine hv_imul hX dX14_patch_136 ?_
      refine hv_iadd hX dX14_patch_137 ?_
      refine hm_putI hX dX14_patch_138 mfl141 ?_
      refine hv_iconst (v := 0) hX ic_0 dX14_patch_141 ?_
      refine hv_istore (loc2 := [(5, .int 0), (0, .ref 0), (1, .int a1), (2, .int a2), (3, .int a3), (4, .int a4)]) hX dX14_patch_142 hN (Nat.le_of_ble_eq_true rfl) rfl ?_
      refine hv_fewer [1, 5, 0] (loc2 := [(0, .ref 0), (4, .int a4), (5, .int 0)]) rfl ?_
      obtain ⟨n0, hf⟩ := hf
      exact w_patch_l144 hX hN hE  n0 _ _ _ _ hf
    · replace hf := hf.2 c14
      refine hv_aload_n hX dX14_patch_58 rfl 0 rfl ?_
      refine hm_getR hX dX14_patch_59 mfl19 1 rfl ?_
      refine hv_bipush (v := 11) hX bi_11 dX14_patch_62 ?_
      refine hv_iload hX dX14_patch_64 4 rfl ?_
      refine hv_imul hX dX14_patch_66 ?_
      refine hv_iload hX dX14_patch_67 5 rfl ?_
      refine hv_iadd hX dX14_patch_69 ?_
      refine hv_iconst (v := 0) hX ic_0 dX14_patch_70 ?_
      obtain ⟨g, hf⟩ := hf
      refine hm_iast hX dX14_patch_71 (by decide) rfl rfl g ?_
      refine hv_iinc (v := (a5 + 1)) (loc2 := [(5, .int (a5 + 1)), (0, .ref 0), (1, .int a1), (2, .int a2), (3, .int a3), (4, .int a4)]) hX dX14_patch_72 5 rfl (congrArg (fun y => a5 + y) ic_1) hN (Nat.le_of_ble_eq_true rfl) rfl ?_
      refine hv_goto (tgt := 51) hX dX14_patch_75 (by decide) ?_
      refine hv_fewer [1, 2, 3, 4, 5, 0] (loc2 := [(0, .ref 0), (1, .int a1), (2, .int a2), (3, .int a3), (4, .int a4), (5, .int (a5 + 1))]) rfl ?_
      exact ih _ _ _ _ _ _ _ hf
def m_patch (a1 : Int32) (a2 : Int32) (a3 : Int32) (I : mI) (J : mJ) (Q : Int32 → mI → mJ → Prop) : Prop :=
  m_in a1 1 4 I J (fun r1 I2 J3 => (r1 = 0 →
    Q (-1) I2 J3) ∧ (¬ r1 = 0 →
    m_in a2 1 6 I2 J3 (fun r5 I6 J7 => (r5 = 0 →
      Q (-1) I6 J7) ∧ (¬ r5 = 0 →
      m_in a3 0 9 I6 J7 (fun r9 I10 J11 => (r9 = 0 →
        Q (-1) I10 J11) ∧ (¬ r9 = 0 →
        ((I10 0 8) = 4 →
          Q (-2) I10 J11) ∧ (¬ (I10 0 8) = 4 →
          ∃ n0 : Nat, m_patch_l51 Q  n0 a1 a2 a3 (I10 0 8) 0 I10 J11)))))))
theorem ct_patch (a1 : Int32) (a2 : Int32) (a3 : Int32) (I : mI) (J : mJ) (Q : Int32 → mI → mJ → Prop) (hf : m_patch a1 a2 a3 I J Q) : hh_Ct yX14_patch cX14_patch 6 (some .int) 2 41 [.ref 0, .int a1, .int a2, .int a3] (hm I J) (mQi Q) 0 0 := by
  refine hh_Ct.of (own := RX14) rfl (by decide +kernel) (Nat.le_of_ble_eq_true rfl) ?_
  intro X hX hN hE
  show hh_V X 0 [(0, .ref 0), (1, .int a1), (2, .int a2), (3, .int a3)] [] 0 0 (hm I J)
  unfold m_patch at hf
  refine hv_iload_n hX dX14_patch_0 rfl 1 rfl ?_
  refine hv_iconst (v := 1) hX ic_1 dX14_patch_1 ?_
  refine hv_iconst (v := 4) hX ic_4 dX14_patch_2 ?_
  refine hm_callSi hX dX14_patch_3 (ct_in a1 1 4 I J _ hf) (gd_in q1923) np_in rfl rfl ⟨Nat.le_of_ble_eq_true rfl, Nat.le_of_ble_eq_true rfl⟩ ⟨Nat.le_refl _, Nat.le_refl _⟩ (Nat.le_of_ble_eq_true rfl) ?_
  intro r1 I2 J3 hf
  refine hv_if_eq (tgt := 29) hX dX14_patch_6 (by decide) (fun c4 => ?_) (fun c4 => ?_)
  · replace hf := hf.1 c4
    refine hv_iconst (v := (-1)) hX ic_m1 dX14_patch_29 ?_
    exact hm_iret hX hE dX14_patch_30 hf
  · replace hf := hf.2 c4
    refine hv_iload_n hX dX14_patch_9 rfl 2 rfl ?_
    refine hv_iconst (v := 1) hX ic_1 dX14_patch_10 ?_
    refine hv_bipush (v := 6) hX bi_6 dX14_patch_11 ?_
    refine hm_callSi hX dX14_patch_13 (ct_in a2 1 6 I2 J3 _ hf) (gd_in q1923) np_in rfl rfl ⟨Nat.le_of_ble_eq_true rfl, Nat.le_of_ble_eq_true rfl⟩ ⟨Nat.le_refl _, Nat.le_refl _⟩ (Nat.le_of_ble_eq_true rfl) ?_
    intro r5 I6 J7 hf
    refine hv_if_eq (tgt := 29) hX dX14_patch_16 (by decide) (fun c8 => ?_) (fun c8 => ?_)
    · replace hf := hf.1 c8
      refine hv_iconst (v := (-1)) hX ic_m1 dX14_patch_29 ?_
      exact hm_iret hX hE dX14_patch_30 hf
    · replace hf := hf.2 c8
      refine hv_iload_n hX dX14_patch_19 rfl 3 rfl ?_
      refine hv_iconst (v := 0) hX ic_0 dX14_patch_20 ?_
      refine hv_bipush (v := 9) hX bi_9 dX14_patch_21 ?_
      refine hm_callSi hX dX14_patch_23 (ct_in a3 0 9 I6 J7 _ hf) (gd_in q1923) np_in rfl rfl ⟨Nat.le_of_ble_eq_true rfl, Nat.le_of_ble_eq_true rfl⟩ ⟨Nat.le_refl _, Nat.le_refl _⟩ (Nat.le_of_ble_eq_true rfl) ?_
      intro r9 I10 J11 hf
      refine hv_if_ne (tgt := 31) hX dX14_patch_26 (by decide) (fun c12 => ?_) (fun c12 => ?_)
      · replace hf := hf.2 c12
        refine hv_aload_n hX dX14_patch_31 rfl 0 rfl ?_
        refine hm_getI (v := (I10 0 8)) hX dX14_patch_32 mfl130 (.inl rfl) rfl ?_
        refine hv_iconst (v := 4) hX ic_4 dX14_patch_35 ?_
        refine hv_icmp_ne (tgt := 42) hX dX14_patch_36 (by decide) (fun c13 => ?_) (fun c13 => ?_)
        · replace hf := hf.2 c13
          refine hv_aload_n hX dX14_patch_42 rfl 0 rfl ?_
          refine hm_getI (v := (I10 0 8)) hX dX14_patch_43 mfl130 (.inl rfl) rfl ?_
          refine hv_istore (loc2 := [(4, .int (I10 0 8)), (0, .ref 0), (1, .int a1), (2, .int a2), (3, .int a3)]) hX dX14_patch_46 hN (Nat.le_of_ble_eq_true rfl) rfl ?_
          refine hv_iconst (v := 0) hX ic_0 dX14_patch_48 ?_
          refine hv_istore (loc2 := [(5, .int 0), (4, .int (I10 0 8)), (0, .ref 0), (1, .int a1), (2, .int a2), (3, .int a3)]) hX dX14_patch_49 hN (Nat.le_of_ble_eq_true rfl) rfl ?_
          refine hv_fewer [2, 3, 4, 5, 1, 0] (loc2 := [(0, .ref 0), (1, .int a1), (2, .int a2), (3, .int a3), (4, .int (I10 0 8)), (5, .int 0)]) rfl ?_
          obtain ⟨n0, hf⟩ := hf
          exact w_patch_l51 hX hN hE  n0 _ _ _ _ _ _ _ hf
        · replace hf := hf.1 c13
          refine hv_bipush (v := (-2)) hX bi_m2 dX14_patch_39 ?_
          exact hm_iret hX hE dX14_patch_41 hf
      · replace hf := hf.1 c12
        refine hv_iconst (v := (-1)) hX ic_m1 dX14_patch_29 ?_
        exact hm_iret hX hE dX14_patch_30 hf
theorem np_patch : yX14_patch.cls = RX14 ∧ yX14_patch.cls ≠ "java/lang/invoke/MethodHandle" ∧ yX14_patch.cls ≠ "java/lang/invoke/VarHandle" ∧ (parseMethodDescriptor yX14_patch.desc).map (fun d => d.parameters.length) = some 3 := by decide +kernel
theorem gd_patch {idx : Nat} (h : Cond.methodLink RX14 idx yX14_patch ∈ lw_all) : GoodIn lw_all (wsV RX14 idx RX14 yX14_patch (ws_ yX14_patch cX14_patch 6 (some .int))) := lw_V h q1920 q1921 q123 q1922
/-! isPatch(I)Z -/
def m_isPatch (a1 : Int32) (I : mI) (J : mJ) (Q : Int32 → mI → mJ → Prop) : Prop :=
  m_in a1 0 ((I 0 8) - 1) I J (fun r1 I2 J3 => (r1 = 0 ∨ r1 = 1) ∧ (Q r1 I2 J3))
theorem ct_isPatch (a1 : Int32) (I : mI) (J : mJ) (Q : Int32 → mI → mJ → Prop) (hf : m_isPatch a1 I J Q) : hh_Ct yX14_isPatch cX14_isPatch 2 (some .boolean) 1 22 [.ref 0, .int a1] (hm I J) (mQi Q) 0 0 := by
  refine hh_Ct.of (own := RX14) rfl (by decide +kernel) (Nat.le_of_ble_eq_true rfl) ?_
  intro X hX hN hE
  show hh_V X 0 [(0, .ref 0), (1, .int a1)] [] 0 0 (hm I J)
  unfold m_isPatch at hf
  refine hv_iload_n hX dX14_isPatch_0 rfl 1 rfl ?_
  refine hv_iconst (v := 0) hX ic_0 dX14_isPatch_1 ?_
  refine hv_aload_n hX dX14_isPatch_2 rfl 0 rfl ?_
  refine hm_getI (v := (I 0 8)) hX dX14_isPatch_3 mfl130 (.inl rfl) rfl ?_
  refine hv_iconst (v := 1) hX ic_1 dX14_isPatch_6 ?_
  refine hv_isub hX dX14_isPatch_7 ?_
  refine hm_callSi hX dX14_isPatch_8 (ct_in a1 0 ((I 0 8) - 1) I J _ hf) (gd_in q1923) np_in rfl rfl ⟨Nat.le_of_ble_eq_true rfl, Nat.le_of_ble_eq_true rfl⟩ ⟨Nat.le_refl _, Nat.le_refl _⟩ (Nat.le_of_ble_eq_true rfl) ?_
  intro r1 I2 J3 hf
  obtain ⟨g, hf⟩ := hf
  exact hm_zret hX hE dX14_isPatch_11 g hf
theorem np_isPatch : yX14_isPatch.cls = RX14 ∧ yX14_isPatch.cls ≠ "java/lang/invoke/MethodHandle" ∧ yX14_isPatch.cls ≠ "java/lang/invoke/VarHandle" ∧ (parseMethodDescriptor yX14_isPatch.desc).map (fun d => d.parameters.length) = some 1 := by decide +kernel
theorem gd_isPatch {idx : Nat} (h : Cond.methodLink RX14 idx yX14_isPatch ∈ lw_all) : GoodIn lw_all (wsV RX14 idx RX14 yX14_isPatch (ws_ yX14_isPatch cX14_isPatch 2 (some .boolean))) := lw_V h q1938 qs49 q123 q1939
/-! patchOf(II)I -/
def m_patchOf (a1 : Int32) (a2 : Int32) (I : mI) (J : mJ) (Q : Int32 → mI → mJ → Prop) : Prop :=
  m_isPatch a1 I J (fun r1 I2 J3 => (r1 = 0 →
    Q (-1) I2 J3) ∧ (¬ r1 = 0 →
    (a2 = 0 →
      vp_in ((11 * a1) + a2) 44 ∧ (Q (I2 1 ((11 * a1) + a2).toNatClampNeg) I2 J3)) ∧ (¬ a2 = 0 →
      (a2 = 1 →
      vp_in ((11 * a1) + a2) 44 ∧ (Q (I2 1 ((11 * a1) + a2).toNatClampNeg) I2 J3)) ∧ (¬ a2 = 1 →
      (a2 = 2 →
      m_foodIn (I2 0 12) a1 I2 J3 (fun r8 I9 J10 => Q r8 I9 J10)) ∧ (¬ a2 = 2 →
      (a2 = 3 →
      vp_in (((11 * a1) + a2) - 1) 44 ∧ (Q (I2 1 (((11 * a1) + a2) - 1).toNatClampNeg) I2 J3)) ∧ (¬ a2 = 3 →
      (a2 = 4 →
      vp_in (((11 * a1) + a2) - 1) 44 ∧ (Q (I2 1 (((11 * a1) + a2) - 1).toNatClampNeg) I2 J3)) ∧ (¬ a2 = 4 →
      Q (-1) I2 J3)))))))
theorem ct_patchOf (a1 : Int32) (a2 : Int32) (I : mI) (J : mJ) (Q : Int32 → mI → mJ → Prop) (hf : m_patchOf a1 a2 I J Q) : hh_Ct yX14_patchOf cX14_patchOf 3 (some .int) 2 43 [.ref 0, .int a1, .int a2] (hm I J) (mQi Q) 0 0 := by
  refine hh_Ct.of (own := RX14) rfl (by decide +kernel) (Nat.le_of_ble_eq_true rfl) ?_
  intro X hX hN hE
  show hh_V X 0 [(0, .ref 0), (1, .int a1), (2, .int a2)] [] 0 0 (hm I J)
  unfold m_patchOf at hf
  refine hv_aload_n hX dX14_patchOf_0 rfl 0 rfl ?_
  refine hv_iload_n hX dX14_patchOf_1 rfl 1 rfl ?_
  refine hm_callVi hX dX14_patchOf_2 (ct_isPatch a1 I J _ hf) (gd_isPatch q1936) np_isPatch rfl rfl ⟨Nat.le_of_ble_eq_true rfl, Nat.le_of_ble_eq_true rfl⟩ ⟨Nat.le_refl _, Nat.le_refl _⟩ (Nat.le_of_ble_eq_true rfl) ?_
  intro r1 I2 J3 hf
  refine hv_if_ne (tgt := 10) hX dX14_patchOf_5 (by decide) (fun c4 => ?_) (fun c4 => ?_)
  · replace hf := hf.2 c4
    refine hv_iload_n hX dX14_patchOf_10 rfl 2 rfl ?_
    by_cases c5 : a2 = 0
    · replace hf := hf.1 c5
      refine hv_tswA (v := 0) (tgt := 44) (off := 33) hX dX14_patchOf_11 c5 ⟨by decide, by decide, by decide⟩ (by decide) ?_
      refine hv_aload_n hX dX14_patchOf_44 rfl 0 rfl ?_
      refine hm_getR hX dX14_patchOf_45 mfl19 1 rfl ?_
      refine hv_bipush (v := 11) hX bi_11 dX14_patchOf_48 ?_
      refine hv_iload_n hX dX14_patchOf_50 rfl 1 rfl ?_
      refine hv_imul hX dX14_patchOf_51 ?_
      refine hv_iload_n hX dX14_patchOf_52 rfl 2 rfl ?_
      refine hv_iadd hX dX14_patchOf_53 ?_
      obtain ⟨g, hf⟩ := hf
      refine hm_iald (v := (I2 1 ((11 * a1) + a2).toNatClampNeg)) hX dX14_patchOf_54 (by decide) rfl rfl g rfl ?_
      exact hm_iret hX hE dX14_patchOf_55 hf
    · replace hf := hf.2 c5
      by_cases c6 : a2 = 1
      · replace hf := hf.1 c6
        refine hv_tswA (v := 1) (tgt := 44) (off := 33) hX dX14_patchOf_11 c6 ⟨by decide, by decide, by decide⟩ (by decide) ?_
        refine hv_aload_n hX dX14_patchOf_44 rfl 0 rfl ?_
        refine hm_getR hX dX14_patchOf_45 mfl19 1 rfl ?_
        refine hv_bipush (v := 11) hX bi_11 dX14_patchOf_48 ?_
        refine hv_iload_n hX dX14_patchOf_50 rfl 1 rfl ?_
        refine hv_imul hX dX14_patchOf_51 ?_
        refine hv_iload_n hX dX14_patchOf_52 rfl 2 rfl ?_
        refine hv_iadd hX dX14_patchOf_53 ?_
        obtain ⟨g, hf⟩ := hf
        refine hm_iald (v := (I2 1 ((11 * a1) + a2).toNatClampNeg)) hX dX14_patchOf_54 (by decide) rfl rfl g rfl ?_
        exact hm_iret hX hE dX14_patchOf_55 hf
      · replace hf := hf.2 c6
        by_cases c7 : a2 = 2
        · replace hf := hf.1 c7
          refine hv_tswA (v := 2) (tgt := 56) (off := 45) hX dX14_patchOf_11 c7 ⟨by decide, by decide, by decide⟩ (by decide) ?_
          refine hv_aload_n hX dX14_patchOf_56 rfl 0 rfl ?_
          refine hm_getI (v := (I2 0 12)) hX dX14_patchOf_57 mfl141 (.inl rfl) rfl ?_
          refine hv_iload_n hX dX14_patchOf_60 rfl 1 rfl ?_
          refine hm_callSi hX dX14_patchOf_61 (ct_foodIn (I2 0 12) a1 I2 J3 _ hf) (gd_foodIn q1926) np_foodIn rfl rfl ⟨Nat.le_of_ble_eq_true rfl, Nat.le_of_ble_eq_true rfl⟩ ⟨Nat.le_refl _, Nat.le_refl _⟩ (Nat.le_of_ble_eq_true rfl) ?_
          intro r8 I9 J10 hf
          exact hm_iret hX hE dX14_patchOf_64 hf
        · replace hf := hf.2 c7
          by_cases c11 : a2 = 3
          · replace hf := hf.1 c11
            refine hv_tswA (v := 3) (tgt := 65) (off := 54) hX dX14_patchOf_11 c11 ⟨by decide, by decide, by decide⟩ (by decide) ?_
            refine hv_aload_n hX dX14_patchOf_65 rfl 0 rfl ?_
            refine hm_getR hX dX14_patchOf_66 mfl19 1 rfl ?_
            refine hv_bipush (v := 11) hX bi_11 dX14_patchOf_69 ?_
            refine hv_iload_n hX dX14_patchOf_71 rfl 1 rfl ?_
            refine hv_imul hX dX14_patchOf_72 ?_
            refine hv_iload_n hX dX14_patchOf_73 rfl 2 rfl ?_
            refine hv_iadd hX dX14_patchOf_74 ?_
            refine hv_iconst (v := 1) hX ic_1 dX14_patchOf_75 ?_
            refine hv_isub hX dX14_patchOf_76 ?_
            obtain ⟨g, hf⟩ := hf
            refine hm_iald (v := (I2 1 (((11 * a1) + a2) - 1).toNatClampNeg)) hX dX14_patchOf_77 (by decide) rfl rfl g rfl ?_
            exact hm_iret hX hE dX14_patchOf_78 hf
          · replace hf := hf.2 c11
            by_cases c12 : a2 = 4
            · replace hf := hf.1 c12
              refine hv_tswA (v := 4) (tgt := 65) (off := 54) hX dX14_patchOf_11 c12 ⟨by decide, by decide, by decide⟩ (by decide) ?_
              refine hv_aload_n hX dX14_patchOf_65 rfl 0 rfl ?_
              refine hm_getR hX dX14_patchOf_66 mfl19 1 rfl ?_
              refine hv_bipush (v := 11) hX bi_11 dX14_patchOf_69 ?_
              refine hv_iload_n hX dX14_patchOf_71 rfl 1 rfl ?_
              refine hv_imul hX dX14_patchOf_72 ?_
              refine hv_iload_n hX dX14_patchOf_73 rfl 2 rfl ?_
              refine hv_iadd hX dX14_patchOf_74 ?_
              refine hv_iconst (v := 1) hX ic_1 dX14_patchOf_75 ?_
              refine hv_isub hX dX14_patchOf_76 ?_
              obtain ⟨g, hf⟩ := hf
              refine hm_iald (v := (I2 1 (((11 * a1) + a2) - 1).toNatClampNeg)) hX dX14_patchOf_77 (by decide) rfl rfl g rfl ?_
              exact hm_iret hX hE dX14_patchOf_78 hf
            · replace hf := hf.2 c12
              refine hv_tswO (tgt := 79) hX dX14_patchOf_11 (by have z0 := lv_neT c5 (a := 0) (by decide); have z1 := lv_neT c6 (a := 1) (by decide); have z2 := lv_neT c7 (a := 2) (by decide); have z3 := lv_neT c11 (a := 3) (by decide); have z4 := lv_neT c12 (a := 4) (by decide); omega) (by decide) ?_
              refine hv_iconst (v := (-1)) hX ic_m1 dX14_patchOf_79 ?_
              exact hm_iret hX hE dX14_patchOf_80 hf
  · replace hf := hf.1 c4
    refine hv_iconst (v := (-1)) hX ic_m1 dX14_patchOf_8 ?_
    exact hm_iret hX hE dX14_patchOf_9 hf
theorem np_patchOf : yX14_patchOf.cls = RX14 ∧ yX14_patchOf.cls ≠ "java/lang/invoke/MethodHandle" ∧ yX14_patchOf.cls ≠ "java/lang/invoke/VarHandle" ∧ (parseMethodDescriptor yX14_patchOf.desc).map (fun d => d.parameters.length) = some 2 := by decide +kernel
theorem gd_patchOf {idx : Nat} (h : Cond.methodLink RX14 idx yX14_patchOf ∈ lw_all) : GoodIn lw_all (wsV RX14 idx RX14 yX14_patchOf (ws_ yX14_patchOf cX14_patchOf 3 (some .int))) := lw_V h q1933 q1934 q123 q1935
/-! isShelf(I)Z -/
def m_isShelf (a0 : Int32) (I : mI) (J : mJ) (Q : Int32 → mI → mJ → Prop) : Prop :=
  m_in a0 0 3 I J (fun r1 I2 J3 => (r1 = 0 ∨ r1 = 1) ∧ (Q r1 I2 J3))
theorem ct_isShelf (a0 : Int32) (I : mI) (J : mJ) (Q : Int32 → mI → mJ → Prop) (hf : m_isShelf a0 I J Q) : hh_Ct yX14_isShelf cX14_isShelf 1 (some .boolean) 1 22 [.int a0] (hm I J) (mQi Q) 0 0 := by
  refine hh_Ct.of (own := RX14) rfl (by decide +kernel) (Nat.le_of_ble_eq_true rfl) ?_
  intro X hX hN hE
  show hh_V X 0 [(0, .int a0)] [] 0 0 (hm I J)
  unfold m_isShelf at hf
  refine hv_iload_n hX dX14_isShelf_0 rfl 0 rfl ?_
  refine hv_iconst (v := 0) hX ic_0 dX14_isShelf_1 ?_
  refine hv_iconst (v := 3) hX ic_3 dX14_isShelf_2 ?_
  refine hm_callSi hX dX14_isShelf_3 (ct_in a0 0 3 I J _ hf) (gd_in q1923) np_in rfl rfl ⟨Nat.le_of_ble_eq_true rfl, Nat.le_of_ble_eq_true rfl⟩ ⟨Nat.le_refl _, Nat.le_refl _⟩ (Nat.le_of_ble_eq_true rfl) ?_
  intro r1 I2 J3 hf
  obtain ⟨g, hf⟩ := hf
  exact hm_zret hX hE dX14_isShelf_6 g hf
theorem np_isShelf : yX14_isShelf.cls ≠ "java/lang/invoke/MethodHandle" ∧ yX14_isShelf.cls ≠ "java/lang/invoke/VarHandle" ∧ (parseMethodDescriptor yX14_isShelf.desc).map (fun d => d.parameters.length) = some 1 := by decide +kernel
theorem gd_isShelf {idx : Nat} (h : Cond.methodLink RX14 idx yX14_isShelf ∈ lw_all) : GoodIn lw_all (va_wsS RX14 idx yX14_isShelf (ws_ yX14_isShelf cX14_isShelf 1 (some .boolean))) := lw_S h q1945 q123 q1946
/-! lacksSort(II)I -/
def m_lacksSort (a1 : Int32) (a2 : Int32) (I : mI) (J : mJ) (Q : Int32 → mI → mJ → Prop) : Prop :=
  vp_in a1 4 ∧ (((0 : Int32) ≤ (I 26 a1.toNatClampNeg) →
    vp_in a1 4 ∧ (((I 26 a1.toNatClampNeg) = a2 →
      Q 0 I J) ∧ (¬ (I 26 a1.toNatClampNeg) = a2 →
      Q (-13) I J))) ∧ (¬ (0 : Int32) ≤ (I 26 a1.toNatClampNeg) →
    Q (-11) I J))
theorem ct_lacksSort (a1 : Int32) (a2 : Int32) (I : mI) (J : mJ) (Q : Int32 → mI → mJ → Prop) (hf : m_lacksSort a1 a2 I J Q) : hh_Ct yX14_lacksSort cX14_lacksSort 3 (some .int) 0 0 [.ref 0, .int a1, .int a2] (hm I J) (mQi Q) 0 0 := by
  refine hh_Ct.of (own := RX14) rfl (by decide +kernel) (Nat.le_of_ble_eq_true rfl) ?_
  intro X hX hN hE
  show hh_V X 0 [(0, .ref 0), (1, .int a1), (2, .int a2)] [] 0 0 (hm I J)
  unfold m_lacksSort at hf
  refine hv_aload_n hX dX14_lacksSort_0 rfl 0 rfl ?_
  refine hm_getR hX dX14_lacksSort_1 mfl103 26 rfl ?_
  refine hv_iload_n hX dX14_lacksSort_4 rfl 1 rfl ?_
  obtain ⟨g, hf⟩ := hf
  refine hm_iald (v := (I 26 a1.toNatClampNeg)) hX dX14_lacksSort_5 (by decide) rfl rfl g rfl ?_
  refine hv_if_ge (tgt := 14) hX dX14_lacksSort_6 (by decide) (fun c1 => ?_) (fun c1 => ?_)
  · replace hf := hf.1 c1
    refine hv_aload_n hX dX14_lacksSort_14 rfl 0 rfl ?_
    refine hm_getR hX dX14_lacksSort_15 mfl103 26 rfl ?_
    refine hv_iload_n hX dX14_lacksSort_18 rfl 1 rfl ?_
    obtain ⟨g, hf⟩ := hf
    refine hm_iald (v := (I 26 a1.toNatClampNeg)) hX dX14_lacksSort_19 (by decide) rfl rfl g rfl ?_
    refine hv_iload_n hX dX14_lacksSort_20 rfl 2 rfl ?_
    refine hv_icmp_eq (tgt := 29) hX dX14_lacksSort_21 (by decide) (fun c2 => ?_) (fun c2 => ?_)
    · replace hf := hf.1 c2
      refine hv_iconst (v := 0) hX ic_0 dX14_lacksSort_29 ?_
      exact hm_iret hX hE dX14_lacksSort_30 hf
    · replace hf := hf.2 c2
      refine hv_bipush (v := (-13)) hX bi_m13 dX14_lacksSort_24 ?_
      refine hv_goto (tgt := 30) hX dX14_lacksSort_26 (by decide) ?_
      exact hm_iret hX hE dX14_lacksSort_30 hf
  · replace hf := hf.2 c1
    refine hv_bipush (v := (-11)) hX bi_m11 dX14_lacksSort_9 ?_
    refine hv_goto (tgt := 30) hX dX14_lacksSort_11 (by decide) ?_
    exact hm_iret hX hE dX14_lacksSort_30 hf
theorem np_lacksSort : yX14_lacksSort.cls = RX14 ∧ yX14_lacksSort.cls ≠ "java/lang/invoke/MethodHandle" ∧ yX14_lacksSort.cls ≠ "java/lang/invoke/VarHandle" ∧ (parseMethodDescriptor yX14_lacksSort.desc).map (fun d => d.parameters.length) = some 2 := by decide +kernel
theorem gd_lacksSort {idx : Nat} (h : Cond.methodLink RX14 idx yX14_lacksSort ∈ lw_all) : GoodIn lw_all (wsV RX14 idx RX14 yX14_lacksSort (ws_ yX14_lacksSort cX14_lacksSort 3 (some .int))) := lw_V h q1949 qs50 q123 q1950
/-! yields(II)I -/
def m_yields_l123 (Q : Int32 → mI → mJ → Prop) : Nat → Int32 → Int32 → Int32 → mI → mJ → Prop
  | 0, _, _, _, _, _ => False
  | n + 1, a1, a2, a5, I, J =>
    ((7 : Int32) ≤ a5 →
      Q 1 (u2 I 0 18 ((I 0 18) + 1)) J) ∧ (¬ (7 : Int32) ≤ a5 →
      vp_in ((40 * a2) + a5) 160 ∧ (vp_in (((11 * a1) + 4) + a5) 44 ∧ (m_yields_l123 Q n a1 a2 (a5 + 1) (u2 I 1 (((11 * a1) + 4) + a5).toNatClampNeg ((J 28 ((40 * a2) + a5).toNatClampNeg).toInt32)) J)))
theorem w_yields_l123 {X : hh_CX} {Q : Int32 → mI → mJ → Prop} (hX : hh_C X cX14_yields RX14 (hrm 2 43)) (hN : hh_nL X = 6) (hE : hh_E X (some .int) (mQi Q) 0 0) : ∀ (n : Nat) (a1 : Int32) (a2 : Int32) (a5 : Int32) (I : mI) (J : mJ), m_yields_l123 Q  n a1 a2 a5 I J → hh_V X 123 [(0, .ref 0), (1, .int a1), (2, .int a2), (5, .int a5)] [] 0 0 (hm I J) := by
  intro n
  induction n with
  | zero => intro _ _ _ _ _ hf; exact hf.elim
  | succ n ih =>
    intro a1 a2 a5 I J hf
    unfold m_yields_l123 at hf
    refine hv_iload hX dX14_yields_123 3 rfl ?_
    refine hv_bipush (v := 7) hX bi_7 dX14_yields_125 ?_
    refine hv_icmp_ge (tgt := 163) hX dX14_yields_127 (by decide) (fun c16 => ?_) (fun c16 => ?_)
    · replace hf := hf.1 c16
      refine hv_aload_n hX dX14_yields_163 rfl 0 rfl ?_
      refine hv_dup hX rfl dX14_yields_164 ?_
      refine hm_getI (v := (I 0 18)) hX dX14_yields_165 mfl38 (.inl rfl) rfl ?_
      refine hv_iconst (v := 1) hX ic_1 dX14_yields_168 ?_
      refine hv_iadd hX dX14_yields_169 ?_
      refine hm_putI hX dX14_yields_170 mfl38 ?_
      refine hv_iconst (v := 1) hX ic_1 dX14_yields_173 ?_
      exact hm_iret hX hE dX14_yields_174 hf
    · replace hf := hf.2 c16
      refine hv_aload_n hX dX14_yields_130 rfl 0 rfl ?_
      refine hm_getR hX dX14_yields_131 mfl19 1 rfl ?_
      refine hv_bipush (v := 11) hX bi_11 dX14_yields_134 ?_
      refine hv_iload_n hX dX14_yields_136 rfl 1 rfl ?_
      refine hv_imul hX dX14_yields_137 ?_
      refine hv_iconst (v := 4) hX ic_4 dX14_yields_138 ?_
      refine hv_iadd hX dX14_yields_139 ?_
      refine hv_iload hX dX14_yields_140 3 rfl ?_
      refine hv_iadd hX dX14_yields_142 ?_
      refine hv_aload_n hX dX14_yields_143 rfl 0 rfl ?_
      refine hm_getR hX dX14_yields_144 mfl109 28 rfl ?_
      refine hv_bipush (v := 40) hX bi_40 dX14_yields_147 ?_
      refine hv_iload_n hX dX14_yields_149 rfl 2 rfl ?_
      refine hv_imul hX dX14_yields_150 ?_
      refine hv_iload hX dX14_yields_151 3 rfl ?_
      refine hv_iadd hX dX14_yields_153 ?_
      obtain ⟨g, hf⟩ := hf
      refine hm_lald (v := (J 28 ((40 * a2) + a5).toNatClampNeg)) hX dX14_yields_154 (by decide) rfl rfl g rfl ?_
      refine hv_l2i hX dX14_yields_155 ?_
      obtain ⟨g, hf⟩ := hf
      refine hm_iast hX dX14_yields_156 (by decide) rfl rfl g ?_
      refine hv_iinc (v := (a5 + 1)) (loc2 := [(5, .int (a5 + 1)), (0, .ref 0), (1, .int a1), (2, .int a2)]) hX dX14_yields_157 3 rfl (congrArg (fun y => a5 + y) ic_1) hN (Nat.le_of_ble_eq_true rfl) rfl ?_
      refine hv_goto (tgt := 123) hX dX14_yields_160 (by decide) ?_
      refine hv_fewer [1, 2, 3, 0] (loc2 := [(0, .ref 0), (1, .int a1), (2, .int a2), (5, .int (a5 + 1))]) rfl ?_
      exact ih _ _ _ _ _ hf
def m_yields_j104 (Q : Int32 → mI → mJ → Prop) (k51 : Int32 → Int32 → Int32 → Int32 → mI → mJ → Prop) (a1 : Int32) (a2 : Int32) (a5 : Int32) (s0 : Int32) (I : mI) (J : mJ) : Prop :=
  k51 a1 a2 s0 (a5 + 1) I J
theorem w_yields_j104 {X : hh_CX} {Q : Int32 → mI → mJ → Prop} (hX : hh_C X cX14_yields RX14 (hrm 2 43)) (hN : hh_nL X = 6) (hE : hh_E X (some .int) (mQi Q) 0 0) {k51 : Int32 → Int32 → Int32 → Int32 → mI → mJ → Prop} (hk51 : ∀ (b0 : Int32) (b1 : Int32) (b2 : Int32) (b3 : Int32) (I : mI) (J : mJ), k51 b0 b1 b2 b3 I J → hh_V X 51 [(0, .ref 0), (1, .int b0), (2, .int b1), (4, .int b2), (5, .int b3)] [] 0 0 (hm I J)) : ∀ (a1 : Int32) (a2 : Int32) (a5 : Int32) (s0 : Int32) (I : mI) (J : mJ), m_yields_j104 Q k51 a1 a2 a5 s0 I J → hh_V X 104 [(0, .ref 0), (1, .int a1), (2, .int a2), (5, .int a5)] [.int s0] 0 0 (hm I J) := by
  intro a1 a2 a5 s0 I J hf
  unfold m_yields_j104 at hf
  refine hv_istore (loc2 := [(4, .int s0), (0, .ref 0), (1, .int a1), (2, .int a2), (5, .int a5)]) hX dX14_yields_104 hN (Nat.le_of_ble_eq_true rfl) rfl ?_
  refine hv_iinc (v := (a5 + 1)) (loc2 := [(5, .int (a5 + 1)), (4, .int s0), (0, .ref 0), (1, .int a1), (2, .int a2)]) hX dX14_yields_106 4 rfl (congrArg (fun y => a5 + y) ic_1) hN (Nat.le_of_ble_eq_true rfl) rfl ?_
  refine hv_goto (tgt := 51) hX dX14_yields_109 (by decide) ?_
  refine hv_fewer [2, 3, 4, 1, 0] (loc2 := [(0, .ref 0), (1, .int a1), (2, .int a2), (4, .int s0), (5, .int (a5 + 1))]) rfl ?_
  exact hk51 _ _ _ _ _ _ hf
def m_yields_j103 (Q : Int32 → mI → mJ → Prop) (k51 : Int32 → Int32 → Int32 → Int32 → mI → mJ → Prop) (a1 : Int32) (a2 : Int32) (a5 : Int32) (I : mI) (J : mJ) : Prop :=
  m_yields_j104 Q k51 a1 a2 a5 0 I J
theorem w_yields_j103 {X : hh_CX} {Q : Int32 → mI → mJ → Prop} (hX : hh_C X cX14_yields RX14 (hrm 2 43)) (hN : hh_nL X = 6) (hE : hh_E X (some .int) (mQi Q) 0 0) {k51 : Int32 → Int32 → Int32 → Int32 → mI → mJ → Prop} (hk51 : ∀ (b0 : Int32) (b1 : Int32) (b2 : Int32) (b3 : Int32) (I : mI) (J : mJ), k51 b0 b1 b2 b3 I J → hh_V X 51 [(0, .ref 0), (1, .int b0), (2, .int b1), (4, .int b2), (5, .int b3)] [] 0 0 (hm I J)) : ∀ (a1 : Int32) (a2 : Int32) (a5 : Int32) (I : mI) (J : mJ), m_yields_j103 Q k51 a1 a2 a5 I J → hh_V X 103 [(0, .ref 0), (1, .int a1), (2, .int a2), (5, .int a5)] [] 0 0 (hm I J) := by
  intro a1 a2 a5 I J hf
  unfold m_yields_j103 at hf
  refine hv_iconst (v := 0) hX ic_0 dX14_yields_103 ?_
  exact w_yields_j104 hX hN hE hk51 _ _ _ _ _ _ hf
def m_yields_l51 (Q : Int32 → mI → mJ → Prop) : Nat → Int32 → Int32 → Int32 → Int32 → mI → mJ → Prop
  | 0, _, _, _, _, _, _ => False
  | n + 1, a1, a2, a4, a5, I, J =>
    ((7 : Int32) ≤ a5 →
      (a4 = 0 →
        Q (-4) I J) ∧ (¬ a4 = 0 →
        ∃ n0 : Nat, m_yields_l123 Q  n0 a1 a2 0 I J)) ∧ (¬ (7 : Int32) ≤ a5 →
      (a4 = 0 →
        m_yields_j103 Q (fun b0 b1 b2 b3 I J => m_yields_l51 Q n b0 b1 b2 b3 I J) a1 a2 a5 I J) ∧ (¬ a4 = 0 →
        vp_in ((40 * a2) + a5) 160 ∧ (((lg_cmp (J 28 ((40 * a2) + a5).toNatClampNeg) 0) < 0 →
          m_yields_j103 Q (fun b0 b1 b2 b3 I J => m_yields_l51 Q n b0 b1 b2 b3 I J) a1 a2 a5 I J) ∧ (¬ (lg_cmp (J 28 ((40 * a2) + a5).toNatClampNeg) 0) < 0 →
          vp_in ((40 * a2) + a5) 160 ∧ (((0 : Int32) < (lg_cmp (J 28 ((40 * a2) + a5).toNatClampNeg) 30) →
            m_yields_j103 Q (fun b0 b1 b2 b3 I J => m_yields_l51 Q n b0 b1 b2 b3 I J) a1 a2 a5 I J) ∧ (¬ (0 : Int32) < (lg_cmp (J 28 ((40 * a2) + a5).toNatClampNeg) 30) →
            m_yields_j104 Q (fun b0 b1 b2 b3 I J => m_yields_l51 Q n b0 b1 b2 b3 I J) a1 a2 a5 1 I J))))))
theorem w_yields_l51 {X : hh_CX} {Q : Int32 → mI → mJ → Prop} (hX : hh_C X cX14_yields RX14 (hrm 2 43)) (hN : hh_nL X = 6) (hE : hh_E X (some .int) (mQi Q) 0 0) : ∀ (n : Nat) (a1 : Int32) (a2 : Int32) (a4 : Int32) (a5 : Int32) (I : mI) (J : mJ), m_yields_l51 Q  n a1 a2 a4 a5 I J → hh_V X 51 [(0, .ref 0), (1, .int a1), (2, .int a2), (4, .int a4), (5, .int a5)] [] 0 0 (hm I J) := by
  intro n
  induction n with
  | zero => intro _ _ _ _ _ _ hf; exact hf.elim
  | succ n ih =>
    intro a1 a2 a4 a5 I J hf
    unfold m_yields_l51 at hf
    refine hv_iload hX dX14_yields_51 4 rfl ?_
    refine hv_bipush (v := 7) hX bi_7 dX14_yields_53 ?_
    refine hv_icmp_ge (tgt := 112) hX dX14_yields_55 (by decide) (fun c14 => ?_) (fun c14 => ?_)
    · replace hf := hf.1 c14
      refine hv_iload hX dX14_yields_112 3 rfl ?_
      refine hv_if_ne (tgt := 120) hX dX14_yields_114 (by decide) (fun c15 => ?_) (fun c15 => ?_)
      · replace hf := hf.2 c15
        refine hv_iconst (v := 0) hX ic_0 dX14_yields_120 ?_
        refine hv_istore (loc2 := [(5, .int 0), (0, .ref 0), (1, .int a1), (2, .int a2), (4, .int a4)]) hX dX14_yields_121 hN (Nat.le_of_ble_eq_true rfl) rfl ?_
        refine hv_fewer [1, 2, 3, 0] (loc2 := [(0, .ref 0), (1, .int a1), (2, .int a2), (5, .int 0)]) rfl ?_
        obtain ⟨n0, hf⟩ := hf
        exact w_yields_l123 hX hN hE  n0 _ _ _ _ _ hf
      · replace hf := hf.1 c15
        refine hv_bipush (v := (-4)) hX bi_m4 dX14_yields_117 ?_
        exact hm_iret hX hE dX14_yields_119 hf
    · replace hf := hf.2 c14
      refine hv_iload hX dX14_yields_58 3 rfl ?_
      refine hv_if_eq (tgt := 103) hX dX14_yields_60 (by decide) (fun c17 => ?_) (fun c17 => ?_)
      · replace hf := hf.1 c17
        refine hv_fewer [0, 1, 2, 4] (loc2 := [(0, .ref 0), (1, .int a1), (2, .int a2), (5, .int a5)]) rfl ?_
        exact w_yields_j103 hX hN hE ih _ _ _ _ _ hf
      · replace hf := hf.2 c17
        refine hv_aload_n hX dX14_yields_63 rfl 0 rfl ?_
        refine hm_getR hX dX14_yields_64 mfl109 28 rfl ?_
        refine hv_bipush (v := 40) hX bi_40 dX14_yields_67 ?_
        refine hv_iload_n hX dX14_yields_69 rfl 2 rfl ?_
        refine hv_imul hX dX14_yields_70 ?_
        refine hv_iload hX dX14_yields_71 4 rfl ?_
        refine hv_iadd hX dX14_yields_73 ?_
        obtain ⟨g, hf⟩ := hf
        refine hm_lald (v := (J 28 ((40 * a2) + a5).toNatClampNeg)) hX dX14_yields_74 (by decide) rfl rfl g rfl ?_
        refine hv_lconst (v := 0) hX rfl dX14_yields_75 ?_
        refine hv_lcmp hX dX14_yields_76 ?_
        refine hv_if_lt (tgt := 103) hX dX14_yields_77 (by decide) (fun c18 => ?_) (fun c18 => ?_)
        · replace hf := hf.1 c18
          refine hv_fewer [0, 1, 2, 4] (loc2 := [(0, .ref 0), (1, .int a1), (2, .int a2), (5, .int a5)]) rfl ?_
          exact w_yields_j103 hX hN hE ih _ _ _ _ _ hf
        · replace hf := hf.2 c18
          refine hv_aload_n hX dX14_yields_80 rfl 0 rfl ?_
          refine hm_getR hX dX14_yields_81 mfl109 28 rfl ?_
          refine hv_bipush (v := 40) hX bi_40 dX14_yields_84 ?_
          refine hv_iload_n hX dX14_yields_86 rfl 2 rfl ?_
          refine hv_imul hX dX14_yields_87 ?_
          refine hv_iload hX dX14_yields_88 4 rfl ?_
          refine hv_iadd hX dX14_yields_90 ?_
          obtain ⟨g, hf⟩ := hf
          refine hm_lald (v := (J 28 ((40 * a2) + a5).toNatClampNeg)) hX dX14_yields_91 (by decide) rfl rfl g rfl ?_
          refine hv_ldc2 (v := 30) hX dX14_yields_92 q1951 ?_
          refine hv_lcmp hX dX14_yields_95 ?_
          refine hv_if_gt (tgt := 103) hX dX14_yields_96 (by decide) (fun c19 => ?_) (fun c19 => ?_)
          · replace hf := hf.1 c19
            refine hv_fewer [0, 1, 2, 4] (loc2 := [(0, .ref 0), (1, .int a1), (2, .int a2), (5, .int a5)]) rfl ?_
            exact w_yields_j103 hX hN hE ih _ _ _ _ _ hf
          · replace hf := hf.2 c19
            refine hv_iconst (v := 1) hX ic_1 dX14_yields_99 ?_
            refine hv_goto (tgt := 104) hX dX14_yields_100 (by decide) ?_
            refine hv_fewer [0, 1, 2, 4] (loc2 := [(0, .ref 0), (1, .int a1), (2, .int a2), (5, .int a5)]) rfl ?_
            exact w_yields_j104 hX hN hE ih _ _ _ _ _ _ hf
def m_yields_j46 (Q : Int32 → mI → mJ → Prop) (a1 : Int32) (a2 : Int32) (s0 : Int32) (I : mI) (J : mJ) : Prop :=
  ∃ n0 : Nat, m_yields_l51 Q  n0 a1 a2 s0 0 I J
theorem w_yields_j46 {X : hh_CX} {Q : Int32 → mI → mJ → Prop} (hX : hh_C X cX14_yields RX14 (hrm 2 43)) (hN : hh_nL X = 6) (hE : hh_E X (some .int) (mQi Q) 0 0) : ∀ (a1 : Int32) (a2 : Int32) (s0 : Int32) (I : mI) (J : mJ), m_yields_j46 Q  a1 a2 s0 I J → hh_V X 46 [(0, .ref 0), (1, .int a1), (2, .int a2)] [.int s0] 0 0 (hm I J) := by
  intro a1 a2 s0 I J hf
  unfold m_yields_j46 at hf
  refine hv_istore (loc2 := [(4, .int s0), (0, .ref 0), (1, .int a1), (2, .int a2)]) hX dX14_yields_46 hN (Nat.le_of_ble_eq_true rfl) rfl ?_
  refine hv_iconst (v := 0) hX ic_0 dX14_yields_48 ?_
  refine hv_istore (loc2 := [(5, .int 0), (4, .int s0), (0, .ref 0), (1, .int a1), (2, .int a2)]) hX dX14_yields_49 hN (Nat.le_of_ble_eq_true rfl) rfl ?_
  refine hv_fewer [2, 3, 4, 1, 0] (loc2 := [(0, .ref 0), (1, .int a1), (2, .int a2), (4, .int s0), (5, .int 0)]) rfl ?_
  obtain ⟨n0, hf⟩ := hf
  exact w_yields_l51 hX hN hE  n0 _ _ _ _ _ _ hf
def m_yields (a1 : Int32) (a2 : Int32) (I : mI) (J : mJ) (Q : Int32 → mI → mJ → Prop) : Prop :=
  m_isPatch a1 I J (fun r1 I2 J3 => (r1 = 0 →
    Q (-1) I2 J3) ∧ (¬ r1 = 0 →
    m_isShelf a2 I2 J3 (fun r5 I6 J7 => (r5 = 0 →
      Q (-1) I6 J7) ∧ (¬ r5 = 0 →
      m_lacksSort a2 0 I6 J7 (fun r9 I10 J11 => (r9 = 0 →
        vp_in a2 4 ∧ (((I10 27 a2.toNatClampNeg) = 7 →
          m_yields_j46 Q  a1 a2 1 I10 J11) ∧ (¬ (I10 27 a2.toNatClampNeg) = 7 →
          m_yields_j46 Q  a1 a2 0 I10 J11))) ∧ (¬ r9 = 0 →
        Q r9 I10 J11))))))
theorem ct_yields (a1 : Int32) (a2 : Int32) (I : mI) (J : mJ) (Q : Int32 → mI → mJ → Prop) (hf : m_yields a1 a2 I J Q) : hh_Ct yX14_yields cX14_yields 6 (some .int) 2 43 [.ref 0, .int a1, .int a2] (hm I J) (mQi Q) 0 0 := by
  refine hh_Ct.of (own := RX14) rfl (by decide +kernel) (Nat.le_of_ble_eq_true rfl) ?_
  intro X hX hN hE
  show hh_V X 0 [(0, .ref 0), (1, .int a1), (2, .int a2)] [] 0 0 (hm I J)
  unfold m_yields at hf
  refine hv_aload_n hX dX14_yields_0 rfl 0 rfl ?_
  refine hv_iload_n hX dX14_yields_1 rfl 1 rfl ?_
  refine hm_callVi hX dX14_yields_2 (ct_isPatch a1 I J _ hf) (gd_isPatch q1936) np_isPatch rfl rfl ⟨Nat.le_of_ble_eq_true rfl, Nat.le_of_ble_eq_true rfl⟩ ⟨Nat.le_refl _, Nat.le_refl _⟩ (Nat.le_of_ble_eq_true rfl) ?_
  intro r1 I2 J3 hf
  refine hv_if_eq (tgt := 15) hX dX14_yields_5 (by decide) (fun c4 => ?_) (fun c4 => ?_)
  · replace hf := hf.1 c4
    refine hv_iconst (v := (-1)) hX ic_m1 dX14_yields_15 ?_
    exact hm_iret hX hE dX14_yields_16 hf
  · replace hf := hf.2 c4
    refine hv_iload_n hX dX14_yields_8 rfl 2 rfl ?_
    refine hm_callSi hX dX14_yields_9 (ct_isShelf a2 I2 J3 _ hf) (gd_isShelf q1944) np_isShelf rfl rfl ⟨Nat.le_of_ble_eq_true rfl, Nat.le_of_ble_eq_true rfl⟩ ⟨Nat.le_refl _, Nat.le_refl _⟩ (Nat.le_of_ble_eq_true rfl) ?_
    intro r5 I6 J7 hf
    refine hv_if_ne (tgt := 17) hX dX14_yields_12 (by decide) (fun c8 => ?_) (fun c8 => ?_)
    · replace hf := hf.2 c8
      refine hv_aload_n hX dX14_yields_17 rfl 0 rfl ?_
      refine hv_iload_n hX dX14_yields_18 rfl 2 rfl ?_
      refine hv_iconst (v := 0) hX ic_0 dX14_yields_19 ?_
      refine hm_callVi hX dX14_yields_20 (ct_lacksSort a2 0 I6 J7 _ hf) (gd_lacksSort q1947) np_lacksSort rfl rfl ⟨Nat.le_of_ble_eq_true rfl, Nat.le_of_ble_eq_true rfl⟩ ⟨Nat.le_refl _, Nat.le_refl _⟩ (Nat.le_of_ble_eq_true rfl) ?_
      intro r9 I10 J11 hf
      refine hv_istore_n (loc2 := [(3, .int r9), (0, .ref 0), (1, .int a1), (2, .int a2)]) hX dX14_yields_23 rfl hN (Nat.le_of_ble_eq_true rfl) rfl ?_
      refine hv_iload_n hX dX14_yields_24 rfl 0 rfl ?_
      refine hv_if_eq (tgt := 30) hX dX14_yields_25 (by decide) (fun c12 => ?_) (fun c12 => ?_)
      · replace hf := hf.1 c12
        refine hv_aload_n hX dX14_yields_30 rfl 1 rfl ?_
        refine hm_getR hX dX14_yields_31 mfl106 27 rfl ?_
        refine hv_iload_n hX dX14_yields_34 rfl 3 rfl ?_
        obtain ⟨g, hf⟩ := hf
        refine hm_iald (v := (I10 27 a2.toNatClampNeg)) hX dX14_yields_35 (by decide) rfl rfl g rfl ?_
        refine hv_bipush (v := 7) hX bi_7 dX14_yields_36 ?_
        refine hv_icmp_ne (tgt := 45) hX dX14_yields_38 (by decide) (fun c13 => ?_) (fun c13 => ?_)
        · replace hf := hf.2 c13
          refine hv_iconst (v := 0) hX ic_0 dX14_yields_45 ?_
          refine hv_fewer [1, 2, 3] (loc2 := [(0, .ref 0), (1, .int a1), (2, .int a2)]) rfl ?_
          exact w_yields_j46 hX hN hE  _ _ _ _ _ hf
        · replace hf := hf.1 c13
          refine hv_iconst (v := 1) hX ic_1 dX14_yields_41 ?_
          refine hv_goto (tgt := 46) hX dX14_yields_42 (by decide) ?_
          refine hv_fewer [1, 2, 3] (loc2 := [(0, .ref 0), (1, .int a1), (2, .int a2)]) rfl ?_
          exact w_yields_j46 hX hN hE  _ _ _ _ _ hf
      · replace hf := hf.2 c12
        refine hv_iload_n hX dX14_yields_28 rfl 0 rfl ?_
        exact hm_iret hX hE dX14_yields_29 hf
    · replace hf := hf.1 c8
      refine hv_iconst (v := (-1)) hX ic_m1 dX14_yields_15 ?_
      exact hm_iret hX hE dX14_yields_16 hf
theorem np_yields : yX14_yields.cls = RX14 ∧ yX14_yields.cls ≠ "java/lang/invoke/MethodHandle" ∧ yX14_yields.cls ≠ "java/lang/invoke/VarHandle" ∧ (parseMethodDescriptor yX14_yields.desc).map (fun d => d.parameters.length) = some 2 := by decide +kernel
theorem gd_yields {idx : Nat} (h : Cond.methodLink RX14 idx yX14_yields ∈ lw_all) : GoodIn lw_all (wsV RX14 idx RX14 yX14_yields (ws_ yX14_yields cX14_yields 6 (some .int))) := lw_V h q1941 q1942 q123 q1943
/-! yieldIn(II)I -/
def m_yieldIn (a1 : Int32) (a2 : Int32) (I : mI) (J : mJ) (Q : Int32 → mI → mJ → Prop) : Prop :=
  vp_in (((11 * a1) + 4) + a2) 44 ∧ (Q (I 1 (((11 * a1) + 4) + a2).toNatClampNeg) I J)
theorem ct_yieldIn (a1 : Int32) (a2 : Int32) (I : mI) (J : mJ) (Q : Int32 → mI → mJ → Prop) (hf : m_yieldIn a1 a2 I J Q) : hh_Ct yX14_yieldIn cX14_yieldIn 3 (some .int) 0 0 [.ref 0, .int a1, .int a2] (hm I J) (mQi Q) 0 0 := by
  refine hh_Ct.of (own := RX14) rfl (by decide +kernel) (Nat.le_of_ble_eq_true rfl) ?_
  intro X hX hN hE
  show hh_V X 0 [(0, .ref 0), (1, .int a1), (2, .int a2)] [] 0 0 (hm I J)
  unfold m_yieldIn at hf
  refine hv_aload_n hX dX14_yieldIn_0 rfl 0 rfl ?_
  refine hm_getR hX dX14_yieldIn_1 mfl19 1 rfl ?_
  refine hv_bipush (v := 11) hX bi_11 dX14_yieldIn_4 ?_
  refine hv_iload_n hX dX14_yieldIn_6 rfl 1 rfl ?_
  refine hv_imul hX dX14_yieldIn_7 ?_
  refine hv_iconst (v := 4) hX ic_4 dX14_yieldIn_8 ?_
  refine hv_iadd hX dX14_yieldIn_9 ?_
  refine hv_iload_n hX dX14_yieldIn_10 rfl 2 rfl ?_
  refine hv_iadd hX dX14_yieldIn_11 ?_
  obtain ⟨g, hf⟩ := hf
  refine hm_iald (v := (I 1 (((11 * a1) + 4) + a2).toNatClampNeg)) hX dX14_yieldIn_12 (by decide) rfl rfl g rfl ?_
  exact hm_iret hX hE dX14_yieldIn_13 hf
theorem np_yieldIn : yX14_yieldIn.cls = RX14 ∧ yX14_yieldIn.cls ≠ "java/lang/invoke/MethodHandle" ∧ yX14_yieldIn.cls ≠ "java/lang/invoke/VarHandle" ∧ (parseMethodDescriptor yX14_yieldIn.desc).map (fun d => d.parameters.length) = some 2 := by decide +kernel
theorem gd_yieldIn {idx : Nat} (h : Cond.methodLink RX14 idx yX14_yieldIn ∈ lw_all) : GoodIn lw_all (wsV RX14 idx RX14 yX14_yieldIn (ws_ yX14_yieldIn cX14_yieldIn 3 (some .int))) := lw_V h q1958 qs51 q123 q1959
/-! yieldOf(II)I -/
def m_yieldOf (a1 : Int32) (a2 : Int32) (I : mI) (J : mJ) (Q : Int32 → mI → mJ → Prop) : Prop :=
  m_isPatch a1 I J (fun r1 I2 J3 => (r1 = 0 →
    Q (-1) I2 J3) ∧ (¬ r1 = 0 →
    m_in a2 0 6 I2 J3 (fun r5 I6 J7 => (r5 = 0 →
      Q (-1) I6 J7) ∧ (¬ r5 = 0 →
      m_yieldIn a1 a2 I6 J7 (fun r9 I10 J11 => Q r9 I10 J11)))))
theorem ct_yieldOf (a1 : Int32) (a2 : Int32) (I : mI) (J : mJ) (Q : Int32 → mI → mJ → Prop) (hf : m_yieldOf a1 a2 I J Q) : hh_Ct yX14_yieldOf cX14_yieldOf 3 (some .int) 2 43 [.ref 0, .int a1, .int a2] (hm I J) (mQi Q) 0 0 := by
  refine hh_Ct.of (own := RX14) rfl (by decide +kernel) (Nat.le_of_ble_eq_true rfl) ?_
  intro X hX hN hE
  show hh_V X 0 [(0, .ref 0), (1, .int a1), (2, .int a2)] [] 0 0 (hm I J)
  unfold m_yieldOf at hf
  refine hv_aload_n hX dX14_yieldOf_0 rfl 0 rfl ?_
  refine hv_iload_n hX dX14_yieldOf_1 rfl 1 rfl ?_
  refine hm_callVi hX dX14_yieldOf_2 (ct_isPatch a1 I J _ hf) (gd_isPatch q1936) np_isPatch rfl rfl ⟨Nat.le_of_ble_eq_true rfl, Nat.le_of_ble_eq_true rfl⟩ ⟨Nat.le_refl _, Nat.le_refl _⟩ (Nat.le_of_ble_eq_true rfl) ?_
  intro r1 I2 J3 hf
  refine hv_if_eq (tgt := 27) hX dX14_yieldOf_5 (by decide) (fun c4 => ?_) (fun c4 => ?_)
  · replace hf := hf.1 c4
    refine hv_iconst (v := (-1)) hX ic_m1 dX14_yieldOf_27 ?_
    exact hm_iret hX hE dX14_yieldOf_28 hf
  · replace hf := hf.2 c4
    refine hv_iload_n hX dX14_yieldOf_8 rfl 2 rfl ?_
    refine hv_iconst (v := 0) hX ic_0 dX14_yieldOf_9 ?_
    refine hv_bipush (v := 6) hX bi_6 dX14_yieldOf_10 ?_
    refine hm_callSi hX dX14_yieldOf_12 (ct_in a2 0 6 I2 J3 _ hf) (gd_in q1923) np_in rfl rfl ⟨Nat.le_of_ble_eq_true rfl, Nat.le_of_ble_eq_true rfl⟩ ⟨Nat.le_refl _, Nat.le_refl _⟩ (Nat.le_of_ble_eq_true rfl) ?_
    intro r5 I6 J7 hf
    refine hv_if_eq (tgt := 27) hX dX14_yieldOf_15 (by decide) (fun c8 => ?_) (fun c8 => ?_)
    · replace hf := hf.1 c8
      refine hv_iconst (v := (-1)) hX ic_m1 dX14_yieldOf_27 ?_
      exact hm_iret hX hE dX14_yieldOf_28 hf
    · replace hf := hf.2 c8
      refine hv_aload_n hX dX14_yieldOf_18 rfl 0 rfl ?_
      refine hv_iload_n hX dX14_yieldOf_19 rfl 1 rfl ?_
      refine hv_iload_n hX dX14_yieldOf_20 rfl 2 rfl ?_
      refine hm_callVi hX dX14_yieldOf_21 (ct_yieldIn a1 a2 I6 J7 _ hf) (gd_yieldIn q1956) np_yieldIn rfl rfl ⟨Nat.le_of_ble_eq_true rfl, Nat.le_of_ble_eq_true rfl⟩ ⟨Nat.le_refl _, Nat.le_refl _⟩ (Nat.le_of_ble_eq_true rfl) ?_
      intro r9 I10 J11 hf
      refine hv_goto (tgt := 28) hX dX14_yieldOf_24 (by decide) ?_
      exact hm_iret hX hE dX14_yieldOf_28 hf
theorem np_yieldOf : yX14_yieldOf.cls = RX14 ∧ yX14_yieldOf.cls ≠ "java/lang/invoke/MethodHandle" ∧ yX14_yieldOf.cls ≠ "java/lang/invoke/VarHandle" ∧ (parseMethodDescriptor yX14_yieldOf.desc).map (fun d => d.parameters.length) = some 2 := by decide +kernel
theorem gd_yieldOf {idx : Nat} (h : Cond.methodLink RX14 idx yX14_yieldOf ∈ lw_all) : GoodIn lw_all (wsV RX14 idx RX14 yX14_yieldOf (ws_ yX14_yieldOf cX14_yieldOf 3 (some .int))) := lw_V h q1953 q1954 q123 q1955
/-! topOf(I)I -/
def m_topOf (a1 : Int32) (I : mI) (J : mJ) (Q : Int32 → mI → mJ → Prop) : Prop :=
  vp_in ((11 * a1) + 1) 44 ∧ (Q (I 1 ((11 * a1) + 1).toNatClampNeg) I J)
theorem ct_topOf (a1 : Int32) (I : mI) (J : mJ) (Q : Int32 → mI → mJ → Prop) (hf : m_topOf a1 I J Q) : hh_Ct yX14_topOf cX14_topOf 2 (some .int) 0 0 [.ref 0, .int a1] (hm I J) (mQi Q) 0 0 := by
  refine hh_Ct.of (own := RX14) rfl (by decide +kernel) (Nat.le_of_ble_eq_true rfl) ?_
  intro X hX hN hE
  show hh_V X 0 [(0, .ref 0), (1, .int a1)] [] 0 0 (hm I J)
  unfold m_topOf at hf
  refine hv_aload_n hX dX14_topOf_0 rfl 0 rfl ?_
  refine hm_getR hX dX14_topOf_1 mfl19 1 rfl ?_
  refine hv_bipush (v := 11) hX bi_11 dX14_topOf_4 ?_
  refine hv_iload_n hX dX14_topOf_6 rfl 1 rfl ?_
  refine hv_imul hX dX14_topOf_7 ?_
  refine hv_iconst (v := 1) hX ic_1 dX14_topOf_8 ?_
  refine hv_iadd hX dX14_topOf_9 ?_
  obtain ⟨g, hf⟩ := hf
  refine hm_iald (v := (I 1 ((11 * a1) + 1).toNatClampNeg)) hX dX14_topOf_10 (by decide) rfl rfl g rfl ?_
  exact hm_iret hX hE dX14_topOf_11 hf
theorem np_topOf : yX14_topOf.cls = RX14 ∧ yX14_topOf.cls ≠ "java/lang/invoke/MethodHandle" ∧ yX14_topOf.cls ≠ "java/lang/invoke/VarHandle" ∧ (parseMethodDescriptor yX14_topOf.desc).map (fun d => d.parameters.length) = some 1 := by decide +kernel
theorem gd_topOf {idx : Nat} (h : Cond.methodLink RX14 idx yX14_topOf ∈ lw_all) : GoodIn lw_all (wsV RX14 idx RX14 yX14_topOf (ws_ yX14_topOf cX14_topOf 2 (some .int))) := lw_V h q1966 qs52 q123 q1967
/-! lay(III)I -/
def m_lay_j81 (Q : Int32 → mI → mJ → Prop) (a1 : Int32) (a2 : Int32) (a3 : Int32) (s0 : Int32) (I : mI) (J : mJ) : Prop :=
  (a2 = 1 →
    vp_in ((11 * a1) + 3) 44 ∧ (Q s0 (u2 I 1 ((11 * a1) + 3).toNatClampNeg a3) J)) ∧ (¬ a2 = 1 →
    m_unit a1 I J (fun r26 I27 J28 => Q s0 (u2 I27 0 12 ((I 0 12) + ((a3 - s0) * r26))) J28))
theorem w_lay_j81 {X : hh_CX} {Q : Int32 → mI → mJ → Prop} (hX : hh_C X cX14_lay RX14 (hrm 2 43)) (hN : hh_nL X = 5) (hE : hh_E X (some .int) (mQi Q) 0 0) : ∀ (a1 : Int32) (a2 : Int32) (a3 : Int32) (s0 : Int32) (I : mI) (J : mJ), m_lay_j81 Q  a1 a2 a3 s0 I J → hh_V X 81 [(0, .ref 0), (1, .int a1), (2, .int a2), (3, .int a3)] [.int s0] 0 0 (hm I J) := by
  intro a1 a2 a3 s0 I J hf
  unfold m_lay_j81 at hf
  refine hv_istore (loc2 := [(4, .int s0), (0, .ref 0), (1, .int a1), (2, .int a2), (3, .int a3)]) hX dX14_lay_81 hN (Nat.le_of_ble_eq_true rfl) rfl ?_
  refine hv_iload_n hX dX14_lay_83 rfl 3 rfl ?_
  refine hv_iconst (v := 1) hX ic_1 dX14_lay_84 ?_
  refine hv_icmp_ne (tgt := 103) hX dX14_lay_85 (by decide) (fun c25 => ?_) (fun c25 => ?_)
  · replace hf := hf.2 c25
    refine hv_aload_n hX dX14_lay_103 rfl 1 rfl ?_
    refine hv_dup hX rfl dX14_lay_104 ?_
    refine hm_getI (v := (I 0 12)) hX dX14_lay_105 mfl141 (.inl rfl) rfl ?_
    refine hv_iload_n hX dX14_lay_108 rfl 4 rfl ?_
    refine hv_iload hX dX14_lay_109 0 rfl ?_
    refine hv_isub hX dX14_lay_111 ?_
    refine hv_iload_n hX dX14_lay_112 rfl 2 rfl ?_
    refine hm_callSi hX dX14_lay_113 (ct_unit a1 I J _ hf) (gd_unit q1929) np_unit rfl rfl ⟨Nat.le_of_ble_eq_true rfl, Nat.le_of_ble_eq_true rfl⟩ ⟨Nat.le_refl _, Nat.le_refl _⟩ (Nat.le_of_ble_eq_true rfl) ?_
    intro r26 I27 J28 hf
    refine hv_imul hX dX14_lay_116 ?_
    refine hv_iadd hX dX14_lay_117 ?_
    refine hm_putI hX dX14_lay_118 mfl141 ?_
    refine hv_iload hX dX14_lay_121 0 rfl ?_
    exact hm_iret hX hE dX14_lay_123 hf
  · replace hf := hf.1 c25
    refine hv_aload_n hX dX14_lay_88 rfl 1 rfl ?_
    refine hm_getR hX dX14_lay_89 mfl19 1 rfl ?_
    refine hv_bipush (v := 11) hX bi_11 dX14_lay_92 ?_
    refine hv_iload_n hX dX14_lay_94 rfl 2 rfl ?_
    refine hv_imul hX dX14_lay_95 ?_
    refine hv_iconst (v := 3) hX ic_3 dX14_lay_96 ?_
    refine hv_iadd hX dX14_lay_97 ?_
    refine hv_iload_n hX dX14_lay_98 rfl 4 rfl ?_
    obtain ⟨g, hf⟩ := hf
    refine hm_iast hX dX14_lay_99 (by decide) rfl rfl g ?_
    refine hv_goto (tgt := 121) hX dX14_lay_100 (by decide) ?_
    refine hv_iload hX dX14_lay_121 0 rfl ?_
    exact hm_iret hX hE dX14_lay_123 hf
def m_lay_j46 (Q : Int32 → mI → mJ → Prop) (a1 : Int32) (a2 : Int32) (a3 : Int32) (s0 : Int32) (s1 : Int32) (s2 : Int32) (I : mI) (J : mJ) : Prop :=
  m_in s0 s1 s2 I J (fun r17 I18 J19 => (r17 = 0 →
    Q (-1) I18 J19) ∧ (¬ r17 = 0 →
    (a2 = 1 →
      vp_in ((11 * a1) + 3) 44 ∧ (m_lay_j81 Q  a1 a2 a3 (I18 1 ((11 * a1) + 3).toNatClampNeg) I18 J19)) ∧ (¬ a2 = 1 →
      m_foodIn (I18 0 12) a1 I18 J19 (fun r22 I23 J24 => m_lay_j81 Q  a1 a2 a3 r22 I23 J24))))
theorem w_lay_j46 {X : hh_CX} {Q : Int32 → mI → mJ → Prop} (hX : hh_C X cX14_lay RX14 (hrm 2 43)) (hN : hh_nL X = 5) (hE : hh_E X (some .int) (mQi Q) 0 0) : ∀ (a1 : Int32) (a2 : Int32) (a3 : Int32) (s0 : Int32) (s1 : Int32) (s2 : Int32) (I : mI) (J : mJ), m_lay_j46 Q  a1 a2 a3 s0 s1 s2 I J → hh_V X 46 [(0, .ref 0), (1, .int a1), (2, .int a2), (3, .int a3)] [.int s2, .int s1, .int s0] 0 0 (hm I J) := by
  intro a1 a2 a3 s0 s1 s2 I J hf
  unfold m_lay_j46 at hf
  refine hm_callSi hX dX14_lay_46 (ct_in s0 s1 s2 I J _ hf) (gd_in q1923) np_in rfl rfl ⟨Nat.le_of_ble_eq_true rfl, Nat.le_of_ble_eq_true rfl⟩ ⟨Nat.le_refl _, Nat.le_refl _⟩ (Nat.le_of_ble_eq_true rfl) ?_
  intro r17 I18 J19 hf
  refine hv_if_ne (tgt := 54) hX dX14_lay_49 (by decide) (fun c20 => ?_) (fun c20 => ?_)
  · replace hf := hf.2 c20
    refine hv_iload_n hX dX14_lay_54 rfl 2 rfl ?_
    refine hv_iconst (v := 1) hX ic_1 dX14_lay_55 ?_
    refine hv_icmp_ne (tgt := 73) hX dX14_lay_56 (by decide) (fun c21 => ?_) (fun c21 => ?_)
    · replace hf := hf.2 c21
      refine hv_aload_n hX dX14_lay_73 rfl 0 rfl ?_
      refine hm_getI (v := (I18 0 12)) hX dX14_lay_74 mfl141 (.inl rfl) rfl ?_
      refine hv_iload_n hX dX14_lay_77 rfl 1 rfl ?_
      refine hm_callSi hX dX14_lay_78 (ct_foodIn (I18 0 12) a1 I18 J19 _ hf) (gd_foodIn q1926) np_foodIn rfl rfl ⟨Nat.le_of_ble_eq_true rfl, Nat.le_of_ble_eq_true rfl⟩ ⟨Nat.le_refl _, Nat.le_refl _⟩ (Nat.le_of_ble_eq_true rfl) ?_
      intro r22 I23 J24 hf
      exact w_lay_j81 hX hN hE  _ _ _ _ _ _ hf
    · replace hf := hf.1 c21
      refine hv_aload_n hX dX14_lay_59 rfl 0 rfl ?_
      refine hm_getR hX dX14_lay_60 mfl19 1 rfl ?_
      refine hv_bipush (v := 11) hX bi_11 dX14_lay_63 ?_
      refine hv_iload_n hX dX14_lay_65 rfl 1 rfl ?_
      refine hv_imul hX dX14_lay_66 ?_
      refine hv_iconst (v := 3) hX ic_3 dX14_lay_67 ?_
      refine hv_iadd hX dX14_lay_68 ?_
      obtain ⟨g, hf⟩ := hf
      refine hm_iald (v := (I18 1 ((11 * a1) + 3).toNatClampNeg)) hX dX14_lay_69 (by decide) rfl rfl g rfl ?_
      refine hv_goto (tgt := 81) hX dX14_lay_70 (by decide) ?_
      exact w_lay_j81 hX hN hE  _ _ _ _ _ _ hf
  · replace hf := hf.1 c20
    refine hv_iconst (v := (-1)) hX ic_m1 dX14_lay_52 ?_
    exact hm_iret hX hE dX14_lay_53 hf
def m_lay_j43 (Q : Int32 → mI → mJ → Prop) (a1 : Int32) (a2 : Int32) (a3 : Int32) (s0 : Int32) (s1 : Int32) (s3 : Int32) (I : mI) (J : mJ) : Prop :=
  m_topOf s3 I J (fun r14 I15 J16 => m_lay_j46 Q  a1 a2 a3 s0 s1 r14 I15 J16)
theorem w_lay_j43 {X : hh_CX} {Q : Int32 → mI → mJ → Prop} (hX : hh_C X cX14_lay RX14 (hrm 2 43)) (hN : hh_nL X = 5) (hE : hh_E X (some .int) (mQi Q) 0 0) : ∀ (a1 : Int32) (a2 : Int32) (a3 : Int32) (s0 : Int32) (s1 : Int32) (s3 : Int32) (I : mI) (J : mJ), m_lay_j43 Q  a1 a2 a3 s0 s1 s3 I J → hh_V X 43 [(0, .ref 0), (1, .int a1), (2, .int a2), (3, .int a3)] [.int s3, .ref 0, .int s1, .int s0] 0 0 (hm I J) := by
  intro a1 a2 a3 s0 s1 s3 I J hf
  unfold m_lay_j43 at hf
  refine hm_callVi hX dX14_lay_43 (ct_topOf s3 I J _ hf) (gd_topOf q1964) np_topOf rfl rfl ⟨Nat.le_of_ble_eq_true rfl, Nat.le_of_ble_eq_true rfl⟩ ⟨Nat.le_refl _, Nat.le_refl _⟩ (Nat.le_of_ble_eq_true rfl) ?_
  intro r14 I15 J16 hf
  exact w_lay_j46 hX hN hE  _ _ _ _ _ _ _ _ hf
def m_lay (a1 : Int32) (a2 : Int32) (a3 : Int32) (I : mI) (J : mJ) (Q : Int32 → mI → mJ → Prop) : Prop :=
  m_isPatch a1 I J (fun r1 I2 J3 => (r1 = 0 →
    Q (-1) I2 J3) ∧ (¬ r1 = 0 →
    m_in a2 0 1 I2 J3 (fun r5 I6 J7 => (r5 = 0 →
      Q (-1) I6 J7) ∧ (¬ r5 = 0 →
      (a2 = 1 →
        m_lay_j46 Q  a1 a2 a3 a3 0 60 I6 J7) ∧ (¬ a2 = 1 →
        m_isPatch a1 I6 J7 (fun r10 I11 J12 => (r10 = 0 →
          m_lay_j43 Q  a1 a2 a3 a3 0 0 I11 J12) ∧ (¬ r10 = 0 →
          m_lay_j43 Q  a1 a2 a3 a3 0 a1 I11 J12)))))))
theorem ct_lay (a1 : Int32) (a2 : Int32) (a3 : Int32) (I : mI) (J : mJ) (Q : Int32 → mI → mJ → Prop) (hf : m_lay a1 a2 a3 I J Q) : hh_Ct yX14_lay cX14_lay 5 (some .int) 2 43 [.ref 0, .int a1, .int a2, .int a3] (hm I J) (mQi Q) 0 0 := by
  refine hh_Ct.of (own := RX14) rfl (by decide +kernel) (Nat.le_of_ble_eq_true rfl) ?_
  intro X hX hN hE
  show hh_V X 0 [(0, .ref 0), (1, .int a1), (2, .int a2), (3, .int a3)] [] 0 0 (hm I J)
  unfold m_lay at hf
  refine hv_aload_n hX dX14_lay_0 rfl 0 rfl ?_
  refine hv_iload_n hX dX14_lay_1 rfl 1 rfl ?_
  refine hm_callVi hX dX14_lay_2 (ct_isPatch a1 I J _ hf) (gd_isPatch q1936) np_isPatch rfl rfl ⟨Nat.le_of_ble_eq_true rfl, Nat.le_of_ble_eq_true rfl⟩ ⟨Nat.le_refl _, Nat.le_refl _⟩ (Nat.le_of_ble_eq_true rfl) ?_
  intro r1 I2 J3 hf
  refine hv_if_eq (tgt := 52) hX dX14_lay_5 (by decide) (fun c4 => ?_) (fun c4 => ?_)
  · replace hf := hf.1 c4
    refine hv_iconst (v := (-1)) hX ic_m1 dX14_lay_52 ?_
    exact hm_iret hX hE dX14_lay_53 hf
  · replace hf := hf.2 c4
    refine hv_iload_n hX dX14_lay_8 rfl 2 rfl ?_
    refine hv_iconst (v := 0) hX ic_0 dX14_lay_9 ?_
    refine hv_iconst (v := 1) hX ic_1 dX14_lay_10 ?_
    refine hm_callSi hX dX14_lay_11 (ct_in a2 0 1 I2 J3 _ hf) (gd_in q1923) np_in rfl rfl ⟨Nat.le_of_ble_eq_true rfl, Nat.le_of_ble_eq_true rfl⟩ ⟨Nat.le_refl _, Nat.le_refl _⟩ (Nat.le_of_ble_eq_true rfl) ?_
    intro r5 I6 J7 hf
    refine hv_if_eq (tgt := 52) hX dX14_lay_14 (by decide) (fun c8 => ?_) (fun c8 => ?_)
    · replace hf := hf.1 c8
      refine hv_iconst (v := (-1)) hX ic_m1 dX14_lay_52 ?_
      exact hm_iret hX hE dX14_lay_53 hf
    · replace hf := hf.2 c8
      refine hv_iload_n hX dX14_lay_17 rfl 3 rfl ?_
      refine hv_iconst (v := 0) hX ic_0 dX14_lay_18 ?_
      refine hv_iload_n hX dX14_lay_19 rfl 2 rfl ?_
      refine hv_iconst (v := 1) hX ic_1 dX14_lay_20 ?_
      refine hv_icmp_ne (tgt := 29) hX dX14_lay_21 (by decide) (fun c9 => ?_) (fun c9 => ?_)
      · replace hf := hf.2 c9
        refine hv_aload_n hX dX14_lay_29 rfl 0 rfl ?_
        refine hv_aload_n hX dX14_lay_30 rfl 0 rfl ?_
        refine hv_iload_n hX dX14_lay_31 rfl 1 rfl ?_
        refine hm_callVi hX dX14_lay_32 (ct_isPatch a1 I6 J7 _ hf) (gd_isPatch q1936) np_isPatch rfl rfl ⟨Nat.le_of_ble_eq_true rfl, Nat.le_of_ble_eq_true rfl⟩ ⟨Nat.le_refl _, Nat.le_refl _⟩ (Nat.le_of_ble_eq_true rfl) ?_
        intro r10 I11 J12 hf
        refine hv_if_eq (tgt := 42) hX dX14_lay_35 (by decide) (fun c13 => ?_) (fun c13 => ?_)
        · replace hf := hf.1 c13
          refine hv_iconst (v := 0) hX ic_0 dX14_lay_42 ?_
          exact w_lay_j43 hX hN hE  _ _ _ _ _ _ _ _ hf
        · replace hf := hf.2 c13
          refine hv_iload_n hX dX14_lay_38 rfl 1 rfl ?_
          refine hv_goto (tgt := 43) hX dX14_lay_39 (by decide) ?_
          exact w_lay_j43 hX hN hE  _ _ _ _ _ _ _ _ hf
      · replace hf := hf.1 c9
        refine hv_bipush (v := 60) hX bi_60 dX14_lay_24 ?_
        refine hv_goto (tgt := 46) hX dX14_lay_26 (by decide) ?_
        exact w_lay_j46 hX hN hE  _ _ _ _ _ _ _ _ hf
theorem np_lay : yX14_lay.cls = RX14 ∧ yX14_lay.cls ≠ "java/lang/invoke/MethodHandle" ∧ yX14_lay.cls ≠ "java/lang/invoke/VarHandle" ∧ (parseMethodDescriptor yX14_lay.desc).map (fun d => d.parameters.length) = some 3 := by decide +kernel
theorem gd_lay {idx : Nat} (h : Cond.methodLink RX14 idx yX14_lay ∈ lw_all) : GoodIn lw_all (wsV RX14 idx RX14 yX14_lay (ws_ yX14_lay cX14_lay 5 (some .int))) := lw_V h q1961 q1962 q123 q1963
/-! way(III)I -/
def m_way (a1 : Int32) (a2 : Int32) (a3 : Int32) (I : mI) (J : mJ) (Q : Int32 → mI → mJ → Prop) : Prop :=
  m_isPatch a1 I J (fun r1 I2 J3 => (r1 = 0 →
    Q (-1) I2 J3) ∧ (¬ r1 = 0 →
    m_isPatch a2 I2 J3 (fun r5 I6 J7 => (r5 = 0 →
      Q (-1) I6 J7) ∧ (¬ r5 = 0 →
      (a1 = a2 →
        Q (-1) I6 J7) ∧ (¬ a1 = a2 →
        m_in a3 0 5 I6 J7 (fun r10 I11 J12 => (r10 = 0 →
          Q (-1) I11 J12) ∧ (¬ r10 = 0 →
          vp_in ((4 * a1) + a2) 16 ∧ (∀ v14 : Int32, v14 = (I11 2 ((4 * a1) + a2).toNatClampNeg) → (vp_in ((4 * a1) + a2) 16 ∧ (vp_in ((4 * a2) + a1) 16 ∧ (Q v14 (u2 (u2 (u2 I11 2 ((4 * a1) + a2).toNatClampNeg a3) 2 ((4 * a2) + a1).toNatClampNeg a3) 0 18 ((I11 0 18) + 1)) J12)))))))))))
theorem ct_way (a1 : Int32) (a2 : Int32) (a3 : Int32) (I : mI) (J : mJ) (Q : Int32 → mI → mJ → Prop) (hf : m_way a1 a2 a3 I J Q) : hh_Ct yX14_way cX14_way 5 (some .int) 2 43 [.ref 0, .int a1, .int a2, .int a3] (hm I J) (mQi Q) 0 0 := by
  refine hh_Ct.of (own := RX14) rfl (by decide +kernel) (Nat.le_of_ble_eq_true rfl) ?_
  intro X hX hN hE
  show hh_V X 0 [(0, .ref 0), (1, .int a1), (2, .int a2), (3, .int a3)] [] 0 0 (hm I J)
  unfold m_way at hf
  refine hv_aload_n hX dX14_way_0 rfl 0 rfl ?_
  refine hv_iload_n hX dX14_way_1 rfl 1 rfl ?_
  refine hm_callVi hX dX14_way_2 (ct_isPatch a1 I J _ hf) (gd_isPatch q1936) np_isPatch rfl rfl ⟨Nat.le_of_ble_eq_true rfl, Nat.le_of_ble_eq_true rfl⟩ ⟨Nat.le_refl _, Nat.le_refl _⟩ (Nat.le_of_ble_eq_true rfl) ?_
  intro r1 I2 J3 hf
  refine hv_if_eq (tgt := 30) hX dX14_way_5 (by decide) (fun c4 => ?_) (fun c4 => ?_)
  · replace hf := hf.1 c4
    refine hv_iconst (v := (-1)) hX ic_m1 dX14_way_30 ?_
    exact hm_iret hX hE dX14_way_31 hf
  · replace hf := hf.2 c4
    refine hv_aload_n hX dX14_way_8 rfl 0 rfl ?_
    refine hv_iload_n hX dX14_way_9 rfl 2 rfl ?_
    refine hm_callVi hX dX14_way_10 (ct_isPatch a2 I2 J3 _ hf) (gd_isPatch q1936) np_isPatch rfl rfl ⟨Nat.le_of_ble_eq_true rfl, Nat.le_of_ble_eq_true rfl⟩ ⟨Nat.le_refl _, Nat.le_refl _⟩ (Nat.le_of_ble_eq_true rfl) ?_
    intro r5 I6 J7 hf
    refine hv_if_eq (tgt := 30) hX dX14_way_13 (by decide) (fun c8 => ?_) (fun c8 => ?_)
    · replace hf := hf.1 c8
      refine hv_iconst (v := (-1)) hX ic_m1 dX14_way_30 ?_
      exact hm_iret hX hE dX14_way_31 hf
    · replace hf := hf.2 c8
      refine hv_iload_n hX dX14_way_16 rfl 1 rfl ?_
      refine hv_iload_n hX dX14_way_17 rfl 2 rfl ?_
      refine hv_icmp_eq (tgt := 30) hX dX14_way_18 (by decide) (fun c9 => ?_) (fun c9 => ?_)
      · replace hf := hf.1 c9
        refine hv_iconst (v := (-1)) hX ic_m1 dX14_way_30 ?_
        exact hm_iret hX hE dX14_way_31 hf
      · replace hf := hf.2 c9
        refine hv_iload_n hX dX14_way_21 rfl 3 rfl ?_
        refine hv_iconst (v := 0) hX ic_0 dX14_way_22 ?_
        refine hv_iconst (v := 5) hX ic_5 dX14_way_23 ?_
        refine hm_callSi hX dX14_way_24 (ct_in a3 0 5 I6 J7 _ hf) (gd_in q1923) np_in rfl rfl ⟨Nat.le_of_ble_eq_true rfl, Nat.le_of_ble_eq_true rfl⟩ ⟨Nat.le_refl _, Nat.le_refl _⟩ (Nat.le_of_ble_eq_true rfl) ?_
        intro r10 I11 J12 hf
        refine hv_if_ne (tgt := 32) hX dX14_way_27 (by decide) (fun c13 => ?_) (fun c13 => ?_)
        · replace hf := hf.2 c13
          refine hv_aload_n hX dX14_way_32 rfl 0 rfl ?_
          refine hm_getR hX dX14_way_33 mfl23 2 rfl ?_
          refine hv_iconst (v := 4) hX ic_4 dX14_way_36 ?_
          refine hv_iload_n hX dX14_way_37 rfl 1 rfl ?_
          refine hv_imul hX dX14_way_38 ?_
          refine hv_iload_n hX dX14_way_39 rfl 2 rfl ?_
          refine hv_iadd hX dX14_way_40 ?_
          obtain ⟨g, hf⟩ := hf
          refine hm_iald (v := (I11 2 ((4 * a1) + a2).toNatClampNeg)) hX dX14_way_41 (by decide) rfl rfl g rfl ?_
          refine hv_topi (fun v14 ev14 => ?_)
          replace hf := hf v14 ev14
          refine hv_istore (loc2 := [(4, .int v14), (0, .ref 0), (1, .int a1), (2, .int a2), (3, .int a3)]) hX dX14_way_42 hN (Nat.le_of_ble_eq_true rfl) rfl ?_
          refine hv_aload_n hX dX14_way_44 rfl 1 rfl ?_
          refine hm_getR hX dX14_way_45 mfl23 2 rfl ?_
          refine hv_iconst (v := 4) hX ic_4 dX14_way_48 ?_
          refine hv_iload_n hX dX14_way_49 rfl 2 rfl ?_
          refine hv_imul hX dX14_way_50 ?_
          refine hv_iload_n hX dX14_way_51 rfl 3 rfl ?_
          refine hv_iadd hX dX14_way_52 ?_
          refine hv_iload_n hX dX14_way_53 rfl 4 rfl ?_
          obtain ⟨g, hf⟩ := hf
          refine hm_iast hX dX14_way_54 (by decide) rfl rfl g ?_
          refine hv_aload_n hX dX14_way_55 rfl 1 rfl ?_
          refine hm_getR hX dX14_way_56 mfl23 2 rfl ?_
          refine hv_iconst (v := 4) hX ic_4 dX14_way_59 ?_
          refine hv_iload_n hX dX14_way_60 rfl 3 rfl ?_
          refine hv_imul hX dX14_way_61 ?_
          refine hv_iload_n hX dX14_way_62 rfl 2 rfl ?_
          refine hv_iadd hX dX14_way_63 ?_
          refine hv_iload_n hX dX14_way_64 rfl 4 rfl ?_
          obtain ⟨g, hf⟩ := hf
          refine hm_iast hX dX14_way_65 (by decide) rfl rfl g ?_
          refine hv_aload_n hX dX14_way_66 rfl 1 rfl ?_
          refine hv_dup hX rfl dX14_way_67 ?_
          refine hm_getI (v := (I11 0 18)) hX dX14_way_68 mfl38 (.inl rfl) ((u2_ne _ _ (.inl (by decide))) |>.trans (u2_ne _ _ (.inl (by decide)))) ?_
          refine hv_iconst (v := 1) hX ic_1 dX14_way_71 ?_
          refine hv_iadd hX dX14_way_72 ?_
          refine hm_putI hX dX14_way_73 mfl38 ?_
          refine hv_iload hX dX14_way_76 0 rfl ?_
          exact hm_iret hX hE dX14_way_78 hf
        · replace hf := hf.1 c13
          refine hv_iconst (v := (-1)) hX ic_m1 dX14_way_30 ?_
          exact hm_iret hX hE dX14_way_31 hf
theorem np_way : yX14_way.cls = RX14 ∧ yX14_way.cls ≠ "java/lang/invoke/MethodHandle" ∧ yX14_way.cls ≠ "java/lang/invoke/VarHandle" ∧ (parseMethodDescriptor yX14_way.desc).map (fun d => d.parameters.length) = some 3 := by decide +kernel
theorem gd_way {idx : Nat} (h : Cond.methodLink RX14 idx yX14_way ∈ lw_all) : GoodIn lw_all (wsV RX14 idx RX14 yX14_way (ws_ yX14_way cX14_way 5 (some .int))) := lw_V h q1969 q1970 q123 q1971
/-! dusk(I)I -/
def m_dusk (a1 : Int32) (I : mI) (J : mJ) (Q : Int32 → mI → mJ → Prop) : Prop :=
  m_in a1 1 20 I J (fun r1 I2 J3 => (r1 = 0 →
    Q (-1) I2 J3) ∧ (¬ r1 = 0 →
    ((I2 0 0) ≤ a1 →
      Q (I2 0 2) (u2 (u2 I2 0 2 a1) 0 18 ((I2 0 18) + 1)) J3) ∧ (¬ (I2 0 0) ≤ a1 →
      Q (-4) I2 J3)))
theorem ct_dusk (a1 : Int32) (I : mI) (J : mJ) (Q : Int32 → mI → mJ → Prop) (hf : m_dusk a1 I J Q) : hh_Ct yX14_dusk cX14_dusk 3 (some .int) 1 22 [.ref 0, .int a1] (hm I J) (mQi Q) 0 0 := by
  refine hh_Ct.of (own := RX14) rfl (by decide +kernel) (Nat.le_of_ble_eq_true rfl) ?_
  intro X hX hN hE
  show hh_V X 0 [(0, .ref 0), (1, .int a1)] [] 0 0 (hm I J)
  unfold m_dusk at hf
  refine hv_iload_n hX dX14_dusk_0 rfl 1 rfl ?_
  refine hv_iconst (v := 1) hX ic_1 dX14_dusk_1 ?_
  refine hv_bipush (v := 20) hX bi_20 dX14_dusk_2 ?_
  refine hm_callSi hX dX14_dusk_4 (ct_in a1 1 20 I J _ hf) (gd_in q1923) np_in rfl rfl ⟨Nat.le_of_ble_eq_true rfl, Nat.le_of_ble_eq_true rfl⟩ ⟨Nat.le_refl _, Nat.le_refl _⟩ (Nat.le_of_ble_eq_true rfl) ?_
  intro r1 I2 J3 hf
  refine hv_if_ne (tgt := 12) hX dX14_dusk_7 (by decide) (fun c4 => ?_) (fun c4 => ?_)
  · replace hf := hf.2 c4
    refine hv_aload_n hX dX14_dusk_12 rfl 0 rfl ?_
    refine hm_getI (v := (I2 0 0)) hX dX14_dusk_13 mfl166 (.inl rfl) rfl ?_
    refine hv_iload_n hX dX14_dusk_16 rfl 1 rfl ?_
    refine hv_icmp_le (tgt := 23) hX dX14_dusk_17 (by decide) (fun c5 => ?_) (fun c5 => ?_)
    · replace hf := hf.1 c5
      refine hv_aload_n hX dX14_dusk_23 rfl 0 rfl ?_
      refine hm_getI (v := (I2 0 2)) hX dX14_dusk_24 mfl7 (.inl rfl) rfl ?_
      refine hv_istore_n (loc2 := [(2, .int (I2 0 2)), (0, .ref 0), (1, .int a1)]) hX dX14_dusk_27 rfl hN (Nat.le_of_ble_eq_true rfl) rfl ?_
      refine hv_aload_n hX dX14_dusk_28 rfl 1 rfl ?_
      refine hv_iload_n hX dX14_dusk_29 rfl 2 rfl ?_
      refine hm_putI hX dX14_dusk_30 mfl7 ?_
      refine hv_aload_n hX dX14_dusk_33 rfl 1 rfl ?_
      refine hv_dup hX rfl dX14_dusk_34 ?_
      refine hm_getI (v := (I2 0 18)) hX dX14_dusk_35 mfl38 (.inl rfl) ((u2_ne _ _ (.inr (by decide)))) ?_
      refine hv_iconst (v := 1) hX ic_1 dX14_dusk_38 ?_
      refine hv_iadd hX dX14_dusk_39 ?_
      refine hm_putI hX dX14_dusk_40 mfl38 ?_
      refine hv_iload_n hX dX14_dusk_43 rfl 0 rfl ?_
      exact hm_iret hX hE dX14_dusk_44 hf
    · replace hf := hf.2 c5
      refine hv_bipush (v := (-4)) hX bi_m4 dX14_dusk_20 ?_
      exact hm_iret hX hE dX14_dusk_22 hf
  · replace hf := hf.1 c4
    refine hv_iconst (v := (-1)) hX ic_m1 dX14_dusk_10 ?_
    exact hm_iret hX hE dX14_dusk_11 hf
theorem np_dusk : yX14_dusk.cls = RX14 ∧ yX14_dusk.cls ≠ "java/lang/invoke/MethodHandle" ∧ yX14_dusk.cls ≠ "java/lang/invoke/VarHandle" ∧ (parseMethodDescriptor yX14_dusk.desc).map (fun d => d.parameters.length) = some 1 := by decide +kernel
theorem gd_dusk {idx : Nat} (h : Cond.methodLink RX14 idx yX14_dusk ∈ lw_all) : GoodIn lw_all (wsV RX14 idx RX14 yX14_dusk (ws_ yX14_dusk cX14_dusk 3 (some .int))) := lw_V h q1973 q1974 q123 q1975
/-! perch(I)I -/
def m_perch (a1 : Int32) (I : mI) (J : mJ) (Q : Int32 → mI → mJ → Prop) : Prop :=
  m_isPatch a1 I J (fun r1 I2 J3 => (r1 = 0 →
    Q (-1) I2 J3) ∧ (¬ r1 = 0 →
    Q (I2 0 3) (u2 I2 0 3 a1) J3))
theorem ct_perch (a1 : Int32) (I : mI) (J : mJ) (Q : Int32 → mI → mJ → Prop) (hf : m_perch a1 I J Q) : hh_Ct yX14_perch cX14_perch 3 (some .int) 2 43 [.ref 0, .int a1] (hm I J) (mQi Q) 0 0 := by
  refine hh_Ct.of (own := RX14) rfl (by decide +kernel) (Nat.le_of_ble_eq_true rfl) ?_
  intro X hX hN hE
  show hh_V X 0 [(0, .ref 0), (1, .int a1)] [] 0 0 (hm I J)
  unfold m_perch at hf
  refine hv_aload_n hX dX14_perch_0 rfl 0 rfl ?_
  refine hv_iload_n hX dX14_perch_1 rfl 1 rfl ?_
  refine hm_callVi hX dX14_perch_2 (ct_isPatch a1 I J _ hf) (gd_isPatch q1936) np_isPatch rfl rfl ⟨Nat.le_of_ble_eq_true rfl, Nat.le_of_ble_eq_true rfl⟩ ⟨Nat.le_refl _, Nat.le_refl _⟩ (Nat.le_of_ble_eq_true rfl) ?_
  intro r1 I2 J3 hf
  refine hv_if_ne (tgt := 10) hX dX14_perch_5 (by decide) (fun c4 => ?_) (fun c4 => ?_)
  · replace hf := hf.2 c4
    refine hv_aload_n hX dX14_perch_10 rfl 0 rfl ?_
    refine hm_getI (v := (I2 0 3)) hX dX14_perch_11 mfl169 (.inl rfl) rfl ?_
    refine hv_istore_n (loc2 := [(2, .int (I2 0 3)), (0, .ref 0), (1, .int a1)]) hX dX14_perch_14 rfl hN (Nat.le_of_ble_eq_true rfl) rfl ?_
    refine hv_aload_n hX dX14_perch_15 rfl 1 rfl ?_
    refine hv_iload_n hX dX14_perch_16 rfl 2 rfl ?_
    refine hm_putI hX dX14_perch_17 mfl169 ?_
    refine hv_iload_n hX dX14_perch_20 rfl 0 rfl ?_
    exact hm_iret hX hE dX14_perch_21 hf
  · replace hf := hf.1 c4
    refine hv_iconst (v := (-1)) hX ic_m1 dX14_perch_8 ?_
    exact hm_iret hX hE dX14_perch_9 hf
theorem np_perch : yX14_perch.cls = RX14 ∧ yX14_perch.cls ≠ "java/lang/invoke/MethodHandle" ∧ yX14_perch.cls ≠ "java/lang/invoke/VarHandle" ∧ (parseMethodDescriptor yX14_perch.desc).map (fun d => d.parameters.length) = some 1 := by decide +kernel
theorem gd_perch {idx : Nat} (h : Cond.methodLink RX14 idx yX14_perch ∈ lw_all) : GoodIn lw_all (wsV RX14 idx RX14 yX14_perch (ws_ yX14_perch cX14_perch 3 (some .int))) := lw_V h q1977 q1978 q123 q1979
/-! dawn()I -/
def m_dawn_l17 (Q : Int32 → mI → mJ → Prop) : Nat → Int32 → Int32 → mI → mJ → Prop
  | 0, _, _, _, _ => False
  | n + 1, a1, a2, I, J =>
    ((I 0 8) ≤ a2 →
      Q a1 I J) ∧ (¬ (I 0 8) ≤ a2 →
      m_topOf a2 I J (fun r2 I3 J4 => m_foodIn (I3 0 12) a2 I3 J4 (fun r5 I6 J7 => m_unit a2 I6 J7 (fun r8 I9 J10 => m_dawn_l17 Q n a1 (a2 + 1) (u2 I9 0 12 ((I 0 12) + ((r2 - r5) * r8))) J10))))
theorem w_dawn_l17 {X : hh_CX} {Q : Int32 → mI → mJ → Prop} (hX : hh_C X cX14_dawn RX14 (hrm 2 41)) (hN : hh_nL X = 3) (hE : hh_E X (some .int) (mQi Q) 0 0) : ∀ (n : Nat) (a1 : Int32) (a2 : Int32) (I : mI) (J : mJ), m_dawn_l17 Q  n a1 a2 I J → hh_V X 17 [(0, .ref 0), (1, .int a1), (2, .int a2)] [] 0 0 (hm I J) := by
  intro n
  induction n with
  | zero => intro _ _ _ _ hf; exact hf.elim
  | succ n ih =>
    intro a1 a2 I J hf
    unfold m_dawn_l17 at hf
    refine hv_iload_n hX dX14_dawn_17 rfl 2 rfl ?_
    refine hv_aload_n hX dX14_dawn_18 rfl 0 rfl ?_
    refine hm_getI (v := (I 0 8)) hX dX14_dawn_19 mfl130 (.inl rfl) rfl ?_
    refine hv_icmp_ge (tgt := 59) hX dX14_dawn_22 (by decide) (fun c1 => ?_) (fun c1 => ?_)
    · replace hf := hf.1 c1
      refine hv_iload_n hX dX14_dawn_59 rfl 1 rfl ?_
      exact hm_iret hX hE dX14_dawn_60 hf
    · replace hf := hf.2 c1
      refine hv_aload_n hX dX14_dawn_25 rfl 0 rfl ?_
      refine hv_dup hX rfl dX14_dawn_26 ?_
      refine hm_getI (v := (I 0 12)) hX dX14_dawn_27 mfl141 (.inl rfl) rfl ?_
      refine hv_aload_n hX dX14_dawn_30 rfl 0 rfl ?_
      refine hv_iload_n hX dX14_dawn_31 rfl 2 rfl ?_
      refine hm_callVi hX dX14_dawn_32 (ct_topOf a2 I J _ hf) (gd_topOf q1964) np_topOf rfl rfl ⟨Nat.le_of_ble_eq_true rfl, Nat.le_of_ble_eq_true rfl⟩ ⟨Nat.le_refl _, Nat.le_refl _⟩ (Nat.le_of_ble_eq_true rfl) ?_
      intro r2 I3 J4 hf
      refine hv_aload_n hX dX14_dawn_35 rfl 0 rfl ?_
      refine hm_getI (v := (I3 0 12)) hX dX14_dawn_36 mfl141 (.inl rfl) rfl ?_
      refine hv_iload_n hX dX14_dawn_39 rfl 2 rfl ?_
      refine hm_callSi hX dX14_dawn_40 (ct_foodIn (I3 0 12) a2 I3 J4 _ hf) (gd_foodIn q1926) np_foodIn rfl rfl ⟨Nat.le_of_ble_eq_true rfl, Nat.le_of_ble_eq_true rfl⟩ ⟨Nat.le_refl _, Nat.le_refl _⟩ (Nat.le_of_ble_eq_true rfl) ?_
      intro r5 I6 J7 hf
      refine hv_isub hX dX14_dawn_43 ?_
      refine hv_iload_n hX dX14_dawn_44 rfl 2 rfl ?_
      refine hm_callSi hX dX14_dawn_45 (ct_unit a2 I6 J7 _ hf) (gd_unit q1929) np_unit rfl rfl ⟨Nat.le_of_ble_eq_true rfl, Nat.le_of_ble_eq_true rfl⟩ ⟨Nat.le_refl _, Nat.le_refl _⟩ (Nat.le_of_ble_eq_true rfl) ?_
      intro r8 I9 J10 hf
      refine hv_imul hX dX14_dawn_48 ?_
      refine hv_iadd hX dX14_dawn_49 ?_
      refine hm_putI hX dX14_dawn_50 mfl141 ?_
      refine hv_iinc (v := (a2 + 1)) (loc2 := [(2, .int (a2 + 1)), (0, .ref 0), (1, .int a1)]) hX dX14_dawn_53 2 rfl (congrArg (fun y => a2 + y) ic_1) hN (Nat.le_of_ble_eq_true rfl) rfl ?_
      refine hv_goto (tgt := 17) hX dX14_dawn_56 (by decide) ?_
      refine hv_fewer [1, 2, 0] (loc2 := [(0, .ref 0), (1, .int a1), (2, .int (a2 + 1))]) rfl ?_
      exact ih _ _ _ _ hf
def m_dawn  (I : mI) (J : mJ) (Q : Int32 → mI → mJ → Prop) : Prop :=
  ∃ n0 : Nat, m_dawn_l17 Q  n0 (I 0 1) 0 (u2 (u2 I 0 1 0) 0 0 0) J
theorem ct_dawn  (I : mI) (J : mJ) (Q : Int32 → mI → mJ → Prop) (hf : m_dawn  I J Q) : hh_Ct yX14_dawn cX14_dawn 3 (some .int) 2 41 [.ref 0] (hm I J) (mQi Q) 0 0 := by
  refine hh_Ct.of (own := RX14) rfl (by decide +kernel) (Nat.le_of_ble_eq_true rfl) ?_
  intro X hX hN hE
  show hh_V X 0 [(0, .ref 0)] [] 0 0 (hm I J)
  unfold m_dawn at hf
  refine hv_aload_n hX dX14_dawn_0 rfl 0 rfl ?_
  refine hm_getI (v := (I 0 1)) hX dX14_dawn_1 mfl172 (.inl rfl) rfl ?_
  refine hv_istore_n (loc2 := [(1, .int (I 0 1)), (0, .ref 0)]) hX dX14_dawn_4 rfl hN (Nat.le_of_ble_eq_true rfl) rfl ?_
  refine hv_aload_n hX dX14_dawn_5 rfl 1 rfl ?_
  refine hv_iconst (v := 0) hX ic_0 dX14_dawn_6 ?_
  refine hm_putI hX dX14_dawn_7 mfl172 ?_
  refine hv_aload_n hX dX14_dawn_10 rfl 1 rfl ?_
  refine hv_iconst (v := 0) hX ic_0 dX14_dawn_11 ?_
  refine hm_putI hX dX14_dawn_12 mfl166 ?_
  refine hv_iconst (v := 0) hX ic_0 dX14_dawn_15 ?_
  refine hv_istore_n (loc2 := [(2, .int 0), (1, .int (I 0 1)), (0, .ref 0)]) hX dX14_dawn_16 rfl hN (Nat.le_of_ble_eq_true rfl) rfl ?_
  refine hv_fewer [2, 1, 0] (loc2 := [(0, .ref 0), (1, .int (I 0 1)), (2, .int 0)]) rfl ?_
  obtain ⟨n0, hf⟩ := hf
  exact w_dawn_l17 hX hN hE  n0 _ _ _ _ hf
theorem np_dawn : yX14_dawn.cls = RX14 ∧ yX14_dawn.cls ≠ "java/lang/invoke/MethodHandle" ∧ yX14_dawn.cls ≠ "java/lang/invoke/VarHandle" ∧ (parseMethodDescriptor yX14_dawn.desc).map (fun d => d.parameters.length) = some 0 := by decide +kernel
theorem gd_dawn {idx : Nat} (h : Cond.methodLink RX14 idx yX14_dawn ∈ lw_all) : GoodIn lw_all (wsV RX14 idx RX14 yX14_dawn (ws_ yX14_dawn cX14_dawn 3 (some .int))) := lw_V h q1981 q1982 q123 q1983
/-! isAct(I)Z -/
def m_isAct (a0 : Int32) (I : mI) (J : mJ) (Q : Int32 → mI → mJ → Prop) : Prop :=
  m_in a0 (-1) 3 I J (fun r1 I2 J3 => (r1 = 0 ∨ r1 = 1) ∧ (Q r1 I2 J3))
theorem ct_isAct (a0 : Int32) (I : mI) (J : mJ) (Q : Int32 → mI → mJ → Prop) (hf : m_isAct a0 I J Q) : hh_Ct yX14_isAct cX14_isAct 1 (some .boolean) 1 22 [.int a0] (hm I J) (mQi Q) 0 0 := by
  refine hh_Ct.of (own := RX14) rfl (by decide +kernel) (Nat.le_of_ble_eq_true rfl) ?_
  intro X hX hN hE
  show hh_V X 0 [(0, .int a0)] [] 0 0 (hm I J)
  unfold m_isAct at hf
  refine hv_iload_n hX dX14_isAct_0 rfl 0 rfl ?_
  refine hv_iconst (v := (-1)) hX ic_m1 dX14_isAct_1 ?_
  refine hv_iconst (v := 3) hX ic_3 dX14_isAct_2 ?_
  refine hm_callSi hX dX14_isAct_3 (ct_in a0 (-1) 3 I J _ hf) (gd_in q1923) np_in rfl rfl ⟨Nat.le_of_ble_eq_true rfl, Nat.le_of_ble_eq_true rfl⟩ ⟨Nat.le_refl _, Nat.le_refl _⟩ (Nat.le_of_ble_eq_true rfl) ?_
  intro r1 I2 J3 hf
  obtain ⟨g, hf⟩ := hf
  exact hm_zret hX hE dX14_isAct_6 g hf
theorem np_isAct : yX14_isAct.cls ≠ "java/lang/invoke/MethodHandle" ∧ yX14_isAct.cls ≠ "java/lang/invoke/VarHandle" ∧ (parseMethodDescriptor yX14_isAct.desc).map (fun d => d.parameters.length) = some 1 := by decide +kernel
theorem gd_isAct {idx : Nat} (h : Cond.methodLink RX14 idx yX14_isAct ∈ lw_all) : GoodIn lw_all (va_wsS RX14 idx yX14_isAct (ws_ yX14_isAct cX14_isAct 1 (some .boolean))) := lw_S h q1989 q123 q1990
/-! filled(II)I -/
def m_filled_j65 (Q : Int32 → mI → mJ → Prop) (k5 : Int32 → Int32 → Int32 → mI → mJ → Prop) (a2 : Int32) (a4 : Int32) (s0 : Int32) (s1 : Int32) (I : mI) (J : mJ) : Prop :=
  k5 a2 (s0 + s1) (a4 + 1) I J
theorem w_filled_j65 {X : hh_CX} {Q : Int32 → mI → mJ → Prop} (hX : hh_C X cX14_filled RX14 (hrm 2 41)) (hN : hh_nL X = 6) (hE : hh_E X (some .int) (mQi Q) 0 0) {k5 : Int32 → Int32 → Int32 → mI → mJ → Prop} (hk5 : ∀ (b0 : Int32) (b1 : Int32) (b2 : Int32) (I : mI) (J : mJ), k5 b0 b1 b2 I J → hh_V X 5 [(0, .ref 0), (2, .int b0), (3, .int b1), (4, .int b2)] [] 0 0 (hm I J)) : ∀ (a2 : Int32) (a4 : Int32) (s0 : Int32) (s1 : Int32) (I : mI) (J : mJ), m_filled_j65 Q k5 a2 a4 s0 s1 I J → hh_V X 65 [(0, .ref 0), (2, .int a2), (4, .int a4)] [.int s1, .int s0] 0 0 (hm I J) := by
  intro a2 a4 s0 s1 I J hf
  unfold m_filled_j65 at hf
  refine hv_iadd hX dX14_filled_65 ?_
  refine hv_istore_n (loc2 := [(3, .int (s0 + s1)), (0, .ref 0), (2, .int a2), (4, .int a4)]) hX dX14_filled_66 rfl hN (Nat.le_of_ble_eq_true rfl) rfl ?_
  refine hv_iinc (v := (a4 + 1)) (loc2 := [(4, .int (a4 + 1)), (3, .int (s0 + s1)), (0, .ref 0), (2, .int a2)]) hX dX14_filled_67 3 rfl (congrArg (fun y => a4 + y) ic_1) hN (Nat.le_of_ble_eq_true rfl) rfl ?_
  refine hv_goto (tgt := 5) hX dX14_filled_70 (by decide) ?_
  refine hv_fewer [2, 3, 1, 0] (loc2 := [(0, .ref 0), (2, .int a2), (3, .int (s0 + s1)), (4, .int (a4 + 1))]) rfl ?_
  exact hk5 _ _ _ _ _ hf
def m_filled_j64 (Q : Int32 → mI → mJ → Prop) (k5 : Int32 → Int32 → Int32 → mI → mJ → Prop) (a2 : Int32) (a4 : Int32) (s0 : Int32) (I : mI) (J : mJ) : Prop :=
  m_filled_j65 Q k5 a2 a4 s0 0 I J
theorem w_filled_j64 {X : hh_CX} {Q : Int32 → mI → mJ → Prop} (hX : hh_C X cX14_filled RX14 (hrm 2 41)) (hN : hh_nL X = 6) (hE : hh_E X (some .int) (mQi Q) 0 0) {k5 : Int32 → Int32 → Int32 → mI → mJ → Prop} (hk5 : ∀ (b0 : Int32) (b1 : Int32) (b2 : Int32) (I : mI) (J : mJ), k5 b0 b1 b2 I J → hh_V X 5 [(0, .ref 0), (2, .int b0), (3, .int b1), (4, .int b2)] [] 0 0 (hm I J)) : ∀ (a2 : Int32) (a4 : Int32) (s0 : Int32) (I : mI) (J : mJ), m_filled_j64 Q k5 a2 a4 s0 I J → hh_V X 64 [(0, .ref 0), (2, .int a2), (4, .int a4)] [.int s0] 0 0 (hm I J) := by
  intro a2 a4 s0 I J hf
  unfold m_filled_j64 at hf
  refine hv_iconst (v := 0) hX ic_0 dX14_filled_64 ?_
  exact w_filled_j65 hX hN hE hk5 _ _ _ _ _ _ hf
def m_filled_l5 (Q : Int32 → mI → mJ → Prop) : Nat → Int32 → Int32 → Int32 → mI → mJ → Prop
  | 0, _, _, _, _, _ => False
  | n + 1, a2, a3, a4, I, J =>
    ((I 0 8) ≤ a4 →
      Q a3 I J) ∧ (¬ (I 0 8) ≤ a4 →
      vp_in ((11 * a4) + 2) 44 ∧ (∀ v2 : Int32, v2 = (I 1 ((11 * a4) + 2).toNatClampNeg) → ((v2 ≤ 0 →
        m_filled_j64 Q (fun b0 b1 b2 I J => m_filled_l5 Q n b0 b1 b2 I J) a2 a4 a3 I J) ∧ (¬ v2 ≤ 0 →
        ¬ v2 = 0 ∧ (((a2 - a2 / v2 * v2) = 0 →
          m_foodIn a3 a4 I J (fun r5 I6 J7 => m_topOf a4 I6 J7 (fun r8 I9 J10 => (r8 ≤ r5 →
            m_filled_j64 Q (fun b0 b1 b2 I J => m_filled_l5 Q n b0 b1 b2 I J) a2 a4 a3 I9 J10) ∧ (¬ r8 ≤ r5 →
            m_unit a4 I9 J10 (fun r12 I13 J14 => m_filled_j65 Q (fun b0 b1 b2 I J => m_filled_l5 Q n b0 b1 b2 I J) a2 a4 a3 r12 I13 J14))))) ∧ (¬ (a2 - a2 / v2 * v2) = 0 →
          m_filled_j64 Q (fun b0 b1 b2 I J => m_filled_l5 Q n b0 b1 b2 I J) a2 a4 a3 I J))))))
theorem w_filled_l5 {X : hh_CX} {Q : Int32 → mI → mJ → Prop} (hX : hh_C X cX14_filled RX14 (hrm 2 41)) (hN : hh_nL X = 6) (hE : hh_E X (some .int) (mQi Q) 0 0) : ∀ (n : Nat) (a2 : Int32) (a3 : Int32) (a4 : Int32) (I : mI) (J : mJ), m_filled_l5 Q  n a2 a3 a4 I J → hh_V X 5 [(0, .ref 0), (2, .int a2), (3, .int a3), (4, .int a4)] [] 0 0 (hm I J) := by
  intro n
  induction n with
  | zero => intro _ _ _ _ _ hf; exact hf.elim
  | succ n ih =>
    intro a2 a3 a4 I J hf
    unfold m_filled_l5 at hf
    refine hv_iload hX dX14_filled_5 3 rfl ?_
    refine hv_aload_n hX dX14_filled_7 rfl 0 rfl ?_
    refine hm_getI (v := (I 0 8)) hX dX14_filled_8 mfl130 (.inl rfl) rfl ?_
    refine hv_icmp_ge (tgt := 73) hX dX14_filled_11 (by decide) (fun c1 => ?_) (fun c1 => ?_)
    · replace hf := hf.1 c1
      refine hv_iload_n hX dX14_filled_73 rfl 2 rfl ?_
      exact hm_iret hX hE dX14_filled_74 hf
    · replace hf := hf.2 c1
      refine hv_aload_n hX dX14_filled_14 rfl 0 rfl ?_
      refine hm_getR hX dX14_filled_15 mfl19 1 rfl ?_
      refine hv_bipush (v := 11) hX bi_11 dX14_filled_18 ?_
      refine hv_iload hX dX14_filled_20 3 rfl ?_
      refine hv_imul hX dX14_filled_22 ?_
      refine hv_iconst (v := 2) hX ic_2 dX14_filled_23 ?_
      refine hv_iadd hX dX14_filled_24 ?_
      obtain ⟨g, hf⟩ := hf
      refine hm_iald (v := (I 1 ((11 * a4) + 2).toNatClampNeg)) hX dX14_filled_25 (by decide) rfl rfl g rfl ?_
      refine hv_topi (fun v2 ev2 => ?_)
      replace hf := hf v2 ev2
      refine hv_istore (loc2 := [(5, .int v2), (0, .ref 0), (2, .int a2), (3, .int a3), (4, .int a4)]) hX dX14_filled_26 hN (Nat.le_of_ble_eq_true rfl) rfl ?_
      refine hv_iload_n hX dX14_filled_28 rfl 3 rfl ?_
      refine hv_iload hX dX14_filled_29 0 rfl ?_
      refine hv_if_le (tgt := 64) hX dX14_filled_31 (by decide) (fun c3 => ?_) (fun c3 => ?_)
      · replace hf := hf.1 c3
        refine hv_fewer [1, 2, 4] (loc2 := [(0, .ref 0), (2, .int a2), (4, .int a4)]) rfl ?_
        exact w_filled_j64 hX hN hE ih _ _ _ _ _ hf
      · replace hf := hf.2 c3
        refine hv_iload_n hX dX14_filled_34 rfl 2 rfl ?_
        refine hv_iload hX dX14_filled_35 0 rfl ?_
        obtain ⟨g, hf⟩ := hf
        refine hv_irem hX g dX14_filled_37 ?_
        refine hv_if_ne (tgt := 64) hX dX14_filled_38 (by decide) (fun c4 => ?_) (fun c4 => ?_)
        · replace hf := hf.2 c4
          refine hv_fewer [1, 2, 4] (loc2 := [(0, .ref 0), (2, .int a2), (4, .int a4)]) rfl ?_
          exact w_filled_j64 hX hN hE ih _ _ _ _ _ hf
        · replace hf := hf.1 c4
          refine hv_iload_n hX dX14_filled_41 rfl 3 rfl ?_
          refine hv_iload hX dX14_filled_42 4 rfl ?_
          refine hm_callSi hX dX14_filled_44 (ct_foodIn a3 a4 I J _ hf) (gd_foodIn q1926) np_foodIn rfl rfl ⟨Nat.le_of_ble_eq_true rfl, Nat.le_of_ble_eq_true rfl⟩ ⟨Nat.le_refl _, Nat.le_refl _⟩ (Nat.le_of_ble_eq_true rfl) ?_
          intro r5 I6 J7 hf
          refine hv_aload_n hX dX14_filled_47 rfl 1 rfl ?_
          refine hv_iload hX dX14_filled_48 4 rfl ?_
          refine hm_callVi hX dX14_filled_50 (ct_topOf a4 I6 J7 _ hf) (gd_topOf q1964) np_topOf rfl rfl ⟨Nat.le_of_ble_eq_true rfl, Nat.le_of_ble_eq_true rfl⟩ ⟨Nat.le_refl _, Nat.le_refl _⟩ (Nat.le_of_ble_eq_true rfl) ?_
          intro r8 I9 J10 hf
          refine hv_icmp_ge (tgt := 64) hX dX14_filled_53 (by decide) (fun c11 => ?_) (fun c11 => ?_)
          · replace hf := hf.1 c11
            refine hv_fewer [1, 2, 4] (loc2 := [(0, .ref 0), (2, .int a2), (4, .int a4)]) rfl ?_
            exact w_filled_j64 hX hN hE ih _ _ _ _ _ hf
          · replace hf := hf.2 c11
            refine hv_iload hX dX14_filled_56 4 rfl ?_
            refine hm_callSi hX dX14_filled_58 (ct_unit a4 I9 J10 _ hf) (gd_unit q1929) np_unit rfl rfl ⟨Nat.le_of_ble_eq_true rfl, Nat.le_of_ble_eq_true rfl⟩ ⟨Nat.le_refl _, Nat.le_refl _⟩ (Nat.le_of_ble_eq_true rfl) ?_
            intro r12 I13 J14 hf
            refine hv_goto (tgt := 65) hX dX14_filled_61 (by decide) ?_
            refine hv_fewer [1, 2, 4] (loc2 := [(0, .ref 0), (2, .int a2), (4, .int a4)]) rfl ?_
            exact w_filled_j65 hX hN hE ih _ _ _ _ _ _ hf
def m_filled (a1 : Int32) (a2 : Int32) (I : mI) (J : mJ) (Q : Int32 → mI → mJ → Prop) : Prop :=
  ∃ n0 : Nat, m_filled_l5 Q  n0 a2 a1 0 I J
theorem ct_filled (a1 : Int32) (a2 : Int32) (I : mI) (J : mJ) (Q : Int32 → mI → mJ → Prop) (hf : m_filled a1 a2 I J Q) : hh_Ct yX14_filled cX14_filled 6 (some .int) 2 41 [.ref 0, .int a1, .int a2] (hm I J) (mQi Q) 0 0 := by
  refine hh_Ct.of (own := RX14) rfl (by decide +kernel) (Nat.le_of_ble_eq_true rfl) ?_
  intro X hX hN hE
  show hh_V X 0 [(0, .ref 0), (1, .int a1), (2, .int a2)] [] 0 0 (hm I J)
  unfold m_filled at hf
  refine hv_iload_n hX dX14_filled_0 rfl 1 rfl ?_
  refine hv_istore_n (loc2 := [(3, .int a1), (0, .ref 0), (1, .int a1), (2, .int a2)]) hX dX14_filled_1 rfl hN (Nat.le_of_ble_eq_true rfl) rfl ?_
  refine hv_iconst (v := 0) hX ic_0 dX14_filled_2 ?_
  refine hv_istore (loc2 := [(4, .int 0), (3, .int a1), (0, .ref 0), (1, .int a1), (2, .int a2)]) hX dX14_filled_3 hN (Nat.le_of_ble_eq_true rfl) rfl ?_
  refine hv_fewer [2, 4, 1, 0] (loc2 := [(0, .ref 0), (2, .int a2), (3, .int a1), (4, .int 0)]) rfl ?_
  obtain ⟨n0, hf⟩ := hf
  exact w_filled_l5 hX hN hE  n0 _ _ _ _ _ hf
theorem np_filled : yX14_filled.cls = RX14 ∧ yX14_filled.cls ≠ "java/lang/invoke/MethodHandle" ∧ yX14_filled.cls ≠ "java/lang/invoke/VarHandle" ∧ (parseMethodDescriptor yX14_filled.desc).map (fun d => d.parameters.length) = some 2 := by decide +kernel
theorem gd_filled {idx : Nat} (h : Cond.methodLink RX14 idx yX14_filled ∈ lw_all) : GoodIn lw_all (wsV RX14 idx RX14 yX14_filled (ws_ yX14_filled cX14_filled 6 (some .int))) := lw_V h q1997 qs54 q123 q1998
/-! leads(IIII)Z -/
def m_leads_l140 (Q : Int32 → mI → mJ → Prop) : Nat → Int32 → Int32 → Int32 → mI → mJ → Prop
  | 0, _, _, _, _, _ => False
  | n + 1, a1, a5, a6, I, J =>
    (a5 < a6 →
      Q 1 (u2 I 0 19 (a1 + a5)) J) ∧ (¬ a5 < a6 →
      m_filled (I 0 21) (a1 + a6) I J (fun r10 I11 J12 => m_leads_l140 Q n a1 a5 (a6 + 1) (u2 I11 0 21 r10) J12))
theorem w_leads_l140 {X : hh_CX} {Q : Int32 → mI → mJ → Prop} (hX : hh_C X cX14_leads RX14 (hrm 3 66)) (hN : hh_nL X = 7) (hE : hh_E X (some .boolean) (mQi Q) 0 0) : ∀ (n : Nat) (a1 : Int32) (a5 : Int32) (a6 : Int32) (I : mI) (J : mJ), m_leads_l140 Q  n a1 a5 a6 I J → hh_V X 140 [(0, .ref 0), (1, .int a1), (5, .int a5), (6, .int a6)] [] 0 0 (hm I J) := by
  intro n
  induction n with
  | zero => intro _ _ _ _ _ hf; exact hf.elim
  | succ n ih =>
    intro a1 a5 a6 I J hf
    unfold m_leads_l140 at hf
    refine hv_iload hX dX14_leads_140 3 rfl ?_
    refine hv_iload hX dX14_leads_142 2 rfl ?_
    refine hv_icmp_gt (tgt := 169) hX dX14_leads_144 (by decide) (fun c9 => ?_) (fun c9 => ?_)
    · replace hf := hf.1 c9
      refine hv_aload_n hX dX14_leads_169 rfl 0 rfl ?_
      refine hv_iload_n hX dX14_leads_170 rfl 1 rfl ?_
      refine hv_iload hX dX14_leads_171 2 rfl ?_
      refine hv_iadd hX dX14_leads_173 ?_
      refine hm_putI hX dX14_leads_174 mfl187 ?_
      refine hv_iconst (v := 1) hX ic_1 dX14_leads_177 ?_
      exact hm_zret hX hE dX14_leads_178 (by decide) hf
    · replace hf := hf.2 c9
      refine hv_aload_n hX dX14_leads_147 rfl 0 rfl ?_
      refine hv_aload_n hX dX14_leads_148 rfl 0 rfl ?_
      refine hv_aload_n hX dX14_leads_149 rfl 0 rfl ?_
      refine hm_getI (v := (I 0 21)) hX dX14_leads_150 mfl178 (.inl rfl) rfl ?_
      refine hv_iload_n hX dX14_leads_153 rfl 1 rfl ?_
      refine hv_iload hX dX14_leads_154 3 rfl ?_
      refine hv_iadd hX dX14_leads_156 ?_
      refine hm_callVi hX dX14_leads_157 (ct_filled (I 0 21) (a1 + a6) I J _ hf) (gd_filled q1995) np_filled rfl rfl ⟨Nat.le_of_ble_eq_true rfl, Nat.le_of_ble_eq_true rfl⟩ ⟨Nat.le_refl _, Nat.le_refl _⟩ (Nat.le_of_ble_eq_true rfl) ?_
      intro r10 I11 J12 hf
      refine hm_putI hX dX14_leads_160 mfl178 ?_
      refine hv_iinc (v := (a6 + 1)) (loc2 := [(6, .int (a6 + 1)), (0, .ref 0), (1, .int a1), (5, .int a5)]) hX dX14_leads_163 3 rfl (congrArg (fun y => a6 + y) ic_1) hN (Nat.le_of_ble_eq_true rfl) rfl ?_
      refine hv_goto (tgt := 140) hX dX14_leads_166 (by decide) ?_
      refine hv_fewer [1, 2, 3, 0] (loc2 := [(0, .ref 0), (1, .int a1), (5, .int a5), (6, .int (a6 + 1))]) rfl ?_
      exact ih _ _ _ _ _ hf
def m_leads_j137 (Q : Int32 → mI → mJ → Prop) (a1 : Int32) (a5 : Int32) (I : mI) (J : mJ) : Prop :=
  ∃ n0 : Nat, m_leads_l140 Q  n0 a1 a5 1 I J
theorem w_leads_j137 {X : hh_CX} {Q : Int32 → mI → mJ → Prop} (hX : hh_C X cX14_leads RX14 (hrm 3 66)) (hN : hh_nL X = 7) (hE : hh_E X (some .boolean) (mQi Q) 0 0) : ∀ (a1 : Int32) (a5 : Int32) (I : mI) (J : mJ), m_leads_j137 Q  a1 a5 I J → hh_V X 137 [(0, .ref 0), (1, .int a1), (5, .int a5)] [] 0 0 (hm I J) := by
  intro a1 a5 I J hf
  unfold m_leads_j137 at hf
  refine hv_iconst (v := 1) hX ic_1 dX14_leads_137 ?_
  refine hv_istore (loc2 := [(6, .int 1), (0, .ref 0), (1, .int a1), (5, .int a5)]) hX dX14_leads_138 hN (Nat.le_of_ble_eq_true rfl) rfl ?_
  refine hv_fewer [1, 2, 3, 0] (loc2 := [(0, .ref 0), (1, .int a1), (5, .int a5), (6, .int 1)]) rfl ?_
  obtain ⟨n0, hf⟩ := hf
  exact w_leads_l140 hX hN hE  n0 _ _ _ _ _ hf
def m_leads_j133 (Q : Int32 → mI → mJ → Prop) (a1 : Int32) (a5 : Int32) (s1 : Int32) (s2 : Int32) (I : mI) (J : mJ) : Prop :=
  m_leads_j137 Q  a1 a5 (u2 I 0 21 (s1 - s2)) J
theorem w_leads_j133 {X : hh_CX} {Q : Int32 → mI → mJ → Prop} (hX : hh_C X cX14_leads RX14 (hrm 3 66)) (hN : hh_nL X = 7) (hE : hh_E X (some .boolean) (mQi Q) 0 0) : ∀ (a1 : Int32) (a5 : Int32) (s1 : Int32) (s2 : Int32) (I : mI) (J : mJ), m_leads_j133 Q  a1 a5 s1 s2 I J → hh_V X 133 [(0, .ref 0), (1, .int a1), (5, .int a5)] [.int s2, .int s1, .ref 0] 0 0 (hm I J) := by
  intro a1 a5 s1 s2 I J hf
  unfold m_leads_j133 at hf
  refine hv_isub hX dX14_leads_133 ?_
  refine hm_putI hX dX14_leads_134 mfl178 ?_
  exact w_leads_j137 hX hN hE  _ _ _ _ hf
def m_leads_j88 (Q : Int32 → mI → mJ → Prop) (a1 : Int32) (a2 : Int32) (a3 : Int32) (a4 : Int32) (a5 : Int32) (s1 : Int32) (I : mI) (J : mJ) : Prop :=
  (a4 = (-1) →
    m_foodIn a3 a2 (u2 I 0 20 s1) J (fun r13 I14 J15 => m_yieldIn a2 r13 I14 J15 (fun r16 I17 J18 => (r13 ≤ 0 →
      m_leads_j133 Q  a1 a5 (I17 0 21) 0 (u2 I17 0 22 r16) J18) ∧ (¬ r13 ≤ 0 →
      m_unit a2 (u2 I17 0 22 r16) J18 (fun r20 I21 J22 => m_leads_j133 Q  a1 a5 (I17 0 21) r20 I21 J22))))) ∧ (¬ a4 = (-1) →
    m_leads_j137 Q  a1 a5 (u2 I 0 20 s1) J)
theorem w_leads_j88 {X : hh_CX} {Q : Int32 → mI → mJ → Prop} (hX : hh_C X cX14_leads RX14 (hrm 3 66)) (hN : hh_nL X = 7) (hE : hh_E X (some .boolean) (mQi Q) 0 0) : ∀ (a1 : Int32) (a2 : Int32) (a3 : Int32) (a4 : Int32) (a5 : Int32) (s1 : Int32) (I : mI) (J : mJ), m_leads_j88 Q  a1 a2 a3 a4 a5 s1 I J → hh_V X 88 [(0, .ref 0), (1, .int a1), (2, .int a2), (3, .int a3), (4, .int a4), (5, .int a5)] [.int s1, .ref 0] 0 0 (hm I J) := by
  intro a1 a2 a3 a4 a5 s1 I J hf
  unfold m_leads_j88 at hf
  refine hm_putI hX dX14_leads_88 mfl181 ?_
  refine hv_iload hX dX14_leads_91 4 rfl ?_
  refine hv_iconst (v := (-1)) hX ic_m1 dX14_leads_93 ?_
  refine hv_icmp_ne (tgt := 137) hX dX14_leads_94 (by decide) (fun c8 => ?_) (fun c8 => ?_)
  · replace hf := hf.2 c8
    refine hv_fewer [0, 1, 5] (loc2 := [(0, .ref 0), (1, .int a1), (5, .int a5)]) rfl ?_
    exact w_leads_j137 hX hN hE  _ _ _ _ hf
  · replace hf := hf.1 c8
    refine hv_iload_n hX dX14_leads_97 rfl 3 rfl ?_
    refine hv_iload_n hX dX14_leads_98 rfl 2 rfl ?_
    refine hm_callSi hX dX14_leads_99 (ct_foodIn a3 a2 (u2 I 0 20 s1) J _ hf) (gd_foodIn q1926) np_foodIn rfl rfl ⟨Nat.le_of_ble_eq_true rfl, Nat.le_of_ble_eq_true rfl⟩ ⟨Nat.le_refl _, Nat.le_refl _⟩ (Nat.le_of_ble_eq_true rfl) ?_
    intro r13 I14 J15 hf
    refine hv_istore (loc2 := [(6, .int r13), (0, .ref 0), (1, .int a1), (2, .int a2), (3, .int a3), (4, .int a4), (5, .int a5)]) hX dX14_leads_102 hN (Nat.le_of_ble_eq_true rfl) rfl ?_
    refine hv_aload_n hX dX14_leads_104 rfl 1 rfl ?_
    refine hv_aload_n hX dX14_leads_105 rfl 1 rfl ?_
    refine hv_iload_n hX dX14_leads_106 rfl 3 rfl ?_
    refine hv_iload hX dX14_leads_107 0 rfl ?_
    refine hm_callVi hX dX14_leads_109 (ct_yieldIn a2 r13 I14 J15 _ hf) (gd_yieldIn q1956) np_yieldIn rfl rfl ⟨Nat.le_of_ble_eq_true rfl, Nat.le_of_ble_eq_true rfl⟩ ⟨Nat.le_refl _, Nat.le_refl _⟩ (Nat.le_of_ble_eq_true rfl) ?_
    intro r16 I17 J18 hf
    refine hm_putI hX dX14_leads_112 mfl175 ?_
    refine hv_aload_n hX dX14_leads_115 rfl 1 rfl ?_
    refine hv_dup hX rfl dX14_leads_116 ?_
    refine hm_getI (v := (I17 0 21)) hX dX14_leads_117 mfl178 (.inl rfl) ((u2_ne _ _ (.inr (by decide)))) ?_
    refine hv_iload hX dX14_leads_120 0 rfl ?_
    refine hv_if_le (tgt := 132) hX dX14_leads_122 (by decide) (fun c19 => ?_) (fun c19 => ?_)
    · replace hf := hf.1 c19
      refine hv_iconst (v := 0) hX ic_0 dX14_leads_132 ?_
      refine hv_fewer [1, 2, 6] (loc2 := [(0, .ref 0), (1, .int a1), (5, .int a5)]) rfl ?_
      exact w_leads_j133 hX hN hE  _ _ _ _ _ _ hf
    · replace hf := hf.2 c19
      refine hv_iload_n hX dX14_leads_125 rfl 3 rfl ?_
      refine hm_callSi hX dX14_leads_126 (ct_unit a2 (u2 I17 0 22 r16) J18 _ hf) (gd_unit q1929) np_unit rfl rfl ⟨Nat.le_of_ble_eq_true rfl, Nat.le_of_ble_eq_true rfl⟩ ⟨Nat.le_refl _, Nat.le_refl _⟩ (Nat.le_of_ble_eq_true rfl) ?_
      intro r20 I21 J22 hf
      refine hv_goto (tgt := 133) hX dX14_leads_129 (by decide) ?_
      refine hv_fewer [1, 2, 6] (loc2 := [(0, .ref 0), (1, .int a1), (5, .int a5)]) rfl ?_
      exact w_leads_j133 hX hN hE  _ _ _ _ _ _ hf
def m_leads_j45 (Q : Int32 → mI → mJ → Prop) (a1 : Int32) (a2 : Int32) (a3 : Int32) (a4 : Int32) (s0 : Int32) (I : mI) (J : mJ) : Prop :=
  (s0 = 0 →
    Q 0 I J) ∧ (¬ s0 = 0 →
    ((a1 + s0) ≤ (I 0 2) →
      (a4 = (-1) →
        m_leads_j88 Q  a1 a2 a3 a4 s0 a2 (u2 (u2 I 0 22 0) 0 21 a3) J) ∧ (¬ a4 = (-1) →
        m_leads_j88 Q  a1 a2 a3 a4 s0 a4 (u2 (u2 I 0 22 0) 0 21 a3) J)) ∧ (¬ (a1 + s0) ≤ (I 0 2) →
      Q 0 I J))
theorem w_leads_j45 {X : hh_CX} {Q : Int32 → mI → mJ → Prop} (hX : hh_C X cX14_leads RX14 (hrm 3 66)) (hN : hh_nL X = 7) (hE : hh_E X (some .boolean) (mQi Q) 0 0) : ∀ (a1 : Int32) (a2 : Int32) (a3 : Int32) (a4 : Int32) (s0 : Int32) (I : mI) (J : mJ), m_leads_j45 Q  a1 a2 a3 a4 s0 I J → hh_V X 45 [(0, .ref 0), (1, .int a1), (2, .int a2), (3, .int a3), (4, .int a4)] [.int s0] 0 0 (hm I J) := by
  intro a1 a2 a3 a4 s0 I J hf
  unfold m_leads_j45 at hf
  refine hv_istore (loc2 := [(5, .int s0), (0, .ref 0), (1, .int a1), (2, .int a2), (3, .int a3), (4, .int a4)]) hX dX14_leads_45 hN (Nat.le_of_ble_eq_true rfl) rfl ?_
  refine hv_iload hX dX14_leads_47 0 rfl ?_
  refine hv_if_eq (tgt := 63) hX dX14_leads_49 (by decide) (fun c5 => ?_) (fun c5 => ?_)
  · replace hf := hf.1 c5
    refine hv_iconst (v := 0) hX ic_0 dX14_leads_63 ?_
    exact hm_zret hX hE dX14_leads_64 (by decide) hf
  · replace hf := hf.2 c5
    refine hv_iload_n hX dX14_leads_52 rfl 2 rfl ?_
    refine hv_iload hX dX14_leads_53 0 rfl ?_
    refine hv_iadd hX dX14_leads_55 ?_
    refine hv_aload_n hX dX14_leads_56 rfl 1 rfl ?_
    refine hm_getI (v := (I 0 2)) hX dX14_leads_57 mfl7 (.inl rfl) rfl ?_
    refine hv_icmp_le (tgt := 65) hX dX14_leads_60 (by decide) (fun c6 => ?_) (fun c6 => ?_)
    · replace hf := hf.1 c6
      refine hv_aload_n hX dX14_leads_65 rfl 1 rfl ?_
      refine hv_iconst (v := 0) hX ic_0 dX14_leads_66 ?_
      refine hm_putI hX dX14_leads_67 mfl175 ?_
      refine hv_aload_n hX dX14_leads_70 rfl 1 rfl ?_
      refine hv_iload_n hX dX14_leads_71 rfl 4 rfl ?_
      refine hm_putI hX dX14_leads_72 mfl178 ?_
      refine hv_aload_n hX dX14_leads_75 rfl 1 rfl ?_
      refine hv_iload hX dX14_leads_76 5 rfl ?_
      refine hv_iconst (v := (-1)) hX ic_m1 dX14_leads_78 ?_
      refine hv_icmp_ne (tgt := 86) hX dX14_leads_79 (by decide) (fun c7 => ?_) (fun c7 => ?_)
      · replace hf := hf.2 c7
        refine hv_iload hX dX14_leads_86 5 rfl ?_
        refine hv_fewer [1, 2, 3, 4, 5, 0] (loc2 := [(0, .ref 0), (1, .int a1), (2, .int a2), (3, .int a3), (4, .int a4), (5, .int s0)]) rfl ?_
        exact w_leads_j88 hX hN hE  _ _ _ _ _ _ _ _ hf
      · replace hf := hf.1 c7
        refine hv_iload_n hX dX14_leads_82 rfl 3 rfl ?_
        refine hv_goto (tgt := 88) hX dX14_leads_83 (by decide) ?_
        refine hv_fewer [1, 2, 3, 4, 5, 0] (loc2 := [(0, .ref 0), (1, .int a1), (2, .int a2), (3, .int a3), (4, .int a4), (5, .int s0)]) rfl ?_
        exact w_leads_j88 hX hN hE  _ _ _ _ _ _ _ _ hf
    · replace hf := hf.2 c6
      refine hv_iconst (v := 0) hX ic_0 dX14_leads_63 ?_
      exact hm_zret hX hE dX14_leads_64 (by decide) hf
def m_leads (a1 : Int32) (a2 : Int32) (a3 : Int32) (a4 : Int32) (I : mI) (J : mJ) (Q : Int32 → mI → mJ → Prop) : Prop :=
  ((I 0 8) = 0 →
    Q 0 I J) ∧ (¬ (I 0 8) = 0 →
    ((I 0 8) ≤ a4 →
      Q 0 I J) ∧ (¬ (I 0 8) ≤ a4 →
      (a4 = a2 →
        Q 0 I J) ∧ (¬ a4 = a2 →
        (a4 = (-1) →
          m_leads_j45 Q  a1 a2 a3 a4 1 I J) ∧ (¬ a4 = (-1) →
          vp_in ((4 * a2) + a4) 16 ∧ (m_leads_j45 Q  a1 a2 a3 a4 (I 2 ((4 * a2) + a4).toNatClampNeg) I J)))))
theorem ct_leads (a1 : Int32) (a2 : Int32) (a3 : Int32) (a4 : Int32) (I : mI) (J : mJ) (Q : Int32 → mI → mJ → Prop) (hf : m_leads a1 a2 a3 a4 I J Q) : hh_Ct yX14_leads cX14_leads 7 (some .boolean) 3 66 [.ref 0, .int a1, .int a2, .int a3, .int a4] (hm I J) (mQi Q) 0 0 := by
  refine hh_Ct.of (own := RX14) rfl (by decide +kernel) (Nat.le_of_ble_eq_true rfl) ?_
  intro X hX hN hE
  show hh_V X 0 [(0, .ref 0), (1, .int a1), (2, .int a2), (3, .int a3), (4, .int a4)] [] 0 0 (hm I J)
  unfold m_leads at hf
  refine hv_aload_n hX dX14_leads_0 rfl 0 rfl ?_
  refine hm_getI (v := (I 0 8)) hX dX14_leads_1 mfl130 (.inl rfl) rfl ?_
  refine hv_if_eq (tgt := 22) hX dX14_leads_4 (by decide) (fun c1 => ?_) (fun c1 => ?_)
  · replace hf := hf.1 c1
    refine hv_iconst (v := 0) hX ic_0 dX14_leads_22 ?_
    exact hm_zret hX hE dX14_leads_23 (by decide) hf
  · replace hf := hf.2 c1
    refine hv_iload hX dX14_leads_7 4 rfl ?_
    refine hv_aload_n hX dX14_leads_9 rfl 0 rfl ?_
    refine hm_getI (v := (I 0 8)) hX dX14_leads_10 mfl130 (.inl rfl) rfl ?_
    refine hv_icmp_ge (tgt := 22) hX dX14_leads_13 (by decide) (fun c2 => ?_) (fun c2 => ?_)
    · replace hf := hf.1 c2
      refine hv_iconst (v := 0) hX ic_0 dX14_leads_22 ?_
      exact hm_zret hX hE dX14_leads_23 (by decide) hf
    · replace hf := hf.2 c2
      refine hv_iload hX dX14_leads_16 4 rfl ?_
      refine hv_iload_n hX dX14_leads_18 rfl 2 rfl ?_
      refine hv_icmp_ne (tgt := 24) hX dX14_leads_19 (by decide) (fun c3 => ?_) (fun c3 => ?_)
      · replace hf := hf.2 c3
        refine hv_iload hX dX14_leads_24 4 rfl ?_
        refine hv_iconst (v := (-1)) hX ic_m1 dX14_leads_26 ?_
        refine hv_icmp_ne (tgt := 34) hX dX14_leads_27 (by decide) (fun c4 => ?_) (fun c4 => ?_)
        · replace hf := hf.2 c4
          refine hv_aload_n hX dX14_leads_34 rfl 0 rfl ?_
          refine hm_getR hX dX14_leads_35 mfl23 2 rfl ?_
          refine hv_iconst (v := 4) hX ic_4 dX14_leads_38 ?_
          refine hv_iload_n hX dX14_leads_39 rfl 2 rfl ?_
          refine hv_imul hX dX14_leads_40 ?_
          refine hv_iload hX dX14_leads_41 4 rfl ?_
          refine hv_iadd hX dX14_leads_43 ?_
          obtain ⟨g, hf⟩ := hf
          refine hm_iald (v := (I 2 ((4 * a2) + a4).toNatClampNeg)) hX dX14_leads_44 (by decide) rfl rfl g rfl ?_
          exact w_leads_j45 hX hN hE  _ _ _ _ _ _ _ hf
        · replace hf := hf.1 c4
          refine hv_iconst (v := 1) hX ic_1 dX14_leads_30 ?_
          refine hv_goto (tgt := 45) hX dX14_leads_31 (by decide) ?_
          exact w_leads_j45 hX hN hE  _ _ _ _ _ _ _ hf
      · replace hf := hf.1 c3
        refine hv_iconst (v := 0) hX ic_0 dX14_leads_22 ?_
        exact hm_zret hX hE dX14_leads_23 (by decide) hf
theorem np_leads : yX14_leads.cls = RX14 ∧ yX14_leads.cls ≠ "java/lang/invoke/MethodHandle" ∧ yX14_leads.cls ≠ "java/lang/invoke/VarHandle" ∧ (parseMethodDescriptor yX14_leads.desc).map (fun d => d.parameters.length) = some 4 := by decide +kernel
theorem gd_leads {idx : Nat} (h : Cond.methodLink RX14 idx yX14_leads ∈ lw_all) : GoodIn lw_all (wsV RX14 idx RX14 yX14_leads (ws_ yX14_leads cX14_leads 7 (some .boolean))) := lw_V h q1993 qs53 q123 q1994
/-! goes()V -/
def m_goes  (I : mI) (J : mJ) (Q : mI → mJ → Prop) : Prop :=
  Q (u2 (u2 (u2 (u2 I 0 0 (I 0 19)) 0 3 (I 0 20)) 0 12 (I 0 21)) 0 1 ((I 0 1) + (I 0 22))) J
theorem ct_goes  (I : mI) (J : mJ) (Q : mI → mJ → Prop) (hf : m_goes  I J Q) : hh_Ct yX14_goes cX14_goes 1 none 0 0 [.ref 0] (hm I J) (mQv Q) 0 0 := by
  refine hh_Ct.of (own := RX14) rfl (by decide +kernel) (Nat.le_of_ble_eq_true rfl) ?_
  intro X hX hN hE
  show hh_V X 0 [(0, .ref 0)] [] 0 0 (hm I J)
  unfold m_goes at hf
  refine hv_aload_n hX dX14_goes_0 rfl 0 rfl ?_
  refine hv_aload_n hX dX14_goes_1 rfl 0 rfl ?_
  refine hm_getI (v := (I 0 19)) hX dX14_goes_2 mfl187 (.inl rfl) rfl ?_
  refine hm_putI hX dX14_goes_5 mfl166 ?_
  refine hv_aload_n hX dX14_goes_8 rfl 0 rfl ?_
  refine hv_aload_n hX dX14_goes_9 rfl 0 rfl ?_
  refine hm_getI (v := (I 0 20)) hX dX14_goes_10 mfl181 (.inl rfl) ((u2_ne _ _ (.inr (by decide)))) ?_
  refine hm_putI hX dX14_goes_13 mfl169 ?_
  refine hv_aload_n hX dX14_goes_16 rfl 0 rfl ?_
  refine hv_aload_n hX dX14_goes_17 rfl 0 rfl ?_
  refine hm_getI (v := (I 0 21)) hX dX14_goes_18 mfl178 (.inl rfl) ((u2_ne _ _ (.inr (by decide))) |>.trans (u2_ne _ _ (.inr (by decide)))) ?_
  refine hm_putI hX dX14_goes_21 mfl141 ?_
  refine hv_aload_n hX dX14_goes_24 rfl 0 rfl ?_
  refine hv_dup hX rfl dX14_goes_25 ?_
  refine hm_getI (v := (I 0 1)) hX dX14_goes_26 mfl172 (.inl rfl) ((u2_ne _ _ (.inr (by decide))) |>.trans (u2_ne _ _ (.inr (by decide))) |>.trans (u2_ne _ _ (.inr (by decide)))) ?_
  refine hv_aload_n hX dX14_goes_29 rfl 0 rfl ?_
  refine hm_getI (v := (I 0 22)) hX dX14_goes_30 mfl175 (.inl rfl) ((u2_ne _ _ (.inr (by decide))) |>.trans (u2_ne _ _ (.inr (by decide))) |>.trans (u2_ne _ _ (.inr (by decide)))) ?_
  refine hv_iadd hX dX14_goes_33 ?_
  refine hm_putI hX dX14_goes_34 mfl172 ?_
  exact hm_vret hX hE dX14_goes_37 hf
theorem np_goes : yX14_goes.cls = RX14 ∧ yX14_goes.cls ≠ "java/lang/invoke/MethodHandle" ∧ yX14_goes.cls ≠ "java/lang/invoke/VarHandle" ∧ (parseMethodDescriptor yX14_goes.desc).map (fun d => d.parameters.length) = some 0 := by decide +kernel
theorem gd_goes {idx : Nat} (h : Cond.methodLink RX14 idx yX14_goes ∈ lw_all) : GoodIn lw_all (wsV RX14 idx RX14 yX14_goes (ws_ yX14_goes cX14_goes 1 none)) := lw_V h q2001 qs55 q123 q2002
/-! does(I)I -/
def m_does (a1 : Int32) (I : mI) (J : mJ) (Q : Int32 → mI → mJ → Prop) : Prop :=
  m_isAct a1 I J (fun r1 I2 J3 => (r1 = 0 →
    Q (-1) I2 J3) ∧ (¬ r1 = 0 →
    m_leads (I2 0 0) (I2 0 3) (I2 0 12) a1 I2 J3 (fun r5 I6 J7 => (r5 = 0 →
      Q (-4) I6 J7) ∧ (¬ r5 = 0 →
      m_goes  I6 J7 (fun  I9 J10 => Q (I9 0 1) I9 J10)))))
theorem ct_does (a1 : Int32) (I : mI) (J : mJ) (Q : Int32 → mI → mJ → Prop) (hf : m_does a1 I J Q) : hh_Ct yX14_does cX14_does 2 (some .int) 4 92 [.ref 0, .int a1] (hm I J) (mQi Q) 0 0 := by
  refine hh_Ct.of (own := RX14) rfl (by decide +kernel) (Nat.le_of_ble_eq_true rfl) ?_
  intro X hX hN hE
  show hh_V X 0 [(0, .ref 0), (1, .int a1)] [] 0 0 (hm I J)
  unfold m_does at hf
  refine hv_iload_n hX dX14_does_0 rfl 1 rfl ?_
  refine hm_callSi hX dX14_does_1 (ct_isAct a1 I J _ hf) (gd_isAct q1988) np_isAct rfl rfl ⟨Nat.le_of_ble_eq_true rfl, Nat.le_of_ble_eq_true rfl⟩ ⟨Nat.le_refl _, Nat.le_refl _⟩ (Nat.le_of_ble_eq_true rfl) ?_
  intro r1 I2 J3 hf
  refine hv_if_ne (tgt := 9) hX dX14_does_4 (by decide) (fun c4 => ?_) (fun c4 => ?_)
  · replace hf := hf.2 c4
    refine hv_aload_n hX dX14_does_9 rfl 0 rfl ?_
    refine hv_aload_n hX dX14_does_10 rfl 0 rfl ?_
    refine hm_getI (v := (I2 0 0)) hX dX14_does_11 mfl166 (.inl rfl) rfl ?_
    refine hv_aload_n hX dX14_does_14 rfl 0 rfl ?_
    refine hm_getI (v := (I2 0 3)) hX dX14_does_15 mfl169 (.inl rfl) rfl ?_
    refine hv_aload_n hX dX14_does_18 rfl 0 rfl ?_
    refine hm_getI (v := (I2 0 12)) hX dX14_does_19 mfl141 (.inl rfl) rfl ?_
    refine hv_iload_n hX dX14_does_22 rfl 1 rfl ?_
    refine hm_callVi hX dX14_does_23 (ct_leads (I2 0 0) (I2 0 3) (I2 0 12) a1 I2 J3 _ hf) (gd_leads q1991) np_leads rfl rfl ⟨Nat.le_of_ble_eq_true rfl, Nat.le_of_ble_eq_true rfl⟩ ⟨Nat.le_refl _, Nat.le_refl _⟩ (Nat.le_of_ble_eq_true rfl) ?_
    intro r5 I6 J7 hf
    refine hv_if_ne (tgt := 32) hX dX14_does_26 (by decide) (fun c8 => ?_) (fun c8 => ?_)
    · replace hf := hf.2 c8
      refine hv_aload_n hX dX14_does_32 rfl 0 rfl ?_
      refine hm_callVv hX dX14_does_33 (ct_goes  I6 J7 _ hf) (gd_goes q1999) np_goes rfl rfl ⟨Nat.le_of_ble_eq_true rfl, Nat.le_of_ble_eq_true rfl⟩ ⟨Nat.le_refl _, Nat.le_refl _⟩ (Nat.le_of_ble_eq_true rfl) ?_
      intro  I9 J10 hf
      refine hv_aload_n hX dX14_does_36 rfl 0 rfl ?_
      refine hm_getI (v := (I9 0 1)) hX dX14_does_37 mfl172 (.inl rfl) rfl ?_
      exact hm_iret hX hE dX14_does_40 hf
    · replace hf := hf.1 c8
      refine hv_bipush (v := (-4)) hX bi_m4 dX14_does_29 ?_
      exact hm_iret hX hE dX14_does_31 hf
  · replace hf := hf.1 c4
    refine hv_iconst (v := (-1)) hX ic_m1 dX14_does_7 ?_
    exact hm_iret hX hE dX14_does_8 hf
theorem np_does : yX14_does.cls = RX14 ∧ yX14_does.cls ≠ "java/lang/invoke/MethodHandle" ∧ yX14_does.cls ≠ "java/lang/invoke/VarHandle" ∧ (parseMethodDescriptor yX14_does.desc).map (fun d => d.parameters.length) = some 1 := by decide +kernel
theorem gd_does {idx : Nat} (h : Cond.methodLink RX14 idx yX14_does ∈ lw_all) : GoodIn lw_all (wsV RX14 idx RX14 yX14_does (ws_ yX14_does cX14_does 2 (some .int))) := lw_V h q1985 q1986 q123 q1987
/-! keyOf(III)I -/
def m_keyOf (a0 : Int32) (a1 : Int32) (a2 : Int32) (I : mI) (J : mJ) (Q : Int32 → mI → mJ → Prop) : Prop :=
  Q ((2401 * ((4 * a0) + a1)) + a2) I J
theorem ct_keyOf (a0 : Int32) (a1 : Int32) (a2 : Int32) (I : mI) (J : mJ) (Q : Int32 → mI → mJ → Prop) (hf : m_keyOf a0 a1 a2 I J Q) : hh_Ct yX14_keyOf cX14_keyOf 3 (some .int) 0 0 [.int a0, .int a1, .int a2] (hm I J) (mQi Q) 0 0 := by
  refine hh_Ct.of (own := RX14) rfl (by decide +kernel) (Nat.le_of_ble_eq_true rfl) ?_
  intro X hX hN hE
  show hh_V X 0 [(0, .int a0), (1, .int a1), (2, .int a2)] [] 0 0 (hm I J)
  unfold m_keyOf at hf
  refine hv_sipush (v := 2401) hX si_2401 dX14_keyOf_0 ?_
  refine hv_iconst (v := 4) hX ic_4 dX14_keyOf_3 ?_
  refine hv_iload_n hX dX14_keyOf_4 rfl 0 rfl ?_
  refine hv_imul hX dX14_keyOf_5 ?_
  refine hv_iload_n hX dX14_keyOf_6 rfl 1 rfl ?_
  refine hv_iadd hX dX14_keyOf_7 ?_
  refine hv_imul hX dX14_keyOf_8 ?_
  refine hv_iload_n hX dX14_keyOf_9 rfl 2 rfl ?_
  refine hv_iadd hX dX14_keyOf_10 ?_
  exact hm_iret hX hE dX14_keyOf_11 hf
theorem np_keyOf : yX14_keyOf.cls ≠ "java/lang/invoke/MethodHandle" ∧ yX14_keyOf.cls ≠ "java/lang/invoke/VarHandle" ∧ (parseMethodDescriptor yX14_keyOf.desc).map (fun d => d.parameters.length) = some 3 := by decide +kernel
theorem gd_keyOf {idx : Nat} (h : Cond.methodLink RX14 idx yX14_keyOf ∈ lw_all) : GoodIn lw_all (va_wsS RX14 idx yX14_keyOf (ws_ yX14_keyOf cX14_keyOf 3 (some .int))) := lw_S h q2012 q123 q2013
/-! isFound(I)Z -/
def m_isFound (a1 : Int32) (I : mI) (J : mJ) (Q : Int32 → mI → mJ → Prop) : Prop :=
  vp_in a1 201684 ∧ ((((I 7 a1.toNatClampNeg) / 1024) = (I 0 18) →
    Q 1 I J) ∧ (¬ ((I 7 a1.toNatClampNeg) / 1024) = (I 0 18) →
    Q 0 I J))
theorem ct_isFound (a1 : Int32) (I : mI) (J : mJ) (Q : Int32 → mI → mJ → Prop) (hf : m_isFound a1 I J Q) : hh_Ct yX14_isFound cX14_isFound 2 (some .boolean) 0 0 [.ref 0, .int a1] (hm I J) (mQi Q) 0 0 := by
  refine hh_Ct.of (own := RX14) rfl (by decide +kernel) (Nat.le_of_ble_eq_true rfl) ?_
  intro X hX hN hE
  show hh_V X 0 [(0, .ref 0), (1, .int a1)] [] 0 0 (hm I J)
  unfold m_isFound at hf
  refine hv_aload_n hX dX14_isFound_0 rfl 0 rfl ?_
  refine hm_getR hX dX14_isFound_1 mfl42 7 rfl ?_
  refine hv_iload_n hX dX14_isFound_4 rfl 1 rfl ?_
  obtain ⟨g, hf⟩ := hf
  refine hm_iald (v := (I 7 a1.toNatClampNeg)) hX dX14_isFound_5 (by decide) rfl rfl g rfl ?_
  refine hv_sipush (v := 1024) hX si_1024 dX14_isFound_6 ?_
  refine hv_idiv hX (by decide) dX14_isFound_9 ?_
  refine hv_aload_n hX dX14_isFound_10 rfl 0 rfl ?_
  refine hm_getI (v := (I 0 18)) hX dX14_isFound_11 mfl38 (.inl rfl) rfl ?_
  refine hv_icmp_ne (tgt := 21) hX dX14_isFound_14 (by decide) (fun c1 => ?_) (fun c1 => ?_)
  · replace hf := hf.2 c1
    refine hv_iconst (v := 0) hX ic_0 dX14_isFound_21 ?_
    exact hm_zret hX hE dX14_isFound_22 (by decide) hf
  · replace hf := hf.1 c1
    refine hv_iconst (v := 1) hX ic_1 dX14_isFound_17 ?_
    refine hv_goto (tgt := 22) hX dX14_isFound_18 (by decide) ?_
    exact hm_zret hX hE dX14_isFound_22 (by decide) hf
theorem np_isFound : yX14_isFound.cls = RX14 ∧ yX14_isFound.cls ≠ "java/lang/invoke/MethodHandle" ∧ yX14_isFound.cls ≠ "java/lang/invoke/VarHandle" ∧ (parseMethodDescriptor yX14_isFound.desc).map (fun d => d.parameters.length) = some 1 := by decide +kernel
theorem gd_isFound {idx : Nat} (h : Cond.methodLink RX14 idx yX14_isFound ∈ lw_all) : GoodIn lw_all (wsV RX14 idx RX14 yX14_isFound (ws_ yX14_isFound cX14_isFound 2 (some .boolean))) := lw_V h q2016 qs57 q123 q2017
/-! pile(IIII)V -/
def m_pile (a1 : Int32) (a2 : Int32) (a3 : Int32) (a4 : Int32) (I : mI) (J : mJ) (Q : mI → mJ → Prop) : Prop :=
  vp_in a1 24 ∧ (vp_in a1 24 ∧ (vp_in a1 24 ∧ (vp_in a1 24 ∧ (vp_in a1 24 ∧ (Q (u2 (u2 (u2 (u2 (u2 I 8 a1.toNatClampNeg a2) 9 a1.toNatClampNeg a3) 10 a1.toNatClampNeg a4) 11 a1.toNatClampNeg (-1)) 12 a1.toNatClampNeg 0) J)))))
theorem ct_pile (a1 : Int32) (a2 : Int32) (a3 : Int32) (a4 : Int32) (I : mI) (J : mJ) (Q : mI → mJ → Prop) (hf : m_pile a1 a2 a3 a4 I J Q) : hh_Ct yX14_pile cX14_pile 5 none 0 0 [.ref 0, .int a1, .int a2, .int a3, .int a4] (hm I J) (mQv Q) 0 0 := by
  refine hh_Ct.of (own := RX14) rfl (by decide +kernel) (Nat.le_of_ble_eq_true rfl) ?_
  intro X hX hN hE
  show hh_V X 0 [(0, .ref 0), (1, .int a1), (2, .int a2), (3, .int a3), (4, .int a4)] [] 0 0 (hm I J)
  unfold m_pile at hf
  refine hv_aload_n hX dX14_pile_0 rfl 0 rfl ?_
  refine hm_getR hX dX14_pile_1 mfl45 8 rfl ?_
  refine hv_iload_n hX dX14_pile_4 rfl 1 rfl ?_
  refine hv_iload_n hX dX14_pile_5 rfl 2 rfl ?_
  obtain ⟨g, hf⟩ := hf
  refine hm_iast hX dX14_pile_6 (by decide) rfl rfl g ?_
  refine hv_aload_n hX dX14_pile_7 rfl 0 rfl ?_
  refine hm_getR hX dX14_pile_8 mfl48 9 rfl ?_
  refine hv_iload_n hX dX14_pile_11 rfl 1 rfl ?_
  refine hv_iload_n hX dX14_pile_12 rfl 3 rfl ?_
  obtain ⟨g, hf⟩ := hf
  refine hm_iast hX dX14_pile_13 (by decide) rfl rfl g ?_
  refine hv_aload_n hX dX14_pile_14 rfl 0 rfl ?_
  refine hm_getR hX dX14_pile_15 mfl51 10 rfl ?_
  refine hv_iload_n hX dX14_pile_18 rfl 1 rfl ?_
  refine hv_iload hX dX14_pile_19 4 rfl ?_
  obtain ⟨g, hf⟩ := hf
  refine hm_iast hX dX14_pile_21 (by decide) rfl rfl g ?_
  refine hv_aload_n hX dX14_pile_22 rfl 0 rfl ?_
  refine hm_getR hX dX14_pile_23 mfl54 11 rfl ?_
  refine hv_iload_n hX dX14_pile_26 rfl 1 rfl ?_
  refine hv_iconst (v := (-1)) hX ic_m1 dX14_pile_27 ?_
  obtain ⟨g, hf⟩ := hf
  refine hm_iast hX dX14_pile_28 (by decide) rfl rfl g ?_
  refine hv_aload_n hX dX14_pile_29 rfl 0 rfl ?_
  refine hm_getR hX dX14_pile_30 mfl57 12 rfl ?_
  refine hv_iload_n hX dX14_pile_33 rfl 1 rfl ?_
  refine hv_iconst (v := 0) hX ic_0 dX14_pile_34 ?_
  obtain ⟨g, hf⟩ := hf
  refine hm_iast hX dX14_pile_35 (by decide) rfl rfl g ?_
  exact hm_vret hX hE dX14_pile_36 hf
theorem np_pile : yX14_pile.cls = RX14 ∧ yX14_pile.cls ≠ "java/lang/invoke/MethodHandle" ∧ yX14_pile.cls ≠ "java/lang/invoke/VarHandle" ∧ (parseMethodDescriptor yX14_pile.desc).map (fun d => d.parameters.length) = some 4 := by decide +kernel
theorem gd_pile {idx : Nat} (h : Cond.methodLink RX14 idx yX14_pile ∈ lw_all) : GoodIn lw_all (wsV RX14 idx RX14 yX14_pile (ws_ yX14_pile cX14_pile 5 none)) := lw_V h q2020 qs58 q123 q2021
/-! most(III)I -/
def m_most_j287 (Q : Int32 → mI → mJ → Prop) (k28 : Int32 → Int32 → Int32 → Int32 → mI → mJ → Prop) (a1 : Int32) (a2 : Int32) (a3 : Int32) (a4 : Int32) (I : mI) (J : mJ) : Prop :=
  k28 a1 a2 a3 a4 I J
theorem w_most_j287 {X : hh_CX} {Q : Int32 → mI → mJ → Prop} (hX : hh_C X cX14_most RX14 (hrm 4 92)) (hN : hh_nL X = 9) (hE : hh_E X (some .int) (mQi Q) 0 0) {k28 : Int32 → Int32 → Int32 → Int32 → mI → mJ → Prop} (hk28 : ∀ (b0 : Int32) (b1 : Int32) (b2 : Int32) (b3 : Int32) (I : mI) (J : mJ), k28 b0 b1 b2 b3 I J → hh_V X 28 [(0, .ref 0), (1, .int b0), (2, .int b1), (3, .int b2), (4, .int b3)] [] 0 0 (hm I J)) : ∀ (a1 : Int32) (a2 : Int32) (a3 : Int32) (a4 : Int32) (I : mI) (J : mJ), m_most_j287 Q k28 a1 a2 a3 a4 I J → hh_V X 287 [(0, .ref 0), (1, .int a1), (2, .int a2), (3, .int a3), (4, .int a4)] [] 0 0 (hm I J) := by
  intro a1 a2 a3 a4 I J hf
  unfold m_most_j287 at hf
  refine hv_goto (tgt := 28) hX dX14_most_287 (by decide) ?_
  exact hk28 _ _ _ _ _ _ hf
def m_most_j210 (Q : Int32 → mI → mJ → Prop) (k28 : Int32 → Int32 → Int32 → Int32 → mI → mJ → Prop) (a1 : Int32) (a2 : Int32) (a3 : Int32) (a4 : Int32) (a5 : Int32) (I : mI) (J : mJ) : Prop :=
  (a5 = 0 →
    vp_in a4 24 ∧ (vp_in a4 24 ∧ (vp_in a4 24 ∧ (m_keyOf (I 8 a4.toNatClampNeg) (I 9 a4.toNatClampNeg) (I 10 a4.toNatClampNeg) I J (fun r16 I17 J18 => vp_in a4 24 ∧ (vp_in r16 201684 ∧ (m_most_j287 Q k28 a1 a2 a3 (a4 + (-1)) (u2 I17 7 r16.toNatClampNeg ((1024 * (I17 0 18)) + (I17 12 a4.toNatClampNeg))) J18))))))) ∧ (¬ a5 = 0 →
    m_pile (a4 + 1) (I 0 19) (I 0 20) (I 0 21) I J (fun  I19 J20 => m_most_j287 Q k28 a1 a2 a3 (a4 + 1) I19 J20))
theorem w_most_j210 {X : hh_CX} {Q : Int32 → mI → mJ → Prop} (hX : hh_C X cX14_most RX14 (hrm 4 92)) (hN : hh_nL X = 9) (hE : hh_E X (some .int) (mQi Q) 0 0) {k28 : Int32 → Int32 → Int32 → Int32 → mI → mJ → Prop} (hk28 : ∀ (b0 : Int32) (b1 : Int32) (b2 : Int32) (b3 : Int32) (I : mI) (J : mJ), k28 b0 b1 b2 b3 I J → hh_V X 28 [(0, .ref 0), (1, .int b0), (2, .int b1), (3, .int b2), (4, .int b3)] [] 0 0 (hm I J)) : ∀ (a1 : Int32) (a2 : Int32) (a3 : Int32) (a4 : Int32) (a5 : Int32) (I : mI) (J : mJ), m_most_j210 Q k28 a1 a2 a3 a4 a5 I J → hh_V X 210 [(0, .ref 0), (1, .int a1), (2, .int a2), (3, .int a3), (4, .int a4), (5, .int a5)] [] 0 0 (hm I J) := by
  intro a1 a2 a3 a4 a5 I J hf
  unfold m_most_j210 at hf
  refine hv_iload hX dX14_most_210 5 rfl ?_
  refine hv_if_eq (tgt := 239) hX dX14_most_212 (by decide) (fun c15 => ?_) (fun c15 => ?_)
  · replace hf := hf.1 c15
    refine hv_aload_n hX dX14_most_239 rfl 0 rfl ?_
    refine hm_getR hX dX14_most_240 mfl42 7 rfl ?_
    refine hv_aload_n hX dX14_most_243 rfl 0 rfl ?_
    refine hm_getR hX dX14_most_244 mfl45 8 rfl ?_
    refine hv_iload hX dX14_most_247 4 rfl ?_
    obtain ⟨g, hf⟩ := hf
    refine hm_iald (v := (I 8 a4.toNatClampNeg)) hX dX14_most_249 (by decide) rfl rfl g rfl ?_
    refine hv_aload_n hX dX14_most_250 rfl 0 rfl ?_
    refine hm_getR hX dX14_most_251 mfl48 9 rfl ?_
    refine hv_iload hX dX14_most_254 4 rfl ?_
    obtain ⟨g, hf⟩ := hf
    refine hm_iald (v := (I 9 a4.toNatClampNeg)) hX dX14_most_256 (by decide) rfl rfl g rfl ?_
    refine hv_aload_n hX dX14_most_257 rfl 0 rfl ?_
    refine hm_getR hX dX14_most_258 mfl51 10 rfl ?_
    refine hv_iload hX dX14_most_261 4 rfl ?_
    obtain ⟨g, hf⟩ := hf
    refine hm_iald (v := (I 10 a4.toNatClampNeg)) hX dX14_most_263 (by decide) rfl rfl g rfl ?_
    refine hm_callSi hX dX14_most_264 (ct_keyOf (I 8 a4.toNatClampNeg) (I 9 a4.toNatClampNeg) (I 10 a4.toNatClampNeg) I J _ hf) (gd_keyOf q2011) np_keyOf rfl rfl ⟨Nat.le_of_ble_eq_true rfl, Nat.le_of_ble_eq_true rfl⟩ ⟨Nat.le_refl _, Nat.le_refl _⟩ (Nat.le_of_ble_eq_true rfl) ?_
    intro r16 I17 J18 hf
    refine hv_sipush (v := 1024) hX si_1024 dX14_most_267 ?_
    refine hv_aload_n hX dX14_most_270 rfl 0 rfl ?_
    refine hm_getI (v := (I17 0 18)) hX dX14_most_271 mfl38 (.inl rfl) rfl ?_
    refine hv_imul hX dX14_most_274 ?_
    refine hv_aload_n hX dX14_most_275 rfl 0 rfl ?_
    refine hm_getR hX dX14_most_276 mfl57 12 rfl ?_
    refine hv_iload hX dX14_most_279 4 rfl ?_
    obtain ⟨g, hf⟩ := hf
    refine hm_iald (v := (I17 12 a4.toNatClampNeg)) hX dX14_most_281 (by decide) rfl rfl g rfl ?_
    refine hv_iadd hX dX14_most_282 ?_
    obtain ⟨g, hf⟩ := hf
    refine hm_iast hX dX14_most_283 (by decide) rfl rfl g ?_
    refine hv_iinc (v := (a4 + (-1))) (loc2 := [(4, .int (a4 + (-1))), (0, .ref 0), (1, .int a1), (2, .int a2), (3, .int a3), (5, .int a5)]) hX dX14_most_284 4 rfl (congrArg (fun y => a4 + y) ic_m1) hN (Nat.le_of_ble_eq_true rfl) rfl ?_
    refine hv_fewer [1, 2, 3, 4, 0] (loc2 := [(0, .ref 0), (1, .int a1), (2, .int a2), (3, .int a3), (4, .int (a4 + (-1)))]) rfl ?_
    exact w_most_j287 hX hN hE hk28 _ _ _ _ _ _ hf
  · replace hf := hf.2 c15
    refine hv_iinc (v := (a4 + 1)) (loc2 := [(4, .int (a4 + 1)), (0, .ref 0), (1, .int a1), (2, .int a2), (3, .int a3), (5, .int a5)]) hX dX14_most_215 4 rfl (congrArg (fun y => a4 + y) ic_1) hN (Nat.le_of_ble_eq_true rfl) rfl ?_
    refine hv_aload_n hX dX14_most_218 rfl 1 rfl ?_
    refine hv_iload hX dX14_most_219 0 rfl ?_
    refine hv_aload_n hX dX14_most_221 rfl 1 rfl ?_
    refine hm_getI (v := (I 0 19)) hX dX14_most_222 mfl187 (.inl rfl) rfl ?_
    refine hv_aload_n hX dX14_most_225 rfl 1 rfl ?_
    refine hm_getI (v := (I 0 20)) hX dX14_most_226 mfl181 (.inl rfl) rfl ?_
    refine hv_aload_n hX dX14_most_229 rfl 1 rfl ?_
    refine hm_getI (v := (I 0 21)) hX dX14_most_230 mfl178 (.inl rfl) rfl ?_
    refine hm_callVv hX dX14_most_233 (ct_pile (a4 + 1) (I 0 19) (I 0 20) (I 0 21) I J _ hf) (gd_pile q2018) np_pile rfl rfl ⟨Nat.le_of_ble_eq_true rfl, Nat.le_of_ble_eq_true rfl⟩ ⟨Nat.le_refl _, Nat.le_refl _⟩ (Nat.le_of_ble_eq_true rfl) ?_
    intro  I19 J20 hf
    refine hv_goto (tgt := 287) hX dX14_most_236 (by decide) ?_
    refine hv_fewer [1, 2, 3, 4, 0] (loc2 := [(0, .ref 0), (1, .int a1), (2, .int a2), (3, .int a3), (4, .int (a4 + 1))]) rfl ?_
    exact w_most_j287 hX hN hE hk28 _ _ _ _ _ _ hf
def m_most_j207 (Q : Int32 → mI → mJ → Prop) (k36 : Int32 → Int32 → Int32 → Int32 → Int32 → mI → mJ → Prop) (a1 : Int32) (a2 : Int32) (a3 : Int32) (a4 : Int32) (a5 : Int32) (I : mI) (J : mJ) : Prop :=
  k36 a1 a2 a3 a4 a5 I J
theorem w_most_j207 {X : hh_CX} {Q : Int32 → mI → mJ → Prop} (hX : hh_C X cX14_most RX14 (hrm 4 92)) (hN : hh_nL X = 9) (hE : hh_E X (some .int) (mQi Q) 0 0) {k36 : Int32 → Int32 → Int32 → Int32 → Int32 → mI → mJ → Prop} (hk36 : ∀ (b0 : Int32) (b1 : Int32) (b2 : Int32) (b3 : Int32) (b4 : Int32) (I : mI) (J : mJ), k36 b0 b1 b2 b3 b4 I J → hh_V X 36 [(0, .ref 0), (1, .int b0), (2, .int b1), (3, .int b2), (4, .int b3), (5, .int b4)] [] 0 0 (hm I J)) : ∀ (a1 : Int32) (a2 : Int32) (a3 : Int32) (a4 : Int32) (a5 : Int32) (I : mI) (J : mJ), m_most_j207 Q k36 a1 a2 a3 a4 a5 I J → hh_V X 207 [(0, .ref 0), (1, .int a1), (2, .int a2), (3, .int a3), (4, .int a4), (5, .int a5)] [] 0 0 (hm I J) := by
  intro a1 a2 a3 a4 a5 I J hf
  unfold m_most_j207 at hf
  refine hv_goto (tgt := 36) hX dX14_most_207 (by decide) ?_
  exact hk36 _ _ _ _ _ _ _ hf
def m_most_j195 (Q : Int32 → mI → mJ → Prop) (k36 : Int32 → Int32 → Int32 → Int32 → Int32 → mI → mJ → Prop) (a1 : Int32) (a2 : Int32) (a3 : Int32) (a4 : Int32) (a5 : Int32) (s1 : Int32) (s2 : Int32) (I : mI) (J : mJ) : Prop :=
  vp_in s1 24 ∧ (vp_in a4 24 ∧ (vp_in a4 24 ∧ (m_most_j207 Q k36 a1 a2 a3 a4 a5 (u2 (u2 I 12 s1.toNatClampNeg s2) 11 a4.toNatClampNeg ((I 11 a4.toNatClampNeg) + 1)) J)))
theorem w_most_j195 {X : hh_CX} {Q : Int32 → mI → mJ → Prop} (hX : hh_C X cX14_most RX14 (hrm 4 92)) (hN : hh_nL X = 9) (hE : hh_E X (some .int) (mQi Q) 0 0) {k36 : Int32 → Int32 → Int32 → Int32 → Int32 → mI → mJ → Prop} (hk36 : ∀ (b0 : Int32) (b1 : Int32) (b2 : Int32) (b3 : Int32) (b4 : Int32) (I : mI) (J : mJ), k36 b0 b1 b2 b3 b4 I J → hh_V X 36 [(0, .ref 0), (1, .int b0), (2, .int b1), (3, .int b2), (4, .int b3), (5, .int b4)] [] 0 0 (hm I J)) : ∀ (a1 : Int32) (a2 : Int32) (a3 : Int32) (a4 : Int32) (a5 : Int32) (s1 : Int32) (s2 : Int32) (I : mI) (J : mJ), m_most_j195 Q k36 a1 a2 a3 a4 a5 s1 s2 I J → hh_V X 195 [(0, .ref 0), (1, .int a1), (2, .int a2), (3, .int a3), (4, .int a4), (5, .int a5)] [.int s2, .int s1, .ref 12] 0 0 (hm I J) := by
  intro a1 a2 a3 a4 a5 s1 s2 I J hf
  unfold m_most_j195 at hf
  obtain ⟨g, hf⟩ := hf
  refine hm_iast hX dX14_most_195 (by decide) rfl rfl g ?_
  refine hv_aload_n hX dX14_most_196 rfl 0 rfl ?_
  refine hm_getR hX dX14_most_197 mfl54 11 rfl ?_
  refine hv_iload hX dX14_most_200 4 rfl ?_
  refine hv_dup2_11 hX rfl rfl dX14_most_202 ?_
  obtain ⟨g, hf⟩ := hf
  refine hm_iald (v := (I 11 a4.toNatClampNeg)) hX dX14_most_203 (by decide) rfl rfl g ((u2_ne _ _ (.inl (by decide)))) ?_
  refine hv_iconst (v := 1) hX ic_1 dX14_most_204 ?_
  refine hv_iadd hX dX14_most_205 ?_
  obtain ⟨g, hf⟩ := hf
  refine hm_iast hX dX14_most_206 (by decide) rfl rfl g ?_
  exact w_most_j207 hX hN hE hk36 _ _ _ _ _ _ _ hf
def m_most_j163 (Q : Int32 → mI → mJ → Prop) (k36 : Int32 → Int32 → Int32 → Int32 → Int32 → mI → mJ → Prop) (a1 : Int32) (a2 : Int32) (a3 : Int32) (a4 : Int32) (a5 : Int32) (s0 : Int32) (I : mI) (J : mJ) : Prop :=
  vp_in a4 24 ∧ ((s0 ≤ (I 12 a4.toNatClampNeg) →
    vp_in a4 24 ∧ (m_most_j195 Q k36 a1 a2 a3 a4 a5 a4 (I 12 a4.toNatClampNeg) I J)) ∧ (¬ s0 ≤ (I 12 a4.toNatClampNeg) →
    m_most_j195 Q k36 a1 a2 a3 a4 a5 a4 s0 I J))
theorem w_most_j163 {X : hh_CX} {Q : Int32 → mI → mJ → Prop} (hX : hh_C X cX14_most RX14 (hrm 4 92)) (hN : hh_nL X = 9) (hE : hh_E X (some .int) (mQi Q) 0 0) {k36 : Int32 → Int32 → Int32 → Int32 → Int32 → mI → mJ → Prop} (hk36 : ∀ (b0 : Int32) (b1 : Int32) (b2 : Int32) (b3 : Int32) (b4 : Int32) (I : mI) (J : mJ), k36 b0 b1 b2 b3 b4 I J → hh_V X 36 [(0, .ref 0), (1, .int b0), (2, .int b1), (3, .int b2), (4, .int b3), (5, .int b4)] [] 0 0 (hm I J)) : ∀ (a1 : Int32) (a2 : Int32) (a3 : Int32) (a4 : Int32) (a5 : Int32) (s0 : Int32) (I : mI) (J : mJ), m_most_j163 Q k36 a1 a2 a3 a4 a5 s0 I J → hh_V X 163 [(0, .ref 0), (1, .int a1), (2, .int a2), (3, .int a3), (4, .int a4), (5, .int a5)] [.int s0] 0 0 (hm I J) := by
  intro a1 a2 a3 a4 a5 s0 I J hf
  unfold m_most_j163 at hf
  refine hv_istore (loc2 := [(8, .int s0), (0, .ref 0), (1, .int a1), (2, .int a2), (3, .int a3), (4, .int a4), (5, .int a5)]) hX dX14_most_163 hN (Nat.le_of_ble_eq_true rfl) rfl ?_
  refine hv_aload_n hX dX14_most_165 rfl 1 rfl ?_
  refine hm_getR hX dX14_most_166 mfl57 12 rfl ?_
  refine hv_iload hX dX14_most_169 5 rfl ?_
  refine hv_iload hX dX14_most_171 0 rfl ?_
  refine hv_aload_n hX dX14_most_173 rfl 1 rfl ?_
  refine hm_getR hX dX14_most_174 mfl57 12 rfl ?_
  refine hv_iload hX dX14_most_177 5 rfl ?_
  obtain ⟨g, hf⟩ := hf
  refine hm_iald (v := (I 12 a4.toNatClampNeg)) hX dX14_most_179 (by decide) rfl rfl g rfl ?_
  refine hv_icmp_le (tgt := 188) hX dX14_most_180 (by decide) (fun c29 => ?_) (fun c29 => ?_)
  · replace hf := hf.1 c29
    refine hv_aload_n hX dX14_most_188 rfl 1 rfl ?_
    refine hm_getR hX dX14_most_189 mfl57 12 rfl ?_
    refine hv_iload hX dX14_most_192 5 rfl ?_
    obtain ⟨g, hf⟩ := hf
    refine hm_iald (v := (I 12 a4.toNatClampNeg)) hX dX14_most_194 (by decide) rfl rfl g rfl ?_
    refine hv_fewer [1, 2, 3, 4, 5, 6] (loc2 := [(0, .ref 0), (1, .int a1), (2, .int a2), (3, .int a3), (4, .int a4), (5, .int a5)]) rfl ?_
    exact w_most_j195 hX hN hE hk36 _ _ _ _ _ _ _ _ _ hf
  · replace hf := hf.2 c29
    refine hv_iload hX dX14_most_183 0 rfl ?_
    refine hv_goto (tgt := 195) hX dX14_most_185 (by decide) ?_
    refine hv_fewer [1, 2, 3, 4, 5, 6] (loc2 := [(0, .ref 0), (1, .int a1), (2, .int a2), (3, .int a3), (4, .int a4), (5, .int a5)]) rfl ?_
    exact w_most_j195 hX hN hE hk36 _ _ _ _ _ _ _ _ _ hf
def m_most_j131 (Q : Int32 → mI → mJ → Prop) (k36 : Int32 → Int32 → Int32 → Int32 → Int32 → mI → mJ → Prop) (a1 : Int32) (a2 : Int32) (a3 : Int32) (a4 : Int32) (a6 : Int32) (a7 : Int32) (s0 : Int32) (I : mI) (J : mJ) : Prop :=
  (s0 = 0 →
    (a6 = 0 →
      m_most_j163 Q k36 a1 a2 a3 a4 s0 0 I J) ∧ (¬ a6 = 0 →
      vp_in a7 201684 ∧ (m_most_j163 Q k36 a1 a2 a3 a4 s0 ((I 0 22) + ((I 7 a7.toNatClampNeg) - (I 7 a7.toNatClampNeg) / 1024 * 1024)) I J))) ∧ (¬ s0 = 0 →
    m_most_j207 Q k36 a1 a2 a3 a4 s0 I J)
theorem w_most_j131 {X : hh_CX} {Q : Int32 → mI → mJ → Prop} (hX : hh_C X cX14_most RX14 (hrm 4 92)) (hN : hh_nL X = 9) (hE : hh_E X (some .int) (mQi Q) 0 0) {k36 : Int32 → Int32 → Int32 → Int32 → Int32 → mI → mJ → Prop} (hk36 : ∀ (b0 : Int32) (b1 : Int32) (b2 : Int32) (b3 : Int32) (b4 : Int32) (I : mI) (J : mJ), k36 b0 b1 b2 b3 b4 I J → hh_V X 36 [(0, .ref 0), (1, .int b0), (2, .int b1), (3, .int b2), (4, .int b3), (5, .int b4)] [] 0 0 (hm I J)) : ∀ (a1 : Int32) (a2 : Int32) (a3 : Int32) (a4 : Int32) (a6 : Int32) (a7 : Int32) (s0 : Int32) (I : mI) (J : mJ), m_most_j131 Q k36 a1 a2 a3 a4 a6 a7 s0 I J → hh_V X 131 [(0, .ref 0), (1, .int a1), (2, .int a2), (3, .int a3), (4, .int a4), (6, .int a6), (7, .int a7)] [.int s0] 0 0 (hm I J) := by
  intro a1 a2 a3 a4 a6 a7 s0 I J hf
  unfold m_most_j131 at hf
  refine hv_istore (loc2 := [(5, .int s0), (0, .ref 0), (1, .int a1), (2, .int a2), (3, .int a3), (4, .int a4), (6, .int a6), (7, .int a7)]) hX dX14_most_131 hN (Nat.le_of_ble_eq_true rfl) rfl ?_
  refine hv_iload hX dX14_most_133 0 rfl ?_
  refine hv_if_ne (tgt := 207) hX dX14_most_135 (by decide) (fun c27 => ?_) (fun c27 => ?_)
  · replace hf := hf.2 c27
    refine hv_fewer [1, 2, 3, 4, 5, 0] (loc2 := [(0, .ref 0), (1, .int a1), (2, .int a2), (3, .int a3), (4, .int a4), (5, .int s0)]) rfl ?_
    exact w_most_j207 hX hN hE hk36 _ _ _ _ _ _ _ hf
  · replace hf := hf.1 c27
    refine hv_iload hX dX14_most_138 6 rfl ?_
    refine hv_if_eq (tgt := 162) hX dX14_most_140 (by decide) (fun c28 => ?_) (fun c28 => ?_)
    · replace hf := hf.1 c28
      refine hv_iconst (v := 0) hX ic_0 dX14_most_162 ?_
      refine hv_fewer [1, 2, 3, 4, 5, 0] (loc2 := [(0, .ref 0), (1, .int a1), (2, .int a2), (3, .int a3), (4, .int a4), (5, .int s0)]) rfl ?_
      exact w_most_j163 hX hN hE hk36 _ _ _ _ _ _ _ _ hf
    · replace hf := hf.2 c28
      refine hv_aload_n hX dX14_most_143 rfl 1 rfl ?_
      refine hm_getI (v := (I 0 22)) hX dX14_most_144 mfl175 (.inl rfl) rfl ?_
      refine hv_aload_n hX dX14_most_147 rfl 1 rfl ?_
      refine hm_getR hX dX14_most_148 mfl42 7 rfl ?_
      refine hv_iload hX dX14_most_151 7 rfl ?_
      obtain ⟨g, hf⟩ := hf
      refine hm_iald (v := (I 7 a7.toNatClampNeg)) hX dX14_most_153 (by decide) rfl rfl g rfl ?_
      refine hv_sipush (v := 1024) hX si_1024 dX14_most_154 ?_
      refine hv_irem hX (by decide) dX14_most_157 ?_
      refine hv_iadd hX dX14_most_158 ?_
      refine hv_goto (tgt := 163) hX dX14_most_159 (by decide) ?_
      refine hv_fewer [1, 2, 3, 4, 5, 0] (loc2 := [(0, .ref 0), (1, .int a1), (2, .int a2), (3, .int a3), (4, .int a4), (5, .int s0)]) rfl ?_
      exact w_most_j163 hX hN hE hk36 _ _ _ _ _ _ _ _ hf
def m_most_j130 (Q : Int32 → mI → mJ → Prop) (k36 : Int32 → Int32 → Int32 → Int32 → Int32 → mI → mJ → Prop) (a1 : Int32) (a2 : Int32) (a3 : Int32) (a4 : Int32) (a6 : Int32) (a7 : Int32) (I : mI) (J : mJ) : Prop :=
  m_most_j131 Q k36 a1 a2 a3 a4 a6 a7 0 I J
theorem w_most_j130 {X : hh_CX} {Q : Int32 → mI → mJ → Prop} (hX : hh_C X cX14_most RX14 (hrm 4 92)) (hN : hh_nL X = 9) (hE : hh_E X (some .int) (mQi Q) 0 0) {k36 : Int32 → Int32 → Int32 → Int32 → Int32 → mI → mJ → Prop} (hk36 : ∀ (b0 : Int32) (b1 : Int32) (b2 : Int32) (b3 : Int32) (b4 : Int32) (I : mI) (J : mJ), k36 b0 b1 b2 b3 b4 I J → hh_V X 36 [(0, .ref 0), (1, .int b0), (2, .int b1), (3, .int b2), (4, .int b3), (5, .int b4)] [] 0 0 (hm I J)) : ∀ (a1 : Int32) (a2 : Int32) (a3 : Int32) (a4 : Int32) (a6 : Int32) (a7 : Int32) (I : mI) (J : mJ), m_most_j130 Q k36 a1 a2 a3 a4 a6 a7 I J → hh_V X 130 [(0, .ref 0), (1, .int a1), (2, .int a2), (3, .int a3), (4, .int a4), (6, .int a6), (7, .int a7)] [] 0 0 (hm I J) := by
  intro a1 a2 a3 a4 a6 a7 I J hf
  unfold m_most_j130 at hf
  refine hv_iconst (v := 0) hX ic_0 dX14_most_130 ?_
  exact w_most_j131 hX hN hE hk36 _ _ _ _ _ _ _ _ _ hf
def m_most_j110 (Q : Int32 → mI → mJ → Prop) (k36 : Int32 → Int32 → Int32 → Int32 → Int32 → mI → mJ → Prop) (a1 : Int32) (a2 : Int32) (a3 : Int32) (a4 : Int32) (a6 : Int32) (s0 : Int32) (I : mI) (J : mJ) : Prop :=
  (a6 = 0 →
    m_most_j130 Q k36 a1 a2 a3 a4 a6 s0 I J) ∧ (¬ a6 = 0 →
    m_isFound s0 I J (fun r30 I31 J32 => (r30 = 0 →
      m_most_j131 Q k36 a1 a2 a3 a4 a6 s0 1 I31 J32) ∧ (¬ r30 = 0 →
      m_most_j130 Q k36 a1 a2 a3 a4 a6 s0 I31 J32)))
theorem w_most_j110 {X : hh_CX} {Q : Int32 → mI → mJ → Prop} (hX : hh_C X cX14_most RX14 (hrm 4 92)) (hN : hh_nL X = 9) (hE : hh_E X (some .int) (mQi Q) 0 0) {k36 : Int32 → Int32 → Int32 → Int32 → Int32 → mI → mJ → Prop} (hk36 : ∀ (b0 : Int32) (b1 : Int32) (b2 : Int32) (b3 : Int32) (b4 : Int32) (I : mI) (J : mJ), k36 b0 b1 b2 b3 b4 I J → hh_V X 36 [(0, .ref 0), (1, .int b0), (2, .int b1), (3, .int b2), (4, .int b3), (5, .int b4)] [] 0 0 (hm I J)) : ∀ (a1 : Int32) (a2 : Int32) (a3 : Int32) (a4 : Int32) (a6 : Int32) (s0 : Int32) (I : mI) (J : mJ), m_most_j110 Q k36 a1 a2 a3 a4 a6 s0 I J → hh_V X 110 [(0, .ref 0), (1, .int a1), (2, .int a2), (3, .int a3), (4, .int a4), (6, .int a6)] [.int s0] 0 0 (hm I J) := by
  intro a1 a2 a3 a4 a6 s0 I J hf
  unfold m_most_j110 at hf
  refine hv_istore (loc2 := [(7, .int s0), (0, .ref 0), (1, .int a1), (2, .int a2), (3, .int a3), (4, .int a4), (6, .int a6)]) hX dX14_most_110 hN (Nat.le_of_ble_eq_true rfl) rfl ?_
  refine hv_iload hX dX14_most_112 6 rfl ?_
  refine hv_if_eq (tgt := 130) hX dX14_most_114 (by decide) (fun c26 => ?_) (fun c26 => ?_)
  · replace hf := hf.1 c26
    refine hv_fewer [1, 2, 3, 4, 5, 6, 0] (loc2 := [(0, .ref 0), (1, .int a1), (2, .int a2), (3, .int a3), (4, .int a4), (6, .int a6), (7, .int s0)]) rfl ?_
    exact w_most_j130 hX hN hE hk36 _ _ _ _ _ _ _ _ hf
  · replace hf := hf.2 c26
    refine hv_aload_n hX dX14_most_117 rfl 1 rfl ?_
    refine hv_iload hX dX14_most_118 0 rfl ?_
    refine hm_callVi hX dX14_most_120 (ct_isFound s0 I J _ hf) (gd_isFound q2014) np_isFound rfl rfl ⟨Nat.le_of_ble_eq_true rfl, Nat.le_of_ble_eq_true rfl⟩ ⟨Nat.le_refl _, Nat.le_refl _⟩ (Nat.le_of_ble_eq_true rfl) ?_
    intro r30 I31 J32 hf
    refine hv_if_ne (tgt := 130) hX dX14_most_123 (by decide) (fun c33 => ?_) (fun c33 => ?_)
    · replace hf := hf.2 c33
      refine hv_fewer [1, 2, 3, 4, 5, 6, 0] (loc2 := [(0, .ref 0), (1, .int a1), (2, .int a2), (3, .int a3), (4, .int a4), (6, .int a6), (7, .int s0)]) rfl ?_
      exact w_most_j130 hX hN hE hk36 _ _ _ _ _ _ _ _ hf
    · replace hf := hf.1 c33
      refine hv_iconst (v := 1) hX ic_1 dX14_most_126 ?_
      refine hv_goto (tgt := 131) hX dX14_most_127 (by decide) ?_
      refine hv_fewer [1, 2, 3, 4, 5, 6, 0] (loc2 := [(0, .ref 0), (1, .int a1), (2, .int a2), (3, .int a3), (4, .int a4), (6, .int a6), (7, .int s0)]) rfl ?_
      exact w_most_j131 hX hN hE hk36 _ _ _ _ _ _ _ _ _ hf
def m_most_l36 (Q : Int32 → mI → mJ → Prop) (k28 : Int32 → Int32 → Int32 → Int32 → mI → mJ → Prop) : Nat → Int32 → Int32 → Int32 → Int32 → Int32 → mI → mJ → Prop
  | 0, _, _, _, _, _, _, _ => False
  | n + 1, a1, a2, a3, a4, a5, I, J =>
    (a5 = 0 →
      vp_in a4 24 ∧ (((3 : Int32) < (I 11 a4.toNatClampNeg) →
        m_most_j210 Q k28 a1 a2 a3 a4 a5 I J) ∧ (¬ (3 : Int32) < (I 11 a4.toNatClampNeg) →
        vp_in a4 24 ∧ (vp_in a4 24 ∧ (vp_in a4 24 ∧ (vp_in a4 24 ∧ (m_leads (I 8 a4.toNatClampNeg) (I 9 a4.toNatClampNeg) (I 10 a4.toNatClampNeg) (I 11 a4.toNatClampNeg) I J (fun r22 I23 J24 => (r22 = 0 →
          m_most_j110 Q (fun b0 b1 b2 b3 b4 I J => m_most_l36 Q k28 n b0 b1 b2 b3 b4 I J) a1 a2 a3 a4 r22 0 I23 J24) ∧ (¬ r22 = 0 →
          m_keyOf (I23 0 19) (I23 0 20) (I23 0 21) I23 J24 (fun r34 I35 J36 => m_most_j110 Q (fun b0 b1 b2 b3 b4 I J => m_most_l36 Q k28 n b0 b1 b2 b3 b4 I J) a1 a2 a3 a4 r22 r34 I35 J36)))))))))) ∧ (¬ a5 = 0 →
      m_most_j210 Q k28 a1 a2 a3 a4 a5 I J)
theorem w_most_l36 {X : hh_CX} {Q : Int32 → mI → mJ → Prop} (hX : hh_C X cX14_most RX14 (hrm 4 92)) (hN : hh_nL X = 9) (hE : hh_E X (some .int) (mQi Q) 0 0) {k28 : Int32 → Int32 → Int32 → Int32 → mI → mJ → Prop} (hk28 : ∀ (b0 : Int32) (b1 : Int32) (b2 : Int32) (b3 : Int32) (I : mI) (J : mJ), k28 b0 b1 b2 b3 I J → hh_V X 28 [(0, .ref 0), (1, .int b0), (2, .int b1), (3, .int b2), (4, .int b3)] [] 0 0 (hm I J)) : ∀ (n : Nat) (a1 : Int32) (a2 : Int32) (a3 : Int32) (a4 : Int32) (a5 : Int32) (I : mI) (J : mJ), m_most_l36 Q k28 n a1 a2 a3 a4 a5 I J → hh_V X 36 [(0, .ref 0), (1, .int a1), (2, .int a2), (3, .int a3), (4, .int a4), (5, .int a5)] [] 0 0 (hm I J) := by
  intro n
  induction n with
  | zero => intro _ _ _ _ _ _ _ hf; exact hf.elim
  | succ n ih =>
    intro a1 a2 a3 a4 a5 I J hf
    unfold m_most_l36 at hf
    refine hv_iload hX dX14_most_36 5 rfl ?_
    refine hv_if_ne (tgt := 210) hX dX14_most_38 (by decide) (fun c14 => ?_) (fun c14 => ?_)
    · replace hf := hf.2 c14
      exact w_most_j210 hX hN hE hk28 _ _ _ _ _ _ _ hf
    · replace hf := hf.1 c14
      refine hv_aload_n hX dX14_most_41 rfl 0 rfl ?_
      refine hm_getR hX dX14_most_42 mfl54 11 rfl ?_
      refine hv_iload hX dX14_most_45 4 rfl ?_
      obtain ⟨g, hf⟩ := hf
      refine hm_iald (v := (I 11 a4.toNatClampNeg)) hX dX14_most_47 (by decide) rfl rfl g rfl ?_
      refine hv_iconst (v := 3) hX ic_3 dX14_most_48 ?_
      refine hv_icmp_gt (tgt := 210) hX dX14_most_49 (by decide) (fun c21 => ?_) (fun c21 => ?_)
      · replace hf := hf.1 c21
        exact w_most_j210 hX hN hE hk28 _ _ _ _ _ _ _ hf
      · replace hf := hf.2 c21
        refine hv_aload_n hX dX14_most_52 rfl 0 rfl ?_
        refine hv_aload_n hX dX14_most_53 rfl 0 rfl ?_
        refine hm_getR hX dX14_most_54 mfl45 8 rfl ?_
        refine hv_iload hX dX14_most_57 4 rfl ?_
        obtain ⟨g, hf⟩ := hf
        refine hm_iald (v := (I 8 a4.toNatClampNeg)) hX dX14_most_59 (by decide) rfl rfl g rfl ?_
        refine hv_aload_n hX dX14_most_60 rfl 0 rfl ?_
        refine hm_getR hX dX14_most_61 mfl48 9 rfl ?_
        refine hv_iload hX dX14_most_64 4 rfl ?_
        obtain ⟨g, hf⟩ := hf
        refine hm_iald (v := (I 9 a4.toNatClampNeg)) hX dX14_most_66 (by decide) rfl rfl g rfl ?_
        refine hv_aload_n hX dX14_most_67 rfl 0 rfl ?_
        refine hm_getR hX dX14_most_68 mfl51 10 rfl ?_
        refine hv_iload hX dX14_most_71 4 rfl ?_
        obtain ⟨g, hf⟩ := hf
        refine hm_iald (v := (I 10 a4.toNatClampNeg)) hX dX14_most_73 (by decide) rfl rfl g rfl ?_
        refine hv_aload_n hX dX14_most_74 rfl 0 rfl ?_
        refine hm_getR hX dX14_most_75 mfl54 11 rfl ?_
        refine hv_iload hX dX14_most_78 4 rfl ?_
        obtain ⟨g, hf⟩ := hf
        refine hm_iald (v := (I 11 a4.toNatClampNeg)) hX dX14_most_80 (by decide) rfl rfl g rfl ?_
        refine hm_callVi hX dX14_most_81 (ct_leads (I 8 a4.toNatClampNeg) (I 9 a4.toNatClampNeg) (I 10 a4.toNatClampNeg) (I 11 a4.toNatClampNeg) I J _ hf) (gd_leads q1991) np_leads rfl rfl ⟨Nat.le_of_ble_eq_true rfl, Nat.le_of_ble_eq_true rfl⟩ ⟨Nat.le_refl _, Nat.le_refl _⟩ (Nat.le_of_ble_eq_true rfl) ?_
        intro r22 I23 J24 hf
        refine hv_istore (loc2 := [(6, .int r22), (0, .ref 0), (1, .int a1), (2, .int a2), (3, .int a3), (4, .int a4), (5, .int a5)]) hX dX14_most_84 hN (Nat.le_of_ble_eq_true rfl) rfl ?_
        refine hv_iload hX dX14_most_86 0 rfl ?_
        refine hv_if_eq (tgt := 109) hX dX14_most_88 (by decide) (fun c25 => ?_) (fun c25 => ?_)
        · replace hf := hf.1 c25
          refine hv_iconst (v := 0) hX ic_0 dX14_most_109 ?_
          refine hv_fewer [1, 2, 3, 4, 5, 0] (loc2 := [(0, .ref 0), (1, .int a1), (2, .int a2), (3, .int a3), (4, .int a4), (6, .int r22)]) rfl ?_
          exact w_most_j110 hX hN hE ih _ _ _ _ _ _ _ _ hf
        · replace hf := hf.2 c25
          refine hv_aload_n hX dX14_most_91 rfl 1 rfl ?_
          refine hm_getI (v := (I23 0 19)) hX dX14_most_92 mfl187 (.inl rfl) rfl ?_
          refine hv_aload_n hX dX14_most_95 rfl 1 rfl ?_
          refine hm_getI (v := (I23 0 20)) hX dX14_most_96 mfl181 (.inl rfl) rfl ?_
          refine hv_aload_n hX dX14_most_99 rfl 1 rfl ?_
          refine hm_getI (v := (I23 0 21)) hX dX14_most_100 mfl178 (.inl rfl) rfl ?_
          refine hm_callSi hX dX14_most_103 (ct_keyOf (I23 0 19) (I23 0 20) (I23 0 21) I23 J24 _ hf) (gd_keyOf q2011) np_keyOf rfl rfl ⟨Nat.le_of_ble_eq_true rfl, Nat.le_of_ble_eq_true rfl⟩ ⟨Nat.le_refl _, Nat.le_refl _⟩ (Nat.le_of_ble_eq_true rfl) ?_
          intro r34 I35 J36 hf
          refine hv_goto (tgt := 110) hX dX14_most_106 (by decide) ?_
          refine hv_fewer [1, 2, 3, 4, 5, 0] (loc2 := [(0, .ref 0), (1, .int a1), (2, .int a2), (3, .int a3), (4, .int a4), (6, .int r22)]) rfl ?_
          exact w_most_j110 hX hN hE ih _ _ _ _ _ _ _ _ hf
def m_most_l28 (Q : Int32 → mI → mJ → Prop) : Nat → Int32 → Int32 → Int32 → Int32 → mI → mJ → Prop
  | 0, _, _, _, _, _, _ => False
  | n + 1, a1, a2, a3, a4, I, J =>
    (a4 < 0 →
      m_keyOf a1 a2 a3 I J (fun r11 I12 J13 => vp_in r11 201684 ∧ (Q ((I12 7 r11.toNatClampNeg) - (I12 7 r11.toNatClampNeg) / 1024 * 1024) I12 J13))) ∧ (¬ a4 < 0 →
      ∃ n0 : Nat, m_most_l36 Q (fun b0 b1 b2 b3 I J => m_most_l28 Q n b0 b1 b2 b3 I J) n0 a1 a2 a3 a4 0 I J)
theorem w_most_l28 {X : hh_CX} {Q : Int32 → mI → mJ → Prop} (hX : hh_C X cX14_most RX14 (hrm 4 92)) (hN : hh_nL X = 9) (hE : hh_E X (some .int) (mQi Q) 0 0) : ∀ (n : Nat) (a1 : Int32) (a2 : Int32) (a3 : Int32) (a4 : Int32) (I : mI) (J : mJ), m_most_l28 Q  n a1 a2 a3 a4 I J → hh_V X 28 [(0, .ref 0), (1, .int a1), (2, .int a2), (3, .int a3), (4, .int a4)] [] 0 0 (hm I J) := by
  intro n
  induction n with
  | zero => intro _ _ _ _ _ _ hf; exact hf.elim
  | succ n ih =>
    intro a1 a2 a3 a4 I J hf
    unfold m_most_l28 at hf
    refine hv_iload hX dX14_most_28 4 rfl ?_
    refine hv_if_lt (tgt := 290) hX dX14_most_30 (by decide) (fun c10 => ?_) (fun c10 => ?_)
    · replace hf := hf.1 c10
      refine hv_aload_n hX dX14_most_290 rfl 0 rfl ?_
      refine hm_getR hX dX14_most_291 mfl42 7 rfl ?_
      refine hv_iload_n hX dX14_most_294 rfl 1 rfl ?_
      refine hv_iload_n hX dX14_most_295 rfl 2 rfl ?_
      refine hv_iload_n hX dX14_most_296 rfl 3 rfl ?_
      refine hm_callSi hX dX14_most_297 (ct_keyOf a1 a2 a3 I J _ hf) (gd_keyOf q2011) np_keyOf rfl rfl ⟨Nat.le_of_ble_eq_true rfl, Nat.le_of_ble_eq_true rfl⟩ ⟨Nat.le_refl _, Nat.le_refl _⟩ (Nat.le_of_ble_eq_true rfl) ?_
      intro r11 I12 J13 hf
      obtain ⟨g, hf⟩ := hf
      refine hm_iald (v := (I12 7 r11.toNatClampNeg)) hX dX14_most_300 (by decide) rfl rfl g rfl ?_
      refine hv_sipush (v := 1024) hX si_1024 dX14_most_301 ?_
      refine hv_irem hX (by decide) dX14_most_304 ?_
      exact hm_iret hX hE dX14_most_305 hf
    · replace hf := hf.2 c10
      refine hv_iconst (v := 0) hX ic_0 dX14_most_33 ?_
      refine hv_istore (loc2 := [(5, .int 0), (0, .ref 0), (1, .int a1), (2, .int a2), (3, .int a3), (4, .int a4)]) hX dX14_most_34 hN (Nat.le_of_ble_eq_true rfl) rfl ?_
      refine hv_fewer [1, 2, 3, 4, 5, 0] (loc2 := [(0, .ref 0), (1, .int a1), (2, .int a2), (3, .int a3), (4, .int a4), (5, .int 0)]) rfl ?_
      obtain ⟨n0, hf⟩ := hf
      exact w_most_l36 hX hN hE ih n0 _ _ _ _ _ _ _ hf
def m_most_j18 (Q : Int32 → mI → mJ → Prop) (a1 : Int32) (a2 : Int32) (a3 : Int32) (s0 : Int32) (I : mI) (J : mJ) : Prop :=
  m_pile 0 a1 a2 a3 I J (fun  I8 J9 => ∃ n0 : Nat, m_most_l28 Q  n0 a1 a2 a3 s0 I8 J9)
theorem w_most_j18 {X : hh_CX} {Q : Int32 → mI → mJ → Prop} (hX : hh_C X cX14_most RX14 (hrm 4 92)) (hN : hh_nL X = 9) (hE : hh_E X (some .int) (mQi Q) 0 0) : ∀ (a1 : Int32) (a2 : Int32) (a3 : Int32) (s0 : Int32) (I : mI) (J : mJ), m_most_j18 Q  a1 a2 a3 s0 I J → hh_V X 18 [(0, .ref 0), (1, .int a1), (2, .int a2), (3, .int a3)] [.int s0] 0 0 (hm I J) := by
  intro a1 a2 a3 s0 I J hf
  unfold m_most_j18 at hf
  refine hv_istore (loc2 := [(4, .int s0), (0, .ref 0), (1, .int a1), (2, .int a2), (3, .int a3)]) hX dX14_most_18 hN (Nat.le_of_ble_eq_true rfl) rfl ?_
  refine hv_aload_n hX dX14_most_20 rfl 1 rfl ?_
  refine hv_iconst (v := 0) hX ic_0 dX14_most_21 ?_
  refine hv_iload_n hX dX14_most_22 rfl 2 rfl ?_
  refine hv_iload_n hX dX14_most_23 rfl 3 rfl ?_
  refine hv_iload_n hX dX14_most_24 rfl 4 rfl ?_
  refine hm_callVv hX dX14_most_25 (ct_pile 0 a1 a2 a3 I J _ hf) (gd_pile q2018) np_pile rfl rfl ⟨Nat.le_of_ble_eq_true rfl, Nat.le_of_ble_eq_true rfl⟩ ⟨Nat.le_refl _, Nat.le_refl _⟩ (Nat.le_of_ble_eq_true rfl) ?_
  intro  I8 J9 hf
  refine hv_fewer [1, 2, 3, 4, 0] (loc2 := [(0, .ref 0), (1, .int a1), (2, .int a2), (3, .int a3), (4, .int s0)]) rfl ?_
  obtain ⟨n0, hf⟩ := hf
  exact w_most_l28 hX hN hE  n0 _ _ _ _ _ _ hf
def m_most (a1 : Int32) (a2 : Int32) (a3 : Int32) (I : mI) (J : mJ) (Q : Int32 → mI → mJ → Prop) : Prop :=
  m_keyOf a1 a2 a3 I J (fun r1 I2 J3 => m_isFound r1 I2 J3 (fun r4 I5 J6 => (r4 = 0 →
    m_most_j18 Q  a1 a2 a3 0 I5 J6) ∧ (¬ r4 = 0 →
    m_most_j18 Q  a1 a2 a3 (-1) I5 J6)))
theorem ct_most (a1 : Int32) (a2 : Int32) (a3 : Int32) (I : mI) (J : mJ) (Q : Int32 → mI → mJ → Prop) (hf : m_most a1 a2 a3 I J Q) : hh_Ct yX14_most cX14_most 9 (some .int) 4 92 [.ref 0, .int a1, .int a2, .int a3] (hm I J) (mQi Q) 0 0 := by
  refine hh_Ct.of (own := RX14) rfl (by decide +kernel) (Nat.le_of_ble_eq_true rfl) ?_
  intro X hX hN hE
  show hh_V X 0 [(0, .ref 0), (1, .int a1), (2, .int a2), (3, .int a3)] [] 0 0 (hm I J)
  unfold m_most at hf
  refine hv_aload_n hX dX14_most_0 rfl 0 rfl ?_
  refine hv_iload_n hX dX14_most_1 rfl 1 rfl ?_
  refine hv_iload_n hX dX14_most_2 rfl 2 rfl ?_
  refine hv_iload_n hX dX14_most_3 rfl 3 rfl ?_
  refine hm_callSi hX dX14_most_4 (ct_keyOf a1 a2 a3 I J _ hf) (gd_keyOf q2011) np_keyOf rfl rfl ⟨Nat.le_of_ble_eq_true rfl, Nat.le_of_ble_eq_true rfl⟩ ⟨Nat.le_refl _, Nat.le_refl _⟩ (Nat.le_of_ble_eq_true rfl) ?_
  intro r1 I2 J3 hf
  refine hm_callVi hX dX14_most_7 (ct_isFound r1 I2 J3 _ hf) (gd_isFound q2014) np_isFound rfl rfl ⟨Nat.le_of_ble_eq_true rfl, Nat.le_of_ble_eq_true rfl⟩ ⟨Nat.le_refl _, Nat.le_refl _⟩ (Nat.le_of_ble_eq_true rfl) ?_
  intro r4 I5 J6 hf
  refine hv_if_eq (tgt := 17) hX dX14_most_10 (by decide) (fun c7 => ?_) (fun c7 => ?_)
  · replace hf := hf.1 c7
    refine hv_iconst (v := 0) hX ic_0 dX14_most_17 ?_
    exact w_most_j18 hX hN hE  _ _ _ _ _ _ hf
  · replace hf := hf.2 c7
    refine hv_iconst (v := (-1)) hX ic_m1 dX14_most_13 ?_
    refine hv_goto (tgt := 18) hX dX14_most_14 (by decide) ?_
    exact w_most_j18 hX hN hE  _ _ _ _ _ _ hf
theorem np_most : yX14_most.cls = RX14 ∧ yX14_most.cls ≠ "java/lang/invoke/MethodHandle" ∧ yX14_most.cls ≠ "java/lang/invoke/VarHandle" ∧ (parseMethodDescriptor yX14_most.desc).map (fun d => d.parameters.length) = some 3 := by decide +kernel
theorem gd_most {idx : Nat} (h : Cond.methodLink RX14 idx yX14_most ∈ lw_all) : GoodIn lw_all (wsV RX14 idx RX14 yX14_most (ws_ yX14_most cX14_most 9 (some .int))) := lw_V h q2009 qs56 q123 q2010
/-! best()I -/
def m_best  (I : mI) (J : mJ) (Q : Int32 → mI → mJ → Prop) : Prop :=
  m_most (I 0 0) (I 0 3) (I 0 12) I J (fun r1 I2 J3 => Q r1 I2 J3)
theorem ct_best  (I : mI) (J : mJ) (Q : Int32 → mI → mJ → Prop) (hf : m_best  I J Q) : hh_Ct yX14_best cX14_best 1 (some .int) 5 120 [.ref 0] (hm I J) (mQi Q) 0 0 := by
  refine hh_Ct.of (own := RX14) rfl (by decide +kernel) (Nat.le_of_ble_eq_true rfl) ?_
  intro X hX hN hE
  show hh_V X 0 [(0, .ref 0)] [] 0 0 (hm I J)
  unfold m_best at hf
  refine hv_aload_n hX dX14_best_0 rfl 0 rfl ?_
  refine hv_aload_n hX dX14_best_1 rfl 0 rfl ?_
  refine hm_getI (v := (I 0 0)) hX dX14_best_2 mfl166 (.inl rfl) rfl ?_
  refine hv_aload_n hX dX14_best_5 rfl 0 rfl ?_
  refine hm_getI (v := (I 0 3)) hX dX14_best_6 mfl169 (.inl rfl) rfl ?_
  refine hv_aload_n hX dX14_best_9 rfl 0 rfl ?_
  refine hm_getI (v := (I 0 12)) hX dX14_best_10 mfl141 (.inl rfl) rfl ?_
  refine hm_callVi hX dX14_best_13 (ct_most (I 0 0) (I 0 3) (I 0 12) I J _ hf) (gd_most q2007) np_most rfl rfl ⟨Nat.le_of_ble_eq_true rfl, Nat.le_of_ble_eq_true rfl⟩ ⟨Nat.le_refl _, Nat.le_refl _⟩ (Nat.le_of_ble_eq_true rfl) ?_
  intro r1 I2 J3 hf
  exact hm_iret hX hE dX14_best_16 hf
theorem np_best : yX14_best.cls = RX14 ∧ yX14_best.cls ≠ "java/lang/invoke/MethodHandle" ∧ yX14_best.cls ≠ "java/lang/invoke/VarHandle" ∧ (parseMethodDescriptor yX14_best.desc).map (fun d => d.parameters.length) = some 0 := by decide +kernel
theorem gd_best {idx : Nat} (h : Cond.methodLink RX14 idx yX14_best ∈ lw_all) : GoodIn lw_all (wsV RX14 idx RX14 yX14_best (ws_ yX14_best cX14_best 1 (some .int))) := lw_V h q2004 q2005 q123 q2006
/-! mostBy(IIII)I -/
def m_mostBy (a1 : Int32) (a2 : Int32) (a3 : Int32) (a4 : Int32) (I : mI) (J : mJ) (Q : Int32 → mI → mJ → Prop) : Prop :=
  m_leads a1 a2 a3 a4 I J (fun r1 I2 J3 => (r1 = 0 →
    Q (-1) I2 J3) ∧ (¬ r1 = 0 →
    m_most (I2 0 19) (I2 0 20) (I2 0 21) I2 J3 (fun r5 I6 J7 => Q ((I2 0 22) + r5) I6 J7)))
theorem ct_mostBy (a1 : Int32) (a2 : Int32) (a3 : Int32) (a4 : Int32) (I : mI) (J : mJ) (Q : Int32 → mI → mJ → Prop) (hf : m_mostBy a1 a2 a3 a4 I J Q) : hh_Ct yX14_mostBy cX14_mostBy 6 (some .int) 5 120 [.ref 0, .int a1, .int a2, .int a3, .int a4] (hm I J) (mQi Q) 0 0 := by
  refine hh_Ct.of (own := RX14) rfl (by decide +kernel) (Nat.le_of_ble_eq_true rfl) ?_
  intro X hX hN hE
  show hh_V X 0 [(0, .ref 0), (1, .int a1), (2, .int a2), (3, .int a3), (4, .int a4)] [] 0 0 (hm I J)
  unfold m_mostBy at hf
  refine hv_aload_n hX dX14_mostBy_0 rfl 0 rfl ?_
  refine hv_iload_n hX dX14_mostBy_1 rfl 1 rfl ?_
  refine hv_iload_n hX dX14_mostBy_2 rfl 2 rfl ?_
  refine hv_iload_n hX dX14_mostBy_3 rfl 3 rfl ?_
  refine hv_iload hX dX14_mostBy_4 4 rfl ?_
  refine hm_callVi hX dX14_mostBy_6 (ct_leads a1 a2 a3 a4 I J _ hf) (gd_leads q1991) np_leads rfl rfl ⟨Nat.le_of_ble_eq_true rfl, Nat.le_of_ble_eq_true rfl⟩ ⟨Nat.le_refl _, Nat.le_refl _⟩ (Nat.le_of_ble_eq_true rfl) ?_
  intro r1 I2 J3 hf
  refine hv_if_ne (tgt := 14) hX dX14_mostBy_9 (by decide) (fun c4 => ?_) (fun c4 => ?_)
  · replace hf := hf.2 c4
    refine hv_aload_n hX dX14_mostBy_14 rfl 0 rfl ?_
    refine hm_getI (v := (I2 0 22)) hX dX14_mostBy_15 mfl175 (.inl rfl) rfl ?_
    refine hv_istore (loc2 := [(5, .int (I2 0 22)), (0, .ref 0), (1, .int a1), (2, .int a2), (3, .int a3), (4, .int a4)]) hX dX14_mostBy_18 hN (Nat.le_of_ble_eq_true rfl) rfl ?_
    refine hv_iload hX dX14_mostBy_20 0 rfl ?_
    refine hv_aload_n hX dX14_mostBy_22 rfl 1 rfl ?_
    refine hv_aload_n hX dX14_mostBy_23 rfl 1 rfl ?_
    refine hm_getI (v := (I2 0 19)) hX dX14_mostBy_24 mfl187 (.inl rfl) rfl ?_
    refine hv_aload_n hX dX14_mostBy_27 rfl 1 rfl ?_
    refine hm_getI (v := (I2 0 20)) hX dX14_mostBy_28 mfl181 (.inl rfl) rfl ?_
    refine hv_aload_n hX dX14_mostBy_31 rfl 1 rfl ?_
    refine hm_getI (v := (I2 0 21)) hX dX14_mostBy_32 mfl178 (.inl rfl) rfl ?_
    refine hm_callVi hX dX14_mostBy_35 (ct_most (I2 0 19) (I2 0 20) (I2 0 21) I2 J3 _ hf) (gd_most q2007) np_most rfl rfl ⟨Nat.le_of_ble_eq_true rfl, Nat.le_of_ble_eq_true rfl⟩ ⟨Nat.le_refl _, Nat.le_refl _⟩ (Nat.le_of_ble_eq_true rfl) ?_
    intro r5 I6 J7 hf
    refine hv_iadd hX dX14_mostBy_38 ?_
    exact hm_iret hX hE dX14_mostBy_39 hf
  · replace hf := hf.1 c4
    refine hv_iconst (v := (-1)) hX ic_m1 dX14_mostBy_12 ?_
    exact hm_iret hX hE dX14_mostBy_13 hf
theorem np_mostBy : yX14_mostBy.cls = RX14 ∧ yX14_mostBy.cls ≠ "java/lang/invoke/MethodHandle" ∧ yX14_mostBy.cls ≠ "java/lang/invoke/VarHandle" ∧ (parseMethodDescriptor yX14_mostBy.desc).map (fun d => d.parameters.length) = some 4 := by decide +kernel
theorem gd_mostBy {idx : Nat} (h : Cond.methodLink RX14 idx yX14_mostBy ∈ lw_all) : GoodIn lw_all (wsV RX14 idx RX14 yX14_mostBy (ws_ yX14_mostBy cX14_mostBy 6 (some .int))) := lw_V h q2032 qs60 q123 q2033
/-! firstOf(III)I -/
def m_firstOf_l12 (Q : Int32 → mI → mJ → Prop) : Nat → Int32 → Int32 → Int32 → Int32 → Int32 → mI → mJ → Prop
  | 0, _, _, _, _, _, _, _ => False
  | n + 1, a1, a2, a3, a4, a5, I, J =>
    ((3 : Int32) < a5 →
      Q (-9) I J) ∧ (¬ (3 : Int32) < a5 →
      m_mostBy a1 a2 a3 a5 I J (fun r5 I6 J7 => (r5 = a4 →
        Q a5 I6 J7) ∧ (¬ r5 = a4 →
        m_firstOf_l12 Q n a1 a2 a3 a4 (a5 + 1) I6 J7)))
theorem w_firstOf_l12 {X : hh_CX} {Q : Int32 → mI → mJ → Prop} (hX : hh_C X cX14_firstOf RX14 (hrm 6 145)) (hN : hh_nL X = 6) (hE : hh_E X (some .int) (mQi Q) 0 0) : ∀ (n : Nat) (a1 : Int32) (a2 : Int32) (a3 : Int32) (a4 : Int32) (a5 : Int32) (I : mI) (J : mJ), m_firstOf_l12 Q  n a1 a2 a3 a4 a5 I J → hh_V X 12 [(0, .ref 0), (1, .int a1), (2, .int a2), (3, .int a3), (4, .int a4), (5, .int a5)] [] 0 0 (hm I J) := by
  intro n
  induction n with
  | zero => intro _ _ _ _ _ _ _ hf; exact hf.elim
  | succ n ih =>
    intro a1 a2 a3 a4 a5 I J hf
    unfold m_firstOf_l12 at hf
    refine hv_iload hX dX14_firstOf_12 5 rfl ?_
    refine hv_iconst (v := 3) hX ic_3 dX14_firstOf_14 ?_
    refine hv_icmp_gt (tgt := 41) hX dX14_firstOf_15 (by decide) (fun c4 => ?_) (fun c4 => ?_)
    · replace hf := hf.1 c4
      refine hv_bipush (v := (-9)) hX bi_m9 dX14_firstOf_41 ?_
      exact hm_iret hX hE dX14_firstOf_43 hf
    · replace hf := hf.2 c4
      refine hv_aload_n hX dX14_firstOf_18 rfl 0 rfl ?_
      refine hv_iload_n hX dX14_firstOf_19 rfl 1 rfl ?_
      refine hv_iload_n hX dX14_firstOf_20 rfl 2 rfl ?_
      refine hv_iload_n hX dX14_firstOf_21 rfl 3 rfl ?_
      refine hv_iload hX dX14_firstOf_22 5 rfl ?_
      refine hm_callVi hX dX14_firstOf_24 (ct_mostBy a1 a2 a3 a5 I J _ hf) (gd_mostBy q2030) np_mostBy rfl rfl ⟨Nat.le_of_ble_eq_true rfl, Nat.le_of_ble_eq_true rfl⟩ ⟨Nat.le_refl _, Nat.le_refl _⟩ (Nat.le_of_ble_eq_true rfl) ?_
      intro r5 I6 J7 hf
      refine hv_iload hX dX14_firstOf_27 4 rfl ?_
      refine hv_icmp_ne (tgt := 35) hX dX14_firstOf_29 (by decide) (fun c8 => ?_) (fun c8 => ?_)
      · replace hf := hf.2 c8
        refine hv_iinc (v := (a5 + 1)) (loc2 := [(5, .int (a5 + 1)), (0, .ref 0), (1, .int a1), (2, .int a2), (3, .int a3), (4, .int a4)]) hX dX14_firstOf_35 5 rfl (congrArg (fun y => a5 + y) ic_1) hN (Nat.le_of_ble_eq_true rfl) rfl ?_
        refine hv_goto (tgt := 12) hX dX14_firstOf_38 (by decide) ?_
        refine hv_fewer [1, 2, 3, 4, 5, 0] (loc2 := [(0, .ref 0), (1, .int a1), (2, .int a2), (3, .int a3), (4, .int a4), (5, .int (a5 + 1))]) rfl ?_
        exact ih _ _ _ _ _ _ _ hf
      · replace hf := hf.1 c8
        refine hv_iload hX dX14_firstOf_32 5 rfl ?_
        exact hm_iret hX hE dX14_firstOf_34 hf
def m_firstOf (a1 : Int32) (a2 : Int32) (a3 : Int32) (I : mI) (J : mJ) (Q : Int32 → mI → mJ → Prop) : Prop :=
  m_most a1 a2 a3 I J (fun r1 I2 J3 => ∃ n0 : Nat, m_firstOf_l12 Q  n0 a1 a2 a3 r1 (-1) I2 J3)
theorem ct_firstOf (a1 : Int32) (a2 : Int32) (a3 : Int32) (I : mI) (J : mJ) (Q : Int32 → mI → mJ → Prop) (hf : m_firstOf a1 a2 a3 I J Q) : hh_Ct yX14_firstOf cX14_firstOf 6 (some .int) 6 145 [.ref 0, .int a1, .int a2, .int a3] (hm I J) (mQi Q) 0 0 := by
  refine hh_Ct.of (own := RX14) rfl (by decide +kernel) (Nat.le_of_ble_eq_true rfl) ?_
  intro X hX hN hE
  show hh_V X 0 [(0, .ref 0), (1, .int a1), (2, .int a2), (3, .int a3)] [] 0 0 (hm I J)
  unfold m_firstOf at hf
  refine hv_aload_n hX dX14_firstOf_0 rfl 0 rfl ?_
  refine hv_iload_n hX dX14_firstOf_1 rfl 1 rfl ?_
  refine hv_iload_n hX dX14_firstOf_2 rfl 2 rfl ?_
  refine hv_iload_n hX dX14_firstOf_3 rfl 3 rfl ?_
  refine hm_callVi hX dX14_firstOf_4 (ct_most a1 a2 a3 I J _ hf) (gd_most q2007) np_most rfl rfl ⟨Nat.le_of_ble_eq_true rfl, Nat.le_of_ble_eq_true rfl⟩ ⟨Nat.le_refl _, Nat.le_refl _⟩ (Nat.le_of_ble_eq_true rfl) ?_
  intro r1 I2 J3 hf
  refine hv_istore (loc2 := [(4, .int r1), (0, .ref 0), (1, .int a1), (2, .int a2), (3, .int a3)]) hX dX14_firstOf_7 hN (Nat.le_of_ble_eq_true rfl) rfl ?_
  refine hv_iconst (v := (-1)) hX ic_m1 dX14_firstOf_9 ?_
  refine hv_istore (loc2 := [(5, .int (-1)), (4, .int r1), (0, .ref 0), (1, .int a1), (2, .int a2), (3, .int a3)]) hX dX14_firstOf_10 hN (Nat.le_of_ble_eq_true rfl) rfl ?_
  refine hv_fewer [2, 3, 4, 5, 1, 0] (loc2 := [(0, .ref 0), (1, .int a1), (2, .int a2), (3, .int a3), (4, .int r1), (5, .int (-1))]) rfl ?_
  obtain ⟨n0, hf⟩ := hf
  exact w_firstOf_l12 hX hN hE  n0 _ _ _ _ _ _ _ hf
theorem np_firstOf : yX14_firstOf.cls = RX14 ∧ yX14_firstOf.cls ≠ "java/lang/invoke/MethodHandle" ∧ yX14_firstOf.cls ≠ "java/lang/invoke/VarHandle" ∧ (parseMethodDescriptor yX14_firstOf.desc).map (fun d => d.parameters.length) = some 3 := by decide +kernel
theorem gd_firstOf {idx : Nat} (h : Cond.methodLink RX14 idx yX14_firstOf ∈ lw_all) : GoodIn lw_all (wsV RX14 idx RX14 yX14_firstOf (ws_ yX14_firstOf cX14_firstOf 6 (some .int))) := lw_V h q2028 qs59 q123 q2029
/-! first()I -/
def m_first  (I : mI) (J : mJ) (Q : Int32 → mI → mJ → Prop) : Prop :=
  m_firstOf (I 0 0) (I 0 3) (I 0 12) I J (fun r1 I2 J3 => Q r1 I2 J3)
theorem ct_first  (I : mI) (J : mJ) (Q : Int32 → mI → mJ → Prop) (hf : m_first  I J Q) : hh_Ct yX14_first cX14_first 1 (some .int) 7 170 [.ref 0] (hm I J) (mQi Q) 0 0 := by
  refine hh_Ct.of (own := RX14) rfl (by decide +kernel) (Nat.le_of_ble_eq_true rfl) ?_
  intro X hX hN hE
  show hh_V X 0 [(0, .ref 0)] [] 0 0 (hm I J)
  unfold m_first at hf
  refine hv_aload_n hX dX14_first_0 rfl 0 rfl ?_
  refine hv_aload_n hX dX14_first_1 rfl 0 rfl ?_
  refine hm_getI (v := (I 0 0)) hX dX14_first_2 mfl166 (.inl rfl) rfl ?_
  refine hv_aload_n hX dX14_first_5 rfl 0 rfl ?_
  refine hm_getI (v := (I 0 3)) hX dX14_first_6 mfl169 (.inl rfl) rfl ?_
  refine hv_aload_n hX dX14_first_9 rfl 0 rfl ?_
  refine hm_getI (v := (I 0 12)) hX dX14_first_10 mfl141 (.inl rfl) rfl ?_
  refine hm_callVi hX dX14_first_13 (ct_firstOf (I 0 0) (I 0 3) (I 0 12) I J _ hf) (gd_firstOf q2026) np_firstOf rfl rfl ⟨Nat.le_of_ble_eq_true rfl, Nat.le_of_ble_eq_true rfl⟩ ⟨Nat.le_refl _, Nat.le_refl _⟩ (Nat.le_of_ble_eq_true rfl) ?_
  intro r1 I2 J3 hf
  exact hm_iret hX hE dX14_first_16 hf
theorem np_first : yX14_first.cls = RX14 ∧ yX14_first.cls ≠ "java/lang/invoke/MethodHandle" ∧ yX14_first.cls ≠ "java/lang/invoke/VarHandle" ∧ (parseMethodDescriptor yX14_first.desc).map (fun d => d.parameters.length) = some 0 := by decide +kernel
theorem gd_first {idx : Nat} (h : Cond.methodLink RX14 idx yX14_first ∈ lw_all) : GoodIn lw_all (wsV RX14 idx RX14 yX14_first (ws_ yX14_first cX14_first 1 (some .int))) := lw_V h q2023 q2024 q123 q2025
/-! with(I)I -/
def m_with (a1 : Int32) (I : mI) (J : mJ) (Q : Int32 → mI → mJ → Prop) : Prop :=
  m_isAct a1 I J (fun r1 I2 J3 => (r1 = 0 →
    Q (-1) I2 J3) ∧ (¬ r1 = 0 →
    m_mostBy (I2 0 0) (I2 0 3) (I2 0 12) a1 I2 J3 (fun r5 I6 J7 => ((0 : Int32) ≤ r5 →
      Q r5 I6 J7) ∧ (¬ (0 : Int32) ≤ r5 →
      Q (-4) I6 J7))))
theorem ct_with (a1 : Int32) (I : mI) (J : mJ) (Q : Int32 → mI → mJ → Prop) (hf : m_with a1 I J Q) : hh_Ct yX14_with cX14_with 3 (some .int) 6 145 [.ref 0, .int a1] (hm I J) (mQi Q) 0 0 := by
  refine hh_Ct.of (own := RX14) rfl (by decide +kernel) (Nat.le_of_ble_eq_true rfl) ?_
  intro X hX hN hE
  show hh_V X 0 [(0, .ref 0), (1, .int a1)] [] 0 0 (hm I J)
  unfold m_with at hf
  refine hv_iload_n hX dX14_with_0 rfl 1 rfl ?_
  refine hm_callSi hX dX14_with_1 (ct_isAct a1 I J _ hf) (gd_isAct q1988) np_isAct rfl rfl ⟨Nat.le_of_ble_eq_true rfl, Nat.le_of_ble_eq_true rfl⟩ ⟨Nat.le_refl _, Nat.le_refl _⟩ (Nat.le_of_ble_eq_true rfl) ?_
  intro r1 I2 J3 hf
  refine hv_if_ne (tgt := 9) hX dX14_with_4 (by decide) (fun c4 => ?_) (fun c4 => ?_)
  · replace hf := hf.2 c4
    refine hv_aload_n hX dX14_with_9 rfl 0 rfl ?_
    refine hv_aload_n hX dX14_with_10 rfl 0 rfl ?_
    refine hm_getI (v := (I2 0 0)) hX dX14_with_11 mfl166 (.inl rfl) rfl ?_
    refine hv_aload_n hX dX14_with_14 rfl 0 rfl ?_
    refine hm_getI (v := (I2 0 3)) hX dX14_with_15 mfl169 (.inl rfl) rfl ?_
    refine hv_aload_n hX dX14_with_18 rfl 0 rfl ?_
    refine hm_getI (v := (I2 0 12)) hX dX14_with_19 mfl141 (.inl rfl) rfl ?_
    refine hv_iload_n hX dX14_with_22 rfl 1 rfl ?_
    refine hm_callVi hX dX14_with_23 (ct_mostBy (I2 0 0) (I2 0 3) (I2 0 12) a1 I2 J3 _ hf) (gd_mostBy q2030) np_mostBy rfl rfl ⟨Nat.le_of_ble_eq_true rfl, Nat.le_of_ble_eq_true rfl⟩ ⟨Nat.le_refl _, Nat.le_refl _⟩ (Nat.le_of_ble_eq_true rfl) ?_
    intro r5 I6 J7 hf
    refine hv_istore_n (loc2 := [(2, .int r5), (0, .ref 0), (1, .int a1)]) hX dX14_with_26 rfl hN (Nat.le_of_ble_eq_true rfl) rfl ?_
    refine hv_iload_n hX dX14_with_27 rfl 0 rfl ?_
    refine hv_if_ge (tgt := 36) hX dX14_with_28 (by decide) (fun c8 => ?_) (fun c8 => ?_)
    · replace hf := hf.1 c8
      refine hv_iload_n hX dX14_with_36 rfl 0 rfl ?_
      exact hm_iret hX hE dX14_with_37 hf
    · replace hf := hf.2 c8
      refine hv_bipush (v := (-4)) hX bi_m4 dX14_with_31 ?_
      refine hv_goto (tgt := 37) hX dX14_with_33 (by decide) ?_
      exact hm_iret hX hE dX14_with_37 hf
  · replace hf := hf.1 c4
    refine hv_iconst (v := (-1)) hX ic_m1 dX14_with_7 ?_
    exact hm_iret hX hE dX14_with_8 hf
theorem np_with : yX14_with.cls = RX14 ∧ yX14_with.cls ≠ "java/lang/invoke/MethodHandle" ∧ yX14_with.cls ≠ "java/lang/invoke/VarHandle" ∧ (parseMethodDescriptor yX14_with.desc).map (fun d => d.parameters.length) = some 1 := by decide +kernel
theorem gd_with {idx : Nat} (h : Cond.methodLink RX14 idx yX14_with ∈ lw_all) : GoodIn lw_all (wsV RX14 idx RX14 yX14_with (ws_ yX14_with cX14_with 3 (some .int))) := lw_V h q2035 q2036 q123 q2037
/-! journey(I)I -/
def m_journey (a1 : Int32) (I : mI) (J : mJ) (Q : Int32 → mI → mJ → Prop) : Prop :=
  m_in a1 1 60 I J (fun r1 I2 J3 => (r1 = 0 →
    Q (-1) I2 J3) ∧ (¬ r1 = 0 →
    Q (I2 0 4) (u2 I2 0 4 a1) J3))
theorem ct_journey (a1 : Int32) (I : mI) (J : mJ) (Q : Int32 → mI → mJ → Prop) (hf : m_journey a1 I J Q) : hh_Ct yX14_journey cX14_journey 3 (some .int) 1 22 [.ref 0, .int a1] (hm I J) (mQi Q) 0 0 := by
  refine hh_Ct.of (own := RX14) rfl (by decide +kernel) (Nat.le_of_ble_eq_true rfl) ?_
  intro X hX hN hE
  show hh_V X 0 [(0, .ref 0), (1, .int a1)] [] 0 0 (hm I J)
  unfold m_journey at hf
  refine hv_iload_n hX dX14_journey_0 rfl 1 rfl ?_
  refine hv_iconst (v := 1) hX ic_1 dX14_journey_1 ?_
  refine hv_bipush (v := 60) hX bi_60 dX14_journey_2 ?_
  refine hm_callSi hX dX14_journey_4 (ct_in a1 1 60 I J _ hf) (gd_in q1923) np_in rfl rfl ⟨Nat.le_of_ble_eq_true rfl, Nat.le_of_ble_eq_true rfl⟩ ⟨Nat.le_refl _, Nat.le_refl _⟩ (Nat.le_of_ble_eq_true rfl) ?_
  intro r1 I2 J3 hf
  refine hv_if_ne (tgt := 12) hX dX14_journey_7 (by decide) (fun c4 => ?_) (fun c4 => ?_)
  · replace hf := hf.2 c4
    refine hv_aload_n hX dX14_journey_12 rfl 0 rfl ?_
    refine hm_getI (v := (I2 0 4)) hX dX14_journey_13 mfl13 (.inl rfl) rfl ?_
    refine hv_istore_n (loc2 := [(2, .int (I2 0 4)), (0, .ref 0), (1, .int a1)]) hX dX14_journey_16 rfl hN (Nat.le_of_ble_eq_true rfl) rfl ?_
    refine hv_aload_n hX dX14_journey_17 rfl 1 rfl ?_
    refine hv_iload_n hX dX14_journey_18 rfl 2 rfl ?_
    refine hm_putI hX dX14_journey_19 mfl13 ?_
    refine hv_iload_n hX dX14_journey_22 rfl 0 rfl ?_
    exact hm_iret hX hE dX14_journey_23 hf
  · replace hf := hf.1 c4
    refine hv_iconst (v := (-1)) hX ic_m1 dX14_journey_10 ?_
    exact hm_iret hX hE dX14_journey_11 hf
theorem np_journey : yX14_journey.cls = RX14 ∧ yX14_journey.cls ≠ "java/lang/invoke/MethodHandle" ∧ yX14_journey.cls ≠ "java/lang/invoke/VarHandle" ∧ (parseMethodDescriptor yX14_journey.desc).map (fun d => d.parameters.length) = some 1 := by decide +kernel
theorem gd_journey {idx : Nat} (h : Cond.methodLink RX14 idx yX14_journey ∈ lw_all) : GoodIn lw_all (wsV RX14 idx RX14 yX14_journey (ws_ yX14_journey cX14_journey 3 (some .int))) := lw_V h q2039 q2040 q123 q2041
/-! brings(II)I -/
def m_brings_l5 (Q : Int32 → mI → mJ → Prop) : Nat → Int32 → Int32 → Int32 → Int32 → mI → mJ → Prop
  | 0, _, _, _, _, _, _ => False
  | n + 1, a1, a2, a3, a4, I, J =>
    (a2 ≤ a4 →
      Q a3 I J) ∧ (¬ a2 ≤ a4 →
      m_topOf a1 I J (fun r2 I3 J4 => m_yieldIn a1 (r2 - a4) I3 J4 (fun r5 I6 J7 => m_brings_l5 Q n a1 a2 (a3 + r5) (a4 + 1) I6 J7)))
theorem w_brings_l5 {X : hh_CX} {Q : Int32 → mI → mJ → Prop} (hX : hh_C X cX14_brings RX14 (hrm 1 22)) (hN : hh_nL X = 5) (hE : hh_E X (some .int) (mQi Q) 0 0) : ∀ (n : Nat) (a1 : Int32) (a2 : Int32) (a3 : Int32) (a4 : Int32) (I : mI) (J : mJ), m_brings_l5 Q  n a1 a2 a3 a4 I J → hh_V X 5 [(0, .ref 0), (1, .int a1), (2, .int a2), (3, .int a3), (4, .int a4)] [] 0 0 (hm I J) := by
  intro n
  induction n with
  | zero => intro _ _ _ _ _ _ hf; exact hf.elim
  | succ n ih =>
    intro a1 a2 a3 a4 I J hf
    unfold m_brings_l5 at hf
    refine hv_iload hX dX14_brings_5 4 rfl ?_
    refine hv_iload_n hX dX14_brings_7 rfl 2 rfl ?_
    refine hv_icmp_ge (tgt := 33) hX dX14_brings_8 (by decide) (fun c1 => ?_) (fun c1 => ?_)
    · replace hf := hf.1 c1
      refine hv_iload_n hX dX14_brings_33 rfl 3 rfl ?_
      exact hm_iret hX hE dX14_brings_34 hf
    · replace hf := hf.2 c1
      refine hv_iload_n hX dX14_brings_11 rfl 3 rfl ?_
      refine hv_aload_n hX dX14_brings_12 rfl 0 rfl ?_
      refine hv_iload_n hX dX14_brings_13 rfl 1 rfl ?_
      refine hv_aload_n hX dX14_brings_14 rfl 0 rfl ?_
      refine hv_iload_n hX dX14_brings_15 rfl 1 rfl ?_
      refine hm_callVi hX dX14_brings_16 (ct_topOf a1 I J _ hf) (gd_topOf q1964) np_topOf rfl rfl ⟨Nat.le_of_ble_eq_true rfl, Nat.le_of_ble_eq_true rfl⟩ ⟨Nat.le_refl _, Nat.le_refl _⟩ (Nat.le_of_ble_eq_true rfl) ?_
      intro r2 I3 J4 hf
      refine hv_iload hX dX14_brings_19 4 rfl ?_
      refine hv_isub hX dX14_brings_21 ?_
      refine hm_callVi hX dX14_brings_22 (ct_yieldIn a1 (r2 - a4) I3 J4 _ hf) (gd_yieldIn q1956) np_yieldIn rfl rfl ⟨Nat.le_of_ble_eq_true rfl, Nat.le_of_ble_eq_true rfl⟩ ⟨Nat.le_refl _, Nat.le_refl _⟩ (Nat.le_of_ble_eq_true rfl) ?_
      intro r5 I6 J7 hf
      refine hv_iadd hX dX14_brings_25 ?_
      refine hv_istore_n (loc2 := [(3, .int (a3 + r5)), (0, .ref 0), (1, .int a1), (2, .int a2), (4, .int a4)]) hX dX14_brings_26 rfl hN (Nat.le_of_ble_eq_true rfl) rfl ?_
      refine hv_iinc (v := (a4 + 1)) (loc2 := [(4, .int (a4 + 1)), (3, .int (a3 + r5)), (0, .ref 0), (1, .int a1), (2, .int a2)]) hX dX14_brings_27 4 rfl (congrArg (fun y => a4 + y) ic_1) hN (Nat.le_of_ble_eq_true rfl) rfl ?_
      refine hv_goto (tgt := 5) hX dX14_brings_30 (by decide) ?_
      refine hv_fewer [2, 3, 4, 1, 0] (loc2 := [(0, .ref 0), (1, .int a1), (2, .int a2), (3, .int (a3 + r5)), (4, .int (a4 + 1))]) rfl ?_
      exact ih _ _ _ _ _ _ hf
def m_brings (a1 : Int32) (a2 : Int32) (I : mI) (J : mJ) (Q : Int32 → mI → mJ → Prop) : Prop :=
  ∃ n0 : Nat, m_brings_l5 Q  n0 a1 a2 0 0 I J
theorem ct_brings (a1 : Int32) (a2 : Int32) (I : mI) (J : mJ) (Q : Int32 → mI → mJ → Prop) (hf : m_brings a1 a2 I J Q) : hh_Ct yX14_brings cX14_brings 5 (some .int) 1 22 [.ref 0, .int a1, .int a2] (hm I J) (mQi Q) 0 0 := by
  refine hh_Ct.of (own := RX14) rfl (by decide +kernel) (Nat.le_of_ble_eq_true rfl) ?_
  intro X hX hN hE
  show hh_V X 0 [(0, .ref 0), (1, .int a1), (2, .int a2)] [] 0 0 (hm I J)
  unfold m_brings at hf
  refine hv_iconst (v := 0) hX ic_0 dX14_brings_0 ?_
  refine hv_istore_n (loc2 := [(3, .int 0), (0, .ref 0), (1, .int a1), (2, .int a2)]) hX dX14_brings_1 rfl hN (Nat.le_of_ble_eq_true rfl) rfl ?_
  refine hv_iconst (v := 0) hX ic_0 dX14_brings_2 ?_
  refine hv_istore (loc2 := [(4, .int 0), (3, .int 0), (0, .ref 0), (1, .int a1), (2, .int a2)]) hX dX14_brings_3 hN (Nat.le_of_ble_eq_true rfl) rfl ?_
  refine hv_fewer [2, 3, 4, 1, 0] (loc2 := [(0, .ref 0), (1, .int a1), (2, .int a2), (3, .int 0), (4, .int 0)]) rfl ?_
  obtain ⟨n0, hf⟩ := hf
  exact w_brings_l5 hX hN hE  n0 _ _ _ _ _ _ hf
theorem np_brings : yX14_brings.cls = RX14 ∧ yX14_brings.cls ≠ "java/lang/invoke/MethodHandle" ∧ yX14_brings.cls ≠ "java/lang/invoke/VarHandle" ∧ (parseMethodDescriptor yX14_brings.desc).map (fun d => d.parameters.length) = some 2 := by decide +kernel
theorem gd_brings {idx : Nat} (h : Cond.methodLink RX14 idx yX14_brings ∈ lw_all) : GoodIn lw_all (wsV RX14 idx RX14 yX14_brings (ws_ yX14_brings cX14_brings 5 (some .int))) := lw_V h q2052 qs62 q123 q2053
/-! goesOn()Z -/
def m_goesOn_j38 (Q : Int32 → mI → mJ → Prop) (a1 : Int32) (I : mI) (J : mJ) : Prop :=
  ((0 : Int32) ≤ a1 →
    vp_in a1 4 ∧ (vp_in a1 4 ∧ (Q 1 (u2 I 13 a1.toNatClampNeg ((I 13 a1.toNatClampNeg) + 1)) J))) ∧ (¬ (0 : Int32) ≤ a1 →
    Q 0 I J)
theorem w_goesOn_j38 {X : hh_CX} {Q : Int32 → mI → mJ → Prop} (hX : hh_C X cX14_goesOn RX14 (hrm 1 21)) (hN : hh_nL X = 2) (hE : hh_E X (some .boolean) (mQi Q) 0 0) : ∀ (a1 : Int32) (I : mI) (J : mJ), m_goesOn_j38 Q  a1 I J → hh_V X 38 [(0, .ref 0), (1, .int a1)] [] 0 0 (hm I J) := by
  intro a1 I J hf
  unfold m_goesOn_j38 at hf
  refine hv_iload_n hX dX14_goesOn_38 rfl 1 rfl ?_
  refine hv_if_ge (tgt := 44) hX dX14_goesOn_39 (by decide) (fun c2 => ?_) (fun c2 => ?_)
  · replace hf := hf.1 c2
    refine hv_aload_n hX dX14_goesOn_44 rfl 0 rfl ?_
    refine hm_getR hX dX14_goesOn_45 mfl60 13 rfl ?_
    refine hv_iload_n hX dX14_goesOn_48 rfl 1 rfl ?_
    refine hv_dup2_11 hX rfl rfl dX14_goesOn_49 ?_
    obtain ⟨g, hf⟩ := hf
    refine hm_iald (v := (I 13 a1.toNatClampNeg)) hX dX14_goesOn_50 (by decide) rfl rfl g rfl ?_
    refine hv_iconst (v := 1) hX ic_1 dX14_goesOn_51 ?_
    refine hv_iadd hX dX14_goesOn_52 ?_
    obtain ⟨g, hf⟩ := hf
    refine hm_iast hX dX14_goesOn_53 (by decide) rfl rfl g ?_
    refine hv_iconst (v := 1) hX ic_1 dX14_goesOn_54 ?_
    exact hm_zret hX hE dX14_goesOn_55 (by decide) hf
  · replace hf := hf.2 c2
    refine hv_iconst (v := 0) hX ic_0 dX14_goesOn_42 ?_
    exact hm_zret hX hE dX14_goesOn_43 (by decide) hf
def m_goesOn_l7 (Q : Int32 → mI → mJ → Prop) : Nat → Int32 → mI → mJ → Prop
  | 0, _, _, _ => False
  | n + 1, a1, I, J =>
    (a1 < 0 →
      m_goesOn_j38 Q  a1 I J) ∧ (¬ a1 < 0 →
      vp_in a1 4 ∧ (m_topOf a1 I J (fun r3 I4 J5 => ((I 13 a1.toNatClampNeg) = r3 →
        vp_in a1 4 ∧ (m_goesOn_l7 Q n (a1 + (-1)) (u2 I4 13 a1.toNatClampNeg 0) J5)) ∧ (¬ (I 13 a1.toNatClampNeg) = r3 →
        m_goesOn_j38 Q  a1 I4 J5))))
theorem w_goesOn_l7 {X : hh_CX} {Q : Int32 → mI → mJ → Prop} (hX : hh_C X cX14_goesOn RX14 (hrm 1 21)) (hN : hh_nL X = 2) (hE : hh_E X (some .boolean) (mQi Q) 0 0) : ∀ (n : Nat) (a1 : Int32) (I : mI) (J : mJ), m_goesOn_l7 Q  n a1 I J → hh_V X 7 [(0, .ref 0), (1, .int a1)] [] 0 0 (hm I J) := by
  intro n
  induction n with
  | zero => intro _ _ _ hf; exact hf.elim
  | succ n ih =>
    intro a1 I J hf
    unfold m_goesOn_l7 at hf
    refine hv_iload_n hX dX14_goesOn_7 rfl 1 rfl ?_
    refine hv_if_lt (tgt := 38) hX dX14_goesOn_8 (by decide) (fun c1 => ?_) (fun c1 => ?_)
    · replace hf := hf.1 c1
      exact w_goesOn_j38 hX hN hE  _ _ _ hf
    · replace hf := hf.2 c1
      refine hv_aload_n hX dX14_goesOn_11 rfl 0 rfl ?_
      refine hm_getR hX dX14_goesOn_12 mfl60 13 rfl ?_
      refine hv_iload_n hX dX14_goesOn_15 rfl 1 rfl ?_
      obtain ⟨g, hf⟩ := hf
      refine hm_iald (v := (I 13 a1.toNatClampNeg)) hX dX14_goesOn_16 (by decide) rfl rfl g rfl ?_
      refine hv_aload_n hX dX14_goesOn_17 rfl 0 rfl ?_
      refine hv_iload_n hX dX14_goesOn_18 rfl 1 rfl ?_
      refine hm_callVi hX dX14_goesOn_19 (ct_topOf a1 I J _ hf) (gd_topOf q1964) np_topOf rfl rfl ⟨Nat.le_of_ble_eq_true rfl, Nat.le_of_ble_eq_true rfl⟩ ⟨Nat.le_refl _, Nat.le_refl _⟩ (Nat.le_of_ble_eq_true rfl) ?_
      intro r3 I4 J5 hf
      refine hv_icmp_ne (tgt := 38) hX dX14_goesOn_22 (by decide) (fun c6 => ?_) (fun c6 => ?_)
      · replace hf := hf.2 c6
        exact w_goesOn_j38 hX hN hE  _ _ _ hf
      · replace hf := hf.1 c6
        refine hv_aload_n hX dX14_goesOn_25 rfl 0 rfl ?_
        refine hm_getR hX dX14_goesOn_26 mfl60 13 rfl ?_
        refine hv_iload_n hX dX14_goesOn_29 rfl 1 rfl ?_
        refine hv_iconst (v := 0) hX ic_0 dX14_goesOn_30 ?_
        obtain ⟨g, hf⟩ := hf
        refine hm_iast hX dX14_goesOn_31 (by decide) rfl rfl g ?_
        refine hv_iinc (v := (a1 + (-1))) (loc2 := [(1, .int (a1 + (-1))), (0, .ref 0)]) hX dX14_goesOn_32 1 rfl (congrArg (fun y => a1 + y) ic_m1) hN (Nat.le_of_ble_eq_true rfl) rfl ?_
        refine hv_goto (tgt := 7) hX dX14_goesOn_35 (by decide) ?_
        refine hv_fewer [1, 0] (loc2 := [(0, .ref 0), (1, .int (a1 + (-1)))]) rfl ?_
        exact ih _ _ _ hf
def m_goesOn  (I : mI) (J : mJ) (Q : Int32 → mI → mJ → Prop) : Prop :=
  ∃ n0 : Nat, m_goesOn_l7 Q  n0 ((I 0 8) - 1) I J
theorem ct_goesOn  (I : mI) (J : mJ) (Q : Int32 → mI → mJ → Prop) (hf : m_goesOn  I J Q) : hh_Ct yX14_goesOn cX14_goesOn 2 (some .boolean) 1 21 [.ref 0] (hm I J) (mQi Q) 0 0 := by
  refine hh_Ct.of (own := RX14) rfl (by decide +kernel) (Nat.le_of_ble_eq_true rfl) ?_
  intro X hX hN hE
  show hh_V X 0 [(0, .ref 0)] [] 0 0 (hm I J)
  unfold m_goesOn at hf
  refine hv_aload_n hX dX14_goesOn_0 rfl 0 rfl ?_
  refine hm_getI (v := (I 0 8)) hX dX14_goesOn_1 mfl130 (.inl rfl) rfl ?_
  refine hv_iconst (v := 1) hX ic_1 dX14_goesOn_4 ?_
  refine hv_isub hX dX14_goesOn_5 ?_
  refine hv_istore_n (loc2 := [(1, .int ((I 0 8) - 1)), (0, .ref 0)]) hX dX14_goesOn_6 rfl hN (Nat.le_of_ble_eq_true rfl) rfl ?_
  refine hv_fewer [1, 0] (loc2 := [(0, .ref 0), (1, .int ((I 0 8) - 1))]) rfl ?_
  obtain ⟨n0, hf⟩ := hf
  exact w_goesOn_l7 hX hN hE  n0 _ _ _ hf
theorem np_goesOn : yX14_goesOn.cls = RX14 ∧ yX14_goesOn.cls ≠ "java/lang/invoke/MethodHandle" ∧ yX14_goesOn.cls ≠ "java/lang/invoke/VarHandle" ∧ (parseMethodDescriptor yX14_goesOn.desc).map (fun d => d.parameters.length) = some 0 := by decide +kernel
theorem gd_goesOn {idx : Nat} (h : Cond.methodLink RX14 idx yX14_goesOn ∈ lw_all) : GoodIn lw_all (wsV RX14 idx RX14 yX14_goesOn (ws_ yX14_goesOn cX14_goesOn 2 (some .boolean))) := lw_V h q2056 qs63 q123 q2057
/-! findRound()V -/
def m_findRound_j162 (Q : mI → mJ → Prop) (k53 : Int32 → mI → mJ → Prop)  (I : mI) (J : mJ) : Prop :=
  m_goesOn  I J (fun r6 I7 J8 => k53 r6 I7 J8)
theorem w_findRound_j162 {X : hh_CX} {Q : mI → mJ → Prop} (hX : hh_C X cX14_findRound RX14 (hrm 2 46)) (hN : hh_nL X = 5) (hE : hh_E X none (mQv Q) 0 0) {k53 : Int32 → mI → mJ → Prop} (hk53 : ∀ (b0 : Int32) (I : mI) (J : mJ), k53 b0 I J → hh_V X 53 [(0, .ref 0), (1, .int b0)] [] 0 0 (hm I J)) : ∀  (I : mI) (J : mJ), m_findRound_j162 Q k53  I J → hh_V X 162 [(0, .ref 0)] [] 0 0 (hm I J) := by
  intro  I J hf
  unfold m_findRound_j162 at hf
  refine hv_aload_n hX dX14_findRound_162 rfl 0 rfl ?_
  refine hm_callVi hX dX14_findRound_163 (ct_goesOn  I J _ hf) (gd_goesOn q2054) np_goesOn rfl rfl ⟨Nat.le_of_ble_eq_true rfl, Nat.le_of_ble_eq_true rfl⟩ ⟨Nat.le_refl _, Nat.le_refl _⟩ (Nat.le_of_ble_eq_true rfl) ?_
  intro r6 I7 J8 hf
  refine hv_istore_n (loc2 := [(1, .int r6), (0, .ref 0)]) hX dX14_findRound_166 rfl hN (Nat.le_of_ble_eq_true rfl) rfl ?_
  refine hv_goto (tgt := 53) hX dX14_findRound_167 (by decide) ?_
  refine hv_fewer [1, 0] (loc2 := [(0, .ref 0), (1, .int r6)]) rfl ?_
  exact hk53 _ _ _ hf
def m_findRound_l136 (Q : mI → mJ → Prop) (k53 : Int32 → mI → mJ → Prop) : Nat → Int32 → mI → mJ → Prop
  | 0, _, _, _ => False
  | n + 1, a4, I, J =>
    ((4 : Int32) ≤ a4 →
      m_findRound_j162 Q k53  I J) ∧ (¬ (4 : Int32) ≤ a4 →
      vp_in a4 4 ∧ (vp_in a4 4 ∧ (m_findRound_l136 Q k53 n (a4 + 1) (u2 I 14 a4.toNatClampNeg (I 13 a4.toNatClampNeg)) J)))
theorem w_findRound_l136 {X : hh_CX} {Q : mI → mJ → Prop} (hX : hh_C X cX14_findRound RX14 (hrm 2 46)) (hN : hh_nL X = 5) (hE : hh_E X none (mQv Q) 0 0) {k53 : Int32 → mI → mJ → Prop} (hk53 : ∀ (b0 : Int32) (I : mI) (J : mJ), k53 b0 I J → hh_V X 53 [(0, .ref 0), (1, .int b0)] [] 0 0 (hm I J)) : ∀ (n : Nat) (a4 : Int32) (I : mI) (J : mJ), m_findRound_l136 Q k53 n a4 I J → hh_V X 136 [(0, .ref 0), (4, .int a4)] [] 0 0 (hm I J) := by
  intro n
  induction n with
  | zero => intro _ _ _ hf; exact hf.elim
  | succ n ih =>
    intro a4 I J hf
    unfold m_findRound_l136 at hf
    refine hv_iload hX dX14_findRound_136 1 rfl ?_
    refine hv_iconst (v := 4) hX ic_4 dX14_findRound_138 ?_
    refine hv_icmp_ge (tgt := 162) hX dX14_findRound_139 (by decide) (fun c9 => ?_) (fun c9 => ?_)
    · replace hf := hf.1 c9
      refine hv_fewer [0] (loc2 := [(0, .ref 0)]) rfl ?_
      exact w_findRound_j162 hX hN hE hk53  _ _ hf
    · replace hf := hf.2 c9
      refine hv_aload_n hX dX14_findRound_142 rfl 0 rfl ?_
      refine hm_getR hX dX14_findRound_143 mfl63 14 rfl ?_
      refine hv_iload hX dX14_findRound_146 1 rfl ?_
      refine hv_aload_n hX dX14_findRound_148 rfl 0 rfl ?_
      refine hm_getR hX dX14_findRound_149 mfl60 13 rfl ?_
      refine hv_iload hX dX14_findRound_152 1 rfl ?_
      obtain ⟨g, hf⟩ := hf
      refine hm_iald (v := (I 13 a4.toNatClampNeg)) hX dX14_findRound_154 (by decide) rfl rfl g rfl ?_
      obtain ⟨g, hf⟩ := hf
      refine hm_iast hX dX14_findRound_155 (by decide) rfl rfl g ?_
      refine hv_iinc (v := (a4 + 1)) (loc2 := [(4, .int (a4 + 1)), (0, .ref 0)]) hX dX14_findRound_156 1 rfl (congrArg (fun y => a4 + y) ic_1) hN (Nat.le_of_ble_eq_true rfl) rfl ?_
      refine hv_goto (tgt := 136) hX dX14_findRound_159 (by decide) ?_
      refine hv_fewer [1, 0] (loc2 := [(0, .ref 0), (4, .int (a4 + 1))]) rfl ?_
      exact ih _ _ _ hf
def m_findRound_l67 (Q : mI → mJ → Prop) (k53 : Int32 → mI → mJ → Prop) : Nat → Int32 → Int32 → Int32 → mI → mJ → Prop
  | 0, _, _, _, _, _ => False
  | n + 1, a2, a3, a4, I, J =>
    ((I 0 8) ≤ a4 →
      ((a2 * (I 0 32)) ≤ ((I 0 31) * a3) →
        m_findRound_j162 Q k53  I J) ∧ (¬ (a2 * (I 0 32)) ≤ ((I 0 31) * a3) →
        ∃ n0 : Nat, m_findRound_l136 Q k53 n0 0 (u2 (u2 I 0 31 a2) 0 32 a3) J)) ∧ (¬ (I 0 8) ≤ a4 →
      vp_in a4 4 ∧ (m_brings a4 (I 13 a4.toNatClampNeg) I J (fun r10 I11 J12 => vp_in a4 4 ∧ (∀ v13 : Int32, v13 = (a3 + (I11 13 a4.toNatClampNeg)) → (m_findRound_l67 Q k53 n (a2 + r10) v13 (a4 + 1) I11 J12)))))
theorem w_findRound_l67 {X : hh_CX} {Q : mI → mJ → Prop} (hX : hh_C X cX14_findRound RX14 (hrm 2 46)) (hN : hh_nL X = 5) (hE : hh_E X none (mQv Q) 0 0) {k53 : Int32 → mI → mJ → Prop} (hk53 : ∀ (b0 : Int32) (I : mI) (J : mJ), k53 b0 I J → hh_V X 53 [(0, .ref 0), (1, .int b0)] [] 0 0 (hm I J)) : ∀ (n : Nat) (a2 : Int32) (a3 : Int32) (a4 : Int32) (I : mI) (J : mJ), m_findRound_l67 Q k53 n a2 a3 a4 I J → hh_V X 67 [(0, .ref 0), (2, .int a2), (3, .int a3), (4, .int a4)] [] 0 0 (hm I J) := by
  intro n
  induction n with
  | zero => intro _ _ _ _ _ hf; exact hf.elim
  | succ n ih =>
    intro a2 a3 a4 I J hf
    unfold m_findRound_l67 at hf
    refine hv_iload hX dX14_findRound_67 3 rfl ?_
    refine hv_aload_n hX dX14_findRound_69 rfl 0 rfl ?_
    refine hm_getI (v := (I 0 8)) hX dX14_findRound_70 mfl130 (.inl rfl) rfl ?_
    refine hv_icmp_ge (tgt := 108) hX dX14_findRound_73 (by decide) (fun c4 => ?_) (fun c4 => ?_)
    · replace hf := hf.1 c4
      refine hv_iload_n hX dX14_findRound_108 rfl 1 rfl ?_
      refine hv_aload_n hX dX14_findRound_109 rfl 0 rfl ?_
      refine hm_getI (v := (I 0 32)) hX dX14_findRound_110 mfl224 (.inl rfl) rfl ?_
      refine hv_imul hX dX14_findRound_113 ?_
      refine hv_aload_n hX dX14_findRound_114 rfl 0 rfl ?_
      refine hm_getI (v := (I 0 31)) hX dX14_findRound_115 mfl221 (.inl rfl) rfl ?_
      refine hv_iload_n hX dX14_findRound_118 rfl 2 rfl ?_
      refine hv_imul hX dX14_findRound_119 ?_
      refine hv_icmp_le (tgt := 162) hX dX14_findRound_120 (by decide) (fun c5 => ?_) (fun c5 => ?_)
      · replace hf := hf.1 c5
        refine hv_fewer [0] (loc2 := [(0, .ref 0)]) rfl ?_
        exact w_findRound_j162 hX hN hE hk53  _ _ hf
      · replace hf := hf.2 c5
        refine hv_aload_n hX dX14_findRound_123 rfl 0 rfl ?_
        refine hv_iload_n hX dX14_findRound_124 rfl 1 rfl ?_
        refine hm_putI hX dX14_findRound_125 mfl221 ?_
        refine hv_aload_n hX dX14_findRound_128 rfl 0 rfl ?_
        refine hv_iload_n hX dX14_findRound_129 rfl 2 rfl ?_
        refine hm_putI hX dX14_findRound_130 mfl224 ?_
        refine hv_iconst (v := 0) hX ic_0 dX14_findRound_133 ?_
        refine hv_istore (loc2 := [(4, .int 0), (0, .ref 0), (2, .int a2), (3, .int a3)]) hX dX14_findRound_134 hN (Nat.le_of_ble_eq_true rfl) rfl ?_
        refine hv_fewer [1, 0] (loc2 := [(0, .ref 0), (4, .int 0)]) rfl ?_
        obtain ⟨n0, hf⟩ := hf
        exact w_findRound_l136 hX hN hE hk53 n0 _ _ _ hf
    · replace hf := hf.2 c4
      refine hv_iload_n hX dX14_findRound_76 rfl 1 rfl ?_
      refine hv_aload_n hX dX14_findRound_77 rfl 0 rfl ?_
      refine hv_iload hX dX14_findRound_78 3 rfl ?_
      refine hv_aload_n hX dX14_findRound_80 rfl 0 rfl ?_
      refine hm_getR hX dX14_findRound_81 mfl60 13 rfl ?_
      refine hv_iload hX dX14_findRound_84 3 rfl ?_
      obtain ⟨g, hf⟩ := hf
      refine hm_iald (v := (I 13 a4.toNatClampNeg)) hX dX14_findRound_86 (by decide) rfl rfl g rfl ?_
      refine hm_callVi hX dX14_findRound_87 (ct_brings a4 (I 13 a4.toNatClampNeg) I J _ hf) (gd_brings q2050) np_brings rfl rfl ⟨Nat.le_of_ble_eq_true rfl, Nat.le_of_ble_eq_true rfl⟩ ⟨Nat.le_refl _, Nat.le_refl _⟩ (Nat.le_of_ble_eq_true rfl) ?_
      intro r10 I11 J12 hf
      refine hv_iadd hX dX14_findRound_90 ?_
      refine hv_istore_n (loc2 := [(2, .int (a2 + r10)), (0, .ref 0), (3, .int a3), (4, .int a4)]) hX dX14_findRound_91 rfl hN (Nat.le_of_ble_eq_true rfl) rfl ?_
      refine hv_iload_n hX dX14_findRound_92 rfl 2 rfl ?_
      refine hv_aload_n hX dX14_findRound_93 rfl 1 rfl ?_
      refine hm_getR hX dX14_findRound_94 mfl60 13 rfl ?_
      refine hv_iload hX dX14_findRound_97 3 rfl ?_
      obtain ⟨g, hf⟩ := hf
      refine hm_iald (v := (I11 13 a4.toNatClampNeg)) hX dX14_findRound_99 (by decide) rfl rfl g rfl ?_
      refine hv_iadd hX dX14_findRound_100 ?_
      refine hv_topi (fun v13 ev13 => ?_)
      replace hf := hf v13 ev13
      refine hv_istore_n (loc2 := [(3, .int v13), (2, .int (a2 + r10)), (0, .ref 0), (4, .int a4)]) hX dX14_findRound_101 rfl hN (Nat.le_of_ble_eq_true rfl) rfl ?_
      refine hv_iinc (v := (a4 + 1)) (loc2 := [(4, .int (a4 + 1)), (3, .int v13), (2, .int (a2 + r10)), (0, .ref 0)]) hX dX14_findRound_102 3 rfl (congrArg (fun y => a4 + y) ic_1) hN (Nat.le_of_ble_eq_true rfl) rfl ?_
      refine hv_goto (tgt := 67) hX dX14_findRound_105 (by decide) ?_
      refine hv_fewer [3, 2, 1, 0] (loc2 := [(0, .ref 0), (2, .int (a2 + r10)), (3, .int v13), (4, .int (a4 + 1))]) rfl ?_
      exact ih _ _ _ _ _ hf
def m_findRound_l53 (Q : mI → mJ → Prop) : Nat → Int32 → mI → mJ → Prop
  | 0, _, _, _ => False
  | n + 1, a1, I, J =>
    (a1 = 0 →
      Q I J) ∧ (¬ a1 = 0 →
      ∃ n0 : Nat, m_findRound_l67 Q (fun b0 I J => m_findRound_l53 Q n b0 I J) n0 0 (I 0 4) 0 I J)
theorem w_findRound_l53 {X : hh_CX} {Q : mI → mJ → Prop} (hX : hh_C X cX14_findRound RX14 (hrm 2 46)) (hN : hh_nL X = 5) (hE : hh_E X none (mQv Q) 0 0) : ∀ (n : Nat) (a1 : Int32) (I : mI) (J : mJ), m_findRound_l53 Q  n a1 I J → hh_V X 53 [(0, .ref 0), (1, .int a1)] [] 0 0 (hm I J) := by
  intro n
  induction n with
  | zero => intro _ _ _ hf; exact hf.elim
  | succ n ih =>
    intro a1 I J hf
    unfold m_findRound_l53 at hf
    refine hv_iload_n hX dX14_findRound_53 rfl 1 rfl ?_
    refine hv_if_eq (tgt := 170) hX dX14_findRound_54 (by decide) (fun c3 => ?_) (fun c3 => ?_)
    · replace hf := hf.1 c3
      exact hm_vret hX hE dX14_findRound_170 hf
    · replace hf := hf.2 c3
      refine hv_iconst (v := 0) hX ic_0 dX14_findRound_57 ?_
      refine hv_istore_n (loc2 := [(2, .int 0), (0, .ref 0), (1, .int a1)]) hX dX14_findRound_58 rfl hN (Nat.le_of_ble_eq_true rfl) rfl ?_
      refine hv_aload_n hX dX14_findRound_59 rfl 1 rfl ?_
      refine hm_getI (v := (I 0 4)) hX dX14_findRound_60 mfl13 (.inl rfl) rfl ?_
      refine hv_istore_n (loc2 := [(3, .int (I 0 4)), (2, .int 0), (0, .ref 0), (1, .int a1)]) hX dX14_findRound_63 rfl hN (Nat.le_of_ble_eq_true rfl) rfl ?_
      refine hv_iconst (v := 0) hX ic_0 dX14_findRound_64 ?_
      refine hv_istore (loc2 := [(4, .int 0), (3, .int (I 0 4)), (2, .int 0), (0, .ref 0), (1, .int a1)]) hX dX14_findRound_65 hN (Nat.le_of_ble_eq_true rfl) rfl ?_
      refine hv_fewer [3, 2, 1, 0] (loc2 := [(0, .ref 0), (2, .int 0), (3, .int (I 0 4)), (4, .int 0)]) rfl ?_
      obtain ⟨n0, hf⟩ := hf
      exact w_findRound_l67 hX hN hE ih n0 _ _ _ _ _ hf
def m_findRound_j52 (Q : mI → mJ → Prop) (s0 : Int32) (I : mI) (J : mJ) : Prop :=
  ∃ n0 : Nat, m_findRound_l53 Q  n0 s0 I J
theorem w_findRound_j52 {X : hh_CX} {Q : mI → mJ → Prop} (hX : hh_C X cX14_findRound RX14 (hrm 2 46)) (hN : hh_nL X = 5) (hE : hh_E X none (mQv Q) 0 0) : ∀ (s0 : Int32) (I : mI) (J : mJ), m_findRound_j52 Q  s0 I J → hh_V X 52 [(0, .ref 0)] [.int s0] 0 0 (hm I J) := by
  intro s0 I J hf
  unfold m_findRound_j52 at hf
  refine hv_istore_n (loc2 := [(1, .int s0), (0, .ref 0)]) hX dX14_findRound_52 rfl hN (Nat.le_of_ble_eq_true rfl) rfl ?_
  refine hv_fewer [1, 0] (loc2 := [(0, .ref 0), (1, .int s0)]) rfl ?_
  obtain ⟨n0, hf⟩ := hf
  exact w_findRound_l53 hX hN hE  n0 _ _ _ hf
def m_findRound_l2 (Q : mI → mJ → Prop) : Nat → Int32 → mI → mJ → Prop
  | 0, _, _, _ => False
  | n + 1, a1, I, J =>
    ((4 : Int32) ≤ a1 →
      ((I 0 8) ≤ 0 →
        m_findRound_j52 Q  0 (u2 (u2 I 0 31 0) 0 32 (I 0 4)) J) ∧ (¬ (I 0 8) ≤ 0 →
        m_findRound_j52 Q  1 (u2 (u2 I 0 31 0) 0 32 (I 0 4)) J)) ∧ (¬ (4 : Int32) ≤ a1 →
      vp_in a1 4 ∧ (vp_in a1 4 ∧ (m_findRound_l2 Q n (a1 + 1) (u2 (u2 I 13 a1.toNatClampNeg 0) 14 a1.toNatClampNeg 0) J)))
theorem w_findRound_l2 {X : hh_CX} {Q : mI → mJ → Prop} (hX : hh_C X cX14_findRound RX14 (hrm 2 46)) (hN : hh_nL X = 5) (hE : hh_E X none (mQv Q) 0 0) : ∀ (n : Nat) (a1 : Int32) (I : mI) (J : mJ), m_findRound_l2 Q  n a1 I J → hh_V X 2 [(0, .ref 0), (1, .int a1)] [] 0 0 (hm I J) := by
  intro n
  induction n with
  | zero => intro _ _ _ hf; exact hf.elim
  | succ n ih =>
    intro a1 I J hf
    unfold m_findRound_l2 at hf
    refine hv_iload_n hX dX14_findRound_2 rfl 1 rfl ?_
    refine hv_iconst (v := 4) hX ic_4 dX14_findRound_3 ?_
    refine hv_icmp_ge (tgt := 27) hX dX14_findRound_4 (by decide) (fun c1 => ?_) (fun c1 => ?_)
    · replace hf := hf.1 c1
      refine hv_aload_n hX dX14_findRound_27 rfl 0 rfl ?_
      refine hv_iconst (v := 0) hX ic_0 dX14_findRound_28 ?_
      refine hm_putI hX dX14_findRound_29 mfl221 ?_
      refine hv_aload_n hX dX14_findRound_32 rfl 0 rfl ?_
      refine hv_aload_n hX dX14_findRound_33 rfl 0 rfl ?_
      refine hm_getI (v := (I 0 4)) hX dX14_findRound_34 mfl13 (.inl rfl) ((u2_ne _ _ (.inr (by decide)))) ?_
      refine hm_putI hX dX14_findRound_37 mfl224 ?_
      refine hv_aload_n hX dX14_findRound_40 rfl 0 rfl ?_
      refine hm_getI (v := (I 0 8)) hX dX14_findRound_41 mfl130 (.inl rfl) ((u2_ne _ _ (.inr (by decide))) |>.trans (u2_ne _ _ (.inr (by decide)))) ?_
      refine hv_if_le (tgt := 51) hX dX14_findRound_44 (by decide) (fun c2 => ?_) (fun c2 => ?_)
      · replace hf := hf.1 c2
        refine hv_iconst (v := 0) hX ic_0 dX14_findRound_51 ?_
        refine hv_fewer [0] (loc2 := [(0, .ref 0)]) rfl ?_
        exact w_findRound_j52 hX hN hE  _ _ _ hf
      · replace hf := hf.2 c2
        refine hv_iconst (v := 1) hX ic_1 dX14_findRound_47 ?_
        refine hv_goto (tgt := 52) hX dX14_findRound_48 (by decide) ?_
        refine hv_fewer [0] (loc2 := [(0, .ref 0)]) rfl ?_
        exact w_findRound_j52 hX hN hE  _ _ _ hf
    · replace hf := hf.2 c1
      refine hv_aload_n hX dX14_findRound_7 rfl 0 rfl ?_
      refine hm_getR hX dX14_findRound_8 mfl60 13 rfl ?_
      refine hv_iload_n hX dX14_findRound_11 rfl 1 rfl ?_
      refine hv_iconst (v := 0) hX ic_0 dX14_findRound_12 ?_
      obtain ⟨g, hf⟩ := hf
      refine hm_iast hX dX14_findRound_13 (by decide) rfl rfl g ?_
      refine hv_aload_n hX dX14_findRound_14 rfl 0 rfl ?_
      refine hm_getR hX dX14_findRound_15 mfl63 14 rfl ?_
      refine hv_iload_n hX dX14_findRound_18 rfl 1 rfl ?_
      refine hv_iconst (v := 0) hX ic_0 dX14_findRound_19 ?_
      obtain ⟨g, hf⟩ := hf
      refine hm_iast hX dX14_findRound_20 (by decide) rfl rfl g ?_
      refine hv_iinc (v := (a1 + 1)) (loc2 := [(1, .int (a1 + 1)), (0, .ref 0)]) hX dX14_findRound_21 1 rfl (congrArg (fun y => a1 + y) ic_1) hN (Nat.le_of_ble_eq_true rfl) rfl ?_
      refine hv_goto (tgt := 2) hX dX14_findRound_24 (by decide) ?_
      refine hv_fewer [1, 0] (loc2 := [(0, .ref 0), (1, .int (a1 + 1))]) rfl ?_
      exact ih _ _ _ hf
def m_findRound  (I : mI) (J : mJ) (Q : mI → mJ → Prop) : Prop :=
  ∃ n0 : Nat, m_findRound_l2 Q  n0 0 I J
theorem ct_findRound  (I : mI) (J : mJ) (Q : mI → mJ → Prop) (hf : m_findRound  I J Q) : hh_Ct yX14_findRound cX14_findRound 5 none 2 46 [.ref 0] (hm I J) (mQv Q) 0 0 := by
  refine hh_Ct.of (own := RX14) rfl (by decide +kernel) (Nat.le_of_ble_eq_true rfl) ?_
  intro X hX hN hE
  show hh_V X 0 [(0, .ref 0)] [] 0 0 (hm I J)
  unfold m_findRound at hf
  refine hv_iconst (v := 0) hX ic_0 dX14_findRound_0 ?_
  refine hv_istore_n (loc2 := [(1, .int 0), (0, .ref 0)]) hX dX14_findRound_1 rfl hN (Nat.le_of_ble_eq_true rfl) rfl ?_
  refine hv_fewer [1, 0] (loc2 := [(0, .ref 0), (1, .int 0)]) rfl ?_
  obtain ⟨n0, hf⟩ := hf
  exact w_findRound_l2 hX hN hE  n0 _ _ _ hf
theorem np_findRound : yX14_findRound.cls = RX14 ∧ yX14_findRound.cls ≠ "java/lang/invoke/MethodHandle" ∧ yX14_findRound.cls ≠ "java/lang/invoke/VarHandle" ∧ (parseMethodDescriptor yX14_findRound.desc).map (fun d => d.parameters.length) = some 0 := by decide +kernel
theorem gd_findRound {idx : Nat} (h : Cond.methodLink RX14 idx yX14_findRound ∈ lw_all) : GoodIn lw_all (wsV RX14 idx RX14 yX14_findRound (ws_ yX14_findRound cX14_findRound 5 none)) := lw_V h q2048 qs61 q123 q2049
/-! divisor(II)I -/
def m_divisor_l4 (Q : Int32 → mI → mJ → Prop) : Nat → Int32 → Int32 → mI → mJ → Prop
  | 0, _, _, _, _ => False
  | n + 1, a2, a3, I, J =>
    (a3 = 0 →
      Q a2 I J) ∧ (¬ a3 = 0 →
      ¬ a3 = 0 ∧ (m_divisor_l4 Q n a3 (a2 - a2 / a3 * a3) I J))
theorem w_divisor_l4 {X : hh_CX} {Q : Int32 → mI → mJ → Prop} (hX : hh_C X cX14_divisor RX14 (hrm 0 0)) (hN : hh_nL X = 5) (hE : hh_E X (some .int) (mQi Q) 0 0) : ∀ (n : Nat) (a2 : Int32) (a3 : Int32) (I : mI) (J : mJ), m_divisor_l4 Q  n a2 a3 I J → hh_V X 4 [(2, .int a2), (3, .int a3)] [] 0 0 (hm I J) := by
  intro n
  induction n with
  | zero => intro _ _ _ _ hf; exact hf.elim
  | succ n ih =>
    intro a2 a3 I J hf
    unfold m_divisor_l4 at hf
    refine hv_iload_n hX dX14_divisor_4 rfl 1 rfl ?_
    refine hv_if_eq (tgt := 21) hX dX14_divisor_5 (by decide) (fun c1 => ?_) (fun c1 => ?_)
    · replace hf := hf.1 c1
      refine hv_iload_n hX dX14_divisor_21 rfl 0 rfl ?_
      exact hm_iret hX hE dX14_divisor_22 hf
    · replace hf := hf.2 c1
      refine hv_iload_n hX dX14_divisor_8 rfl 0 rfl ?_
      refine hv_iload_n hX dX14_divisor_9 rfl 1 rfl ?_
      obtain ⟨g, hf⟩ := hf
      refine hv_irem hX g dX14_divisor_10 ?_
      refine hv_istore (loc2 := [(4, .int (a2 - a2 / a3 * a3)), (2, .int a2), (3, .int a3)]) hX dX14_divisor_11 hN (Nat.le_of_ble_eq_true rfl) rfl ?_
      refine hv_iload_n hX dX14_divisor_13 rfl 2 rfl ?_
      refine hv_istore_n (loc2 := [(2, .int a3), (4, .int (a2 - a2 / a3 * a3)), (3, .int a3)]) hX dX14_divisor_14 rfl hN (Nat.le_of_ble_eq_true rfl) rfl ?_
      refine hv_iload hX dX14_divisor_15 1 rfl ?_
      refine hv_istore_n (loc2 := [(3, .int (a2 - a2 / a3 * a3)), (2, .int a3), (4, .int (a2 - a2 / a3 * a3))]) hX dX14_divisor_17 rfl hN (Nat.le_of_ble_eq_true rfl) rfl ?_
      refine hv_goto (tgt := 4) hX dX14_divisor_18 (by decide) ?_
      refine hv_fewer [1, 0] (loc2 := [(2, .int a3), (3, .int (a2 - a2 / a3 * a3))]) rfl ?_
      exact ih _ _ _ _ hf
def m_divisor (a0 : Int32) (a1 : Int32) (I : mI) (J : mJ) (Q : Int32 → mI → mJ → Prop) : Prop :=
  ∃ n0 : Nat, m_divisor_l4 Q  n0 a0 a1 I J
theorem ct_divisor (a0 : Int32) (a1 : Int32) (I : mI) (J : mJ) (Q : Int32 → mI → mJ → Prop) (hf : m_divisor a0 a1 I J Q) : hh_Ct yX14_divisor cX14_divisor 5 (some .int) 0 0 [.int a0, .int a1] (hm I J) (mQi Q) 0 0 := by
  refine hh_Ct.of (own := RX14) rfl (by decide +kernel) (Nat.le_of_ble_eq_true rfl) ?_
  intro X hX hN hE
  show hh_V X 0 [(0, .int a0), (1, .int a1)] [] 0 0 (hm I J)
  unfold m_divisor at hf
  refine hv_iload_n hX dX14_divisor_0 rfl 0 rfl ?_
  refine hv_istore_n (loc2 := [(2, .int a0), (0, .int a0), (1, .int a1)]) hX dX14_divisor_1 rfl hN (Nat.le_of_ble_eq_true rfl) rfl ?_
  refine hv_iload_n hX dX14_divisor_2 rfl 2 rfl ?_
  refine hv_istore_n (loc2 := [(3, .int a1), (2, .int a0), (0, .int a0), (1, .int a1)]) hX dX14_divisor_3 rfl hN (Nat.le_of_ble_eq_true rfl) rfl ?_
  refine hv_fewer [1, 0] (loc2 := [(2, .int a0), (3, .int a1)]) rfl ?_
  obtain ⟨n0, hf⟩ := hf
  exact w_divisor_l4 hX hN hE  n0 _ _ _ _ hf
theorem np_divisor : yX14_divisor.cls ≠ "java/lang/invoke/MethodHandle" ∧ yX14_divisor.cls ≠ "java/lang/invoke/VarHandle" ∧ (parseMethodDescriptor yX14_divisor.desc).map (fun d => d.parameters.length) = some 2 := by decide +kernel
theorem gd_divisor {idx : Nat} (h : Cond.methodLink RX14 idx yX14_divisor ∈ lw_all) : GoodIn lw_all (va_wsS RX14 idx yX14_divisor (ws_ yX14_divisor cX14_divisor 5 (some .int))) := lw_S h q2059 q123 q2060
/-! rate(I)I -/
def m_rate_j40 (Q : Int32 → mI → mJ → Prop) (s0 : Int32) (I : mI) (J : mJ) : Prop :=
  m_divisor (I 0 31) (I 0 32) I J (fun r9 I10 J11 => ¬ r9 = 0 ∧ (Q (s0 / r9) I10 J11))
theorem w_rate_j40 {X : hh_CX} {Q : Int32 → mI → mJ → Prop} (hX : hh_C X cX14_rate RX14 (hrm 3 70)) (hN : hh_nL X = 2) (hE : hh_E X (some .int) (mQi Q) 0 0) : ∀ (s0 : Int32) (I : mI) (J : mJ), m_rate_j40 Q  s0 I J → hh_V X 40 [(0, .ref 0)] [.int s0] 0 0 (hm I J) := by
  intro s0 I J hf
  unfold m_rate_j40 at hf
  refine hv_aload_n hX dX14_rate_40 rfl 0 rfl ?_
  refine hm_getI (v := (I 0 31)) hX dX14_rate_41 mfl221 (.inl rfl) rfl ?_
  refine hv_aload_n hX dX14_rate_44 rfl 0 rfl ?_
  refine hm_getI (v := (I 0 32)) hX dX14_rate_45 mfl224 (.inl rfl) rfl ?_
  refine hm_callSi hX dX14_rate_48 (ct_divisor (I 0 31) (I 0 32) I J _ hf) (gd_divisor q2058) np_divisor rfl rfl ⟨Nat.le_of_ble_eq_true rfl, Nat.le_of_ble_eq_true rfl⟩ ⟨Nat.le_refl _, Nat.le_refl _⟩ (Nat.le_of_ble_eq_true rfl) ?_
  intro r9 I10 J11 hf
  obtain ⟨g, hf⟩ := hf
  refine hv_idiv hX g dX14_rate_51 ?_
  exact hm_iret hX hE dX14_rate_52 hf
def m_rate (a1 : Int32) (I : mI) (J : mJ) (Q : Int32 → mI → mJ → Prop) : Prop :=
  m_in a1 0 1 I J (fun r1 I2 J3 => (r1 = 0 →
    Q (-1) I2 J3) ∧ (¬ r1 = 0 →
    ((I2 0 8) = 0 →
      Q (-3) I2 J3) ∧ (¬ (I2 0 8) = 0 →
      m_findRound  I2 J3 (fun  I6 J7 => (a1 = 0 →
        m_rate_j40 Q  (I6 0 31) I6 J7) ∧ (¬ a1 = 0 →
        m_rate_j40 Q  (I6 0 32) I6 J7)))))
theorem ct_rate (a1 : Int32) (I : mI) (J : mJ) (Q : Int32 → mI → mJ → Prop) (hf : m_rate a1 I J Q) : hh_Ct yX14_rate cX14_rate 2 (some .int) 3 70 [.ref 0, .int a1] (hm I J) (mQi Q) 0 0 := by
  refine hh_Ct.of (own := RX14) rfl (by decide +kernel) (Nat.le_of_ble_eq_true rfl) ?_
  intro X hX hN hE
  show hh_V X 0 [(0, .ref 0), (1, .int a1)] [] 0 0 (hm I J)
  unfold m_rate at hf
  refine hv_iload_n hX dX14_rate_0 rfl 1 rfl ?_
  refine hv_iconst (v := 0) hX ic_0 dX14_rate_1 ?_
  refine hv_iconst (v := 1) hX ic_1 dX14_rate_2 ?_
  refine hm_callSi hX dX14_rate_3 (ct_in a1 0 1 I J _ hf) (gd_in q1923) np_in rfl rfl ⟨Nat.le_of_ble_eq_true rfl, Nat.le_of_ble_eq_true rfl⟩ ⟨Nat.le_refl _, Nat.le_refl _⟩ (Nat.le_of_ble_eq_true rfl) ?_
  intro r1 I2 J3 hf
  refine hv_if_ne (tgt := 11) hX dX14_rate_6 (by decide) (fun c4 => ?_) (fun c4 => ?_)
  · replace hf := hf.2 c4
    refine hv_aload_n hX dX14_rate_11 rfl 0 rfl ?_
    refine hm_getI (v := (I2 0 8)) hX dX14_rate_12 mfl130 (.inl rfl) rfl ?_
    refine hv_if_ne (tgt := 21) hX dX14_rate_15 (by decide) (fun c5 => ?_) (fun c5 => ?_)
    · replace hf := hf.2 c5
      refine hv_aload_n hX dX14_rate_21 rfl 0 rfl ?_
      refine hm_callVv hX dX14_rate_22 (ct_findRound  I2 J3 _ hf) (gd_findRound q2046) np_findRound rfl rfl ⟨Nat.le_of_ble_eq_true rfl, Nat.le_of_ble_eq_true rfl⟩ ⟨Nat.le_refl _, Nat.le_refl _⟩ (Nat.le_of_ble_eq_true rfl) ?_
      intro  I6 J7 hf
      refine hv_iload_n hX dX14_rate_25 rfl 1 rfl ?_
      refine hv_if_ne (tgt := 36) hX dX14_rate_26 (by decide) (fun c8 => ?_) (fun c8 => ?_)
      · replace hf := hf.2 c8
        refine hv_aload_n hX dX14_rate_36 rfl 0 rfl ?_
        refine hm_getI (v := (I6 0 32)) hX dX14_rate_37 mfl224 (.inl rfl) rfl ?_
        refine hv_fewer [0] (loc2 := [(0, .ref 0)]) rfl ?_
        exact w_rate_j40 hX hN hE  _ _ _ hf
      · replace hf := hf.1 c8
        refine hv_aload_n hX dX14_rate_29 rfl 0 rfl ?_
        refine hm_getI (v := (I6 0 31)) hX dX14_rate_30 mfl221 (.inl rfl) rfl ?_
        refine hv_goto (tgt := 40) hX dX14_rate_33 (by decide) ?_
        refine hv_fewer [0] (loc2 := [(0, .ref 0)]) rfl ?_
        exact w_rate_j40 hX hN hE  _ _ _ hf
    · replace hf := hf.1 c5
      refine hv_bipush (v := (-3)) hX bi_m3 dX14_rate_18 ?_
      exact hm_iret hX hE dX14_rate_20 hf
  · replace hf := hf.1 c4
    refine hv_iconst (v := (-1)) hX ic_m1 dX14_rate_9 ?_
    exact hm_iret hX hE dX14_rate_10 hf
theorem np_rate : yX14_rate.cls = RX14 ∧ yX14_rate.cls ≠ "java/lang/invoke/MethodHandle" ∧ yX14_rate.cls ≠ "java/lang/invoke/VarHandle" ∧ (parseMethodDescriptor yX14_rate.desc).map (fun d => d.parameters.length) = some 1 := by decide +kernel
theorem gd_rate {idx : Nat} (h : Cond.methodLink RX14 idx yX14_rate ∈ lw_all) : GoodIn lw_all (wsV RX14 idx RX14 yX14_rate (ws_ yX14_rate cX14_rate 2 (some .int))) := lw_V h q2043 q2044 q123 q2045
/-! stay(I)I -/
def m_stay (a1 : Int32) (I : mI) (J : mJ) (Q : Int32 → mI → mJ → Prop) : Prop :=
  m_isPatch a1 I J (fun r1 I2 J3 => (r1 = 0 →
    Q (-1) I2 J3) ∧ (¬ r1 = 0 →
    m_findRound  I2 J3 (fun  I5 J6 => vp_in a1 4 ∧ (Q (I5 14 a1.toNatClampNeg) I5 J6))))
theorem ct_stay (a1 : Int32) (I : mI) (J : mJ) (Q : Int32 → mI → mJ → Prop) (hf : m_stay a1 I J Q) : hh_Ct yX14_stay cX14_stay 2 (some .int) 3 70 [.ref 0, .int a1] (hm I J) (mQi Q) 0 0 := by
  refine hh_Ct.of (own := RX14) rfl (by decide +kernel) (Nat.le_of_ble_eq_true rfl) ?_
  intro X hX hN hE
  show hh_V X 0 [(0, .ref 0), (1, .int a1)] [] 0 0 (hm I J)
  unfold m_stay at hf
  refine hv_aload_n hX dX14_stay_0 rfl 0 rfl ?_
  refine hv_iload_n hX dX14_stay_1 rfl 1 rfl ?_
  refine hm_callVi hX dX14_stay_2 (ct_isPatch a1 I J _ hf) (gd_isPatch q1936) np_isPatch rfl rfl ⟨Nat.le_of_ble_eq_true rfl, Nat.le_of_ble_eq_true rfl⟩ ⟨Nat.le_refl _, Nat.le_refl _⟩ (Nat.le_of_ble_eq_true rfl) ?_
  intro r1 I2 J3 hf
  refine hv_if_ne (tgt := 10) hX dX14_stay_5 (by decide) (fun c4 => ?_) (fun c4 => ?_)
  · replace hf := hf.2 c4
    refine hv_aload_n hX dX14_stay_10 rfl 0 rfl ?_
    refine hm_callVv hX dX14_stay_11 (ct_findRound  I2 J3 _ hf) (gd_findRound q2046) np_findRound rfl rfl ⟨Nat.le_of_ble_eq_true rfl, Nat.le_of_ble_eq_true rfl⟩ ⟨Nat.le_refl _, Nat.le_refl _⟩ (Nat.le_of_ble_eq_true rfl) ?_
    intro  I5 J6 hf
    refine hv_aload_n hX dX14_stay_14 rfl 0 rfl ?_
    refine hm_getR hX dX14_stay_15 mfl63 14 rfl ?_
    refine hv_iload_n hX dX14_stay_18 rfl 1 rfl ?_
    obtain ⟨g, hf⟩ := hf
    refine hm_iald (v := (I5 14 a1.toNatClampNeg)) hX dX14_stay_19 (by decide) rfl rfl g rfl ?_
    exact hm_iret hX hE dX14_stay_20 hf
  · replace hf := hf.1 c4
    refine hv_iconst (v := (-1)) hX ic_m1 dX14_stay_8 ?_
    exact hm_iret hX hE dX14_stay_9 hf
theorem np_stay : yX14_stay.cls = RX14 ∧ yX14_stay.cls ≠ "java/lang/invoke/MethodHandle" ∧ yX14_stay.cls ≠ "java/lang/invoke/VarHandle" ∧ (parseMethodDescriptor yX14_stay.desc).map (fun d => d.parameters.length) = some 1 := by decide +kernel
theorem gd_stay {idx : Nat} (h : Cond.methodLink RX14 idx yX14_stay ∈ lw_all) : GoodIn lw_all (wsV RX14 idx RX14 yX14_stay (ws_ yX14_stay cX14_stay 2 (some .int))) := lw_V h q2062 q2063 q123 q2064
/-! load(III)I -/
def m_load_j129 (Q : Int32 → mI → mJ → Prop) (a5 : Int32) (a6 : Int32) (s0 : Int32) (I : mI) (J : mJ) : Prop :=
  m_divisor a5 a6 I J (fun r22 I23 J24 => ¬ r22 = 0 ∧ (Q (s0 / r22) I23 J24))
theorem w_load_j129 {X : hh_CX} {Q : Int32 → mI → mJ → Prop} (hX : hh_C X cX14_load RX14 (hrm 2 46)) (hN : hh_nL X = 7) (hE : hh_E X (some .int) (mQi Q) 0 0) : ∀ (a5 : Int32) (a6 : Int32) (s0 : Int32) (I : mI) (J : mJ), m_load_j129 Q  a5 a6 s0 I J → hh_V X 129 [(5, .int a5), (6, .int a6)] [.int s0] 0 0 (hm I J) := by
  intro a5 a6 s0 I J hf
  unfold m_load_j129 at hf
  refine hv_iload hX dX14_load_129 0 rfl ?_
  refine hv_iload hX dX14_load_131 1 rfl ?_
  refine hm_callSi hX dX14_load_133 (ct_divisor a5 a6 I J _ hf) (gd_divisor q2058) np_divisor rfl rfl ⟨Nat.le_of_ble_eq_true rfl, Nat.le_of_ble_eq_true rfl⟩ ⟨Nat.le_refl _, Nat.le_refl _⟩ (Nat.le_of_ble_eq_true rfl) ?_
  intro r22 I23 J24 hf
  obtain ⟨g, hf⟩ := hf
  refine hv_idiv hX g dX14_load_136 ?_
  exact hm_iret hX hE dX14_load_137 hf
def m_load_j83 (Q : Int32 → mI → mJ → Prop) (k35 : Int32 → Int32 → Int32 → Int32 → Int32 → mI → mJ → Prop) (a1 : Int32) (a2 : Int32) (a3 : Int32) (a5 : Int32) (s0 : Int32) (I : mI) (J : mJ) : Prop :=
  k35 a1 a2 a3 s0 (a5 + 1) I J
theorem w_load_j83 {X : hh_CX} {Q : Int32 → mI → mJ → Prop} (hX : hh_C X cX14_load RX14 (hrm 2 46)) (hN : hh_nL X = 7) (hE : hh_E X (some .int) (mQi Q) 0 0) {k35 : Int32 → Int32 → Int32 → Int32 → Int32 → mI → mJ → Prop} (hk35 : ∀ (b0 : Int32) (b1 : Int32) (b2 : Int32) (b3 : Int32) (b4 : Int32) (I : mI) (J : mJ), k35 b0 b1 b2 b3 b4 I J → hh_V X 35 [(0, .ref 0), (1, .int b0), (2, .int b1), (3, .int b2), (4, .int b3), (5, .int b4)] [] 0 0 (hm I J)) : ∀ (a1 : Int32) (a2 : Int32) (a3 : Int32) (a5 : Int32) (s0 : Int32) (I : mI) (J : mJ), m_load_j83 Q k35 a1 a2 a3 a5 s0 I J → hh_V X 83 [(0, .ref 0), (1, .int a1), (2, .int a2), (3, .int a3), (5, .int a5)] [.int s0] 0 0 (hm I J) := by
  intro a1 a2 a3 a5 s0 I J hf
  unfold m_load_j83 at hf
  refine hv_istore (loc2 := [(4, .int s0), (0, .ref 0), (1, .int a1), (2, .int a2), (3, .int a3), (5, .int a5)]) hX dX14_load_83 hN (Nat.le_of_ble_eq_true rfl) rfl ?_
  refine hv_iinc (v := (a5 + 1)) (loc2 := [(5, .int (a5 + 1)), (4, .int s0), (0, .ref 0), (1, .int a1), (2, .int a2), (3, .int a3)]) hX dX14_load_85 5 rfl (congrArg (fun y => a5 + y) ic_1) hN (Nat.le_of_ble_eq_true rfl) rfl ?_
  refine hv_goto (tgt := 35) hX dX14_load_88 (by decide) ?_
  refine hv_fewer [2, 3, 4, 5, 1, 0] (loc2 := [(0, .ref 0), (1, .int a1), (2, .int a2), (3, .int a3), (4, .int s0), (5, .int (a5 + 1))]) rfl ?_
  exact hk35 _ _ _ _ _ _ _ hf
def m_load_l35 (Q : Int32 → mI → mJ → Prop) : Nat → Int32 → Int32 → Int32 → Int32 → Int32 → mI → mJ → Prop
  | 0, _, _, _, _, _, _, _ => False
  | n + 1, a1, a2, a3, a4, a5, I, J =>
    m_topOf a1 I J (fun r13 I14 J15 => (r13 < a5 →
      m_brings a1 a4 I14 J15 (fun r17 I18 J19 => (a3 = 0 →
        Q a4 I18 J19) ∧ (¬ a3 = 0 →
        (a3 = 1 →
          m_load_j129 Q  r17 (a4 + (2 * a2)) r17 I18 J19) ∧ (¬ a3 = 1 →
          m_load_j129 Q  r17 (a4 + (2 * a2)) (a4 + (2 * a2)) I18 J19)))) ∧ (¬ r13 < a5 →
      m_brings a1 a5 I14 J15 (fun r25 I26 J27 => m_brings a1 a4 I26 J27 (fun r28 I29 J30 => ((r25 * (a4 + (2 * a2))) ≤ (r28 * (a5 + (2 * a2))) →
        m_load_j83 Q (fun b0 b1 b2 b3 b4 I J => m_load_l35 Q n b0 b1 b2 b3 b4 I J) a1 a2 a3 a5 a4 I29 J30) ∧ (¬ (r25 * (a4 + (2 * a2))) ≤ (r28 * (a5 + (2 * a2))) →
        m_load_j83 Q (fun b0 b1 b2 b3 b4 I J => m_load_l35 Q n b0 b1 b2 b3 b4 I J) a1 a2 a3 a5 a5 I29 J30)))))
theorem w_load_l35 {X : hh_CX} {Q : Int32 → mI → mJ → Prop} (hX : hh_C X cX14_load RX14 (hrm 2 46)) (hN : hh_nL X = 7) (hE : hh_E X (some .int) (mQi Q) 0 0) : ∀ (n : Nat) (a1 : Int32) (a2 : Int32) (a3 : Int32) (a4 : Int32) (a5 : Int32) (I : mI) (J : mJ), m_load_l35 Q  n a1 a2 a3 a4 a5 I J → hh_V X 35 [(0, .ref 0), (1, .int a1), (2, .int a2), (3, .int a3), (4, .int a4), (5, .int a5)] [] 0 0 (hm I J) := by
  intro n
  induction n with
  | zero => intro _ _ _ _ _ _ _ hf; exact hf.elim
  | succ n ih =>
    intro a1 a2 a3 a4 a5 I J hf
    unfold m_load_l35 at hf
    refine hv_iload hX dX14_load_35 5 rfl ?_
    refine hv_aload_n hX dX14_load_37 rfl 0 rfl ?_
    refine hv_iload_n hX dX14_load_38 rfl 1 rfl ?_
    refine hm_callVi hX dX14_load_39 (ct_topOf a1 I J _ hf) (gd_topOf q1964) np_topOf rfl rfl ⟨Nat.le_of_ble_eq_true rfl, Nat.le_of_ble_eq_true rfl⟩ ⟨Nat.le_refl _, Nat.le_refl _⟩ (Nat.le_of_ble_eq_true rfl) ?_
    intro r13 I14 J15 hf
    refine hv_icmp_gt (tgt := 91) hX dX14_load_42 (by decide) (fun c16 => ?_) (fun c16 => ?_)
    · replace hf := hf.1 c16
      refine hv_aload_n hX dX14_load_91 rfl 0 rfl ?_
      refine hv_iload_n hX dX14_load_92 rfl 1 rfl ?_
      refine hv_iload hX dX14_load_93 4 rfl ?_
      refine hm_callVi hX dX14_load_95 (ct_brings a1 a4 I14 J15 _ hf) (gd_brings q2050) np_brings rfl rfl ⟨Nat.le_of_ble_eq_true rfl, Nat.le_of_ble_eq_true rfl⟩ ⟨Nat.le_refl _, Nat.le_refl _⟩ (Nat.le_of_ble_eq_true rfl) ?_
      intro r17 I18 J19 hf
      refine hv_istore (loc2 := [(5, .int r17), (0, .ref 0), (1, .int a1), (2, .int a2), (3, .int a3), (4, .int a4)]) hX dX14_load_98 hN (Nat.le_of_ble_eq_true rfl) rfl ?_
      refine hv_iload hX dX14_load_100 5 rfl ?_
      refine hv_iconst (v := 2) hX ic_2 dX14_load_102 ?_
      refine hv_iload_n hX dX14_load_103 rfl 3 rfl ?_
      refine hv_imul hX dX14_load_104 ?_
      refine hv_iadd hX dX14_load_105 ?_
      refine hv_istore (loc2 := [(6, .int (a4 + (2 * a2))), (5, .int r17), (0, .ref 0), (1, .int a1), (2, .int a2), (3, .int a3), (4, .int a4)]) hX dX14_load_106 hN (Nat.le_of_ble_eq_true rfl) rfl ?_
      refine hv_iload_n hX dX14_load_108 rfl 5 rfl ?_
      refine hv_if_ne (tgt := 117) hX dX14_load_109 (by decide) (fun c20 => ?_) (fun c20 => ?_)
      · replace hf := hf.2 c20
        refine hv_iload_n hX dX14_load_117 rfl 5 rfl ?_
        refine hv_iconst (v := 1) hX ic_1 dX14_load_118 ?_
        refine hv_icmp_ne (tgt := 127) hX dX14_load_119 (by decide) (fun c21 => ?_) (fun c21 => ?_)
        · replace hf := hf.2 c21
          refine hv_iload hX dX14_load_127 0 rfl ?_
          refine hv_fewer [1, 0] (loc2 := [(5, .int r17), (6, .int (a4 + (2 * a2)))]) rfl ?_
          exact w_load_j129 hX hN hE  _ _ _ _ _ hf
        · replace hf := hf.1 c21
          refine hv_iload hX dX14_load_122 1 rfl ?_
          refine hv_goto (tgt := 129) hX dX14_load_124 (by decide) ?_
          refine hv_fewer [1, 0] (loc2 := [(5, .int r17), (6, .int (a4 + (2 * a2)))]) rfl ?_
          exact w_load_j129 hX hN hE  _ _ _ _ _ hf
      · replace hf := hf.1 c20
        refine hv_iload hX dX14_load_112 6 rfl ?_
        refine hv_goto (tgt := 137) hX dX14_load_114 (by decide) ?_
        exact hm_iret hX hE dX14_load_137 hf
    · replace hf := hf.2 c16
      refine hv_aload_n hX dX14_load_45 rfl 0 rfl ?_
      refine hv_iload_n hX dX14_load_46 rfl 1 rfl ?_
      refine hv_iload hX dX14_load_47 5 rfl ?_
      refine hm_callVi hX dX14_load_49 (ct_brings a1 a5 I14 J15 _ hf) (gd_brings q2050) np_brings rfl rfl ⟨Nat.le_of_ble_eq_true rfl, Nat.le_of_ble_eq_true rfl⟩ ⟨Nat.le_refl _, Nat.le_refl _⟩ (Nat.le_of_ble_eq_true rfl) ?_
      intro r25 I26 J27 hf
      refine hv_iload hX dX14_load_52 4 rfl ?_
      refine hv_iconst (v := 2) hX ic_2 dX14_load_54 ?_
      refine hv_iload_n hX dX14_load_55 rfl 2 rfl ?_
      refine hv_imul hX dX14_load_56 ?_
      refine hv_iadd hX dX14_load_57 ?_
      refine hv_imul hX dX14_load_58 ?_
      refine hv_aload_n hX dX14_load_59 rfl 0 rfl ?_
      refine hv_iload_n hX dX14_load_60 rfl 1 rfl ?_
      refine hv_iload hX dX14_load_61 4 rfl ?_
      refine hm_callVi hX dX14_load_63 (ct_brings a1 a4 I26 J27 _ hf) (gd_brings q2050) np_brings rfl rfl ⟨Nat.le_of_ble_eq_true rfl, Nat.le_of_ble_eq_true rfl⟩ ⟨Nat.le_refl _, Nat.le_refl _⟩ (Nat.le_of_ble_eq_true rfl) ?_
      intro r28 I29 J30 hf
      refine hv_iload hX dX14_load_66 5 rfl ?_
      refine hv_iconst (v := 2) hX ic_2 dX14_load_68 ?_
      refine hv_iload_n hX dX14_load_69 rfl 2 rfl ?_
      refine hv_imul hX dX14_load_70 ?_
      refine hv_iadd hX dX14_load_71 ?_
      refine hv_imul hX dX14_load_72 ?_
      refine hv_icmp_le (tgt := 81) hX dX14_load_73 (by decide) (fun c31 => ?_) (fun c31 => ?_)
      · replace hf := hf.1 c31
        refine hv_iload hX dX14_load_81 4 rfl ?_
        refine hv_fewer [0, 1, 2, 3, 5] (loc2 := [(0, .ref 0), (1, .int a1), (2, .int a2), (3, .int a3), (5, .int a5)]) rfl ?_
        exact w_load_j83 hX hN hE ih _ _ _ _ _ _ _ hf
      · replace hf := hf.2 c31
        refine hv_iload hX dX14_load_76 5 rfl ?_
        refine hv_goto (tgt := 83) hX dX14_load_78 (by decide) ?_
        refine hv_fewer [0, 1, 2, 3, 5] (loc2 := [(0, .ref 0), (1, .int a1), (2, .int a2), (3, .int a3), (5, .int a5)]) rfl ?_
        exact w_load_j83 hX hN hE ih _ _ _ _ _ _ _ hf
def m_load (a1 : Int32) (a2 : Int32) (a3 : Int32) (I : mI) (J : mJ) (Q : Int32 → mI → mJ → Prop) : Prop :=
  m_isPatch a1 I J (fun r1 I2 J3 => (r1 = 0 →
    Q (-1) I2 J3) ∧ (¬ r1 = 0 →
    m_in a2 1 30 I2 J3 (fun r5 I6 J7 => (r5 = 0 →
      Q (-1) I6 J7) ∧ (¬ r5 = 0 →
      m_in a3 0 2 I6 J7 (fun r9 I10 J11 => (r9 = 0 →
        Q (-1) I10 J11) ∧ (¬ r9 = 0 →
        ∃ n0 : Nat, m_load_l35 Q  n0 a1 a2 a3 1 2 I10 J11))))))
theorem ct_load (a1 : Int32) (a2 : Int32) (a3 : Int32) (I : mI) (J : mJ) (Q : Int32 → mI → mJ → Prop) (hf : m_load a1 a2 a3 I J Q) : hh_Ct yX14_load cX14_load 7 (some .int) 2 46 [.ref 0, .int a1, .int a2, .int a3] (hm I J) (mQi Q) 0 0 := by
  refine hh_Ct.of (own := RX14) rfl (by decide +kernel) (Nat.le_of_ble_eq_true rfl) ?_
  intro X hX hN hE
  show hh_V X 0 [(0, .ref 0), (1, .int a1), (2, .int a2), (3, .int a3)] [] 0 0 (hm I J)
  unfold m_load at hf
  refine hv_aload_n hX dX14_load_0 rfl 0 rfl ?_
  refine hv_iload_n hX dX14_load_1 rfl 1 rfl ?_
  refine hm_callVi hX dX14_load_2 (ct_isPatch a1 I J _ hf) (gd_isPatch q1936) np_isPatch rfl rfl ⟨Nat.le_of_ble_eq_true rfl, Nat.le_of_ble_eq_true rfl⟩ ⟨Nat.le_refl _, Nat.le_refl _⟩ (Nat.le_of_ble_eq_true rfl) ?_
  intro r1 I2 J3 hf
  refine hv_if_eq (tgt := 27) hX dX14_load_5 (by decide) (fun c4 => ?_) (fun c4 => ?_)
  · replace hf := hf.1 c4
    refine hv_iconst (v := (-1)) hX ic_m1 dX14_load_27 ?_
    exact hm_iret hX hE dX14_load_28 hf
  · replace hf := hf.2 c4
    refine hv_iload_n hX dX14_load_8 rfl 2 rfl ?_
    refine hv_iconst (v := 1) hX ic_1 dX14_load_9 ?_
    refine hv_bipush (v := 30) hX bi_30 dX14_load_10 ?_
    refine hm_callSi hX dX14_load_12 (ct_in a2 1 30 I2 J3 _ hf) (gd_in q1923) np_in rfl rfl ⟨Nat.le_of_ble_eq_true rfl, Nat.le_of_ble_eq_true rfl⟩ ⟨Nat.le_refl _, Nat.le_refl _⟩ (Nat.le_of_ble_eq_true rfl) ?_
    intro r5 I6 J7 hf
    refine hv_if_eq (tgt := 27) hX dX14_load_15 (by decide) (fun c8 => ?_) (fun c8 => ?_)
    · replace hf := hf.1 c8
      refine hv_iconst (v := (-1)) hX ic_m1 dX14_load_27 ?_
      exact hm_iret hX hE dX14_load_28 hf
    · replace hf := hf.2 c8
      refine hv_iload_n hX dX14_load_18 rfl 3 rfl ?_
      refine hv_iconst (v := 0) hX ic_0 dX14_load_19 ?_
      refine hv_iconst (v := 2) hX ic_2 dX14_load_20 ?_
      refine hm_callSi hX dX14_load_21 (ct_in a3 0 2 I6 J7 _ hf) (gd_in q1923) np_in rfl rfl ⟨Nat.le_of_ble_eq_true rfl, Nat.le_of_ble_eq_true rfl⟩ ⟨Nat.le_refl _, Nat.le_refl _⟩ (Nat.le_of_ble_eq_true rfl) ?_
      intro r9 I10 J11 hf
      refine hv_if_ne (tgt := 29) hX dX14_load_24 (by decide) (fun c12 => ?_) (fun c12 => ?_)
      · replace hf := hf.2 c12
        refine hv_iconst (v := 1) hX ic_1 dX14_load_29 ?_
        refine hv_istore (loc2 := [(4, .int 1), (0, .ref 0), (1, .int a1), (2, .int a2), (3, .int a3)]) hX dX14_load_30 hN (Nat.le_of_ble_eq_true rfl) rfl ?_
        refine hv_iconst (v := 2) hX ic_2 dX14_load_32 ?_
        refine hv_istore (loc2 := [(5, .int 2), (4, .int 1), (0, .ref 0), (1, .int a1), (2, .int a2), (3, .int a3)]) hX dX14_load_33 hN (Nat.le_of_ble_eq_true rfl) rfl ?_
        refine hv_fewer [2, 3, 4, 5, 1, 0] (loc2 := [(0, .ref 0), (1, .int a1), (2, .int a2), (3, .int a3), (4, .int 1), (5, .int 2)]) rfl ?_
        obtain ⟨n0, hf⟩ := hf
        exact w_load_l35 hX hN hE  n0 _ _ _ _ _ _ _ hf
      · replace hf := hf.1 c12
        refine hv_iconst (v := (-1)) hX ic_m1 dX14_load_27 ?_
        exact hm_iret hX hE dX14_load_28 hf
theorem np_load : yX14_load.cls = RX14 ∧ yX14_load.cls ≠ "java/lang/invoke/MethodHandle" ∧ yX14_load.cls ≠ "java/lang/invoke/VarHandle" ∧ (parseMethodDescriptor yX14_load.desc).map (fun d => d.parameters.length) = some 3 := by decide +kernel
theorem gd_load {idx : Nat} (h : Cond.methodLink RX14 idx yX14_load ∈ lw_all) : GoodIn lw_all (wsV RX14 idx RX14 yX14_load (ws_ yX14_load cX14_load 7 (some .int))) := lw_V h q2066 q2067 q123 q2068
/-! risk(I)I -/
def m_risk_l122 (Q : Int32 → mI → mJ → Prop) : Nat → Int32 → Int32 → mI → mJ → Prop
  | 0, _, _, _, _ => False
  | n + 1, a1, a4, I, J =>
    ((10 : Int32) ≤ a4 →
      Q (((I 0 9) + 1) - 1) (u2 (u2 I 0 9 ((I 0 9) + 1)) 0 34 (-1)) J) ∧ (¬ (10 : Int32) ≤ a4 →
      vp_in ((40 * a1) + a4) 160 ∧ (vp_in ((10 * (I 0 9)) + a4) 40 ∧ (m_risk_l122 Q n a1 (a4 + 1) (u2 I 3 ((10 * (I 0 9)) + a4).toNatClampNeg ((J 28 ((40 * a1) + a4).toNatClampNeg).toInt32)) J)))
theorem w_risk_l122 {X : hh_CX} {Q : Int32 → mI → mJ → Prop} (hX : hh_C X cX14_risk RX14 (hrm 2 42)) (hN : hh_nL X = 5) (hE : hh_E X (some .int) (mQi Q) 0 0) : ∀ (n : Nat) (a1 : Int32) (a4 : Int32) (I : mI) (J : mJ), m_risk_l122 Q  n a1 a4 I J → hh_V X 122 [(0, .ref 0), (1, .int a1), (4, .int a4)] [] 0 0 (hm I J) := by
  intro n
  induction n with
  | zero => intro _ _ _ _ hf; exact hf.elim
  | succ n ih =>
    intro a1 a4 I J hf
    unfold m_risk_l122 at hf
    refine hv_iload hX dX14_risk_122 2 rfl ?_
    refine hv_bipush (v := 10) hX bi_10 dX14_risk_124 ?_
    refine hv_icmp_ge (tgt := 163) hX dX14_risk_126 (by decide) (fun c13 => ?_) (fun c13 => ?_)
    · replace hf := hf.1 c13
      refine hv_aload_n hX dX14_risk_163 rfl 0 rfl ?_
      refine hv_dup hX rfl dX14_risk_164 ?_
      refine hm_getI (v := (I 0 9)) hX dX14_risk_165 mfl242 (.inl rfl) rfl ?_
      refine hv_iconst (v := 1) hX ic_1 dX14_risk_168 ?_
      refine hv_iadd hX dX14_risk_169 ?_
      refine hm_putI hX dX14_risk_170 mfl242 ?_
      refine hv_aload_n hX dX14_risk_173 rfl 0 rfl ?_
      refine hv_iconst (v := (-1)) hX ic_m1 dX14_risk_174 ?_
      refine hm_putI hX dX14_risk_175 mfl70 ?_
      refine hv_aload_n hX dX14_risk_178 rfl 0 rfl ?_
      refine hm_getI (v := ((I 0 9) + 1)) hX dX14_risk_179 mfl242 (.inl rfl) ((u2_ne _ _ (.inr (by decide))) |>.trans (u2_self _ _ _ _)) ?_
      refine hv_iconst (v := 1) hX ic_1 dX14_risk_182 ?_
      refine hv_isub hX dX14_risk_183 ?_
      exact hm_iret hX hE dX14_risk_184 hf
    · replace hf := hf.2 c13
      refine hv_aload_n hX dX14_risk_129 rfl 0 rfl ?_
      refine hm_getR hX dX14_risk_130 mfl26 3 rfl ?_
      refine hv_bipush (v := 10) hX bi_10 dX14_risk_133 ?_
      refine hv_aload_n hX dX14_risk_135 rfl 0 rfl ?_
      refine hm_getI (v := (I 0 9)) hX dX14_risk_136 mfl242 (.inl rfl) rfl ?_
      refine hv_imul hX dX14_risk_139 ?_
      refine hv_iload hX dX14_risk_140 2 rfl ?_
      refine hv_iadd hX dX14_risk_142 ?_
      refine hv_aload_n hX dX14_risk_143 rfl 0 rfl ?_
      refine hm_getR hX dX14_risk_144 mfl109 28 rfl ?_
      refine hv_bipush (v := 40) hX bi_40 dX14_risk_147 ?_
      refine hv_iload_n hX dX14_risk_149 rfl 1 rfl ?_
      refine hv_imul hX dX14_risk_150 ?_
      refine hv_iload hX dX14_risk_151 2 rfl ?_
      refine hv_iadd hX dX14_risk_153 ?_
      obtain ⟨g, hf⟩ := hf
      refine hm_lald (v := (J 28 ((40 * a1) + a4).toNatClampNeg)) hX dX14_risk_154 (by decide) rfl rfl g rfl ?_
      refine hv_l2i hX dX14_risk_155 ?_
      obtain ⟨g, hf⟩ := hf
      refine hm_iast hX dX14_risk_156 (by decide) rfl rfl g ?_
      refine hv_iinc (v := (a4 + 1)) (loc2 := [(4, .int (a4 + 1)), (0, .ref 0), (1, .int a1)]) hX dX14_risk_157 2 rfl (congrArg (fun y => a4 + y) ic_1) hN (Nat.le_of_ble_eq_true rfl) rfl ?_
      refine hv_goto (tgt := 122) hX dX14_risk_160 (by decide) ?_
      refine hv_fewer [1, 2, 0] (loc2 := [(0, .ref 0), (1, .int a1), (4, .int (a4 + 1))]) rfl ?_
      exact ih _ _ _ _ hf
def m_risk_j94 (Q : Int32 → mI → mJ → Prop) (k42 : Int32 → Int32 → Int32 → mI → mJ → Prop) (a1 : Int32) (a4 : Int32) (s0 : Int32) (I : mI) (J : mJ) : Prop :=
  k42 a1 s0 (a4 + 1) I J
theorem w_risk_j94 {X : hh_CX} {Q : Int32 → mI → mJ → Prop} (hX : hh_C X cX14_risk RX14 (hrm 2 42)) (hN : hh_nL X = 5) (hE : hh_E X (some .int) (mQi Q) 0 0) {k42 : Int32 → Int32 → Int32 → mI → mJ → Prop} (hk42 : ∀ (b0 : Int32) (b1 : Int32) (b2 : Int32) (I : mI) (J : mJ), k42 b0 b1 b2 I J → hh_V X 42 [(0, .ref 0), (1, .int b0), (3, .int b1), (4, .int b2)] [] 0 0 (hm I J)) : ∀ (a1 : Int32) (a4 : Int32) (s0 : Int32) (I : mI) (J : mJ), m_risk_j94 Q k42 a1 a4 s0 I J → hh_V X 94 [(0, .ref 0), (1, .int a1), (4, .int a4)] [.int s0] 0 0 (hm I J) := by
  intro a1 a4 s0 I J hf
  unfold m_risk_j94 at hf
  refine hv_istore_n (loc2 := [(3, .int s0), (0, .ref 0), (1, .int a1), (4, .int a4)]) hX dX14_risk_94 rfl hN (Nat.le_of_ble_eq_true rfl) rfl ?_
  refine hv_iinc (v := (a4 + 1)) (loc2 := [(4, .int (a4 + 1)), (3, .int s0), (0, .ref 0), (1, .int a1)]) hX dX14_risk_95 3 rfl (congrArg (fun y => a4 + y) ic_1) hN (Nat.le_of_ble_eq_true rfl) rfl ?_
  refine hv_goto (tgt := 42) hX dX14_risk_98 (by decide) ?_
  refine hv_fewer [2, 3, 1, 0] (loc2 := [(0, .ref 0), (1, .int a1), (3, .int s0), (4, .int (a4 + 1))]) rfl ?_
  exact hk42 _ _ _ _ _ hf
def m_risk_j93 (Q : Int32 → mI → mJ → Prop) (k42 : Int32 → Int32 → Int32 → mI → mJ → Prop) (a1 : Int32) (a4 : Int32) (I : mI) (J : mJ) : Prop :=
  m_risk_j94 Q k42 a1 a4 0 I J
theorem w_risk_j93 {X : hh_CX} {Q : Int32 → mI → mJ → Prop} (hX : hh_C X cX14_risk RX14 (hrm 2 42)) (hN : hh_nL X = 5) (hE : hh_E X (some .int) (mQi Q) 0 0) {k42 : Int32 → Int32 → Int32 → mI → mJ → Prop} (hk42 : ∀ (b0 : Int32) (b1 : Int32) (b2 : Int32) (I : mI) (J : mJ), k42 b0 b1 b2 I J → hh_V X 42 [(0, .ref 0), (1, .int b0), (3, .int b1), (4, .int b2)] [] 0 0 (hm I J)) : ∀ (a1 : Int32) (a4 : Int32) (I : mI) (J : mJ), m_risk_j93 Q k42 a1 a4 I J → hh_V X 93 [(0, .ref 0), (1, .int a1), (4, .int a4)] [] 0 0 (hm I J) := by
  intro a1 a4 I J hf
  unfold m_risk_j93 at hf
  refine hv_iconst (v := 0) hX ic_0 dX14_risk_93 ?_
  exact w_risk_j94 hX hN hE hk42 _ _ _ _ _ hf
def m_risk_l42 (Q : Int32 → mI → mJ → Prop) : Nat → Int32 → Int32 → Int32 → mI → mJ → Prop
  | 0, _, _, _, _, _ => False
  | n + 1, a1, a3, a4, I, J =>
    ((10 : Int32) ≤ a4 →
      (a3 = 0 →
        Q (-4) I J) ∧ (¬ a3 = 0 →
        ((I 0 9) = 4 →
          Q (-2) I J) ∧ (¬ (I 0 9) = 4 →
          ∃ n0 : Nat, m_risk_l122 Q  n0 a1 0 I J))) ∧ (¬ (10 : Int32) ≤ a4 →
      (a3 = 0 →
        m_risk_j93 Q (fun b0 b1 b2 I J => m_risk_l42 Q n b0 b1 b2 I J) a1 a4 I J) ∧ (¬ a3 = 0 →
        vp_in ((40 * a1) + a4) 160 ∧ (((lg_cmp (J 28 ((40 * a1) + a4).toNatClampNeg) 0) < 0 →
          m_risk_j93 Q (fun b0 b1 b2 I J => m_risk_l42 Q n b0 b1 b2 I J) a1 a4 I J) ∧ (¬ (lg_cmp (J 28 ((40 * a1) + a4).toNatClampNeg) 0) < 0 →
          vp_in ((40 * a1) + a4) 160 ∧ (((0 : Int32) < (lg_cmp (J 28 ((40 * a1) + a4).toNatClampNeg) 20) →
            m_risk_j93 Q (fun b0 b1 b2 I J => m_risk_l42 Q n b0 b1 b2 I J) a1 a4 I J) ∧ (¬ (0 : Int32) < (lg_cmp (J 28 ((40 * a1) + a4).toNatClampNeg) 20) →
            m_risk_j94 Q (fun b0 b1 b2 I J => m_risk_l42 Q n b0 b1 b2 I J) a1 a4 1 I J))))))
theorem w_risk_l42 {X : hh_CX} {Q : Int32 → mI → mJ → Prop} (hX : hh_C X cX14_risk RX14 (hrm 2 42)) (hN : hh_nL X = 5) (hE : hh_E X (some .int) (mQi Q) 0 0) : ∀ (n : Nat) (a1 : Int32) (a3 : Int32) (a4 : Int32) (I : mI) (J : mJ), m_risk_l42 Q  n a1 a3 a4 I J → hh_V X 42 [(0, .ref 0), (1, .int a1), (3, .int a3), (4, .int a4)] [] 0 0 (hm I J) := by
  intro n
  induction n with
  | zero => intro _ _ _ _ _ hf; exact hf.elim
  | succ n ih =>
    intro a1 a3 a4 I J hf
    unfold m_risk_l42 at hf
    refine hv_iload hX dX14_risk_42 3 rfl ?_
    refine hv_bipush (v := 10) hX bi_10 dX14_risk_44 ?_
    refine hv_icmp_ge (tgt := 101) hX dX14_risk_46 (by decide) (fun c10 => ?_) (fun c10 => ?_)
    · replace hf := hf.1 c10
      refine hv_iload_n hX dX14_risk_101 rfl 2 rfl ?_
      refine hv_if_ne (tgt := 108) hX dX14_risk_102 (by decide) (fun c11 => ?_) (fun c11 => ?_)
      · replace hf := hf.2 c11
        refine hv_aload_n hX dX14_risk_108 rfl 0 rfl ?_
        refine hm_getI (v := (I 0 9)) hX dX14_risk_109 mfl242 (.inl rfl) rfl ?_
        refine hv_iconst (v := 4) hX ic_4 dX14_risk_112 ?_
        refine hv_icmp_ne (tgt := 119) hX dX14_risk_113 (by decide) (fun c12 => ?_) (fun c12 => ?_)
        · replace hf := hf.2 c12
          refine hv_iconst (v := 0) hX ic_0 dX14_risk_119 ?_
          refine hv_istore (loc2 := [(4, .int 0), (0, .ref 0), (1, .int a1), (3, .int a3)]) hX dX14_risk_120 hN (Nat.le_of_ble_eq_true rfl) rfl ?_
          refine hv_fewer [1, 2, 0] (loc2 := [(0, .ref 0), (1, .int a1), (4, .int 0)]) rfl ?_
          obtain ⟨n0, hf⟩ := hf
          exact w_risk_l122 hX hN hE  n0 _ _ _ _ hf
        · replace hf := hf.1 c12
          refine hv_bipush (v := (-2)) hX bi_m2 dX14_risk_116 ?_
          exact hm_iret hX hE dX14_risk_118 hf
      · replace hf := hf.1 c11
        refine hv_bipush (v := (-4)) hX bi_m4 dX14_risk_105 ?_
        exact hm_iret hX hE dX14_risk_107 hf
    · replace hf := hf.2 c10
      refine hv_iload_n hX dX14_risk_49 rfl 2 rfl ?_
      refine hv_if_eq (tgt := 93) hX dX14_risk_50 (by decide) (fun c14 => ?_) (fun c14 => ?_)
      · replace hf := hf.1 c14
        refine hv_fewer [0, 1, 3] (loc2 := [(0, .ref 0), (1, .int a1), (4, .int a4)]) rfl ?_
        exact w_risk_j93 hX hN hE ih _ _ _ _ hf
      · replace hf := hf.2 c14
        refine hv_aload_n hX dX14_risk_53 rfl 0 rfl ?_
        refine hm_getR hX dX14_risk_54 mfl109 28 rfl ?_
        refine hv_bipush (v := 40) hX bi_40 dX14_risk_57 ?_
        refine hv_iload_n hX dX14_risk_59 rfl 1 rfl ?_
        refine hv_imul hX dX14_risk_60 ?_
        refine hv_iload hX dX14_risk_61 3 rfl ?_
        refine hv_iadd hX dX14_risk_63 ?_
        obtain ⟨g, hf⟩ := hf
        refine hm_lald (v := (J 28 ((40 * a1) + a4).toNatClampNeg)) hX dX14_risk_64 (by decide) rfl rfl g rfl ?_
        refine hv_lconst (v := 0) hX rfl dX14_risk_65 ?_
        refine hv_lcmp hX dX14_risk_66 ?_
        refine hv_if_lt (tgt := 93) hX dX14_risk_67 (by decide) (fun c15 => ?_) (fun c15 => ?_)
        · replace hf := hf.1 c15
          refine hv_fewer [0, 1, 3] (loc2 := [(0, .ref 0), (1, .int a1), (4, .int a4)]) rfl ?_
          exact w_risk_j93 hX hN hE ih _ _ _ _ hf
        · replace hf := hf.2 c15
          refine hv_aload_n hX dX14_risk_70 rfl 0 rfl ?_
          refine hm_getR hX dX14_risk_71 mfl109 28 rfl ?_
          refine hv_bipush (v := 40) hX bi_40 dX14_risk_74 ?_
          refine hv_iload_n hX dX14_risk_76 rfl 1 rfl ?_
          refine hv_imul hX dX14_risk_77 ?_
          refine hv_iload hX dX14_risk_78 3 rfl ?_
          refine hv_iadd hX dX14_risk_80 ?_
          obtain ⟨g, hf⟩ := hf
          refine hm_lald (v := (J 28 ((40 * a1) + a4).toNatClampNeg)) hX dX14_risk_81 (by decide) rfl rfl g rfl ?_
          refine hv_ldc2 (v := 20) hX dX14_risk_82 q2073 ?_
          refine hv_lcmp hX dX14_risk_85 ?_
          refine hv_if_gt (tgt := 93) hX dX14_risk_86 (by decide) (fun c16 => ?_) (fun c16 => ?_)
          · replace hf := hf.1 c16
            refine hv_fewer [0, 1, 3] (loc2 := [(0, .ref 0), (1, .int a1), (4, .int a4)]) rfl ?_
            exact w_risk_j93 hX hN hE ih _ _ _ _ hf
          · replace hf := hf.2 c16
            refine hv_iconst (v := 1) hX ic_1 dX14_risk_89 ?_
            refine hv_goto (tgt := 94) hX dX14_risk_90 (by decide) ?_
            refine hv_fewer [0, 1, 3] (loc2 := [(0, .ref 0), (1, .int a1), (4, .int a4)]) rfl ?_
            exact w_risk_j94 hX hN hE ih _ _ _ _ _ hf
def m_risk_j38 (Q : Int32 → mI → mJ → Prop) (a1 : Int32) (s0 : Int32) (I : mI) (J : mJ) : Prop :=
  ∃ n0 : Nat, m_risk_l42 Q  n0 a1 s0 0 I J
theorem w_risk_j38 {X : hh_CX} {Q : Int32 → mI → mJ → Prop} (hX : hh_C X cX14_risk RX14 (hrm 2 42)) (hN : hh_nL X = 5) (hE : hh_E X (some .int) (mQi Q) 0 0) : ∀ (a1 : Int32) (s0 : Int32) (I : mI) (J : mJ), m_risk_j38 Q  a1 s0 I J → hh_V X 38 [(0, .ref 0), (1, .int a1)] [.int s0] 0 0 (hm I J) := by
  intro a1 s0 I J hf
  unfold m_risk_j38 at hf
  refine hv_istore_n (loc2 := [(3, .int s0), (0, .ref 0), (1, .int a1)]) hX dX14_risk_38 rfl hN (Nat.le_of_ble_eq_true rfl) rfl ?_
  refine hv_iconst (v := 0) hX ic_0 dX14_risk_39 ?_
  refine hv_istore (loc2 := [(4, .int 0), (3, .int s0), (0, .ref 0), (1, .int a1)]) hX dX14_risk_40 hN (Nat.le_of_ble_eq_true rfl) rfl ?_
  refine hv_fewer [2, 3, 1, 0] (loc2 := [(0, .ref 0), (1, .int a1), (3, .int s0), (4, .int 0)]) rfl ?_
  obtain ⟨n0, hf⟩ := hf
  exact w_risk_l42 hX hN hE  n0 _ _ _ _ _ hf
def m_risk (a1 : Int32) (I : mI) (J : mJ) (Q : Int32 → mI → mJ → Prop) : Prop :=
  m_isShelf a1 I J (fun r1 I2 J3 => (r1 = 0 →
    Q (-1) I2 J3) ∧ (¬ r1 = 0 →
    m_lacksSort a1 1 I2 J3 (fun r5 I6 J7 => (r5 = 0 →
      vp_in a1 4 ∧ (((I6 27 a1.toNatClampNeg) = 10 →
        m_risk_j38 Q  a1 1 I6 J7) ∧ (¬ (I6 27 a1.toNatClampNeg) = 10 →
        m_risk_j38 Q  a1 0 I6 J7))) ∧ (¬ r5 = 0 →
      Q r5 I6 J7))))
theorem ct_risk (a1 : Int32) (I : mI) (J : mJ) (Q : Int32 → mI → mJ → Prop) (hf : m_risk a1 I J Q) : hh_Ct yX14_risk cX14_risk 5 (some .int) 2 42 [.ref 0, .int a1] (hm I J) (mQi Q) 0 0 := by
  refine hh_Ct.of (own := RX14) rfl (by decide +kernel) (Nat.le_of_ble_eq_true rfl) ?_
  intro X hX hN hE
  show hh_V X 0 [(0, .ref 0), (1, .int a1)] [] 0 0 (hm I J)
  unfold m_risk at hf
  refine hv_iload_n hX dX14_risk_0 rfl 1 rfl ?_
  refine hm_callSi hX dX14_risk_1 (ct_isShelf a1 I J _ hf) (gd_isShelf q1944) np_isShelf rfl rfl ⟨Nat.le_of_ble_eq_true rfl, Nat.le_of_ble_eq_true rfl⟩ ⟨Nat.le_refl _, Nat.le_refl _⟩ (Nat.le_of_ble_eq_true rfl) ?_
  intro r1 I2 J3 hf
  refine hv_if_ne (tgt := 9) hX dX14_risk_4 (by decide) (fun c4 => ?_) (fun c4 => ?_)
  · replace hf := hf.2 c4
    refine hv_aload_n hX dX14_risk_9 rfl 0 rfl ?_
    refine hv_iload_n hX dX14_risk_10 rfl 1 rfl ?_
    refine hv_iconst (v := 1) hX ic_1 dX14_risk_11 ?_
    refine hm_callVi hX dX14_risk_12 (ct_lacksSort a1 1 I2 J3 _ hf) (gd_lacksSort q1947) np_lacksSort rfl rfl ⟨Nat.le_of_ble_eq_true rfl, Nat.le_of_ble_eq_true rfl⟩ ⟨Nat.le_refl _, Nat.le_refl _⟩ (Nat.le_of_ble_eq_true rfl) ?_
    intro r5 I6 J7 hf
    refine hv_istore_n (loc2 := [(2, .int r5), (0, .ref 0), (1, .int a1)]) hX dX14_risk_15 rfl hN (Nat.le_of_ble_eq_true rfl) rfl ?_
    refine hv_iload_n hX dX14_risk_16 rfl 0 rfl ?_
    refine hv_if_eq (tgt := 22) hX dX14_risk_17 (by decide) (fun c8 => ?_) (fun c8 => ?_)
    · replace hf := hf.1 c8
      refine hv_aload_n hX dX14_risk_22 rfl 1 rfl ?_
      refine hm_getR hX dX14_risk_23 mfl106 27 rfl ?_
      refine hv_iload_n hX dX14_risk_26 rfl 2 rfl ?_
      obtain ⟨g, hf⟩ := hf
      refine hm_iald (v := (I6 27 a1.toNatClampNeg)) hX dX14_risk_27 (by decide) rfl rfl g rfl ?_
      refine hv_bipush (v := 10) hX bi_10 dX14_risk_28 ?_
      refine hv_icmp_ne (tgt := 37) hX dX14_risk_30 (by decide) (fun c9 => ?_) (fun c9 => ?_)
      · replace hf := hf.2 c9
        refine hv_iconst (v := 0) hX ic_0 dX14_risk_37 ?_
        refine hv_fewer [1, 2] (loc2 := [(0, .ref 0), (1, .int a1)]) rfl ?_
        exact w_risk_j38 hX hN hE  _ _ _ _ hf
      · replace hf := hf.1 c9
        refine hv_iconst (v := 1) hX ic_1 dX14_risk_33 ?_
        refine hv_goto (tgt := 38) hX dX14_risk_34 (by decide) ?_
        refine hv_fewer [1, 2] (loc2 := [(0, .ref 0), (1, .int a1)]) rfl ?_
        exact w_risk_j38 hX hN hE  _ _ _ _ hf
    · replace hf := hf.2 c8
      refine hv_iload_n hX dX14_risk_20 rfl 0 rfl ?_
      exact hm_iret hX hE dX14_risk_21 hf
  · replace hf := hf.1 c4
    refine hv_iconst (v := (-1)) hX ic_m1 dX14_risk_7 ?_
    exact hm_iret hX hE dX14_risk_8 hf
theorem np_risk : yX14_risk.cls = RX14 ∧ yX14_risk.cls ≠ "java/lang/invoke/MethodHandle" ∧ yX14_risk.cls ≠ "java/lang/invoke/VarHandle" ∧ (parseMethodDescriptor yX14_risk.desc).map (fun d => d.parameters.length) = some 1 := by decide +kernel
theorem gd_risk {idx : Nat} (h : Cond.methodLink RX14 idx yX14_risk ∈ lw_all) : GoodIn lw_all (wsV RX14 idx RX14 yX14_risk (ws_ yX14_risk cX14_risk 5 (some .int))) := lw_V h q2070 q2071 q123 q2072
/-! isDare(II)Z -/
def m_isDare (a0 : Int32) (a1 : Int32) (I : mI) (J : mJ) (Q : Int32 → mI → mJ → Prop) : Prop :=
  m_in a0 0 240 I J (fun r1 I2 J3 => (r1 = 0 →
    Q 0 I2 J3) ∧ (¬ r1 = 0 →
    m_in a1 0 12 I2 J3 (fun r5 I6 J7 => (r5 = 0 →
      Q 0 I6 J7) ∧ (¬ r5 = 0 →
      Q 1 I6 J7))))
theorem ct_isDare (a0 : Int32) (a1 : Int32) (I : mI) (J : mJ) (Q : Int32 → mI → mJ → Prop) (hf : m_isDare a0 a1 I J Q) : hh_Ct yX14_isDare cX14_isDare 2 (some .boolean) 1 22 [.int a0, .int a1] (hm I J) (mQi Q) 0 0 := by
  refine hh_Ct.of (own := RX14) rfl (by decide +kernel) (Nat.le_of_ble_eq_true rfl) ?_
  intro X hX hN hE
  show hh_V X 0 [(0, .int a0), (1, .int a1)] [] 0 0 (hm I J)
  unfold m_isDare at hf
  refine hv_iload_n hX dX14_isDare_0 rfl 0 rfl ?_
  refine hv_iconst (v := 0) hX ic_0 dX14_isDare_1 ?_
  refine hv_sipush (v := 240) hX si_240 dX14_isDare_2 ?_
  refine hm_callSi hX dX14_isDare_5 (ct_in a0 0 240 I J _ hf) (gd_in q1923) np_in rfl rfl ⟨Nat.le_of_ble_eq_true rfl, Nat.le_of_ble_eq_true rfl⟩ ⟨Nat.le_refl _, Nat.le_refl _⟩ (Nat.le_of_ble_eq_true rfl) ?_
  intro r1 I2 J3 hf
  refine hv_if_eq (tgt := 25) hX dX14_isDare_8 (by decide) (fun c4 => ?_) (fun c4 => ?_)
  · replace hf := hf.1 c4
    refine hv_iconst (v := 0) hX ic_0 dX14_isDare_25 ?_
    exact hm_zret hX hE dX14_isDare_26 (by decide) hf
  · replace hf := hf.2 c4
    refine hv_iload_n hX dX14_isDare_11 rfl 1 rfl ?_
    refine hv_iconst (v := 0) hX ic_0 dX14_isDare_12 ?_
    refine hv_bipush (v := 12) hX bi_12 dX14_isDare_13 ?_
    refine hm_callSi hX dX14_isDare_15 (ct_in a1 0 12 I2 J3 _ hf) (gd_in q1923) np_in rfl rfl ⟨Nat.le_of_ble_eq_true rfl, Nat.le_of_ble_eq_true rfl⟩ ⟨Nat.le_refl _, Nat.le_refl _⟩ (Nat.le_of_ble_eq_true rfl) ?_
    intro r5 I6 J7 hf
    refine hv_if_eq (tgt := 25) hX dX14_isDare_18 (by decide) (fun c8 => ?_) (fun c8 => ?_)
    · replace hf := hf.1 c8
      refine hv_iconst (v := 0) hX ic_0 dX14_isDare_25 ?_
      exact hm_zret hX hE dX14_isDare_26 (by decide) hf
    · replace hf := hf.2 c8
      refine hv_iconst (v := 1) hX ic_1 dX14_isDare_21 ?_
      refine hv_goto (tgt := 26) hX dX14_isDare_22 (by decide) ?_
      exact hm_zret hX hE dX14_isDare_26 (by decide) hf
theorem np_isDare : yX14_isDare.cls ≠ "java/lang/invoke/MethodHandle" ∧ yX14_isDare.cls ≠ "java/lang/invoke/VarHandle" ∧ (parseMethodDescriptor yX14_isDare.desc).map (fun d => d.parameters.length) = some 2 := by decide +kernel
theorem gd_isDare {idx : Nat} (h : Cond.methodLink RX14 idx yX14_isDare ∈ lw_all) : GoodIn lw_all (va_wsS RX14 idx yX14_isDare (ws_ yX14_isDare cX14_isDare 2 (some .boolean))) := lw_S h q2079 q123 q2080
/-! cases(I)J -/
def m_cases_l4 (Q : Int64 → mI → mJ → Prop) : Nat → Int32 → Int64 → Int32 → mI → mJ → Prop
  | 0, _, _, _, _, _ => False
  | n + 1, a0, a1, a3, I, J =>
    (a0 ≤ a3 →
      Q a1 I J) ∧ (¬ a0 ≤ a3 →
      m_cases_l4 Q n a0 (a1 * 10) (a3 + 1) I J)
theorem w_cases_l4 {X : hh_CX} {Q : Int64 → mI → mJ → Prop} (hX : hh_C X cX14_cases RX14 (hrm 0 0)) (hN : hh_nL X = 4) (hE : hh_E X (some .long) (mQl Q) 0 0) : ∀ (n : Nat) (a0 : Int32) (a1 : Int64) (a3 : Int32) (I : mI) (J : mJ), m_cases_l4 Q  n a0 a1 a3 I J → hh_V X 4 [(0, .int a0), (1, .long a1), (3, .int a3)] [] 0 0 (hm I J) := by
  intro n
  induction n with
  | zero => intro _ _ _ _ _ hf; exact hf.elim
  | succ n ih =>
    intro a0 a1 a3 I J hf
    unfold m_cases_l4 at hf
    refine hv_iload_n hX dX14_cases_4 rfl 2 rfl ?_
    refine hv_iload_n hX dX14_cases_5 rfl 0 rfl ?_
    refine hv_icmp_ge (tgt := 21) hX dX14_cases_6 (by decide) (fun c1 => ?_) (fun c1 => ?_)
    · replace hf := hf.1 c1
      refine hv_lload_n hX dX14_cases_21 rfl 1 rfl ?_
      exact hm_lret hX hE dX14_cases_22 hf
    · replace hf := hf.2 c1
      refine hv_lload_n hX dX14_cases_9 rfl 1 rfl ?_
      refine hv_ldc2 (v := 10) hX dX14_cases_10 q2089 ?_
      refine hv_lmul hX dX14_cases_13 ?_
      refine hv_lstore_n (loc2 := [(1, .long (a1 * 10)), (0, .int a0), (3, .int a3)]) hX dX14_cases_14 rfl hN (Nat.le_of_ble_eq_true rfl) rfl ?_
      refine hv_iinc (v := (a3 + 1)) (loc2 := [(3, .int (a3 + 1)), (1, .long (a1 * 10)), (0, .int a0)]) hX dX14_cases_15 2 rfl (congrArg (fun y => a3 + y) ic_1) hN (Nat.le_of_ble_eq_true rfl) rfl ?_
      refine hv_goto (tgt := 4) hX dX14_cases_18 (by decide) ?_
      refine hv_fewer [2, 1, 0] (loc2 := [(0, .int a0), (1, .long (a1 * 10)), (3, .int (a3 + 1))]) rfl ?_
      exact ih _ _ _ _ _ hf
def m_cases (a0 : Int32) (I : mI) (J : mJ) (Q : Int64 → mI → mJ → Prop) : Prop :=
  ∃ n0 : Nat, m_cases_l4 Q  n0 a0 1 0 I J
theorem ct_cases (a0 : Int32) (I : mI) (J : mJ) (Q : Int64 → mI → mJ → Prop) (hf : m_cases a0 I J Q) : hh_Ct yX14_cases cX14_cases 4 (some .long) 0 0 [.int a0] (hm I J) (mQl Q) 0 0 := by
  refine hh_Ct.of (own := RX14) rfl (by decide +kernel) (Nat.le_of_ble_eq_true rfl) ?_
  intro X hX hN hE
  show hh_V X 0 [(0, .int a0)] [] 0 0 (hm I J)
  unfold m_cases at hf
  refine hv_lconst (v := 1) hX rfl dX14_cases_0 ?_
  refine hv_lstore_n (loc2 := [(1, .long 1), (0, .int a0)]) hX dX14_cases_1 rfl hN (Nat.le_of_ble_eq_true rfl) rfl ?_
  refine hv_iconst (v := 0) hX ic_0 dX14_cases_2 ?_
  refine hv_istore_n (loc2 := [(3, .int 0), (1, .long 1), (0, .int a0)]) hX dX14_cases_3 rfl hN (Nat.le_of_ble_eq_true rfl) rfl ?_
  refine hv_fewer [2, 1, 0] (loc2 := [(0, .int a0), (1, .long 1), (3, .int 0)]) rfl ?_
  obtain ⟨n0, hf⟩ := hf
  exact w_cases_l4 hX hN hE  n0 _ _ _ _ _ hf
theorem np_cases : yX14_cases.cls ≠ "java/lang/invoke/MethodHandle" ∧ yX14_cases.cls ≠ "java/lang/invoke/VarHandle" ∧ (parseMethodDescriptor yX14_cases.desc).map (fun d => d.parameters.length) = some 1 := by decide +kernel
theorem gd_cases {idx : Nat} (h : Cond.methodLink RX14 idx yX14_cases ∈ lw_all) : GoodIn lw_all (va_wsS RX14 idx yX14_cases (ws_ yX14_cases cX14_cases 4 (some .long))) := lw_S h q2087 q123 q2088
/-! casesBy(III)J -/
def m_casesBy_j53 (Q : Int64 → mI → mJ → Prop) (k6 : Int32 → Int32 → Int32 → Int64 → Int32 → mI → mJ → Prop) (a1 : Int32) (a2 : Int32) (a3 : Int32) (a6 : Int32) (s0 : Int64) (s2 : Int32) (s3 : Int32) (I : mI) (J : mJ) : Prop :=
  vp_in (s2 + s3) 3133 ∧ (∀ v4 : Int64, v4 = (s0 + (J 15 (s2 + s3).toNatClampNeg)) → (k6 a1 a2 a3 v4 (a6 + 1) I J))
theorem w_casesBy_j53 {X : hh_CX} {Q : Int64 → mI → mJ → Prop} (hX : hh_C X cX14_casesBy RX14 (hrm 0 0)) (hN : hh_nL X = 8) (hE : hh_E X (some .long) (mQl Q) 0 0) {k6 : Int32 → Int32 → Int32 → Int64 → Int32 → mI → mJ → Prop} (hk6 : ∀ (b0 : Int32) (b1 : Int32) (b2 : Int32) (b3 : Int64) (b4 : Int32) (I : mI) (J : mJ), k6 b0 b1 b2 b3 b4 I J → hh_V X 6 [(0, .ref 0), (1, .int b0), (2, .int b1), (3, .int b2), (4, .long b3), (6, .int b4)] [] 0 0 (hm I J)) : ∀ (a1 : Int32) (a2 : Int32) (a3 : Int32) (a6 : Int32) (s0 : Int64) (s2 : Int32) (s3 : Int32) (I : mI) (J : mJ), m_casesBy_j53 Q k6 a1 a2 a3 a6 s0 s2 s3 I J → hh_V X 53 [(0, .ref 0), (1, .int a1), (2, .int a2), (3, .int a3), (6, .int a6)] [.int s3, .int s2, .ref 15, .long s0] 0 0 (hm I J) := by
  intro a1 a2 a3 a6 s0 s2 s3 I J hf
  unfold m_casesBy_j53 at hf
  refine hv_iadd hX dX14_casesBy_53 ?_
  obtain ⟨g, hf⟩ := hf
  refine hm_lald (v := (J 15 (s2 + s3).toNatClampNeg)) hX dX14_casesBy_54 (by decide) rfl rfl g rfl ?_
  refine hv_ladd hX dX14_casesBy_55 ?_
  refine hv_topl (fun v4 ev4 => ?_)
  replace hf := hf v4 ev4
  refine hv_lstore (loc2 := [(4, .long v4), (0, .ref 0), (1, .int a1), (2, .int a2), (3, .int a3), (6, .int a6)]) hX dX14_casesBy_56 hN (Nat.le_of_ble_eq_true rfl) rfl ?_
  refine hv_iinc (v := (a6 + 1)) (loc2 := [(6, .int (a6 + 1)), (4, .long v4), (0, .ref 0), (1, .int a1), (2, .int a2), (3, .int a3)]) hX dX14_casesBy_58 5 rfl (congrArg (fun y => a6 + y) ic_1) hN (Nat.le_of_ble_eq_true rfl) rfl ?_
  refine hv_goto (tgt := 6) hX dX14_casesBy_61 (by decide) ?_
  refine hv_fewer [2, 3, 4, 5, 1, 0] (loc2 := [(0, .ref 0), (1, .int a1), (2, .int a2), (3, .int a3), (4, .long v4), (6, .int (a6 + 1))]) rfl ?_
  exact hk6 _ _ _ _ _ _ _ hf
def m_casesBy_l6 (Q : Int64 → mI → mJ → Prop) : Nat → Int32 → Int32 → Int32 → Int64 → Int32 → mI → mJ → Prop
  | 0, _, _, _, _, _, _, _ => False
  | n + 1, a1, a2, a3, a4, a6, I, J =>
    ((10 : Int32) ≤ a6 →
      Q a4 I J) ∧ (¬ (10 : Int32) ≤ a6 →
      vp_in ((10 * a1) + a6) 40 ∧ (∀ v2 : Int32, v2 = (a2 - (I 3 ((10 * a1) + a6).toNatClampNeg)) → ((v2 ≤ 0 →
        m_casesBy_j53 Q (fun b0 b1 b2 b3 b4 I J => m_casesBy_l6 Q n b0 b1 b2 b3 b4 I J) a1 a2 a3 a6 a4 (241 * (a3 - 1)) 0 I J) ∧ (¬ v2 ≤ 0 →
        m_casesBy_j53 Q (fun b0 b1 b2 b3 b4 I J => m_casesBy_l6 Q n b0 b1 b2 b3 b4 I J) a1 a2 a3 a6 a4 (241 * (a3 - 1)) v2 I J))))
theorem w_casesBy_l6 {X : hh_CX} {Q : Int64 → mI → mJ → Prop} (hX : hh_C X cX14_casesBy RX14 (hrm 0 0)) (hN : hh_nL X = 8) (hE : hh_E X (some .long) (mQl Q) 0 0) : ∀ (n : Nat) (a1 : Int32) (a2 : Int32) (a3 : Int32) (a4 : Int64) (a6 : Int32) (I : mI) (J : mJ), m_casesBy_l6 Q  n a1 a2 a3 a4 a6 I J → hh_V X 6 [(0, .ref 0), (1, .int a1), (2, .int a2), (3, .int a3), (4, .long a4), (6, .int a6)] [] 0 0 (hm I J) := by
  intro n
  induction n with
  | zero => intro _ _ _ _ _ _ _ hf; exact hf.elim
  | succ n ih =>
    intro a1 a2 a3 a4 a6 I J hf
    unfold m_casesBy_l6 at hf
    refine hv_iload hX dX14_casesBy_6 5 rfl ?_
    refine hv_bipush (v := 10) hX bi_10 dX14_casesBy_8 ?_
    refine hv_icmp_ge (tgt := 64) hX dX14_casesBy_10 (by decide) (fun c1 => ?_) (fun c1 => ?_)
    · replace hf := hf.1 c1
      refine hv_lload hX dX14_casesBy_64 4 rfl ?_
      exact hm_lret hX hE dX14_casesBy_66 hf
    · replace hf := hf.2 c1
      refine hv_iload_n hX dX14_casesBy_13 rfl 2 rfl ?_
      refine hv_aload_n hX dX14_casesBy_14 rfl 0 rfl ?_
      refine hm_getR hX dX14_casesBy_15 mfl26 3 rfl ?_
      refine hv_bipush (v := 10) hX bi_10 dX14_casesBy_18 ?_
      refine hv_iload_n hX dX14_casesBy_20 rfl 1 rfl ?_
      refine hv_imul hX dX14_casesBy_21 ?_
      refine hv_iload hX dX14_casesBy_22 5 rfl ?_
      refine hv_iadd hX dX14_casesBy_24 ?_
      obtain ⟨g, hf⟩ := hf
      refine hm_iald (v := (I 3 ((10 * a1) + a6).toNatClampNeg)) hX dX14_casesBy_25 (by decide) rfl rfl g rfl ?_
      refine hv_isub hX dX14_casesBy_26 ?_
      refine hv_topi (fun v2 ev2 => ?_)
      replace hf := hf v2 ev2
      refine hv_istore (loc2 := [(7, .int v2), (0, .ref 0), (1, .int a1), (2, .int a2), (3, .int a3), (4, .long a4), (6, .int a6)]) hX dX14_casesBy_27 hN (Nat.le_of_ble_eq_true rfl) rfl ?_
      refine hv_lload hX dX14_casesBy_29 5 rfl ?_
      refine hv_aload_n hX dX14_casesBy_31 rfl 1 rfl ?_
      refine hm_getR hX dX14_casesBy_32 mfl66 15 rfl ?_
      refine hv_sipush (v := 241) hX si_241 dX14_casesBy_35 ?_
      refine hv_iload_n hX dX14_casesBy_38 rfl 4 rfl ?_
      refine hv_iconst (v := 1) hX ic_1 dX14_casesBy_39 ?_
      refine hv_isub hX dX14_casesBy_40 ?_
      refine hv_imul hX dX14_casesBy_41 ?_
      refine hv_iload hX dX14_casesBy_42 0 rfl ?_
      refine hv_if_le (tgt := 52) hX dX14_casesBy_44 (by decide) (fun c3 => ?_) (fun c3 => ?_)
      · replace hf := hf.1 c3
        refine hv_iconst (v := 0) hX ic_0 dX14_casesBy_52 ?_
        refine hv_fewer [1, 2, 3, 4, 6] (loc2 := [(0, .ref 0), (1, .int a1), (2, .int a2), (3, .int a3), (6, .int a6)]) rfl ?_
        exact w_casesBy_j53 hX hN hE ih _ _ _ _ _ _ _ _ _ hf
      · replace hf := hf.2 c3
        refine hv_iload hX dX14_casesBy_47 0 rfl ?_
        refine hv_goto (tgt := 53) hX dX14_casesBy_49 (by decide) ?_
        refine hv_fewer [1, 2, 3, 4, 6] (loc2 := [(0, .ref 0), (1, .int a1), (2, .int a2), (3, .int a3), (6, .int a6)]) rfl ?_
        exact w_casesBy_j53 hX hN hE ih _ _ _ _ _ _ _ _ _ hf
def m_casesBy (a1 : Int32) (a2 : Int32) (a3 : Int32) (I : mI) (J : mJ) (Q : Int64 → mI → mJ → Prop) : Prop :=
  ∃ n0 : Nat, m_casesBy_l6 Q  n0 a1 a2 a3 0 0 I J
theorem ct_casesBy (a1 : Int32) (a2 : Int32) (a3 : Int32) (I : mI) (J : mJ) (Q : Int64 → mI → mJ → Prop) (hf : m_casesBy a1 a2 a3 I J Q) : hh_Ct yX14_casesBy cX14_casesBy 8 (some .long) 0 0 [.ref 0, .int a1, .int a2, .int a3] (hm I J) (mQl Q) 0 0 := by
  refine hh_Ct.of (own := RX14) rfl (by decide +kernel) (Nat.le_of_ble_eq_true rfl) ?_
  intro X hX hN hE
  show hh_V X 0 [(0, .ref 0), (1, .int a1), (2, .int a2), (3, .int a3)] [] 0 0 (hm I J)
  unfold m_casesBy at hf
  refine hv_lconst (v := 0) hX rfl dX14_casesBy_0 ?_
  refine hv_lstore (loc2 := [(4, .long 0), (0, .ref 0), (1, .int a1), (2, .int a2), (3, .int a3)]) hX dX14_casesBy_1 hN (Nat.le_of_ble_eq_true rfl) rfl ?_
  refine hv_iconst (v := 0) hX ic_0 dX14_casesBy_3 ?_
  refine hv_istore (loc2 := [(6, .int 0), (4, .long 0), (0, .ref 0), (1, .int a1), (2, .int a2), (3, .int a3)]) hX dX14_casesBy_4 hN (Nat.le_of_ble_eq_true rfl) rfl ?_
  refine hv_fewer [2, 3, 4, 5, 1, 0] (loc2 := [(0, .ref 0), (1, .int a1), (2, .int a2), (3, .int a3), (4, .long 0), (6, .int 0)]) rfl ?_
  obtain ⟨n0, hf⟩ := hf
  exact w_casesBy_l6 hX hN hE  n0 _ _ _ _ _ _ _ hf
theorem np_casesBy : yX14_casesBy.cls = RX14 ∧ yX14_casesBy.cls ≠ "java/lang/invoke/MethodHandle" ∧ yX14_casesBy.cls ≠ "java/lang/invoke/VarHandle" ∧ (parseMethodDescriptor yX14_casesBy.desc).map (fun d => d.parameters.length) = some 3 := by decide +kernel
theorem gd_casesBy {idx : Nat} (h : Cond.methodLink RX14 idx yX14_casesBy ∈ lw_all) : GoodIn lw_all (wsV RX14 idx RX14 yX14_casesBy (ws_ yX14_casesBy cX14_casesBy 8 (some .long))) := lw_V h q2092 qs65 q123 q2093
/-! findDares(I)V -/
def m_findDares_j99 (Q : mI → mJ → Prop) (k20 : Int32 → Int32 → mI → mJ → Prop) (a1 : Int32) (a2 : Int32) (a3 : Int64) (I : mI) (J : mJ) : Prop :=
  vp_in ((241 * (I 0 34)) + a2) 3133 ∧ (k20 a1 (a2 + 1) I (u2 J 15 ((241 * (I 0 34)) + a2).toNatClampNeg a3))
theorem w_findDares_j99 {X : hh_CX} {Q : mI → mJ → Prop} (hX : hh_C X cX14_findDares RX14 (hrm 1 27)) (hN : hh_nL X = 8) (hE : hh_E X none (mQv Q) 0 0) {k20 : Int32 → Int32 → mI → mJ → Prop} (hk20 : ∀ (b0 : Int32) (b1 : Int32) (I : mI) (J : mJ), k20 b0 b1 I J → hh_V X 20 [(0, .ref 0), (1, .int b0), (2, .int b1)] [] 0 0 (hm I J)) : ∀ (a1 : Int32) (a2 : Int32) (a3 : Int64) (I : mI) (J : mJ), m_findDares_j99 Q k20 a1 a2 a3 I J → hh_V X 99 [(0, .ref 0), (1, .int a1), (2, .int a2), (3, .long a3)] [] 0 0 (hm I J) := by
  intro a1 a2 a3 I J hf
  unfold m_findDares_j99 at hf
  refine hv_aload_n hX dX14_findDares_99 rfl 0 rfl ?_
  refine hm_getR hX dX14_findDares_100 mfl66 15 rfl ?_
  refine hv_sipush (v := 241) hX si_241 dX14_findDares_103 ?_
  refine hv_aload_n hX dX14_findDares_106 rfl 0 rfl ?_
  refine hm_getI (v := (I 0 34)) hX dX14_findDares_107 mfl70 (.inl rfl) rfl ?_
  refine hv_imul hX dX14_findDares_110 ?_
  refine hv_iload_n hX dX14_findDares_111 rfl 2 rfl ?_
  refine hv_iadd hX dX14_findDares_112 ?_
  refine hv_lload_n hX dX14_findDares_113 rfl 3 rfl ?_
  obtain ⟨g, hf⟩ := hf
  refine hm_last hX dX14_findDares_114 (by decide) rfl rfl g ?_
  refine hv_iinc (v := (a2 + 1)) (loc2 := [(2, .int (a2 + 1)), (0, .ref 0), (1, .int a1), (3, .long a3)]) hX dX14_findDares_115 2 rfl (congrArg (fun y => a2 + y) ic_1) hN (Nat.le_of_ble_eq_true rfl) rfl ?_
  refine hv_goto (tgt := 20) hX dX14_findDares_118 (by decide) ?_
  refine hv_fewer [1, 2, 0] (loc2 := [(0, .ref 0), (1, .int a1), (2, .int (a2 + 1))]) rfl ?_
  exact hk20 _ _ _ _ hf
def m_findDares_j92 (Q : mI → mJ → Prop) (k46 : Int32 → Int32 → Int64 → Int32 → mI → mJ → Prop) (a1 : Int32) (a2 : Int32) (a5 : Int32) (s0 : Int64) (I : mI) (J : mJ) : Prop :=
  k46 a1 a2 s0 (a5 + 1) I J
theorem w_findDares_j92 {X : hh_CX} {Q : mI → mJ → Prop} (hX : hh_C X cX14_findDares RX14 (hrm 1 27)) (hN : hh_nL X = 8) (hE : hh_E X none (mQv Q) 0 0) {k46 : Int32 → Int32 → Int64 → Int32 → mI → mJ → Prop} (hk46 : ∀ (b0 : Int32) (b1 : Int32) (b2 : Int64) (b3 : Int32) (I : mI) (J : mJ), k46 b0 b1 b2 b3 I J → hh_V X 46 [(0, .ref 0), (1, .int b0), (2, .int b1), (3, .long b2), (5, .int b3)] [] 0 0 (hm I J)) : ∀ (a1 : Int32) (a2 : Int32) (a5 : Int32) (s0 : Int64) (I : mI) (J : mJ), m_findDares_j92 Q k46 a1 a2 a5 s0 I J → hh_V X 92 [(0, .ref 0), (1, .int a1), (2, .int a2), (5, .int a5)] [.long s0] 0 0 (hm I J) := by
  intro a1 a2 a5 s0 I J hf
  unfold m_findDares_j92 at hf
  refine hv_lstore_n (loc2 := [(3, .long s0), (0, .ref 0), (1, .int a1), (2, .int a2), (5, .int a5)]) hX dX14_findDares_92 rfl hN (Nat.le_of_ble_eq_true rfl) rfl ?_
  refine hv_iinc (v := (a5 + 1)) (loc2 := [(5, .int (a5 + 1)), (3, .long s0), (0, .ref 0), (1, .int a1), (2, .int a2)]) hX dX14_findDares_93 4 rfl (congrArg (fun y => a5 + y) ic_1) hN (Nat.le_of_ble_eq_true rfl) rfl ?_
  refine hv_goto (tgt := 46) hX dX14_findDares_96 (by decide) ?_
  refine hv_fewer [2, 3, 4, 1, 0] (loc2 := [(0, .ref 0), (1, .int a1), (2, .int a2), (3, .long s0), (5, .int (a5 + 1))]) rfl ?_
  exact hk46 _ _ _ _ _ _ hf
def m_findDares_l46 (Q : mI → mJ → Prop) (k20 : Int32 → Int32 → mI → mJ → Prop) : Nat → Int32 → Int32 → Int64 → Int32 → mI → mJ → Prop
  | 0, _, _, _, _, _, _ => False
  | n + 1, a1, a2, a3, a5, I, J =>
    ((I 0 9) ≤ a5 →
      m_findDares_j99 Q k20 a1 a2 a3 I J) ∧ (¬ (I 0 9) ≤ a5 →
      ((I 0 34) ≤ 0 →
        m_findDares_j99 Q k20 a1 a2 a3 I J) ∧ (¬ (I 0 34) ≤ 0 →
        (a2 ≤ 0 →
          m_findDares_j99 Q k20 a1 a2 a3 I J) ∧ (¬ a2 ≤ 0 →
          m_casesBy a5 a2 (I 0 34) I J (fun r7 I8 J9 => ((lg_cmp r7 a3) ≤ 0 →
            m_findDares_j92 Q (fun b0 b1 b2 b3 I J => m_findDares_l46 Q k20 n b0 b1 b2 b3 I J) a1 a2 a5 a3 I8 J9) ∧ (¬ (lg_cmp r7 a3) ≤ 0 →
            m_findDares_j92 Q (fun b0 b1 b2 b3 I J => m_findDares_l46 Q k20 n b0 b1 b2 b3 I J) a1 a2 a5 r7 I8 J9)))))
theorem w_findDares_l46 {X : hh_CX} {Q : mI → mJ → Prop} (hX : hh_C X cX14_findDares RX14 (hrm 1 27)) (hN : hh_nL X = 8) (hE : hh_E X none (mQv Q) 0 0) {k20 : Int32 → Int32 → mI → mJ → Prop} (hk20 : ∀ (b0 : Int32) (b1 : Int32) (I : mI) (J : mJ), k20 b0 b1 I J → hh_V X 20 [(0, .ref 0), (1, .int b0), (2, .int b1)] [] 0 0 (hm I J)) : ∀ (n : Nat) (a1 : Int32) (a2 : Int32) (a3 : Int64) (a5 : Int32) (I : mI) (J : mJ), m_findDares_l46 Q k20 n a1 a2 a3 a5 I J → hh_V X 46 [(0, .ref 0), (1, .int a1), (2, .int a2), (3, .long a3), (5, .int a5)] [] 0 0 (hm I J) := by
  intro n
  induction n with
  | zero => intro _ _ _ _ _ _ hf; exact hf.elim
  | succ n ih =>
    intro a1 a2 a3 a5 I J hf
    unfold m_findDares_l46 at hf
    refine hv_iload hX dX14_findDares_46 4 rfl ?_
    refine hv_aload_n hX dX14_findDares_48 rfl 0 rfl ?_
    refine hm_getI (v := (I 0 9)) hX dX14_findDares_49 mfl242 (.inl rfl) rfl ?_
    refine hv_icmp_ge (tgt := 99) hX dX14_findDares_52 (by decide) (fun c4 => ?_) (fun c4 => ?_)
    · replace hf := hf.1 c4
      refine hv_fewer [0, 1, 2, 3] (loc2 := [(0, .ref 0), (1, .int a1), (2, .int a2), (3, .long a3)]) rfl ?_
      exact w_findDares_j99 hX hN hE hk20 _ _ _ _ _ hf
    · replace hf := hf.2 c4
      refine hv_aload_n hX dX14_findDares_55 rfl 0 rfl ?_
      refine hm_getI (v := (I 0 34)) hX dX14_findDares_56 mfl70 (.inl rfl) rfl ?_
      refine hv_if_le (tgt := 99) hX dX14_findDares_59 (by decide) (fun c5 => ?_) (fun c5 => ?_)
      · replace hf := hf.1 c5
        refine hv_fewer [0, 1, 2, 3] (loc2 := [(0, .ref 0), (1, .int a1), (2, .int a2), (3, .long a3)]) rfl ?_
        exact w_findDares_j99 hX hN hE hk20 _ _ _ _ _ hf
      · replace hf := hf.2 c5
        refine hv_iload_n hX dX14_findDares_62 rfl 2 rfl ?_
        refine hv_if_le (tgt := 99) hX dX14_findDares_63 (by decide) (fun c6 => ?_) (fun c6 => ?_)
        · replace hf := hf.1 c6
          refine hv_fewer [0, 1, 2, 3] (loc2 := [(0, .ref 0), (1, .int a1), (2, .int a2), (3, .long a3)]) rfl ?_
          exact w_findDares_j99 hX hN hE hk20 _ _ _ _ _ hf
        · replace hf := hf.2 c6
          refine hv_aload_n hX dX14_findDares_66 rfl 0 rfl ?_
          refine hv_iload hX dX14_findDares_67 4 rfl ?_
          refine hv_iload_n hX dX14_findDares_69 rfl 2 rfl ?_
          refine hv_aload_n hX dX14_findDares_70 rfl 0 rfl ?_
          refine hm_getI (v := (I 0 34)) hX dX14_findDares_71 mfl70 (.inl rfl) rfl ?_
          refine hm_callVl hX dX14_findDares_74 (ct_casesBy a5 a2 (I 0 34) I J _ hf) (gd_casesBy q2090) np_casesBy rfl rfl ⟨Nat.le_of_ble_eq_true rfl, Nat.le_of_ble_eq_true rfl⟩ ⟨Nat.le_refl _, Nat.le_refl _⟩ (Nat.le_of_ble_eq_true rfl) ?_
          intro r7 I8 J9 hf
          refine hv_lstore (loc2 := [(6, .long r7), (0, .ref 0), (1, .int a1), (2, .int a2), (3, .long a3), (5, .int a5)]) hX dX14_findDares_77 hN (Nat.le_of_ble_eq_true rfl) rfl ?_
          refine hv_lload hX dX14_findDares_79 0 rfl ?_
          refine hv_lload_n hX dX14_findDares_81 rfl 4 rfl ?_
          refine hv_lcmp hX dX14_findDares_82 ?_
          refine hv_if_le (tgt := 91) hX dX14_findDares_83 (by decide) (fun c10 => ?_) (fun c10 => ?_)
          · replace hf := hf.1 c10
            refine hv_lload_n hX dX14_findDares_91 rfl 4 rfl ?_
            refine hv_fewer [1, 2, 3, 5] (loc2 := [(0, .ref 0), (1, .int a1), (2, .int a2), (5, .int a5)]) rfl ?_
            exact w_findDares_j92 hX hN hE ih _ _ _ _ _ _ hf
          · replace hf := hf.2 c10
            refine hv_lload hX dX14_findDares_86 0 rfl ?_
            refine hv_goto (tgt := 92) hX dX14_findDares_88 (by decide) ?_
            refine hv_fewer [1, 2, 3, 5] (loc2 := [(0, .ref 0), (1, .int a1), (2, .int a2), (5, .int a5)]) rfl ?_
            exact w_findDares_j92 hX hN hE ih _ _ _ _ _ _ hf
def m_findDares_j42 (Q : mI → mJ → Prop) (k20 : Int32 → Int32 → mI → mJ → Prop) (a1 : Int32) (a2 : Int32) (s0 : Int64) (I : mI) (J : mJ) : Prop :=
  ∃ n0 : Nat, m_findDares_l46 Q k20 n0 a1 a2 s0 0 I J
theorem w_findDares_j42 {X : hh_CX} {Q : mI → mJ → Prop} (hX : hh_C X cX14_findDares RX14 (hrm 1 27)) (hN : hh_nL X = 8) (hE : hh_E X none (mQv Q) 0 0) {k20 : Int32 → Int32 → mI → mJ → Prop} (hk20 : ∀ (b0 : Int32) (b1 : Int32) (I : mI) (J : mJ), k20 b0 b1 I J → hh_V X 20 [(0, .ref 0), (1, .int b0), (2, .int b1)] [] 0 0 (hm I J)) : ∀ (a1 : Int32) (a2 : Int32) (s0 : Int64) (I : mI) (J : mJ), m_findDares_j42 Q k20 a1 a2 s0 I J → hh_V X 42 [(0, .ref 0), (1, .int a1), (2, .int a2)] [.long s0] 0 0 (hm I J) := by
  intro a1 a2 s0 I J hf
  unfold m_findDares_j42 at hf
  refine hv_lstore_n (loc2 := [(3, .long s0), (0, .ref 0), (1, .int a1), (2, .int a2)]) hX dX14_findDares_42 rfl hN (Nat.le_of_ble_eq_true rfl) rfl ?_
  refine hv_iconst (v := 0) hX ic_0 dX14_findDares_43 ?_
  refine hv_istore (loc2 := [(5, .int 0), (3, .long s0), (0, .ref 0), (1, .int a1), (2, .int a2)]) hX dX14_findDares_44 hN (Nat.le_of_ble_eq_true rfl) rfl ?_
  refine hv_fewer [2, 3, 4, 1, 0] (loc2 := [(0, .ref 0), (1, .int a1), (2, .int a2), (3, .long s0), (5, .int 0)]) rfl ?_
  obtain ⟨n0, hf⟩ := hf
  exact w_findDares_l46 hX hN hE hk20 n0 _ _ _ _ _ _ hf
def m_findDares_l20 (Q : mI → mJ → Prop) (k0 : Int32 → mI → mJ → Prop) : Nat → Int32 → Int32 → mI → mJ → Prop
  | 0, _, _, _, _ => False
  | n + 1, a1, a2, I, J =>
    ((240 : Int32) < a2 →
      k0 a1 I J) ∧ (¬ (240 : Int32) < a2 →
      (a2 = 0 →
        m_cases (I 0 34) I J (fun r11 I12 J13 => m_findDares_j42 Q (fun b0 b1 I J => m_findDares_l20 Q k0 n b0 b1 I J) a1 a2 r11 I12 J13)) ∧ (¬ a2 = 0 →
        m_findDares_j42 Q (fun b0 b1 I J => m_findDares_l20 Q k0 n b0 b1 I J) a1 a2 0 I J))
theorem w_findDares_l20 {X : hh_CX} {Q : mI → mJ → Prop} (hX : hh_C X cX14_findDares RX14 (hrm 1 27)) (hN : hh_nL X = 8) (hE : hh_E X none (mQv Q) 0 0) {k0 : Int32 → mI → mJ → Prop} (hk0 : ∀ (b0 : Int32) (I : mI) (J : mJ), k0 b0 I J → hh_V X 0 [(0, .ref 0), (1, .int b0)] [] 0 0 (hm I J)) : ∀ (n : Nat) (a1 : Int32) (a2 : Int32) (I : mI) (J : mJ), m_findDares_l20 Q k0 n a1 a2 I J → hh_V X 20 [(0, .ref 0), (1, .int a1), (2, .int a2)] [] 0 0 (hm I J) := by
  intro n
  induction n with
  | zero => intro _ _ _ _ hf; exact hf.elim
  | succ n ih =>
    intro a1 a2 I J hf
    unfold m_findDares_l20 at hf
    refine hv_iload_n hX dX14_findDares_20 rfl 2 rfl ?_
    refine hv_sipush (v := 240) hX si_240 dX14_findDares_21 ?_
    refine hv_icmp_gt (tgt := 121) hX dX14_findDares_24 (by decide) (fun c2 => ?_) (fun c2 => ?_)
    · replace hf := hf.1 c2
      refine hv_goto (tgt := 0) hX dX14_findDares_121 (by decide) ?_
      refine hv_fewer [0, 1] (loc2 := [(0, .ref 0), (1, .int a1)]) rfl ?_
      exact hk0 _ _ _ hf
    · replace hf := hf.2 c2
      refine hv_iload_n hX dX14_findDares_27 rfl 2 rfl ?_
      refine hv_if_ne (tgt := 41) hX dX14_findDares_28 (by decide) (fun c3 => ?_) (fun c3 => ?_)
      · replace hf := hf.2 c3
        refine hv_lconst (v := 0) hX rfl dX14_findDares_41 ?_
        exact w_findDares_j42 hX hN hE ih _ _ _ _ _ hf
      · replace hf := hf.1 c3
        refine hv_aload_n hX dX14_findDares_31 rfl 0 rfl ?_
        refine hm_getI (v := (I 0 34)) hX dX14_findDares_32 mfl70 (.inl rfl) rfl ?_
        refine hm_callSl hX dX14_findDares_35 (ct_cases (I 0 34) I J _ hf) (gd_cases q2086) np_cases rfl rfl ⟨Nat.le_of_ble_eq_true rfl, Nat.le_of_ble_eq_true rfl⟩ ⟨Nat.le_refl _, Nat.le_refl _⟩ (Nat.le_of_ble_eq_true rfl) ?_
        intro r11 I12 J13 hf
        refine hv_goto (tgt := 42) hX dX14_findDares_38 (by decide) ?_
        exact w_findDares_j42 hX hN hE ih _ _ _ _ _ hf
def m_findDares_l0 (Q : mI → mJ → Prop) : Nat → Int32 → mI → mJ → Prop
  | 0, _, _, _ => False
  | n + 1, a1, I, J =>
    (a1 ≤ (I 0 34) →
      Q I J) ∧ (¬ a1 ≤ (I 0 34) →
      ∃ n0 : Nat, m_findDares_l20 Q (fun b0 I J => m_findDares_l0 Q n b0 I J) n0 a1 0 (u2 I 0 34 ((I 0 34) + 1)) J)
theorem w_findDares_l0 {X : hh_CX} {Q : mI → mJ → Prop} (hX : hh_C X cX14_findDares RX14 (hrm 1 27)) (hN : hh_nL X = 8) (hE : hh_E X none (mQv Q) 0 0) : ∀ (n : Nat) (a1 : Int32) (I : mI) (J : mJ), m_findDares_l0 Q  n a1 I J → hh_V X 0 [(0, .ref 0), (1, .int a1)] [] 0 0 (hm I J) := by
  intro n
  induction n with
  | zero => intro _ _ _ hf; exact hf.elim
  | succ n ih =>
    intro a1 I J hf
    unfold m_findDares_l0 at hf
    refine hv_aload_n hX dX14_findDares_0 rfl 0 rfl ?_
    refine hm_getI (v := (I 0 34)) hX dX14_findDares_1 mfl70 (.inl rfl) rfl ?_
    refine hv_iload_n hX dX14_findDares_4 rfl 1 rfl ?_
    refine hv_icmp_ge (tgt := 124) hX dX14_findDares_5 (by decide) (fun c1 => ?_) (fun c1 => ?_)
    · replace hf := hf.1 c1
      exact hm_vret hX hE dX14_findDares_124 hf
    · replace hf := hf.2 c1
      refine hv_aload_n hX dX14_findDares_8 rfl 0 rfl ?_
      refine hv_dup hX rfl dX14_findDares_9 ?_
      refine hm_getI (v := (I 0 34)) hX dX14_findDares_10 mfl70 (.inl rfl) rfl ?_
      refine hv_iconst (v := 1) hX ic_1 dX14_findDares_13 ?_
      refine hv_iadd hX dX14_findDares_14 ?_
      refine hm_putI hX dX14_findDares_15 mfl70 ?_
      refine hv_iconst (v := 0) hX ic_0 dX14_findDares_18 ?_
      refine hv_istore_n (loc2 := [(2, .int 0), (0, .ref 0), (1, .int a1)]) hX dX14_findDares_19 rfl hN (Nat.le_of_ble_eq_true rfl) rfl ?_
      refine hv_fewer [1, 2, 0] (loc2 := [(0, .ref 0), (1, .int a1), (2, .int 0)]) rfl ?_
      obtain ⟨n0, hf⟩ := hf
      exact w_findDares_l20 hX hN hE ih n0 _ _ _ _ hf
def m_findDares (a1 : Int32) (I : mI) (J : mJ) (Q : mI → mJ → Prop) : Prop :=
  ∃ n0 : Nat, m_findDares_l0 Q  n0 a1 I J
theorem ct_findDares (a1 : Int32) (I : mI) (J : mJ) (Q : mI → mJ → Prop) (hf : m_findDares a1 I J Q) : hh_Ct yX14_findDares cX14_findDares 8 none 1 27 [.ref 0, .int a1] (hm I J) (mQv Q) 0 0 := by
  refine hh_Ct.of (own := RX14) rfl (by decide +kernel) (Nat.le_of_ble_eq_true rfl) ?_
  intro X hX hN hE
  show hh_V X 0 [(0, .ref 0), (1, .int a1)] [] 0 0 (hm I J)
  unfold m_findDares at hf
  obtain ⟨n0, hf⟩ := hf
  exact w_findDares_l0 hX hN hE  n0 _ _ _ hf
theorem np_findDares : yX14_findDares.cls = RX14 ∧ yX14_findDares.cls ≠ "java/lang/invoke/MethodHandle" ∧ yX14_findDares.cls ≠ "java/lang/invoke/VarHandle" ∧ (parseMethodDescriptor yX14_findDares.desc).map (fun d => d.parameters.length) = some 1 := by decide +kernel
theorem gd_findDares {idx : Nat} (h : Cond.methodLink RX14 idx yX14_findDares ∈ lw_all) : GoodIn lw_all (wsV RX14 idx RX14 yX14_findDares (ws_ yX14_findDares cX14_findDares 8 none)) := lw_V h q2084 qs64 q123 q2085
/-! dare(II)J -/
def m_dare (a1 : Int32) (a2 : Int32) (I : mI) (J : mJ) (Q : Int64 → mI → mJ → Prop) : Prop :=
  m_isDare a1 a2 I J (fun r1 I2 J3 => (r1 = 0 →
    Q (-1) I2 J3) ∧ (¬ r1 = 0 →
    m_findDares a2 I2 J3 (fun  I5 J6 => vp_in ((241 * a2) + a1) 3133 ∧ (Q (J6 15 ((241 * a2) + a1).toNatClampNeg) I5 J6))))
theorem ct_dare (a1 : Int32) (a2 : Int32) (I : mI) (J : mJ) (Q : Int64 → mI → mJ → Prop) (hf : m_dare a1 a2 I J Q) : hh_Ct yX14_dare cX14_dare 3 (some .long) 2 54 [.ref 0, .int a1, .int a2] (hm I J) (mQl Q) 0 0 := by
  refine hh_Ct.of (own := RX14) rfl (by decide +kernel) (Nat.le_of_ble_eq_true rfl) ?_
  intro X hX hN hE
  show hh_V X 0 [(0, .ref 0), (1, .int a1), (2, .int a2)] [] 0 0 (hm I J)
  unfold m_dare at hf
  refine hv_iload_n hX dX14_dare_0 rfl 1 rfl ?_
  refine hv_iload_n hX dX14_dare_1 rfl 2 rfl ?_
  refine hm_callSi hX dX14_dare_2 (ct_isDare a1 a2 I J _ hf) (gd_isDare q2078) np_isDare rfl rfl ⟨Nat.le_of_ble_eq_true rfl, Nat.le_of_ble_eq_true rfl⟩ ⟨Nat.le_refl _, Nat.le_refl _⟩ (Nat.le_of_ble_eq_true rfl) ?_
  intro r1 I2 J3 hf
  refine hv_if_ne (tgt := 12) hX dX14_dare_5 (by decide) (fun c4 => ?_) (fun c4 => ?_)
  · replace hf := hf.2 c4
    refine hv_aload_n hX dX14_dare_12 rfl 0 rfl ?_
    refine hv_iload_n hX dX14_dare_13 rfl 2 rfl ?_
    refine hm_callVv hX dX14_dare_14 (ct_findDares a2 I2 J3 _ hf) (gd_findDares q2082) np_findDares rfl rfl ⟨Nat.le_of_ble_eq_true rfl, Nat.le_of_ble_eq_true rfl⟩ ⟨Nat.le_refl _, Nat.le_refl _⟩ (Nat.le_of_ble_eq_true rfl) ?_
    intro  I5 J6 hf
    refine hv_aload_n hX dX14_dare_17 rfl 0 rfl ?_
    refine hm_getR hX dX14_dare_18 mfl66 15 rfl ?_
    refine hv_sipush (v := 241) hX si_241 dX14_dare_21 ?_
    refine hv_iload_n hX dX14_dare_24 rfl 2 rfl ?_
    refine hv_imul hX dX14_dare_25 ?_
    refine hv_iload_n hX dX14_dare_26 rfl 1 rfl ?_
    refine hv_iadd hX dX14_dare_27 ?_
    obtain ⟨g, hf⟩ := hf
    refine hm_lald (v := (J6 15 ((241 * a2) + a1).toNatClampNeg)) hX dX14_dare_28 (by decide) rfl rfl g rfl ?_
    exact hm_lret hX hE dX14_dare_29 hf
  · replace hf := hf.1 c4
    refine hv_ldc2 (v := (-1)) hX dX14_dare_8 q2081 ?_
    exact hm_lret hX hE dX14_dare_11 hf
theorem np_dare : yX14_dare.cls = RX14 ∧ yX14_dare.cls ≠ "java/lang/invoke/MethodHandle" ∧ yX14_dare.cls ≠ "java/lang/invoke/VarHandle" ∧ (parseMethodDescriptor yX14_dare.desc).map (fun d => d.parameters.length) = some 2 := by decide +kernel
theorem gd_dare {idx : Nat} (h : Cond.methodLink RX14 idx yX14_dare ∈ lw_all) : GoodIn lw_all (wsV RX14 idx RX14 yX14_dare (ws_ yX14_dare cX14_dare 3 (some .long))) := lw_V h q2075 q2076 q123 q2077
/-! bold(II)I -/
def m_bold_l24 (Q : Int32 → mI → mJ → Prop) : Nat → Int32 → Int32 → Int32 → mI → mJ → Prop
  | 0, _, _, _, _, _ => False
  | n + 1, a1, a2, a3, I, J =>
    ((I 0 9) ≤ a3 →
      Q (-3) I J) ∧ (¬ (I 0 9) ≤ a3 →
      m_casesBy a3 a1 a2 I J (fun r9 I10 J11 => vp_in ((241 * a2) + a1) 3133 ∧ (((lg_cmp r9 (J11 15 ((241 * a2) + a1).toNatClampNeg)) = 0 →
        Q a3 I10 J11) ∧ (¬ (lg_cmp r9 (J11 15 ((241 * a2) + a1).toNatClampNeg)) = 0 →
        m_bold_l24 Q n a1 a2 (a3 + 1) I10 J11))))
theorem w_bold_l24 {X : hh_CX} {Q : Int32 → mI → mJ → Prop} (hX : hh_C X cX14_bold RX14 (hrm 2 54)) (hN : hh_nL X = 4) (hE : hh_E X (some .int) (mQi Q) 0 0) : ∀ (n : Nat) (a1 : Int32) (a2 : Int32) (a3 : Int32) (I : mI) (J : mJ), m_bold_l24 Q  n a1 a2 a3 I J → hh_V X 24 [(0, .ref 0), (1, .int a1), (2, .int a2), (3, .int a3)] [] 0 0 (hm I J) := by
  intro n
  induction n with
  | zero => intro _ _ _ _ _ hf; exact hf.elim
  | succ n ih =>
    intro a1 a2 a3 I J hf
    unfold m_bold_l24 at hf
    refine hv_iload_n hX dX14_bold_24 rfl 3 rfl ?_
    refine hv_aload_n hX dX14_bold_25 rfl 0 rfl ?_
    refine hm_getI (v := (I 0 9)) hX dX14_bold_26 mfl242 (.inl rfl) rfl ?_
    refine hv_icmp_ge (tgt := 63) hX dX14_bold_29 (by decide) (fun c8 => ?_) (fun c8 => ?_)
    · replace hf := hf.1 c8
      refine hv_bipush (v := (-3)) hX bi_m3 dX14_bold_63 ?_
      exact hm_iret hX hE dX14_bold_65 hf
    · replace hf := hf.2 c8
      refine hv_aload_n hX dX14_bold_32 rfl 0 rfl ?_
      refine hv_iload_n hX dX14_bold_33 rfl 3 rfl ?_
      refine hv_iload_n hX dX14_bold_34 rfl 1 rfl ?_
      refine hv_iload_n hX dX14_bold_35 rfl 2 rfl ?_
      refine hm_callVl hX dX14_bold_36 (ct_casesBy a3 a1 a2 I J _ hf) (gd_casesBy q2090) np_casesBy rfl rfl ⟨Nat.le_of_ble_eq_true rfl, Nat.le_of_ble_eq_true rfl⟩ ⟨Nat.le_refl _, Nat.le_refl _⟩ (Nat.le_of_ble_eq_true rfl) ?_
      intro r9 I10 J11 hf
      refine hv_aload_n hX dX14_bold_39 rfl 0 rfl ?_
      refine hm_getR hX dX14_bold_40 mfl66 15 rfl ?_
      refine hv_sipush (v := 241) hX si_241 dX14_bold_43 ?_
      refine hv_iload_n hX dX14_bold_46 rfl 2 rfl ?_
      refine hv_imul hX dX14_bold_47 ?_
      refine hv_iload_n hX dX14_bold_48 rfl 1 rfl ?_
      refine hv_iadd hX dX14_bold_49 ?_
      obtain ⟨g, hf⟩ := hf
      refine hm_lald (v := (J11 15 ((241 * a2) + a1).toNatClampNeg)) hX dX14_bold_50 (by decide) rfl rfl g rfl ?_
      refine hv_lcmp hX dX14_bold_51 ?_
      refine hv_if_ne (tgt := 57) hX dX14_bold_52 (by decide) (fun c12 => ?_) (fun c12 => ?_)
      · replace hf := hf.2 c12
        refine hv_iinc (v := (a3 + 1)) (loc2 := [(3, .int (a3 + 1)), (0, .ref 0), (1, .int a1), (2, .int a2)]) hX dX14_bold_57 3 rfl (congrArg (fun y => a3 + y) ic_1) hN (Nat.le_of_ble_eq_true rfl) rfl ?_
        refine hv_goto (tgt := 24) hX dX14_bold_60 (by decide) ?_
        refine hv_fewer [1, 2, 3, 0] (loc2 := [(0, .ref 0), (1, .int a1), (2, .int a2), (3, .int (a3 + 1))]) rfl ?_
        exact ih _ _ _ _ _ hf
      · replace hf := hf.1 c12
        refine hv_iload_n hX dX14_bold_55 rfl 3 rfl ?_
        exact hm_iret hX hE dX14_bold_56 hf
def m_bold (a1 : Int32) (a2 : Int32) (I : mI) (J : mJ) (Q : Int32 → mI → mJ → Prop) : Prop :=
  m_isDare a1 a2 I J (fun r1 I2 J3 => (r1 = 0 →
    Q (-1) I2 J3) ∧ (¬ r1 = 0 →
    (a2 = 0 →
      Q (-3) I2 J3) ∧ (¬ a2 = 0 →
      m_findDares a2 I2 J3 (fun  I6 J7 => ∃ n0 : Nat, m_bold_l24 Q  n0 a1 a2 0 I6 J7))))
theorem ct_bold (a1 : Int32) (a2 : Int32) (I : mI) (J : mJ) (Q : Int32 → mI → mJ → Prop) (hf : m_bold a1 a2 I J Q) : hh_Ct yX14_bold cX14_bold 4 (some .int) 2 54 [.ref 0, .int a1, .int a2] (hm I J) (mQi Q) 0 0 := by
  refine hh_Ct.of (own := RX14) rfl (by decide +kernel) (Nat.le_of_ble_eq_true rfl) ?_
  intro X hX hN hE
  show hh_V X 0 [(0, .ref 0), (1, .int a1), (2, .int a2)] [] 0 0 (hm I J)
  unfold m_bold at hf
  refine hv_iload_n hX dX14_bold_0 rfl 1 rfl ?_
  refine hv_iload_n hX dX14_bold_1 rfl 2 rfl ?_
  refine hm_callSi hX dX14_bold_2 (ct_isDare a1 a2 I J _ hf) (gd_isDare q2078) np_isDare rfl rfl ⟨Nat.le_of_ble_eq_true rfl, Nat.le_of_ble_eq_true rfl⟩ ⟨Nat.le_refl _, Nat.le_refl _⟩ (Nat.le_of_ble_eq_true rfl) ?_
  intro r1 I2 J3 hf
  refine hv_if_ne (tgt := 10) hX dX14_bold_5 (by decide) (fun c4 => ?_) (fun c4 => ?_)
  · replace hf := hf.2 c4
    refine hv_iload_n hX dX14_bold_10 rfl 2 rfl ?_
    refine hv_if_ne (tgt := 17) hX dX14_bold_11 (by decide) (fun c5 => ?_) (fun c5 => ?_)
    · replace hf := hf.2 c5
      refine hv_aload_n hX dX14_bold_17 rfl 0 rfl ?_
      refine hv_iload_n hX dX14_bold_18 rfl 2 rfl ?_
      refine hm_callVv hX dX14_bold_19 (ct_findDares a2 I2 J3 _ hf) (gd_findDares q2082) np_findDares rfl rfl ⟨Nat.le_of_ble_eq_true rfl, Nat.le_of_ble_eq_true rfl⟩ ⟨Nat.le_refl _, Nat.le_refl _⟩ (Nat.le_of_ble_eq_true rfl) ?_
      intro  I6 J7 hf
      refine hv_iconst (v := 0) hX ic_0 dX14_bold_22 ?_
      refine hv_istore_n (loc2 := [(3, .int 0), (0, .ref 0), (1, .int a1), (2, .int a2)]) hX dX14_bold_23 rfl hN (Nat.le_of_ble_eq_true rfl) rfl ?_
      refine hv_fewer [1, 2, 3, 0] (loc2 := [(0, .ref 0), (1, .int a1), (2, .int a2), (3, .int 0)]) rfl ?_
      obtain ⟨n0, hf⟩ := hf
      exact w_bold_l24 hX hN hE  n0 _ _ _ _ _ hf
    · replace hf := hf.1 c5
      refine hv_bipush (v := (-3)) hX bi_m3 dX14_bold_14 ?_
      exact hm_iret hX hE dX14_bold_16 hf
  · replace hf := hf.1 c4
    refine hv_iconst (v := (-1)) hX ic_m1 dX14_bold_8 ?_
    exact hm_iret hX hE dX14_bold_9 hf
theorem np_bold : yX14_bold.cls = RX14 ∧ yX14_bold.cls ≠ "java/lang/invoke/MethodHandle" ∧ yX14_bold.cls ≠ "java/lang/invoke/VarHandle" ∧ (parseMethodDescriptor yX14_bold.desc).map (fun d => d.parameters.length) = some 2 := by decide +kernel
theorem gd_bold {idx : Nat} (h : Cond.methodLink RX14 idx yX14_bold ∈ lw_all) : GoodIn lw_all (wsV RX14 idx RX14 yX14_bold (ws_ yX14_bold cX14_bold 4 (some .int))) := lw_V h q2095 q2096 q123 q2097
/-! alike(III)J -/
def m_alike_j122 (Q : Int64 → mI → mJ → Prop) (k81 : Int32 → Int32 → Int32 → Int32 → Int32 → Int64 → Int32 → mI → mJ → Prop) (a1 : Int32) (a2 : Int32) (a3 : Int32) (a4 : Int32) (a5 : Int32) (a8 : Int32) (s0 : Int64) (s2 : Int32) (I : mI) (J : mJ) : Prop :=
  vp_in s2 241 ∧ (∀ v15 : Int64, v15 = (s0 + (J 16 s2.toNatClampNeg)) → (k81 a1 a2 a3 a4 a5 v15 (a8 + 1) I J))
theorem w_alike_j122 {X : hh_CX} {Q : Int64 → mI → mJ → Prop} (hX : hh_C X cX14_alike RX14 (hrm 2 43)) (hN : hh_nL X = 10) (hE : hh_E X (some .long) (mQl Q) 0 0) {k81 : Int32 → Int32 → Int32 → Int32 → Int32 → Int64 → Int32 → mI → mJ → Prop} (hk81 : ∀ (b0 : Int32) (b1 : Int32) (b2 : Int32) (b3 : Int32) (b4 : Int32) (b5 : Int64) (b6 : Int32) (I : mI) (J : mJ), k81 b0 b1 b2 b3 b4 b5 b6 I J → hh_V X 81 [(0, .ref 0), (1, .int b0), (2, .int b1), (3, .int b2), (4, .int b3), (5, .int b4), (6, .long b5), (8, .int b6)] [] 0 0 (hm I J)) : ∀ (a1 : Int32) (a2 : Int32) (a3 : Int32) (a4 : Int32) (a5 : Int32) (a8 : Int32) (s0 : Int64) (s2 : Int32) (I : mI) (J : mJ), m_alike_j122 Q k81 a1 a2 a3 a4 a5 a8 s0 s2 I J → hh_V X 122 [(0, .ref 0), (1, .int a1), (2, .int a2), (3, .int a3), (4, .int a4), (5, .int a5), (8, .int a8)] [.int s2, .ref 16, .long s0] 0 0 (hm I J) := by
  intro a1 a2 a3 a4 a5 a8 s0 s2 I J hf
  unfold m_alike_j122 at hf
  obtain ⟨g, hf⟩ := hf
  refine hm_lald (v := (J 16 s2.toNatClampNeg)) hX dX14_alike_122 (by decide) rfl rfl g rfl ?_
  refine hv_ladd hX dX14_alike_123 ?_
  refine hv_topl (fun v15 ev15 => ?_)
  replace hf := hf v15 ev15
  refine hv_lstore (loc2 := [(6, .long v15), (0, .ref 0), (1, .int a1), (2, .int a2), (3, .int a3), (4, .int a4), (5, .int a5), (8, .int a8)]) hX dX14_alike_124 hN (Nat.le_of_ble_eq_true rfl) rfl ?_
  refine hv_iinc (v := (a8 + 1)) (loc2 := [(8, .int (a8 + 1)), (6, .long v15), (0, .ref 0), (1, .int a1), (2, .int a2), (3, .int a3), (4, .int a4), (5, .int a5)]) hX dX14_alike_126 7 rfl (congrArg (fun y => a8 + y) ic_1) hN (Nat.le_of_ble_eq_true rfl) rfl ?_
  refine hv_goto (tgt := 81) hX dX14_alike_129 (by decide) ?_
  refine hv_fewer [2, 3, 4, 5, 6, 7, 1, 0] (loc2 := [(0, .ref 0), (1, .int a1), (2, .int a2), (3, .int a3), (4, .int a4), (5, .int a5), (6, .long v15), (8, .int (a8 + 1))]) rfl ?_
  exact hk81 _ _ _ _ _ _ _ _ _ hf
def m_alike_l81 (Q : Int64 → mI → mJ → Prop) (k70 : Int32 → Int32 → Int32 → Int32 → Int32 → mI → mJ → Prop) : Nat → Int32 → Int32 → Int32 → Int32 → Int32 → Int64 → Int32 → mI → mJ → Prop
  | 0, _, _, _, _, _, _, _, _, _ => False
  | n + 1, a1, a2, a3, a4, a5, a6, a8, I, J =>
    ((10 : Int32) ≤ a8 →
      vp_in a5 241 ∧ (k70 a1 a2 a3 a4 (a5 + (-1)) I (u2 J 16 a5.toNatClampNeg a6))) ∧ (¬ (10 : Int32) ≤ a8 →
      vp_in ((10 * a1) + a8) 40 ∧ (∀ v13 : Int32, v13 = (a5 - (I 3 ((10 * a1) + a8).toNatClampNeg)) → ((v13 ≤ 0 →
        m_alike_j122 Q (fun b0 b1 b2 b3 b4 b5 b6 I J => m_alike_l81 Q k70 n b0 b1 b2 b3 b4 b5 b6 I J) a1 a2 a3 a4 a5 a8 a6 0 I J) ∧ (¬ v13 ≤ 0 →
        m_alike_j122 Q (fun b0 b1 b2 b3 b4 b5 b6 I J => m_alike_l81 Q k70 n b0 b1 b2 b3 b4 b5 b6 I J) a1 a2 a3 a4 a5 a8 a6 v13 I J))))
theorem w_alike_l81 {X : hh_CX} {Q : Int64 → mI → mJ → Prop} (hX : hh_C X cX14_alike RX14 (hrm 2 43)) (hN : hh_nL X = 10) (hE : hh_E X (some .long) (mQl Q) 0 0) {k70 : Int32 → Int32 → Int32 → Int32 → Int32 → mI → mJ → Prop} (hk70 : ∀ (b0 : Int32) (b1 : Int32) (b2 : Int32) (b3 : Int32) (b4 : Int32) (I : mI) (J : mJ), k70 b0 b1 b2 b3 b4 I J → hh_V X 70 [(0, .ref 0), (1, .int b0), (2, .int b1), (3, .int b2), (4, .int b3), (5, .int b4)] [] 0 0 (hm I J)) : ∀ (n : Nat) (a1 : Int32) (a2 : Int32) (a3 : Int32) (a4 : Int32) (a5 : Int32) (a6 : Int64) (a8 : Int32) (I : mI) (J : mJ), m_alike_l81 Q k70 n a1 a2 a3 a4 a5 a6 a8 I J → hh_V X 81 [(0, .ref 0), (1, .int a1), (2, .int a2), (3, .int a3), (4, .int a4), (5, .int a5), (6, .long a6), (8, .int a8)] [] 0 0 (hm I J) := by
  intro n
  induction n with
  | zero => intro _ _ _ _ _ _ _ _ _ hf; exact hf.elim
  | succ n ih =>
    intro a1 a2 a3 a4 a5 a6 a8 I J hf
    unfold m_alike_l81 at hf
    refine hv_iload hX dX14_alike_81 7 rfl ?_
    refine hv_bipush (v := 10) hX bi_10 dX14_alike_83 ?_
    refine hv_icmp_ge (tgt := 132) hX dX14_alike_85 (by decide) (fun c12 => ?_) (fun c12 => ?_)
    · replace hf := hf.1 c12
      refine hv_aload_n hX dX14_alike_132 rfl 0 rfl ?_
      refine hm_getR hX dX14_alike_133 mfl73 16 rfl ?_
      refine hv_iload hX dX14_alike_136 5 rfl ?_
      refine hv_lload hX dX14_alike_138 6 rfl ?_
      obtain ⟨g, hf⟩ := hf
      refine hm_last hX dX14_alike_140 (by decide) rfl rfl g ?_
      refine hv_iinc (v := (a5 + (-1))) (loc2 := [(5, .int (a5 + (-1))), (0, .ref 0), (1, .int a1), (2, .int a2), (3, .int a3), (4, .int a4), (6, .long a6), (8, .int a8)]) hX dX14_alike_141 5 rfl (congrArg (fun y => a5 + y) ic_m1) hN (Nat.le_of_ble_eq_true rfl) rfl ?_
      refine hv_goto (tgt := 70) hX dX14_alike_144 (by decide) ?_
      refine hv_fewer [1, 2, 3, 4, 5, 0] (loc2 := [(0, .ref 0), (1, .int a1), (2, .int a2), (3, .int a3), (4, .int a4), (5, .int (a5 + (-1)))]) rfl ?_
      exact hk70 _ _ _ _ _ _ _ hf
    · replace hf := hf.2 c12
      refine hv_iload hX dX14_alike_88 5 rfl ?_
      refine hv_aload_n hX dX14_alike_90 rfl 0 rfl ?_
      refine hm_getR hX dX14_alike_91 mfl26 3 rfl ?_
      refine hv_bipush (v := 10) hX bi_10 dX14_alike_94 ?_
      refine hv_iload_n hX dX14_alike_96 rfl 1 rfl ?_
      refine hv_imul hX dX14_alike_97 ?_
      refine hv_iload hX dX14_alike_98 7 rfl ?_
      refine hv_iadd hX dX14_alike_100 ?_
      obtain ⟨g, hf⟩ := hf
      refine hm_iald (v := (I 3 ((10 * a1) + a8).toNatClampNeg)) hX dX14_alike_101 (by decide) rfl rfl g rfl ?_
      refine hv_isub hX dX14_alike_102 ?_
      refine hv_topi (fun v13 ev13 => ?_)
      replace hf := hf v13 ev13
      refine hv_istore (loc2 := [(9, .int v13), (0, .ref 0), (1, .int a1), (2, .int a2), (3, .int a3), (4, .int a4), (5, .int a5), (6, .long a6), (8, .int a8)]) hX dX14_alike_103 hN (Nat.le_of_ble_eq_true rfl) rfl ?_
      refine hv_lload hX dX14_alike_105 7 rfl ?_
      refine hv_aload_n hX dX14_alike_107 rfl 1 rfl ?_
      refine hm_getR hX dX14_alike_108 mfl73 16 rfl ?_
      refine hv_iload hX dX14_alike_111 0 rfl ?_
      refine hv_if_le (tgt := 121) hX dX14_alike_113 (by decide) (fun c14 => ?_) (fun c14 => ?_)
      · replace hf := hf.1 c14
        refine hv_iconst (v := 0) hX ic_0 dX14_alike_121 ?_
        refine hv_fewer [1, 2, 3, 4, 5, 6, 8] (loc2 := [(0, .ref 0), (1, .int a1), (2, .int a2), (3, .int a3), (4, .int a4), (5, .int a5), (8, .int a8)]) rfl ?_
        exact w_alike_j122 hX hN hE ih _ _ _ _ _ _ _ _ _ _ hf
      · replace hf := hf.2 c14
        refine hv_iload hX dX14_alike_116 0 rfl ?_
        refine hv_goto (tgt := 122) hX dX14_alike_118 (by decide) ?_
        refine hv_fewer [1, 2, 3, 4, 5, 6, 8] (loc2 := [(0, .ref 0), (1, .int a1), (2, .int a2), (3, .int a3), (4, .int a4), (5, .int a5), (8, .int a8)]) rfl ?_
        exact w_alike_j122 hX hN hE ih _ _ _ _ _ _ _ _ _ _ hf
def m_alike_l70 (Q : Int64 → mI → mJ → Prop) (k61 : Int32 → Int32 → Int32 → Int32 → mI → mJ → Prop) : Nat → Int32 → Int32 → Int32 → Int32 → Int32 → mI → mJ → Prop
  | 0, _, _, _, _, _, _, _ => False
  | n + 1, a1, a2, a3, a4, a5, I, J =>
    (a5 < 0 →
      k61 a1 a2 a3 (a4 + 1) I J) ∧ (¬ a5 < 0 →
      ∃ n0 : Nat, m_alike_l81 Q (fun b0 b1 b2 b3 b4 I J => m_alike_l70 Q k61 n b0 b1 b2 b3 b4 I J) n0 a1 a2 a3 a4 a5 0 0 I J)
theorem w_alike_l70 {X : hh_CX} {Q : Int64 → mI → mJ → Prop} (hX : hh_C X cX14_alike RX14 (hrm 2 43)) (hN : hh_nL X = 10) (hE : hh_E X (some .long) (mQl Q) 0 0) {k61 : Int32 → Int32 → Int32 → Int32 → mI → mJ → Prop} (hk61 : ∀ (b0 : Int32) (b1 : Int32) (b2 : Int32) (b3 : Int32) (I : mI) (J : mJ), k61 b0 b1 b2 b3 I J → hh_V X 61 [(0, .ref 0), (1, .int b0), (2, .int b1), (3, .int b2), (4, .int b3)] [] 0 0 (hm I J)) : ∀ (n : Nat) (a1 : Int32) (a2 : Int32) (a3 : Int32) (a4 : Int32) (a5 : Int32) (I : mI) (J : mJ), m_alike_l70 Q k61 n a1 a2 a3 a4 a5 I J → hh_V X 70 [(0, .ref 0), (1, .int a1), (2, .int a2), (3, .int a3), (4, .int a4), (5, .int a5)] [] 0 0 (hm I J) := by
  intro n
  induction n with
  | zero => intro _ _ _ _ _ _ _ hf; exact hf.elim
  | succ n ih =>
    intro a1 a2 a3 a4 a5 I J hf
    unfold m_alike_l70 at hf
    refine hv_iload hX dX14_alike_70 5 rfl ?_
    refine hv_if_lt (tgt := 147) hX dX14_alike_72 (by decide) (fun c11 => ?_) (fun c11 => ?_)
    · replace hf := hf.1 c11
      refine hv_iinc (v := (a4 + 1)) (loc2 := [(4, .int (a4 + 1)), (0, .ref 0), (1, .int a1), (2, .int a2), (3, .int a3), (5, .int a5)]) hX dX14_alike_147 4 rfl (congrArg (fun y => a4 + y) ic_1) hN (Nat.le_of_ble_eq_true rfl) rfl ?_
      refine hv_goto (tgt := 61) hX dX14_alike_150 (by decide) ?_
      refine hv_fewer [1, 2, 3, 4, 0] (loc2 := [(0, .ref 0), (1, .int a1), (2, .int a2), (3, .int a3), (4, .int (a4 + 1))]) rfl ?_
      exact hk61 _ _ _ _ _ _ hf
    · replace hf := hf.2 c11
      refine hv_lconst (v := 0) hX rfl dX14_alike_75 ?_
      refine hv_lstore (loc2 := [(6, .long 0), (0, .ref 0), (1, .int a1), (2, .int a2), (3, .int a3), (4, .int a4), (5, .int a5)]) hX dX14_alike_76 hN (Nat.le_of_ble_eq_true rfl) rfl ?_
      refine hv_iconst (v := 0) hX ic_0 dX14_alike_78 ?_
      refine hv_istore (loc2 := [(8, .int 0), (6, .long 0), (0, .ref 0), (1, .int a1), (2, .int a2), (3, .int a3), (4, .int a4), (5, .int a5)]) hX dX14_alike_79 hN (Nat.le_of_ble_eq_true rfl) rfl ?_
      refine hv_fewer [2, 3, 4, 5, 6, 7, 1, 0] (loc2 := [(0, .ref 0), (1, .int a1), (2, .int a2), (3, .int a3), (4, .int a4), (5, .int a5), (6, .long 0), (8, .int 0)]) rfl ?_
      obtain ⟨n0, hf⟩ := hf
      exact w_alike_l81 hX hN hE ih n0 _ _ _ _ _ _ _ _ _ hf
def m_alike_l61 (Q : Int64 → mI → mJ → Prop) : Nat → Int32 → Int32 → Int32 → Int32 → mI → mJ → Prop
  | 0, _, _, _, _, _, _ => False
  | n + 1, a1, a2, a3, a4, I, J =>
    (a3 ≤ a4 →
      vp_in a2 241 ∧ (Q (J 16 a2.toNatClampNeg) I J)) ∧ (¬ a3 ≤ a4 →
      ∃ n0 : Nat, m_alike_l70 Q (fun b0 b1 b2 b3 I J => m_alike_l61 Q n b0 b1 b2 b3 I J) n0 a1 a2 a3 a4 a2 I J)
theorem w_alike_l61 {X : hh_CX} {Q : Int64 → mI → mJ → Prop} (hX : hh_C X cX14_alike RX14 (hrm 2 43)) (hN : hh_nL X = 10) (hE : hh_E X (some .long) (mQl Q) 0 0) : ∀ (n : Nat) (a1 : Int32) (a2 : Int32) (a3 : Int32) (a4 : Int32) (I : mI) (J : mJ), m_alike_l61 Q  n a1 a2 a3 a4 I J → hh_V X 61 [(0, .ref 0), (1, .int a1), (2, .int a2), (3, .int a3), (4, .int a4)] [] 0 0 (hm I J) := by
  intro n
  induction n with
  | zero => intro _ _ _ _ _ _ hf; exact hf.elim
  | succ n ih =>
    intro a1 a2 a3 a4 I J hf
    unfold m_alike_l61 at hf
    refine hv_iload hX dX14_alike_61 4 rfl ?_
    refine hv_iload_n hX dX14_alike_63 rfl 3 rfl ?_
    refine hv_icmp_ge (tgt := 153) hX dX14_alike_64 (by decide) (fun c10 => ?_) (fun c10 => ?_)
    · replace hf := hf.1 c10
      refine hv_aload_n hX dX14_alike_153 rfl 0 rfl ?_
      refine hm_getR hX dX14_alike_154 mfl73 16 rfl ?_
      refine hv_iload_n hX dX14_alike_157 rfl 2 rfl ?_
      obtain ⟨g, hf⟩ := hf
      refine hm_lald (v := (J 16 a2.toNatClampNeg)) hX dX14_alike_158 (by decide) rfl rfl g rfl ?_
      exact hm_lret hX hE dX14_alike_159 hf
    · replace hf := hf.2 c10
      refine hv_iload_n hX dX14_alike_67 rfl 2 rfl ?_
      refine hv_istore (loc2 := [(5, .int a2), (0, .ref 0), (1, .int a1), (2, .int a2), (3, .int a3), (4, .int a4)]) hX dX14_alike_68 hN (Nat.le_of_ble_eq_true rfl) rfl ?_
      refine hv_fewer [1, 2, 3, 4, 5, 0] (loc2 := [(0, .ref 0), (1, .int a1), (2, .int a2), (3, .int a3), (4, .int a4), (5, .int a2)]) rfl ?_
      obtain ⟨n0, hf⟩ := hf
      exact w_alike_l70 hX hN hE ih n0 _ _ _ _ _ _ _ hf
def m_alike_j51 (Q : Int64 → mI → mJ → Prop) (k29 : Int32 → Int32 → Int32 → Int32 → mI → mJ → Prop) (a1 : Int32) (a2 : Int32) (a3 : Int32) (a4 : Int32) (s1 : Int32) (s2 : Int64) (I : mI) (J : mJ) : Prop :=
  vp_in s1 241 ∧ (k29 a1 a2 a3 (a4 + 1) I (u2 J 16 s1.toNatClampNeg s2))
theorem w_alike_j51 {X : hh_CX} {Q : Int64 → mI → mJ → Prop} (hX : hh_C X cX14_alike RX14 (hrm 2 43)) (hN : hh_nL X = 10) (hE : hh_E X (some .long) (mQl Q) 0 0) {k29 : Int32 → Int32 → Int32 → Int32 → mI → mJ → Prop} (hk29 : ∀ (b0 : Int32) (b1 : Int32) (b2 : Int32) (b3 : Int32) (I : mI) (J : mJ), k29 b0 b1 b2 b3 I J → hh_V X 29 [(0, .ref 0), (1, .int b0), (2, .int b1), (3, .int b2), (4, .int b3)] [] 0 0 (hm I J)) : ∀ (a1 : Int32) (a2 : Int32) (a3 : Int32) (a4 : Int32) (s1 : Int32) (s2 : Int64) (I : mI) (J : mJ), m_alike_j51 Q k29 a1 a2 a3 a4 s1 s2 I J → hh_V X 51 [(0, .ref 0), (1, .int a1), (2, .int a2), (3, .int a3), (4, .int a4)] [.long s2, .int s1, .ref 16] 0 0 (hm I J) := by
  intro a1 a2 a3 a4 s1 s2 I J hf
  unfold m_alike_j51 at hf
  obtain ⟨g, hf⟩ := hf
  refine hm_last hX dX14_alike_51 (by decide) rfl rfl g ?_
  refine hv_iinc (v := (a4 + 1)) (loc2 := [(4, .int (a4 + 1)), (0, .ref 0), (1, .int a1), (2, .int a2), (3, .int a3)]) hX dX14_alike_52 4 rfl (congrArg (fun y => a4 + y) ic_1) hN (Nat.le_of_ble_eq_true rfl) rfl ?_
  refine hv_goto (tgt := 29) hX dX14_alike_55 (by decide) ?_
  refine hv_fewer [1, 2, 3, 4, 0] (loc2 := [(0, .ref 0), (1, .int a1), (2, .int a2), (3, .int a3), (4, .int (a4 + 1))]) rfl ?_
  exact hk29 _ _ _ _ _ _ hf
def m_alike_l29 (Q : Int64 → mI → mJ → Prop) : Nat → Int32 → Int32 → Int32 → Int32 → mI → mJ → Prop
  | 0, _, _, _, _, _, _ => False
  | n + 1, a1, a2, a3, a4, I, J =>
    (a2 < a4 →
      ∃ n0 : Nat, m_alike_l61 Q  n0 a1 a2 a3 0 I J) ∧ (¬ a2 < a4 →
      (a4 = 0 →
        m_alike_j51 Q (fun b0 b1 b2 b3 I J => m_alike_l29 Q n b0 b1 b2 b3 I J) a1 a2 a3 a4 a4 1 I J) ∧ (¬ a4 = 0 →
        m_alike_j51 Q (fun b0 b1 b2 b3 I J => m_alike_l29 Q n b0 b1 b2 b3 I J) a1 a2 a3 a4 a4 0 I J))
theorem w_alike_l29 {X : hh_CX} {Q : Int64 → mI → mJ → Prop} (hX : hh_C X cX14_alike RX14 (hrm 2 43)) (hN : hh_nL X = 10) (hE : hh_E X (some .long) (mQl Q) 0 0) : ∀ (n : Nat) (a1 : Int32) (a2 : Int32) (a3 : Int32) (a4 : Int32) (I : mI) (J : mJ), m_alike_l29 Q  n a1 a2 a3 a4 I J → hh_V X 29 [(0, .ref 0), (1, .int a1), (2, .int a2), (3, .int a3), (4, .int a4)] [] 0 0 (hm I J) := by
  intro n
  induction n with
  | zero => intro _ _ _ _ _ _ hf; exact hf.elim
  | succ n ih =>
    intro a1 a2 a3 a4 I J hf
    unfold m_alike_l29 at hf
    refine hv_iload hX dX14_alike_29 4 rfl ?_
    refine hv_iload_n hX dX14_alike_31 rfl 2 rfl ?_
    refine hv_icmp_gt (tgt := 58) hX dX14_alike_32 (by decide) (fun c9 => ?_) (fun c9 => ?_)
    · replace hf := hf.1 c9
      refine hv_iconst (v := 0) hX ic_0 dX14_alike_58 ?_
      refine hv_istore (loc2 := [(4, .int 0), (0, .ref 0), (1, .int a1), (2, .int a2), (3, .int a3)]) hX dX14_alike_59 hN (Nat.le_of_ble_eq_true rfl) rfl ?_
      refine hv_fewer [1, 2, 3, 4, 0] (loc2 := [(0, .ref 0), (1, .int a1), (2, .int a2), (3, .int a3), (4, .int 0)]) rfl ?_
      obtain ⟨n0, hf⟩ := hf
      exact w_alike_l61 hX hN hE  n0 _ _ _ _ _ _ hf
    · replace hf := hf.2 c9
      refine hv_aload_n hX dX14_alike_35 rfl 0 rfl ?_
      refine hm_getR hX dX14_alike_36 mfl73 16 rfl ?_
      refine hv_iload hX dX14_alike_39 4 rfl ?_
      refine hv_iload hX dX14_alike_41 4 rfl ?_
      refine hv_if_ne (tgt := 50) hX dX14_alike_43 (by decide) (fun c16 => ?_) (fun c16 => ?_)
      · replace hf := hf.2 c16
        refine hv_lconst (v := 0) hX rfl dX14_alike_50 ?_
        exact w_alike_j51 hX hN hE ih _ _ _ _ _ _ _ _ hf
      · replace hf := hf.1 c16
        refine hv_lconst (v := 1) hX rfl dX14_alike_46 ?_
        refine hv_goto (tgt := 51) hX dX14_alike_47 (by decide) ?_
        exact w_alike_j51 hX hN hE ih _ _ _ _ _ _ _ _ hf
def m_alike (a1 : Int32) (a2 : Int32) (a3 : Int32) (I : mI) (J : mJ) (Q : Int64 → mI → mJ → Prop) : Prop :=
  m_in a1 0 ((I 0 9) - 1) I J (fun r1 I2 J3 => (r1 = 0 →
    Q (-1) I2 J3) ∧ (¬ r1 = 0 →
    m_isDare a2 a3 I2 J3 (fun r5 I6 J7 => (r5 = 0 →
      Q (-1) I6 J7) ∧ (¬ r5 = 0 →
      ∃ n0 : Nat, m_alike_l29 Q  n0 a1 a2 a3 0 I6 J7))))
theorem ct_alike (a1 : Int32) (a2 : Int32) (a3 : Int32) (I : mI) (J : mJ) (Q : Int64 → mI → mJ → Prop) (hf : m_alike a1 a2 a3 I J Q) : hh_Ct yX14_alike cX14_alike 10 (some .long) 2 43 [.ref 0, .int a1, .int a2, .int a3] (hm I J) (mQl Q) 0 0 := by
  refine hh_Ct.of (own := RX14) rfl (by decide +kernel) (Nat.le_of_ble_eq_true rfl) ?_
  intro X hX hN hE
  show hh_V X 0 [(0, .ref 0), (1, .int a1), (2, .int a2), (3, .int a3)] [] 0 0 (hm I J)
  unfold m_alike at hf
  refine hv_iload_n hX dX14_alike_0 rfl 1 rfl ?_
  refine hv_iconst (v := 0) hX ic_0 dX14_alike_1 ?_
  refine hv_aload_n hX dX14_alike_2 rfl 0 rfl ?_
  refine hm_getI (v := (I 0 9)) hX dX14_alike_3 mfl242 (.inl rfl) rfl ?_
  refine hv_iconst (v := 1) hX ic_1 dX14_alike_6 ?_
  refine hv_isub hX dX14_alike_7 ?_
  refine hm_callSi hX dX14_alike_8 (ct_in a1 0 ((I 0 9) - 1) I J _ hf) (gd_in q1923) np_in rfl rfl ⟨Nat.le_of_ble_eq_true rfl, Nat.le_of_ble_eq_true rfl⟩ ⟨Nat.le_refl _, Nat.le_refl _⟩ (Nat.le_of_ble_eq_true rfl) ?_
  intro r1 I2 J3 hf
  refine hv_if_eq (tgt := 22) hX dX14_alike_11 (by decide) (fun c4 => ?_) (fun c4 => ?_)
  · replace hf := hf.1 c4
    refine hv_ldc2 (v := (-1)) hX dX14_alike_22 q2081 ?_
    exact hm_lret hX hE dX14_alike_25 hf
  · replace hf := hf.2 c4
    refine hv_iload_n hX dX14_alike_14 rfl 2 rfl ?_
    refine hv_iload_n hX dX14_alike_15 rfl 3 rfl ?_
    refine hm_callSi hX dX14_alike_16 (ct_isDare a2 a3 I2 J3 _ hf) (gd_isDare q2078) np_isDare rfl rfl ⟨Nat.le_of_ble_eq_true rfl, Nat.le_of_ble_eq_true rfl⟩ ⟨Nat.le_refl _, Nat.le_refl _⟩ (Nat.le_of_ble_eq_true rfl) ?_
    intro r5 I6 J7 hf
    refine hv_if_ne (tgt := 26) hX dX14_alike_19 (by decide) (fun c8 => ?_) (fun c8 => ?_)
    · replace hf := hf.2 c8
      refine hv_iconst (v := 0) hX ic_0 dX14_alike_26 ?_
      refine hv_istore (loc2 := [(4, .int 0), (0, .ref 0), (1, .int a1), (2, .int a2), (3, .int a3)]) hX dX14_alike_27 hN (Nat.le_of_ble_eq_true rfl) rfl ?_
      refine hv_fewer [1, 2, 3, 4, 0] (loc2 := [(0, .ref 0), (1, .int a1), (2, .int a2), (3, .int a3), (4, .int 0)]) rfl ?_
      obtain ⟨n0, hf⟩ := hf
      exact w_alike_l29 hX hN hE  n0 _ _ _ _ _ _ hf
    · replace hf := hf.1 c8
      refine hv_ldc2 (v := (-1)) hX dX14_alike_22 q2081 ?_
      exact hm_lret hX hE dX14_alike_25 hf
theorem np_alike : yX14_alike.cls = RX14 ∧ yX14_alike.cls ≠ "java/lang/invoke/MethodHandle" ∧ yX14_alike.cls ≠ "java/lang/invoke/VarHandle" ∧ (parseMethodDescriptor yX14_alike.desc).map (fun d => d.parameters.length) = some 3 := by decide +kernel
theorem gd_alike {idx : Nat} (h : Cond.methodLink RX14 idx yX14_alike ∈ lw_all) : GoodIn lw_all (wsV RX14 idx RX14 yX14_alike (ws_ yX14_alike cX14_alike 10 (some .long))) := lw_V h q2099 q2100 q123 q2101
/-! flock(II)I -/
def m_flock_j97 (Q : Int32 → mI → mJ → Prop) (a1 : Int32) (a2 : Int32) (a3 : Int32) (s1 : Int32) (I : mI) (J : mJ) : Prop :=
  (a1 = 2 →
    Q a3 (u2 (u2 I 0 7 s1) 0 5 a2) J) ∧ (¬ a1 = 2 →
    Q a3 (u2 (u2 I 0 7 s1) 0 5 (I 0 5)) J)
theorem w_flock_j97 {X : hh_CX} {Q : Int32 → mI → mJ → Prop} (hX : hh_C X cX14_flock RX14 (hrm 1 22)) (hN : hh_nL X = 4) (hE : hh_E X (some .int) (mQi Q) 0 0) : ∀ (a1 : Int32) (a2 : Int32) (a3 : Int32) (s1 : Int32) (I : mI) (J : mJ), m_flock_j97 Q  a1 a2 a3 s1 I J → hh_V X 97 [(0, .ref 0), (1, .int a1), (2, .int a2), (3, .int a3)] [.int s1, .ref 0] 0 0 (hm I J) := by
  intro a1 a2 a3 s1 I J hf
  unfold m_flock_j97 at hf
  refine hm_putI hX dX14_flock_97 mfl268 ?_
  refine hv_aload_n hX dX14_flock_100 rfl 0 rfl ?_
  refine hv_iload_n hX dX14_flock_101 rfl 1 rfl ?_
  refine hv_iconst (v := 2) hX ic_2 dX14_flock_102 ?_
  refine hv_icmp_ne (tgt := 110) hX dX14_flock_103 (by decide) (fun c15 => ?_) (fun c15 => ?_)
  · replace hf := hf.2 c15
    refine hv_aload_n hX dX14_flock_110 rfl 0 rfl ?_
    refine hm_getI (v := (I 0 5)) hX dX14_flock_111 mfl16 (.inl rfl) ((u2_ne _ _ (.inr (by decide)))) ?_
    refine hm_putI hX dX14_flock_114 mfl16 ?_
    refine hv_iload_n hX dX14_flock_117 rfl 3 rfl ?_
    exact hm_iret hX hE dX14_flock_118 hf
  · replace hf := hf.1 c15
    refine hv_iload_n hX dX14_flock_106 rfl 2 rfl ?_
    refine hv_goto (tgt := 114) hX dX14_flock_107 (by decide) ?_
    refine hm_putI hX dX14_flock_114 mfl16 ?_
    refine hv_iload_n hX dX14_flock_117 rfl 3 rfl ?_
    exact hm_iret hX hE dX14_flock_118 hf
def m_flock_j80 (Q : Int32 → mI → mJ → Prop) (a1 : Int32) (a2 : Int32) (a3 : Int32) (s1 : Int32) (I : mI) (J : mJ) : Prop :=
  (a1 = 1 →
    m_flock_j97 Q  a1 a2 a3 a2 (u2 I 0 6 s1) J) ∧ (¬ a1 = 1 →
    m_flock_j97 Q  a1 a2 a3 (I 0 7) (u2 I 0 6 s1) J)
theorem w_flock_j80 {X : hh_CX} {Q : Int32 → mI → mJ → Prop} (hX : hh_C X cX14_flock RX14 (hrm 1 22)) (hN : hh_nL X = 4) (hE : hh_E X (some .int) (mQi Q) 0 0) : ∀ (a1 : Int32) (a2 : Int32) (a3 : Int32) (s1 : Int32) (I : mI) (J : mJ), m_flock_j80 Q  a1 a2 a3 s1 I J → hh_V X 80 [(0, .ref 0), (1, .int a1), (2, .int a2), (3, .int a3)] [.int s1, .ref 0] 0 0 (hm I J) := by
  intro a1 a2 a3 s1 I J hf
  unfold m_flock_j80 at hf
  refine hm_putI hX dX14_flock_80 mfl265 ?_
  refine hv_aload_n hX dX14_flock_83 rfl 0 rfl ?_
  refine hv_iload_n hX dX14_flock_84 rfl 1 rfl ?_
  refine hv_iconst (v := 1) hX ic_1 dX14_flock_85 ?_
  refine hv_icmp_ne (tgt := 93) hX dX14_flock_86 (by decide) (fun c14 => ?_) (fun c14 => ?_)
  · replace hf := hf.2 c14
    refine hv_aload_n hX dX14_flock_93 rfl 0 rfl ?_
    refine hm_getI (v := (I 0 7)) hX dX14_flock_94 mfl268 (.inl rfl) ((u2_ne _ _ (.inr (by decide)))) ?_
    exact w_flock_j97 hX hN hE  _ _ _ _ _ _ hf
  · replace hf := hf.1 c14
    refine hv_iload_n hX dX14_flock_89 rfl 2 rfl ?_
    refine hv_goto (tgt := 97) hX dX14_flock_90 (by decide) ?_
    exact w_flock_j97 hX hN hE  _ _ _ _ _ _ hf
def m_flock_j66 (Q : Int32 → mI → mJ → Prop) (a1 : Int32) (a2 : Int32) (s0 : Int32) (I : mI) (J : mJ) : Prop :=
  (a1 = 0 →
    m_flock_j80 Q  a1 a2 s0 a2 I J) ∧ (¬ a1 = 0 →
    m_flock_j80 Q  a1 a2 s0 (I 0 6) I J)
theorem w_flock_j66 {X : hh_CX} {Q : Int32 → mI → mJ → Prop} (hX : hh_C X cX14_flock RX14 (hrm 1 22)) (hN : hh_nL X = 4) (hE : hh_E X (some .int) (mQi Q) 0 0) : ∀ (a1 : Int32) (a2 : Int32) (s0 : Int32) (I : mI) (J : mJ), m_flock_j66 Q  a1 a2 s0 I J → hh_V X 66 [(0, .ref 0), (1, .int a1), (2, .int a2)] [.int s0] 0 0 (hm I J) := by
  intro a1 a2 s0 I J hf
  unfold m_flock_j66 at hf
  refine hv_istore_n (loc2 := [(3, .int s0), (0, .ref 0), (1, .int a1), (2, .int a2)]) hX dX14_flock_66 rfl hN (Nat.le_of_ble_eq_true rfl) rfl ?_
  refine hv_aload_n hX dX14_flock_67 rfl 1 rfl ?_
  refine hv_iload_n hX dX14_flock_68 rfl 2 rfl ?_
  refine hv_if_ne (tgt := 76) hX dX14_flock_69 (by decide) (fun c13 => ?_) (fun c13 => ?_)
  · replace hf := hf.2 c13
    refine hv_aload_n hX dX14_flock_76 rfl 1 rfl ?_
    refine hm_getI (v := (I 0 6)) hX dX14_flock_77 mfl265 (.inl rfl) rfl ?_
    refine hv_fewer [1, 2, 3, 0] (loc2 := [(0, .ref 0), (1, .int a1), (2, .int a2), (3, .int s0)]) rfl ?_
    exact w_flock_j80 hX hN hE  _ _ _ _ _ _ hf
  · replace hf := hf.1 c13
    refine hv_iload_n hX dX14_flock_72 rfl 3 rfl ?_
    refine hv_goto (tgt := 80) hX dX14_flock_73 (by decide) ?_
    refine hv_fewer [1, 2, 3, 0] (loc2 := [(0, .ref 0), (1, .int a1), (2, .int a2), (3, .int s0)]) rfl ?_
    exact w_flock_j80 hX hN hE  _ _ _ _ _ _ hf
def m_flock_j31 (Q : Int32 → mI → mJ → Prop) (a1 : Int32) (a2 : Int32) (s0 : Int32) (s1 : Int32) (s2 : Int32) (I : mI) (J : mJ) : Prop :=
  m_in s0 s1 s2 I J (fun r7 I8 J9 => (r7 = 0 →
    Q (-1) I8 J9) ∧ (¬ r7 = 0 →
    (a1 = 0 →
      m_flock_j66 Q  a1 a2 (I8 0 6) I8 J9) ∧ (¬ a1 = 0 →
      (a1 = 1 →
        m_flock_j66 Q  a1 a2 (I8 0 7) I8 J9) ∧ (¬ a1 = 1 →
        m_flock_j66 Q  a1 a2 (I8 0 5) I8 J9))))
theorem w_flock_j31 {X : hh_CX} {Q : Int32 → mI → mJ → Prop} (hX : hh_C X cX14_flock RX14 (hrm 1 22)) (hN : hh_nL X = 4) (hE : hh_E X (some .int) (mQi Q) 0 0) : ∀ (a1 : Int32) (a2 : Int32) (s0 : Int32) (s1 : Int32) (s2 : Int32) (I : mI) (J : mJ), m_flock_j31 Q  a1 a2 s0 s1 s2 I J → hh_V X 31 [(0, .ref 0), (1, .int a1), (2, .int a2)] [.int s2, .int s1, .int s0] 0 0 (hm I J) := by
  intro a1 a2 s0 s1 s2 I J hf
  unfold m_flock_j31 at hf
  refine hm_callSi hX dX14_flock_31 (ct_in s0 s1 s2 I J _ hf) (gd_in q1923) np_in rfl rfl ⟨Nat.le_of_ble_eq_true rfl, Nat.le_of_ble_eq_true rfl⟩ ⟨Nat.le_refl _, Nat.le_refl _⟩ (Nat.le_of_ble_eq_true rfl) ?_
  intro r7 I8 J9 hf
  refine hv_if_ne (tgt := 39) hX dX14_flock_34 (by decide) (fun c10 => ?_) (fun c10 => ?_)
  · replace hf := hf.2 c10
    refine hv_iload_n hX dX14_flock_39 rfl 1 rfl ?_
    refine hv_if_ne (tgt := 50) hX dX14_flock_40 (by decide) (fun c11 => ?_) (fun c11 => ?_)
    · replace hf := hf.2 c11
      refine hv_iload_n hX dX14_flock_50 rfl 1 rfl ?_
      refine hv_iconst (v := 1) hX ic_1 dX14_flock_51 ?_
      refine hv_icmp_ne (tgt := 62) hX dX14_flock_52 (by decide) (fun c12 => ?_) (fun c12 => ?_)
      · replace hf := hf.2 c12
        refine hv_aload_n hX dX14_flock_62 rfl 0 rfl ?_
        refine hm_getI (v := (I8 0 5)) hX dX14_flock_63 mfl16 (.inl rfl) rfl ?_
        exact w_flock_j66 hX hN hE  _ _ _ _ _ hf
      · replace hf := hf.1 c12
        refine hv_aload_n hX dX14_flock_55 rfl 0 rfl ?_
        refine hm_getI (v := (I8 0 7)) hX dX14_flock_56 mfl268 (.inl rfl) rfl ?_
        refine hv_goto (tgt := 66) hX dX14_flock_59 (by decide) ?_
        exact w_flock_j66 hX hN hE  _ _ _ _ _ hf
    · replace hf := hf.1 c11
      refine hv_aload_n hX dX14_flock_43 rfl 0 rfl ?_
      refine hm_getI (v := (I8 0 6)) hX dX14_flock_44 mfl265 (.inl rfl) rfl ?_
      refine hv_goto (tgt := 66) hX dX14_flock_47 (by decide) ?_
      exact w_flock_j66 hX hN hE  _ _ _ _ _ hf
  · replace hf := hf.1 c10
    refine hv_iconst (v := (-1)) hX ic_m1 dX14_flock_37 ?_
    exact hm_iret hX hE dX14_flock_38 hf
def m_flock_j20 (Q : Int32 → mI → mJ → Prop) (a1 : Int32) (a2 : Int32) (s0 : Int32) (s1 : Int32) (I : mI) (J : mJ) : Prop :=
  (a1 = 2 →
    m_flock_j31 Q  a1 a2 s0 s1 5 I J) ∧ (¬ a1 = 2 →
    m_flock_j31 Q  a1 a2 s0 s1 6 I J)
theorem w_flock_j20 {X : hh_CX} {Q : Int32 → mI → mJ → Prop} (hX : hh_C X cX14_flock RX14 (hrm 1 22)) (hN : hh_nL X = 4) (hE : hh_E X (some .int) (mQi Q) 0 0) : ∀ (a1 : Int32) (a2 : Int32) (s0 : Int32) (s1 : Int32) (I : mI) (J : mJ), m_flock_j20 Q  a1 a2 s0 s1 I J → hh_V X 20 [(0, .ref 0), (1, .int a1), (2, .int a2)] [.int s1, .int s0] 0 0 (hm I J) := by
  intro a1 a2 s0 s1 I J hf
  unfold m_flock_j20 at hf
  refine hv_iload_n hX dX14_flock_20 rfl 1 rfl ?_
  refine hv_iconst (v := 2) hX ic_2 dX14_flock_21 ?_
  refine hv_icmp_ne (tgt := 29) hX dX14_flock_22 (by decide) (fun c6 => ?_) (fun c6 => ?_)
  · replace hf := hf.2 c6
    refine hv_bipush (v := 6) hX bi_6 dX14_flock_29 ?_
    exact w_flock_j31 hX hN hE  _ _ _ _ _ _ _ hf
  · replace hf := hf.1 c6
    refine hv_iconst (v := 5) hX ic_5 dX14_flock_25 ?_
    refine hv_goto (tgt := 31) hX dX14_flock_26 (by decide) ?_
    exact w_flock_j31 hX hN hE  _ _ _ _ _ _ _ hf
def m_flock (a1 : Int32) (a2 : Int32) (I : mI) (J : mJ) (Q : Int32 → mI → mJ → Prop) : Prop :=
  m_in a1 0 2 I J (fun r1 I2 J3 => (r1 = 0 →
    Q (-1) I2 J3) ∧ (¬ r1 = 0 →
    (a1 = 2 →
      m_flock_j20 Q  a1 a2 a2 1 I2 J3) ∧ (¬ a1 = 2 →
      m_flock_j20 Q  a1 a2 a2 0 I2 J3)))
theorem ct_flock (a1 : Int32) (a2 : Int32) (I : mI) (J : mJ) (Q : Int32 → mI → mJ → Prop) (hf : m_flock a1 a2 I J Q) : hh_Ct yX14_flock cX14_flock 4 (some .int) 1 22 [.ref 0, .int a1, .int a2] (hm I J) (mQi Q) 0 0 := by
  refine hh_Ct.of (own := RX14) rfl (by decide +kernel) (Nat.le_of_ble_eq_true rfl) ?_
  intro X hX hN hE
  show hh_V X 0 [(0, .ref 0), (1, .int a1), (2, .int a2)] [] 0 0 (hm I J)
  unfold m_flock at hf
  refine hv_iload_n hX dX14_flock_0 rfl 1 rfl ?_
  refine hv_iconst (v := 0) hX ic_0 dX14_flock_1 ?_
  refine hv_iconst (v := 2) hX ic_2 dX14_flock_2 ?_
  refine hm_callSi hX dX14_flock_3 (ct_in a1 0 2 I J _ hf) (gd_in q1923) np_in rfl rfl ⟨Nat.le_of_ble_eq_true rfl, Nat.le_of_ble_eq_true rfl⟩ ⟨Nat.le_refl _, Nat.le_refl _⟩ (Nat.le_of_ble_eq_true rfl) ?_
  intro r1 I2 J3 hf
  refine hv_if_eq (tgt := 37) hX dX14_flock_6 (by decide) (fun c4 => ?_) (fun c4 => ?_)
  · replace hf := hf.1 c4
    refine hv_iconst (v := (-1)) hX ic_m1 dX14_flock_37 ?_
    exact hm_iret hX hE dX14_flock_38 hf
  · replace hf := hf.2 c4
    refine hv_iload_n hX dX14_flock_9 rfl 2 rfl ?_
    refine hv_iload_n hX dX14_flock_10 rfl 1 rfl ?_
    refine hv_iconst (v := 2) hX ic_2 dX14_flock_11 ?_
    refine hv_icmp_ne (tgt := 19) hX dX14_flock_12 (by decide) (fun c5 => ?_) (fun c5 => ?_)
    · replace hf := hf.2 c5
      refine hv_iconst (v := 0) hX ic_0 dX14_flock_19 ?_
      exact w_flock_j20 hX hN hE  _ _ _ _ _ _ hf
    · replace hf := hf.1 c5
      refine hv_iconst (v := 1) hX ic_1 dX14_flock_15 ?_
      refine hv_goto (tgt := 20) hX dX14_flock_16 (by decide) ?_
      exact w_flock_j20 hX hN hE  _ _ _ _ _ _ hf
theorem np_flock : yX14_flock.cls = RX14 ∧ yX14_flock.cls ≠ "java/lang/invoke/MethodHandle" ∧ yX14_flock.cls ≠ "java/lang/invoke/VarHandle" ∧ (parseMethodDescriptor yX14_flock.desc).map (fun d => d.parameters.length) = some 2 := by decide +kernel
theorem gd_flock {idx : Nat} (h : Cond.methodLink RX14 idx yX14_flock ∈ lw_all) : GoodIn lw_all (wsV RX14 idx RX14 yX14_flock (ws_ yX14_flock cX14_flock 4 (some .int))) := lw_V h q2103 q2104 q123 q2105
/-! lays(II)V -/
def m_lays_j29 (Q : mI → mJ → Prop) (k2 : Int32 → Int32 → Int32 → mI → mJ → Prop) (a1 : Int32) (a2 : Int32) (a3 : Int32) (s1 : Int32) (s2 : Int32) (I : mI) (J : mJ) : Prop :=
  vp_in s1 8 ∧ (k2 a1 a2 (a3 + 1) (u2 I 17 s1.toNatClampNeg s2) J)
theorem w_lays_j29 {X : hh_CX} {Q : mI → mJ → Prop} (hX : hh_C X cX14_lays RX14 (hrm 0 0)) (hN : hh_nL X = 4) (hE : hh_E X none (mQv Q) 0 0) {k2 : Int32 → Int32 → Int32 → mI → mJ → Prop} (hk2 : ∀ (b0 : Int32) (b1 : Int32) (b2 : Int32) (I : mI) (J : mJ), k2 b0 b1 b2 I J → hh_V X 2 [(0, .ref 0), (1, .int b0), (2, .int b1), (3, .int b2)] [] 0 0 (hm I J)) : ∀ (a1 : Int32) (a2 : Int32) (a3 : Int32) (s1 : Int32) (s2 : Int32) (I : mI) (J : mJ), m_lays_j29 Q k2 a1 a2 a3 s1 s2 I J → hh_V X 29 [(0, .ref 0), (1, .int a1), (2, .int a2), (3, .int a3)] [.int s2, .int s1, .ref 17] 0 0 (hm I J) := by
  intro a1 a2 a3 s1 s2 I J hf
  unfold m_lays_j29 at hf
  obtain ⟨g, hf⟩ := hf
  refine hm_iast hX dX14_lays_29 (by decide) rfl rfl g ?_
  refine hv_iinc (v := (a3 + 1)) (loc2 := [(3, .int (a3 + 1)), (0, .ref 0), (1, .int a1), (2, .int a2)]) hX dX14_lays_30 3 rfl (congrArg (fun y => a3 + y) ic_1) hN (Nat.le_of_ble_eq_true rfl) rfl ?_
  refine hv_goto (tgt := 2) hX dX14_lays_33 (by decide) ?_
  refine hv_fewer [1, 2, 3, 0] (loc2 := [(0, .ref 0), (1, .int a1), (2, .int a2), (3, .int (a3 + 1))]) rfl ?_
  exact hk2 _ _ _ _ _ hf
def m_lays_l2 (Q : mI → mJ → Prop) : Nat → Int32 → Int32 → Int32 → mI → mJ → Prop
  | 0, _, _, _, _, _ => False
  | n + 1, a1, a2, a3, I, J =>
    ((4 : Int32) ≤ a3 →
      Q I J) ∧ (¬ (4 : Int32) ≤ a3 →
      (a3 = ((I 0 8) - 1) →
        m_lays_j29 Q (fun b0 b1 b2 I J => m_lays_l2 Q n b0 b1 b2 I J) a1 a2 a3 (a1 + a3) a2 I J) ∧ (¬ a3 = ((I 0 8) - 1) →
        m_lays_j29 Q (fun b0 b1 b2 I J => m_lays_l2 Q n b0 b1 b2 I J) a1 a2 a3 (a1 + a3) 0 I J))
theorem w_lays_l2 {X : hh_CX} {Q : mI → mJ → Prop} (hX : hh_C X cX14_lays RX14 (hrm 0 0)) (hN : hh_nL X = 4) (hE : hh_E X none (mQv Q) 0 0) : ∀ (n : Nat) (a1 : Int32) (a2 : Int32) (a3 : Int32) (I : mI) (J : mJ), m_lays_l2 Q  n a1 a2 a3 I J → hh_V X 2 [(0, .ref 0), (1, .int a1), (2, .int a2), (3, .int a3)] [] 0 0 (hm I J) := by
  intro n
  induction n with
  | zero => intro _ _ _ _ _ hf; exact hf.elim
  | succ n ih =>
    intro a1 a2 a3 I J hf
    unfold m_lays_l2 at hf
    refine hv_iload_n hX dX14_lays_2 rfl 3 rfl ?_
    refine hv_iconst (v := 4) hX ic_4 dX14_lays_3 ?_
    refine hv_icmp_ge (tgt := 36) hX dX14_lays_4 (by decide) (fun c1 => ?_) (fun c1 => ?_)
    · replace hf := hf.1 c1
      exact hm_vret hX hE dX14_lays_36 hf
    · replace hf := hf.2 c1
      refine hv_aload_n hX dX14_lays_7 rfl 0 rfl ?_
      refine hm_getR hX dX14_lays_8 mfl76 17 rfl ?_
      refine hv_iload_n hX dX14_lays_11 rfl 1 rfl ?_
      refine hv_iload_n hX dX14_lays_12 rfl 3 rfl ?_
      refine hv_iadd hX dX14_lays_13 ?_
      refine hv_iload_n hX dX14_lays_14 rfl 3 rfl ?_
      refine hv_aload_n hX dX14_lays_15 rfl 0 rfl ?_
      refine hm_getI (v := (I 0 8)) hX dX14_lays_16 mfl130 (.inl rfl) rfl ?_
      refine hv_iconst (v := 1) hX ic_1 dX14_lays_19 ?_
      refine hv_isub hX dX14_lays_20 ?_
      refine hv_icmp_ne (tgt := 28) hX dX14_lays_21 (by decide) (fun c2 => ?_) (fun c2 => ?_)
      · replace hf := hf.2 c2
        refine hv_iconst (v := 0) hX ic_0 dX14_lays_28 ?_
        exact w_lays_j29 hX hN hE ih _ _ _ _ _ _ _ hf
      · replace hf := hf.1 c2
        refine hv_iload_n hX dX14_lays_24 rfl 2 rfl ?_
        refine hv_goto (tgt := 29) hX dX14_lays_25 (by decide) ?_
        exact w_lays_j29 hX hN hE ih _ _ _ _ _ _ _ hf
def m_lays (a1 : Int32) (a2 : Int32) (I : mI) (J : mJ) (Q : mI → mJ → Prop) : Prop :=
  ∃ n0 : Nat, m_lays_l2 Q  n0 a1 a2 0 I J
theorem ct_lays (a1 : Int32) (a2 : Int32) (I : mI) (J : mJ) (Q : mI → mJ → Prop) (hf : m_lays a1 a2 I J Q) : hh_Ct yX14_lays cX14_lays 4 none 0 0 [.ref 0, .int a1, .int a2] (hm I J) (mQv Q) 0 0 := by
  refine hh_Ct.of (own := RX14) rfl (by decide +kernel) (Nat.le_of_ble_eq_true rfl) ?_
  intro X hX hN hE
  show hh_V X 0 [(0, .ref 0), (1, .int a1), (2, .int a2)] [] 0 0 (hm I J)
  unfold m_lays at hf
  refine hv_iconst (v := 0) hX ic_0 dX14_lays_0 ?_
  refine hv_istore_n (loc2 := [(3, .int 0), (0, .ref 0), (1, .int a1), (2, .int a2)]) hX dX14_lays_1 rfl hN (Nat.le_of_ble_eq_true rfl) rfl ?_
  refine hv_fewer [1, 2, 3, 0] (loc2 := [(0, .ref 0), (1, .int a1), (2, .int a2), (3, .int 0)]) rfl ?_
  obtain ⟨n0, hf⟩ := hf
  exact w_lays_l2 hX hN hE  n0 _ _ _ _ _ hf
theorem np_lays : yX14_lays.cls = RX14 ∧ yX14_lays.cls ≠ "java/lang/invoke/MethodHandle" ∧ yX14_lays.cls ≠ "java/lang/invoke/VarHandle" ∧ (parseMethodDescriptor yX14_lays.desc).map (fun d => d.parameters.length) = some 2 := by decide +kernel
theorem gd_lays {idx : Nat} (h : Cond.methodLink RX14 idx yX14_lays ∈ lw_all) : GoodIn lw_all (wsV RX14 idx RX14 yX14_lays (ws_ yX14_lays cX14_lays 4 none)) := lw_V h q2116 qs67 q123 q2117
/-! isContent(II)Z -/
def m_isContent_j72 (Q : Int32 → mI → mJ → Prop) (k5 : Int32 → Int32 → Int32 → Int32 → mI → mJ → Prop) (a1 : Int32) (a2 : Int32) (a4 : Int32) (s0 : Int32) (I : mI) (J : mJ) : Prop :=
  k5 a1 a2 s0 (a4 + 1) I J
theorem w_isContent_j72 {X : hh_CX} {Q : Int32 → mI → mJ → Prop} (hX : hh_C X cX14_isContent RX14 (hrm 0 0)) (hN : hh_nL X = 5) (hE : hh_E X (some .boolean) (mQi Q) 0 0) {k5 : Int32 → Int32 → Int32 → Int32 → mI → mJ → Prop} (hk5 : ∀ (b0 : Int32) (b1 : Int32) (b2 : Int32) (b3 : Int32) (I : mI) (J : mJ), k5 b0 b1 b2 b3 I J → hh_V X 5 [(0, .ref 0), (1, .int b0), (2, .int b1), (3, .int b2), (4, .int b3)] [] 0 0 (hm I J)) : ∀ (a1 : Int32) (a2 : Int32) (a4 : Int32) (s0 : Int32) (I : mI) (J : mJ), m_isContent_j72 Q k5 a1 a2 a4 s0 I J → hh_V X 72 [(0, .ref 0), (1, .int a1), (2, .int a2), (4, .int a4)] [.int s0] 0 0 (hm I J) := by
  intro a1 a2 a4 s0 I J hf
  unfold m_isContent_j72 at hf
  refine hv_istore_n (loc2 := [(3, .int s0), (0, .ref 0), (1, .int a1), (2, .int a2), (4, .int a4)]) hX dX14_isContent_72 rfl hN (Nat.le_of_ble_eq_true rfl) rfl ?_
  refine hv_iinc (v := (a4 + 1)) (loc2 := [(4, .int (a4 + 1)), (3, .int s0), (0, .ref 0), (1, .int a1), (2, .int a2)]) hX dX14_isContent_73 4 rfl (congrArg (fun y => a4 + y) ic_1) hN (Nat.le_of_ble_eq_true rfl) rfl ?_
  refine hv_goto (tgt := 5) hX dX14_isContent_76 (by decide) ?_
  refine hv_fewer [2, 3, 4, 1, 0] (loc2 := [(0, .ref 0), (1, .int a1), (2, .int a2), (3, .int s0), (4, .int (a4 + 1))]) rfl ?_
  exact hk5 _ _ _ _ _ _ hf
def m_isContent_j71 (Q : Int32 → mI → mJ → Prop) (k5 : Int32 → Int32 → Int32 → Int32 → mI → mJ → Prop) (a1 : Int32) (a2 : Int32) (a4 : Int32) (I : mI) (J : mJ) : Prop :=
  m_isContent_j72 Q k5 a1 a2 a4 0 I J
theorem w_isContent_j71 {X : hh_CX} {Q : Int32 → mI → mJ → Prop} (hX : hh_C X cX14_isContent RX14 (hrm 0 0)) (hN : hh_nL X = 5) (hE : hh_E X (some .boolean) (mQi Q) 0 0) {k5 : Int32 → Int32 → Int32 → Int32 → mI → mJ → Prop} (hk5 : ∀ (b0 : Int32) (b1 : Int32) (b2 : Int32) (b3 : Int32) (I : mI) (J : mJ), k5 b0 b1 b2 b3 I J → hh_V X 5 [(0, .ref 0), (1, .int b0), (2, .int b1), (3, .int b2), (4, .int b3)] [] 0 0 (hm I J)) : ∀ (a1 : Int32) (a2 : Int32) (a4 : Int32) (I : mI) (J : mJ), m_isContent_j71 Q k5 a1 a2 a4 I J → hh_V X 71 [(0, .ref 0), (1, .int a1), (2, .int a2), (4, .int a4)] [] 0 0 (hm I J) := by
  intro a1 a2 a4 I J hf
  unfold m_isContent_j71 at hf
  refine hv_iconst (v := 0) hX ic_0 dX14_isContent_71 ?_
  exact w_isContent_j72 hX hN hE hk5 _ _ _ _ _ _ hf
def m_isContent_j67 (Q : Int32 → mI → mJ → Prop) (k5 : Int32 → Int32 → Int32 → Int32 → mI → mJ → Prop) (a1 : Int32) (a2 : Int32) (a4 : Int32) (I : mI) (J : mJ) : Prop :=
  m_isContent_j72 Q k5 a1 a2 a4 1 I J
theorem w_isContent_j67 {X : hh_CX} {Q : Int32 → mI → mJ → Prop} (hX : hh_C X cX14_isContent RX14 (hrm 0 0)) (hN : hh_nL X = 5) (hE : hh_E X (some .boolean) (mQi Q) 0 0) {k5 : Int32 → Int32 → Int32 → Int32 → mI → mJ → Prop} (hk5 : ∀ (b0 : Int32) (b1 : Int32) (b2 : Int32) (b3 : Int32) (I : mI) (J : mJ), k5 b0 b1 b2 b3 I J → hh_V X 5 [(0, .ref 0), (1, .int b0), (2, .int b1), (3, .int b2), (4, .int b3)] [] 0 0 (hm I J)) : ∀ (a1 : Int32) (a2 : Int32) (a4 : Int32) (I : mI) (J : mJ), m_isContent_j67 Q k5 a1 a2 a4 I J → hh_V X 67 [(0, .ref 0), (1, .int a1), (2, .int a2), (4, .int a4)] [] 0 0 (hm I J) := by
  intro a1 a2 a4 I J hf
  unfold m_isContent_j67 at hf
  refine hv_iconst (v := 1) hX ic_1 dX14_isContent_67 ?_
  refine hv_goto (tgt := 72) hX dX14_isContent_68 (by decide) ?_
  exact w_isContent_j72 hX hN hE hk5 _ _ _ _ _ _ hf
def m_isContent_l5 (Q : Int32 → mI → mJ → Prop) : Nat → Int32 → Int32 → Int32 → Int32 → mI → mJ → Prop
  | 0, _, _, _, _, _, _ => False
  | n + 1, a1, a2, a3, a4, I, J =>
    ((I 0 8) ≤ a4 →
      (a3 = 0 ∨ a3 = 1) ∧ (Q a3 I J)) ∧ (¬ (I 0 8) ≤ a4 →
      (a3 = 0 →
        m_isContent_j71 Q (fun b0 b1 b2 b3 I J => m_isContent_l5 Q n b0 b1 b2 b3 I J) a1 a2 a4 I J) ∧ (¬ a3 = 0 →
        (a4 = a1 →
          m_isContent_j67 Q (fun b0 b1 b2 b3 I J => m_isContent_l5 Q n b0 b1 b2 b3 I J) a1 a2 a4 I J) ∧ (¬ a4 = a1 →
          vp_in ((11 * a4) + 3) 44 ∧ (vp_in a1 4 ∧ (vp_in ((11 * a1) + 3) 44 ∧ (vp_in a4 4 ∧ ((((I 1 ((11 * a1) + 3).toNatClampNeg) * ((I 18 a4.toNatClampNeg) + a2)) < ((I 1 ((11 * a4) + 3).toNatClampNeg) * (I 18 a1.toNatClampNeg)) →
            m_isContent_j71 Q (fun b0 b1 b2 b3 I J => m_isContent_l5 Q n b0 b1 b2 b3 I J) a1 a2 a4 I J) ∧ (¬ ((I 1 ((11 * a1) + 3).toNatClampNeg) * ((I 18 a4.toNatClampNeg) + a2)) < ((I 1 ((11 * a4) + 3).toNatClampNeg) * (I 18 a1.toNatClampNeg)) →
            m_isContent_j67 Q (fun b0 b1 b2 b3 I J => m_isContent_l5 Q n b0 b1 b2 b3 I J) a1 a2 a4 I J))))))))
theorem w_isContent_l5 {X : hh_CX} {Q : Int32 → mI → mJ → Prop} (hX : hh_C X cX14_isContent RX14 (hrm 0 0)) (hN : hh_nL X = 5) (hE : hh_E X (some .boolean) (mQi Q) 0 0) : ∀ (n : Nat) (a1 : Int32) (a2 : Int32) (a3 : Int32) (a4 : Int32) (I : mI) (J : mJ), m_isContent_l5 Q  n a1 a2 a3 a4 I J → hh_V X 5 [(0, .ref 0), (1, .int a1), (2, .int a2), (3, .int a3), (4, .int a4)] [] 0 0 (hm I J) := by
  intro n
  induction n with
  | zero => intro _ _ _ _ _ _ hf; exact hf.elim
  | succ n ih =>
    intro a1 a2 a3 a4 I J hf
    unfold m_isContent_l5 at hf
    refine hv_iload hX dX14_isContent_5 4 rfl ?_
    refine hv_aload_n hX dX14_isContent_7 rfl 0 rfl ?_
    refine hm_getI (v := (I 0 8)) hX dX14_isContent_8 mfl130 (.inl rfl) rfl ?_
    refine hv_icmp_ge (tgt := 79) hX dX14_isContent_11 (by decide) (fun c1 => ?_) (fun c1 => ?_)
    · replace hf := hf.1 c1
      refine hv_iload_n hX dX14_isContent_79 rfl 3 rfl ?_
      obtain ⟨g, hf⟩ := hf
      exact hm_zret hX hE dX14_isContent_80 g hf
    · replace hf := hf.2 c1
      refine hv_iload_n hX dX14_isContent_14 rfl 3 rfl ?_
      refine hv_if_eq (tgt := 71) hX dX14_isContent_15 (by decide) (fun c2 => ?_) (fun c2 => ?_)
      · replace hf := hf.1 c2
        refine hv_fewer [0, 1, 2, 4] (loc2 := [(0, .ref 0), (1, .int a1), (2, .int a2), (4, .int a4)]) rfl ?_
        exact w_isContent_j71 hX hN hE ih _ _ _ _ _ hf
      · replace hf := hf.2 c2
        refine hv_iload hX dX14_isContent_18 4 rfl ?_
        refine hv_iload_n hX dX14_isContent_20 rfl 1 rfl ?_
        refine hv_icmp_eq (tgt := 67) hX dX14_isContent_21 (by decide) (fun c3 => ?_) (fun c3 => ?_)
        · replace hf := hf.1 c3
          refine hv_fewer [0, 1, 2, 4] (loc2 := [(0, .ref 0), (1, .int a1), (2, .int a2), (4, .int a4)]) rfl ?_
          exact w_isContent_j67 hX hN hE ih _ _ _ _ _ hf
        · replace hf := hf.2 c3
          refine hv_aload_n hX dX14_isContent_24 rfl 0 rfl ?_
          refine hm_getR hX dX14_isContent_25 mfl19 1 rfl ?_
          refine hv_bipush (v := 11) hX bi_11 dX14_isContent_28 ?_
          refine hv_iload hX dX14_isContent_30 4 rfl ?_
          refine hv_imul hX dX14_isContent_32 ?_
          refine hv_iconst (v := 3) hX ic_3 dX14_isContent_33 ?_
          refine hv_iadd hX dX14_isContent_34 ?_
          obtain ⟨g, hf⟩ := hf
          refine hm_iald (v := (I 1 ((11 * a4) + 3).toNatClampNeg)) hX dX14_isContent_35 (by decide) rfl rfl g rfl ?_
          refine hv_aload_n hX dX14_isContent_36 rfl 0 rfl ?_
          refine hm_getR hX dX14_isContent_37 mfl79 18 rfl ?_
          refine hv_iload_n hX dX14_isContent_40 rfl 1 rfl ?_
          obtain ⟨g, hf⟩ := hf
          refine hm_iald (v := (I 18 a1.toNatClampNeg)) hX dX14_isContent_41 (by decide) rfl rfl g rfl ?_
          refine hv_imul hX dX14_isContent_42 ?_
          refine hv_aload_n hX dX14_isContent_43 rfl 0 rfl ?_
          refine hm_getR hX dX14_isContent_44 mfl19 1 rfl ?_
          refine hv_bipush (v := 11) hX bi_11 dX14_isContent_47 ?_
          refine hv_iload_n hX dX14_isContent_49 rfl 1 rfl ?_
          refine hv_imul hX dX14_isContent_50 ?_
          refine hv_iconst (v := 3) hX ic_3 dX14_isContent_51 ?_
          refine hv_iadd hX dX14_isContent_52 ?_
          obtain ⟨g, hf⟩ := hf
          refine hm_iald (v := (I 1 ((11 * a1) + 3).toNatClampNeg)) hX dX14_isContent_53 (by decide) rfl rfl g rfl ?_
          refine hv_aload_n hX dX14_isContent_54 rfl 0 rfl ?_
          refine hm_getR hX dX14_isContent_55 mfl79 18 rfl ?_
          refine hv_iload hX dX14_isContent_58 4 rfl ?_
          obtain ⟨g, hf⟩ := hf
          refine hm_iald (v := (I 18 a4.toNatClampNeg)) hX dX14_isContent_60 (by decide) rfl rfl g rfl ?_
          refine hv_iload_n hX dX14_isContent_61 rfl 2 rfl ?_
          refine hv_iadd hX dX14_isContent_62 ?_
          refine hv_imul hX dX14_isContent_63 ?_
          refine hv_icmp_gt (tgt := 71) hX dX14_isContent_64 (by decide) (fun c4 => ?_) (fun c4 => ?_)
          · replace hf := hf.1 c4
            refine hv_fewer [0, 1, 2, 4] (loc2 := [(0, .ref 0), (1, .int a1), (2, .int a2), (4, .int a4)]) rfl ?_
            exact w_isContent_j71 hX hN hE ih _ _ _ _ _ hf
          · replace hf := hf.2 c4
            refine hv_fewer [0, 1, 2, 4] (loc2 := [(0, .ref 0), (1, .int a1), (2, .int a2), (4, .int a4)]) rfl ?_
            exact w_isContent_j67 hX hN hE ih _ _ _ _ _ hf
def m_isContent (a1 : Int32) (a2 : Int32) (I : mI) (J : mJ) (Q : Int32 → mI → mJ → Prop) : Prop :=
  ∃ n0 : Nat, m_isContent_l5 Q  n0 a1 a2 1 0 I J
theorem ct_isContent (a1 : Int32) (a2 : Int32) (I : mI) (J : mJ) (Q : Int32 → mI → mJ → Prop) (hf : m_isContent a1 a2 I J Q) : hh_Ct yX14_isContent cX14_isContent 5 (some .boolean) 0 0 [.ref 0, .int a1, .int a2] (hm I J) (mQi Q) 0 0 := by
  refine hh_Ct.of (own := RX14) rfl (by decide +kernel) (Nat.le_of_ble_eq_true rfl) ?_
  intro X hX hN hE
  show hh_V X 0 [(0, .ref 0), (1, .int a1), (2, .int a2)] [] 0 0 (hm I J)
  unfold m_isContent at hf
  refine hv_iconst (v := 1) hX ic_1 dX14_isContent_0 ?_
  refine hv_istore_n (loc2 := [(3, .int 1), (0, .ref 0), (1, .int a1), (2, .int a2)]) hX dX14_isContent_1 rfl hN (Nat.le_of_ble_eq_true rfl) rfl ?_
  refine hv_iconst (v := 0) hX ic_0 dX14_isContent_2 ?_
  refine hv_istore (loc2 := [(4, .int 0), (3, .int 1), (0, .ref 0), (1, .int a1), (2, .int a2)]) hX dX14_isContent_3 hN (Nat.le_of_ble_eq_true rfl) rfl ?_
  refine hv_fewer [2, 3, 4, 1, 0] (loc2 := [(0, .ref 0), (1, .int a1), (2, .int a2), (3, .int 1), (4, .int 0)]) rfl ?_
  obtain ⟨n0, hf⟩ := hf
  exact w_isContent_l5 hX hN hE  n0 _ _ _ _ _ _ hf
theorem np_isContent : yX14_isContent.cls = RX14 ∧ yX14_isContent.cls ≠ "java/lang/invoke/MethodHandle" ∧ yX14_isContent.cls ≠ "java/lang/invoke/VarHandle" ∧ (parseMethodDescriptor yX14_isContent.desc).map (fun d => d.parameters.length) = some 2 := by decide +kernel
theorem gd_isContent {idx : Nat} (h : Cond.methodLink RX14 idx yX14_isContent ∈ lw_all) : GoodIn lw_all (wsV RX14 idx RX14 yX14_isContent (ws_ yX14_isContent cX14_isContent 5 (some .boolean))) := lw_V h q2124 qs69 q123 q2125
/-! isRest()Z -/
def m_isRest_j101 (Q : Int32 → mI → mJ → Prop) (k43 : Int32 → Int32 → mI → mJ → Prop) (a2 : Int32) (s0 : Int32) (I : mI) (J : mJ) : Prop :=
  k43 s0 (a2 + 1) I J
theorem w_isRest_j101 {X : hh_CX} {Q : Int32 → mI → mJ → Prop} (hX : hh_C X cX14_isRest RX14 (hrm 1 24)) (hN : hh_nL X = 3) (hE : hh_E X (some .boolean) (mQi Q) 0 0) {k43 : Int32 → Int32 → mI → mJ → Prop} (hk43 : ∀ (b0 : Int32) (b1 : Int32) (I : mI) (J : mJ), k43 b0 b1 I J → hh_V X 43 [(0, .ref 0), (1, .int b0), (2, .int b1)] [] 0 0 (hm I J)) : ∀ (a2 : Int32) (s0 : Int32) (I : mI) (J : mJ), m_isRest_j101 Q k43 a2 s0 I J → hh_V X 101 [(0, .ref 0), (2, .int a2)] [.int s0] 0 0 (hm I J) := by
  intro a2 s0 I J hf
  unfold m_isRest_j101 at hf
  refine hv_istore_n (loc2 := [(1, .int s0), (0, .ref 0), (2, .int a2)]) hX dX14_isRest_101 rfl hN (Nat.le_of_ble_eq_true rfl) rfl ?_
  refine hv_iinc (v := (a2 + 1)) (loc2 := [(2, .int (a2 + 1)), (1, .int s0), (0, .ref 0)]) hX dX14_isRest_102 2 rfl (congrArg (fun y => a2 + y) ic_1) hN (Nat.le_of_ble_eq_true rfl) rfl ?_
  refine hv_goto (tgt := 43) hX dX14_isRest_105 (by decide) ?_
  refine hv_fewer [2, 1, 0] (loc2 := [(0, .ref 0), (1, .int s0), (2, .int (a2 + 1))]) rfl ?_
  exact hk43 _ _ _ _ hf
def m_isRest_j100 (Q : Int32 → mI → mJ → Prop) (k43 : Int32 → Int32 → mI → mJ → Prop) (a2 : Int32) (I : mI) (J : mJ) : Prop :=
  m_isRest_j101 Q k43 a2 0 I J
theorem w_isRest_j100 {X : hh_CX} {Q : Int32 → mI → mJ → Prop} (hX : hh_C X cX14_isRest RX14 (hrm 1 24)) (hN : hh_nL X = 3) (hE : hh_E X (some .boolean) (mQi Q) 0 0) {k43 : Int32 → Int32 → mI → mJ → Prop} (hk43 : ∀ (b0 : Int32) (b1 : Int32) (I : mI) (J : mJ), k43 b0 b1 I J → hh_V X 43 [(0, .ref 0), (1, .int b0), (2, .int b1)] [] 0 0 (hm I J)) : ∀ (a2 : Int32) (I : mI) (J : mJ), m_isRest_j100 Q k43 a2 I J → hh_V X 100 [(0, .ref 0), (2, .int a2)] [] 0 0 (hm I J) := by
  intro a2 I J hf
  unfold m_isRest_j100 at hf
  refine hv_iconst (v := 0) hX ic_0 dX14_isRest_100 ?_
  exact w_isRest_j101 hX hN hE hk43 _ _ _ _ hf
def m_isRest_j96 (Q : Int32 → mI → mJ → Prop) (k43 : Int32 → Int32 → mI → mJ → Prop) (a2 : Int32) (I : mI) (J : mJ) : Prop :=
  m_isRest_j101 Q k43 a2 1 I J
theorem w_isRest_j96 {X : hh_CX} {Q : Int32 → mI → mJ → Prop} (hX : hh_C X cX14_isRest RX14 (hrm 1 24)) (hN : hh_nL X = 3) (hE : hh_E X (some .boolean) (mQi Q) 0 0) {k43 : Int32 → Int32 → mI → mJ → Prop} (hk43 : ∀ (b0 : Int32) (b1 : Int32) (I : mI) (J : mJ), k43 b0 b1 I J → hh_V X 43 [(0, .ref 0), (1, .int b0), (2, .int b1)] [] 0 0 (hm I J)) : ∀ (a2 : Int32) (I : mI) (J : mJ), m_isRest_j96 Q k43 a2 I J → hh_V X 96 [(0, .ref 0), (2, .int a2)] [] 0 0 (hm I J) := by
  intro a2 I J hf
  unfold m_isRest_j96 at hf
  refine hv_iconst (v := 1) hX ic_1 dX14_isRest_96 ?_
  refine hv_goto (tgt := 101) hX dX14_isRest_97 (by decide) ?_
  exact w_isRest_j101 hX hN hE hk43 _ _ _ _ hf
def m_isRest_j76 (Q : Int32 → mI → mJ → Prop) (k43 : Int32 → Int32 → mI → mJ → Prop) (a2 : Int32) (I : mI) (J : mJ) : Prop :=
  vp_in (4 + a2) 8 ∧ (((I 17 (4 + a2).toNatClampNeg) = 0 →
    m_isRest_j96 Q k43 a2 I J) ∧ (¬ (I 17 (4 + a2).toNatClampNeg) = 0 →
    m_isContent a2 1 I J (fun r6 I7 J8 => (r6 = 0 →
      m_isRest_j100 Q k43 a2 I7 J8) ∧ (¬ r6 = 0 →
      m_isRest_j96 Q k43 a2 I7 J8))))
theorem w_isRest_j76 {X : hh_CX} {Q : Int32 → mI → mJ → Prop} (hX : hh_C X cX14_isRest RX14 (hrm 1 24)) (hN : hh_nL X = 3) (hE : hh_E X (some .boolean) (mQi Q) 0 0) {k43 : Int32 → Int32 → mI → mJ → Prop} (hk43 : ∀ (b0 : Int32) (b1 : Int32) (I : mI) (J : mJ), k43 b0 b1 I J → hh_V X 43 [(0, .ref 0), (1, .int b0), (2, .int b1)] [] 0 0 (hm I J)) : ∀ (a2 : Int32) (I : mI) (J : mJ), m_isRest_j76 Q k43 a2 I J → hh_V X 76 [(0, .ref 0), (2, .int a2)] [] 0 0 (hm I J) := by
  intro a2 I J hf
  unfold m_isRest_j76 at hf
  refine hv_aload_n hX dX14_isRest_76 rfl 0 rfl ?_
  refine hm_getR hX dX14_isRest_77 mfl76 17 rfl ?_
  refine hv_iconst (v := 4) hX ic_4 dX14_isRest_80 ?_
  refine hv_iload_n hX dX14_isRest_81 rfl 1 rfl ?_
  refine hv_iadd hX dX14_isRest_82 ?_
  obtain ⟨g, hf⟩ := hf
  refine hm_iald (v := (I 17 (4 + a2).toNatClampNeg)) hX dX14_isRest_83 (by decide) rfl rfl g rfl ?_
  refine hv_if_eq (tgt := 96) hX dX14_isRest_84 (by decide) (fun c5 => ?_) (fun c5 => ?_)
  · replace hf := hf.1 c5
    exact w_isRest_j96 hX hN hE hk43 _ _ _ hf
  · replace hf := hf.2 c5
    refine hv_aload_n hX dX14_isRest_87 rfl 0 rfl ?_
    refine hv_iload_n hX dX14_isRest_88 rfl 1 rfl ?_
    refine hv_iconst (v := 1) hX ic_1 dX14_isRest_89 ?_
    refine hm_callVi hX dX14_isRest_90 (ct_isContent a2 1 I J _ hf) (gd_isContent q2122) np_isContent rfl rfl ⟨Nat.le_of_ble_eq_true rfl, Nat.le_of_ble_eq_true rfl⟩ ⟨Nat.le_refl _, Nat.le_refl _⟩ (Nat.le_of_ble_eq_true rfl) ?_
    intro r6 I7 J8 hf
    refine hv_if_eq (tgt := 100) hX dX14_isRest_93 (by decide) (fun c9 => ?_) (fun c9 => ?_)
    · replace hf := hf.1 c9
      exact w_isRest_j100 hX hN hE hk43 _ _ _ hf
    · replace hf := hf.2 c9
      exact w_isRest_j96 hX hN hE hk43 _ _ _ hf
def m_isRest_l43 (Q : Int32 → mI → mJ → Prop) : Nat → Int32 → Int32 → mI → mJ → Prop
  | 0, _, _, _, _ => False
  | n + 1, a1, a2, I, J =>
    ((I 0 8) ≤ a2 →
      (a1 = 0 ∨ a1 = 1) ∧ (Q a1 I J)) ∧ (¬ (I 0 8) ≤ a2 →
      (a1 = 0 →
        m_isRest_j100 Q (fun b0 b1 I J => m_isRest_l43 Q n b0 b1 I J) a2 I J) ∧ (¬ a1 = 0 →
        vp_in a2 8 ∧ (((I 17 a2.toNatClampNeg) = 0 →
          m_isRest_j76 Q (fun b0 b1 I J => m_isRest_l43 Q n b0 b1 I J) a2 I J) ∧ (¬ (I 17 a2.toNatClampNeg) = 0 →
          m_isContent a2 (I 0 5) I J (fun r10 I11 J12 => (r10 = 0 →
            m_isRest_j100 Q (fun b0 b1 I J => m_isRest_l43 Q n b0 b1 I J) a2 I11 J12) ∧ (¬ r10 = 0 →
            m_isRest_j76 Q (fun b0 b1 I J => m_isRest_l43 Q n b0 b1 I J) a2 I11 J12))))))
theorem w_isRest_l43 {X : hh_CX} {Q : Int32 → mI → mJ → Prop} (hX : hh_C X cX14_isRest RX14 (hrm 1 24)) (hN : hh_nL X = 3) (hE : hh_E X (some .boolean) (mQi Q) 0 0) : ∀ (n : Nat) (a1 : Int32) (a2 : Int32) (I : mI) (J : mJ), m_isRest_l43 Q  n a1 a2 I J → hh_V X 43 [(0, .ref 0), (1, .int a1), (2, .int a2)] [] 0 0 (hm I J) := by
  intro n
  induction n with
  | zero => intro _ _ _ _ hf; exact hf.elim
  | succ n ih =>
    intro a1 a2 I J hf
    unfold m_isRest_l43 at hf
    refine hv_iload_n hX dX14_isRest_43 rfl 2 rfl ?_
    refine hv_aload_n hX dX14_isRest_44 rfl 0 rfl ?_
    refine hm_getI (v := (I 0 8)) hX dX14_isRest_45 mfl130 (.inl rfl) rfl ?_
    refine hv_icmp_ge (tgt := 108) hX dX14_isRest_48 (by decide) (fun c2 => ?_) (fun c2 => ?_)
    · replace hf := hf.1 c2
      refine hv_iload_n hX dX14_isRest_108 rfl 1 rfl ?_
      obtain ⟨g, hf⟩ := hf
      exact hm_zret hX hE dX14_isRest_109 g hf
    · replace hf := hf.2 c2
      refine hv_iload_n hX dX14_isRest_51 rfl 1 rfl ?_
      refine hv_if_eq (tgt := 100) hX dX14_isRest_52 (by decide) (fun c3 => ?_) (fun c3 => ?_)
      · replace hf := hf.1 c3
        refine hv_fewer [0, 2] (loc2 := [(0, .ref 0), (2, .int a2)]) rfl ?_
        exact w_isRest_j100 hX hN hE ih _ _ _ hf
      · replace hf := hf.2 c3
        refine hv_aload_n hX dX14_isRest_55 rfl 0 rfl ?_
        refine hm_getR hX dX14_isRest_56 mfl76 17 rfl ?_
        refine hv_iload_n hX dX14_isRest_59 rfl 2 rfl ?_
        obtain ⟨g, hf⟩ := hf
        refine hm_iald (v := (I 17 a2.toNatClampNeg)) hX dX14_isRest_60 (by decide) rfl rfl g rfl ?_
        refine hv_if_eq (tgt := 76) hX dX14_isRest_61 (by decide) (fun c4 => ?_) (fun c4 => ?_)
        · replace hf := hf.1 c4
          refine hv_fewer [0, 2] (loc2 := [(0, .ref 0), (2, .int a2)]) rfl ?_
          exact w_isRest_j76 hX hN hE ih _ _ _ hf
        · replace hf := hf.2 c4
          refine hv_aload_n hX dX14_isRest_64 rfl 0 rfl ?_
          refine hv_iload_n hX dX14_isRest_65 rfl 2 rfl ?_
          refine hv_aload_n hX dX14_isRest_66 rfl 0 rfl ?_
          refine hm_getI (v := (I 0 5)) hX dX14_isRest_67 mfl16 (.inl rfl) rfl ?_
          refine hm_callVi hX dX14_isRest_70 (ct_isContent a2 (I 0 5) I J _ hf) (gd_isContent q2122) np_isContent rfl rfl ⟨Nat.le_of_ble_eq_true rfl, Nat.le_of_ble_eq_true rfl⟩ ⟨Nat.le_refl _, Nat.le_refl _⟩ (Nat.le_of_ble_eq_true rfl) ?_
          intro r10 I11 J12 hf
          refine hv_if_eq (tgt := 100) hX dX14_isRest_73 (by decide) (fun c13 => ?_) (fun c13 => ?_)
          · replace hf := hf.1 c13
            refine hv_fewer [0, 2] (loc2 := [(0, .ref 0), (2, .int a2)]) rfl ?_
            exact w_isRest_j100 hX hN hE ih _ _ _ hf
          · replace hf := hf.2 c13
            refine hv_fewer [0, 2] (loc2 := [(0, .ref 0), (2, .int a2)]) rfl ?_
            exact w_isRest_j76 hX hN hE ih _ _ _ hf
def m_isRest_l2 (Q : Int32 → mI → mJ → Prop) : Nat → Int32 → mI → mJ → Prop
  | 0, _, _, _ => False
  | n + 1, a1, I, J =>
    ((4 : Int32) ≤ a1 →
      ∃ n0 : Nat, m_isRest_l43 Q  n0 1 0 I J) ∧ (¬ (4 : Int32) ≤ a1 →
      vp_in a1 8 ∧ (vp_in (4 + a1) 8 ∧ (vp_in a1 4 ∧ (m_isRest_l2 Q n (a1 + 1) (u2 I 18 a1.toNatClampNeg (((I 0 5) * (I 17 a1.toNatClampNeg)) + (I 17 (4 + a1).toNatClampNeg))) J))))
theorem w_isRest_l2 {X : hh_CX} {Q : Int32 → mI → mJ → Prop} (hX : hh_C X cX14_isRest RX14 (hrm 1 24)) (hN : hh_nL X = 3) (hE : hh_E X (some .boolean) (mQi Q) 0 0) : ∀ (n : Nat) (a1 : Int32) (I : mI) (J : mJ), m_isRest_l2 Q  n a1 I J → hh_V X 2 [(0, .ref 0), (1, .int a1)] [] 0 0 (hm I J) := by
  intro n
  induction n with
  | zero => intro _ _ _ hf; exact hf.elim
  | succ n ih =>
    intro a1 I J hf
    unfold m_isRest_l2 at hf
    refine hv_iload_n hX dX14_isRest_2 rfl 1 rfl ?_
    refine hv_iconst (v := 4) hX ic_4 dX14_isRest_3 ?_
    refine hv_icmp_ge (tgt := 39) hX dX14_isRest_4 (by decide) (fun c1 => ?_) (fun c1 => ?_)
    · replace hf := hf.1 c1
      refine hv_iconst (v := 1) hX ic_1 dX14_isRest_39 ?_
      refine hv_istore_n (loc2 := [(1, .int 1), (0, .ref 0)]) hX dX14_isRest_40 rfl hN (Nat.le_of_ble_eq_true rfl) rfl ?_
      refine hv_iconst (v := 0) hX ic_0 dX14_isRest_41 ?_
      refine hv_istore_n (loc2 := [(2, .int 0), (1, .int 1), (0, .ref 0)]) hX dX14_isRest_42 rfl hN (Nat.le_of_ble_eq_true rfl) rfl ?_
      refine hv_fewer [2, 1, 0] (loc2 := [(0, .ref 0), (1, .int 1), (2, .int 0)]) rfl ?_
      obtain ⟨n0, hf⟩ := hf
      exact w_isRest_l43 hX hN hE  n0 _ _ _ _ hf
    · replace hf := hf.2 c1
      refine hv_aload_n hX dX14_isRest_7 rfl 0 rfl ?_
      refine hm_getR hX dX14_isRest_8 mfl79 18 rfl ?_
      refine hv_iload_n hX dX14_isRest_11 rfl 1 rfl ?_
      refine hv_aload_n hX dX14_isRest_12 rfl 0 rfl ?_
      refine hm_getI (v := (I 0 5)) hX dX14_isRest_13 mfl16 (.inl rfl) rfl ?_
      refine hv_aload_n hX dX14_isRest_16 rfl 0 rfl ?_
      refine hm_getR hX dX14_isRest_17 mfl76 17 rfl ?_
      refine hv_iload_n hX dX14_isRest_20 rfl 1 rfl ?_
      obtain ⟨g, hf⟩ := hf
      refine hm_iald (v := (I 17 a1.toNatClampNeg)) hX dX14_isRest_21 (by decide) rfl rfl g rfl ?_
      refine hv_imul hX dX14_isRest_22 ?_
      refine hv_aload_n hX dX14_isRest_23 rfl 0 rfl ?_
      refine hm_getR hX dX14_isRest_24 mfl76 17 rfl ?_
      refine hv_iconst (v := 4) hX ic_4 dX14_isRest_27 ?_
      refine hv_iload_n hX dX14_isRest_28 rfl 1 rfl ?_
      refine hv_iadd hX dX14_isRest_29 ?_
      obtain ⟨g, hf⟩ := hf
      refine hm_iald (v := (I 17 (4 + a1).toNatClampNeg)) hX dX14_isRest_30 (by decide) rfl rfl g rfl ?_
      refine hv_iadd hX dX14_isRest_31 ?_
      obtain ⟨g, hf⟩ := hf
      refine hm_iast hX dX14_isRest_32 (by decide) rfl rfl g ?_
      refine hv_iinc (v := (a1 + 1)) (loc2 := [(1, .int (a1 + 1)), (0, .ref 0)]) hX dX14_isRest_33 1 rfl (congrArg (fun y => a1 + y) ic_1) hN (Nat.le_of_ble_eq_true rfl) rfl ?_
      refine hv_goto (tgt := 2) hX dX14_isRest_36 (by decide) ?_
      refine hv_fewer [1, 0] (loc2 := [(0, .ref 0), (1, .int (a1 + 1))]) rfl ?_
      exact ih _ _ _ hf
def m_isRest  (I : mI) (J : mJ) (Q : Int32 → mI → mJ → Prop) : Prop :=
  ∃ n0 : Nat, m_isRest_l2 Q  n0 0 I J
theorem ct_isRest  (I : mI) (J : mJ) (Q : Int32 → mI → mJ → Prop) (hf : m_isRest  I J Q) : hh_Ct yX14_isRest cX14_isRest 3 (some .boolean) 1 24 [.ref 0] (hm I J) (mQi Q) 0 0 := by
  refine hh_Ct.of (own := RX14) rfl (by decide +kernel) (Nat.le_of_ble_eq_true rfl) ?_
  intro X hX hN hE
  show hh_V X 0 [(0, .ref 0)] [] 0 0 (hm I J)
  unfold m_isRest at hf
  refine hv_iconst (v := 0) hX ic_0 dX14_isRest_0 ?_
  refine hv_istore_n (loc2 := [(1, .int 0), (0, .ref 0)]) hX dX14_isRest_1 rfl hN (Nat.le_of_ble_eq_true rfl) rfl ?_
  refine hv_fewer [1, 0] (loc2 := [(0, .ref 0), (1, .int 0)]) rfl ?_
  obtain ⟨n0, hf⟩ := hf
  exact w_isRest_l2 hX hN hE  n0 _ _ _ hf
theorem np_isRest : yX14_isRest.cls = RX14 ∧ yX14_isRest.cls ≠ "java/lang/invoke/MethodHandle" ∧ yX14_isRest.cls ≠ "java/lang/invoke/VarHandle" ∧ (parseMethodDescriptor yX14_isRest.desc).map (fun d => d.parameters.length) = some 0 := by decide +kernel
theorem gd_isRest {idx : Nat} (h : Cond.methodLink RX14 idx yX14_isRest ∈ lw_all) : GoodIn lw_all (wsV RX14 idx RX14 yX14_isRest (ws_ yX14_isRest cX14_isRest 3 (some .boolean))) := lw_V h q2120 qs68 q123 q2121
/-! shifts(I)Z -/
def m_shifts_j28 (Q : Int32 → mI → mJ → Prop) (a1 : Int32) (a2 : Int32) (I : mI) (J : mJ) : Prop :=
  ((0 : Int32) < a2 →
    vp_in (a1 + a2) 8 ∧ (∀ v3 : Int32, v3 = ((I 17 (a1 + a2).toNatClampNeg) - 1) → (vp_in (a1 + a2) 8 ∧ (vp_in ((a1 + a2) - 1) 8 ∧ (vp_in ((a1 + a2) - 1) 8 ∧ (vp_in ((a1 + (I 0 8)) - 1) 8 ∧ (∀ I4 : mI, I4 = (u2 (u2 (u2 I 17 (a1 + a2).toNatClampNeg 0) 17 ((a1 + a2) - 1).toNatClampNeg (((u2 I 17 (a1 + a2).toNatClampNeg 0) 17 ((a1 + a2) - 1).toNatClampNeg) + 1)) 17 ((a1 + (I 0 8)) - 1).toNatClampNeg v3) → (Q 1 I4 J)))))))) ∧ (¬ (0 : Int32) < a2 →
    Q 0 I J)
theorem w_shifts_j28 {X : hh_CX} {Q : Int32 → mI → mJ → Prop} (hX : hh_C X cX14_shifts RX14 (hrm 0 0)) (hN : hh_nL X = 4) (hE : hh_E X (some .boolean) (mQi Q) 0 0) : ∀ (a1 : Int32) (a2 : Int32) (I : mI) (J : mJ), m_shifts_j28 Q  a1 a2 I J → hh_V X 28 [(0, .ref 0), (1, .int a1), (2, .int a2)] [] 0 0 (hm I J) := by
  intro a1 a2 I J hf
  unfold m_shifts_j28 at hf
  refine hv_iload_n hX dX14_shifts_28 rfl 2 rfl ?_
  refine hv_if_gt (tgt := 34) hX dX14_shifts_29 (by decide) (fun c2 => ?_) (fun c2 => ?_)
  · replace hf := hf.1 c2
    refine hv_aload_n hX dX14_shifts_34 rfl 0 rfl ?_
    refine hm_getR hX dX14_shifts_35 mfl76 17 rfl ?_
    refine hv_iload_n hX dX14_shifts_38 rfl 1 rfl ?_
    refine hv_iload_n hX dX14_shifts_39 rfl 2 rfl ?_
    refine hv_iadd hX dX14_shifts_40 ?_
    obtain ⟨g, hf⟩ := hf
    refine hm_iald (v := (I 17 (a1 + a2).toNatClampNeg)) hX dX14_shifts_41 (by decide) rfl rfl g rfl ?_
    refine hv_iconst (v := 1) hX ic_1 dX14_shifts_42 ?_
    refine hv_isub hX dX14_shifts_43 ?_
    refine hv_topi (fun v3 ev3 => ?_)
    replace hf := hf v3 ev3
    refine hv_istore_n (loc2 := [(3, .int v3), (0, .ref 0), (1, .int a1), (2, .int a2)]) hX dX14_shifts_44 rfl hN (Nat.le_of_ble_eq_true rfl) rfl ?_
    refine hv_aload_n hX dX14_shifts_45 rfl 1 rfl ?_
    refine hm_getR hX dX14_shifts_46 mfl76 17 rfl ?_
    refine hv_iload_n hX dX14_shifts_49 rfl 2 rfl ?_
    refine hv_iload_n hX dX14_shifts_50 rfl 3 rfl ?_
    refine hv_iadd hX dX14_shifts_51 ?_
    refine hv_iconst (v := 0) hX ic_0 dX14_shifts_52 ?_
    obtain ⟨g, hf⟩ := hf
    refine hm_iast hX dX14_shifts_53 (by decide) rfl rfl g ?_
    refine hv_aload_n hX dX14_shifts_54 rfl 1 rfl ?_
    refine hm_getR hX dX14_shifts_55 mfl76 17 rfl ?_
    refine hv_iload_n hX dX14_shifts_58 rfl 2 rfl ?_
    refine hv_iload_n hX dX14_shifts_59 rfl 3 rfl ?_
    refine hv_iadd hX dX14_shifts_60 ?_
    refine hv_iconst (v := 1) hX ic_1 dX14_shifts_61 ?_
    refine hv_isub hX dX14_shifts_62 ?_
    refine hv_dup2_11 hX rfl rfl dX14_shifts_63 ?_
    obtain ⟨g, hf⟩ := hf
    refine hm_iald (v := ((u2 I 17 (a1 + a2).toNatClampNeg 0) 17 ((a1 + a2) - 1).toNatClampNeg)) hX dX14_shifts_64 (by decide) rfl rfl g rfl ?_
    refine hv_iconst (v := 1) hX ic_1 dX14_shifts_65 ?_
    refine hv_iadd hX dX14_shifts_66 ?_
    obtain ⟨g, hf⟩ := hf
    refine hm_iast hX dX14_shifts_67 (by decide) rfl rfl g ?_
    refine hv_aload_n hX dX14_shifts_68 rfl 1 rfl ?_
    refine hm_getR hX dX14_shifts_69 mfl76 17 rfl ?_
    refine hv_iload_n hX dX14_shifts_72 rfl 2 rfl ?_
    refine hv_aload_n hX dX14_shifts_73 rfl 1 rfl ?_
    refine hm_getI (v := (I 0 8)) hX dX14_shifts_74 mfl130 (.inl rfl) ((u2_ne _ _ (.inl (by decide))) |>.trans (u2_ne _ _ (.inl (by decide)))) ?_
    refine hv_iadd hX dX14_shifts_77 ?_
    refine hv_iconst (v := 1) hX ic_1 dX14_shifts_78 ?_
    refine hv_isub hX dX14_shifts_79 ?_
    refine hv_iload_n hX dX14_shifts_80 rfl 0 rfl ?_
    obtain ⟨g, hf⟩ := hf
    refine hm_iast hX dX14_shifts_81 (by decide) rfl rfl g ?_
    refine hm_nmI (fun I4 eI4 => ?_)
    replace hf := hf I4 eI4
    refine hv_iconst (v := 1) hX ic_1 dX14_shifts_82 ?_
    exact hm_zret hX hE dX14_shifts_83 (by decide) hf
  · replace hf := hf.2 c2
    refine hv_iconst (v := 0) hX ic_0 dX14_shifts_32 ?_
    exact hm_zret hX hE dX14_shifts_33 (by decide) hf
def m_shifts_l7 (Q : Int32 → mI → mJ → Prop) : Nat → Int32 → Int32 → mI → mJ → Prop
  | 0, _, _, _, _ => False
  | n + 1, a1, a2, I, J =>
    (a2 ≤ 0 →
      m_shifts_j28 Q  a1 a2 I J) ∧ (¬ a2 ≤ 0 →
      vp_in (a1 + a2) 8 ∧ (((I 17 (a1 + a2).toNatClampNeg) = 0 →
        m_shifts_l7 Q n a1 (a2 + (-1)) I J) ∧ (¬ (I 17 (a1 + a2).toNatClampNeg) = 0 →
        m_shifts_j28 Q  a1 a2 I J)))
theorem w_shifts_l7 {X : hh_CX} {Q : Int32 → mI → mJ → Prop} (hX : hh_C X cX14_shifts RX14 (hrm 0 0)) (hN : hh_nL X = 4) (hE : hh_E X (some .boolean) (mQi Q) 0 0) : ∀ (n : Nat) (a1 : Int32) (a2 : Int32) (I : mI) (J : mJ), m_shifts_l7 Q  n a1 a2 I J → hh_V X 7 [(0, .ref 0), (1, .int a1), (2, .int a2)] [] 0 0 (hm I J) := by
  intro n
  induction n with
  | zero => intro _ _ _ _ hf; exact hf.elim
  | succ n ih =>
    intro a1 a2 I J hf
    unfold m_shifts_l7 at hf
    refine hv_iload_n hX dX14_shifts_7 rfl 2 rfl ?_
    refine hv_if_le (tgt := 28) hX dX14_shifts_8 (by decide) (fun c1 => ?_) (fun c1 => ?_)
    · replace hf := hf.1 c1
      exact w_shifts_j28 hX hN hE  _ _ _ _ hf
    · replace hf := hf.2 c1
      refine hv_aload_n hX dX14_shifts_11 rfl 0 rfl ?_
      refine hm_getR hX dX14_shifts_12 mfl76 17 rfl ?_
      refine hv_iload_n hX dX14_shifts_15 rfl 1 rfl ?_
      refine hv_iload_n hX dX14_shifts_16 rfl 2 rfl ?_
      refine hv_iadd hX dX14_shifts_17 ?_
      obtain ⟨g, hf⟩ := hf
      refine hm_iald (v := (I 17 (a1 + a2).toNatClampNeg)) hX dX14_shifts_18 (by decide) rfl rfl g rfl ?_
      refine hv_if_ne (tgt := 28) hX dX14_shifts_19 (by decide) (fun c5 => ?_) (fun c5 => ?_)
      · replace hf := hf.2 c5
        exact w_shifts_j28 hX hN hE  _ _ _ _ hf
      · replace hf := hf.1 c5
        refine hv_iinc (v := (a2 + (-1))) (loc2 := [(2, .int (a2 + (-1))), (0, .ref 0), (1, .int a1)]) hX dX14_shifts_22 2 rfl (congrArg (fun y => a2 + y) ic_m1) hN (Nat.le_of_ble_eq_true rfl) rfl ?_
        refine hv_goto (tgt := 7) hX dX14_shifts_25 (by decide) ?_
        refine hv_fewer [1, 2, 0] (loc2 := [(0, .ref 0), (1, .int a1), (2, .int (a2 + (-1)))]) rfl ?_
        exact ih _ _ _ _ hf
def m_shifts (a1 : Int32) (I : mI) (J : mJ) (Q : Int32 → mI → mJ → Prop) : Prop :=
  ∃ n0 : Nat, m_shifts_l7 Q  n0 a1 ((I 0 8) - 1) I J
theorem ct_shifts (a1 : Int32) (I : mI) (J : mJ) (Q : Int32 → mI → mJ → Prop) (hf : m_shifts a1 I J Q) : hh_Ct yX14_shifts cX14_shifts 4 (some .boolean) 0 0 [.ref 0, .int a1] (hm I J) (mQi Q) 0 0 := by
  refine hh_Ct.of (own := RX14) rfl (by decide +kernel) (Nat.le_of_ble_eq_true rfl) ?_
  intro X hX hN hE
  show hh_V X 0 [(0, .ref 0), (1, .int a1)] [] 0 0 (hm I J)
  unfold m_shifts at hf
  refine hv_aload_n hX dX14_shifts_0 rfl 0 rfl ?_
  refine hm_getI (v := (I 0 8)) hX dX14_shifts_1 mfl130 (.inl rfl) rfl ?_
  refine hv_iconst (v := 1) hX ic_1 dX14_shifts_4 ?_
  refine hv_isub hX dX14_shifts_5 ?_
  refine hv_istore_n (loc2 := [(2, .int ((I 0 8) - 1)), (0, .ref 0), (1, .int a1)]) hX dX14_shifts_6 rfl hN (Nat.le_of_ble_eq_true rfl) rfl ?_
  refine hv_fewer [1, 2, 0] (loc2 := [(0, .ref 0), (1, .int a1), (2, .int ((I 0 8) - 1))]) rfl ?_
  obtain ⟨n0, hf⟩ := hf
  exact w_shifts_l7 hX hN hE  n0 _ _ _ _ hf
theorem np_shifts : yX14_shifts.cls = RX14 ∧ yX14_shifts.cls ≠ "java/lang/invoke/MethodHandle" ∧ yX14_shifts.cls ≠ "java/lang/invoke/VarHandle" ∧ (parseMethodDescriptor yX14_shifts.desc).map (fun d => d.parameters.length) = some 1 := by decide +kernel
theorem gd_shifts {idx : Nat} (h : Cond.methodLink RX14 idx yX14_shifts ∈ lw_all) : GoodIn lw_all (wsV RX14 idx RX14 yX14_shifts (ws_ yX14_shifts cX14_shifts 4 (some .boolean))) := lw_V h q2128 qs70 q123 q2129
/-! findRest(I)I -/
def m_findRest_j93 (Q : Int32 → mI → mJ → Prop) (k33 : Int32 → Int32 → Int32 → mI → mJ → Prop) (a1 : Int32) (a2 : Int32) (a3 : Int32) (I : mI) (J : mJ) : Prop :=
  k33 a1 a2 a3 I J
theorem w_findRest_j93 {X : hh_CX} {Q : Int32 → mI → mJ → Prop} (hX : hh_C X cX14_findRest RX14 (hrm 2 46)) (hN : hh_nL X = 5) (hE : hh_E X (some .int) (mQi Q) 0 0) {k33 : Int32 → Int32 → Int32 → mI → mJ → Prop} (hk33 : ∀ (b0 : Int32) (b1 : Int32) (b2 : Int32) (I : mI) (J : mJ), k33 b0 b1 b2 I J → hh_V X 33 [(0, .ref 0), (1, .int b0), (2, .int b1), (3, .int b2)] [] 0 0 (hm I J)) : ∀ (a1 : Int32) (a2 : Int32) (a3 : Int32) (I : mI) (J : mJ), m_findRest_j93 Q k33 a1 a2 a3 I J → hh_V X 93 [(0, .ref 0), (1, .int a1), (2, .int a2), (3, .int a3)] [] 0 0 (hm I J) := by
  intro a1 a2 a3 I J hf
  unfold m_findRest_j93 at hf
  refine hv_goto (tgt := 33) hX dX14_findRest_93 (by decide) ?_
  exact hk33 _ _ _ _ _ hf
def m_findRest_j66 (Q : Int32 → mI → mJ → Prop) (k33 : Int32 → Int32 → Int32 → mI → mJ → Prop) (a1 : Int32) (s0 : Int32) (s1 : Int32) (I : mI) (J : mJ) : Prop :=
  m_shifts 4 I J (fun r13 I14 J15 => (r13 = 0 →
    m_shifts 0 I14 J15 (fun r17 I18 J19 => m_lays 4 (I18 0 7) I18 J19 (fun  I20 J21 => m_findRest_j93 Q k33 a1 (s0 + s1) r17 I20 J21))) ∧ (¬ r13 = 0 →
    m_findRest_j93 Q k33 a1 (s0 + s1) r13 I14 J15))
theorem w_findRest_j66 {X : hh_CX} {Q : Int32 → mI → mJ → Prop} (hX : hh_C X cX14_findRest RX14 (hrm 2 46)) (hN : hh_nL X = 5) (hE : hh_E X (some .int) (mQi Q) 0 0) {k33 : Int32 → Int32 → Int32 → mI → mJ → Prop} (hk33 : ∀ (b0 : Int32) (b1 : Int32) (b2 : Int32) (I : mI) (J : mJ), k33 b0 b1 b2 I J → hh_V X 33 [(0, .ref 0), (1, .int b0), (2, .int b1), (3, .int b2)] [] 0 0 (hm I J)) : ∀ (a1 : Int32) (s0 : Int32) (s1 : Int32) (I : mI) (J : mJ), m_findRest_j66 Q k33 a1 s0 s1 I J → hh_V X 66 [(0, .ref 0), (1, .int a1)] [.int s1, .int s0] 0 0 (hm I J) := by
  intro a1 s0 s1 I J hf
  unfold m_findRest_j66 at hf
  refine hv_iadd hX dX14_findRest_66 ?_
  refine hv_istore_n (loc2 := [(2, .int (s0 + s1)), (0, .ref 0), (1, .int a1)]) hX dX14_findRest_67 rfl hN (Nat.le_of_ble_eq_true rfl) rfl ?_
  refine hv_aload_n hX dX14_findRest_68 rfl 1 rfl ?_
  refine hv_iconst (v := 4) hX ic_4 dX14_findRest_69 ?_
  refine hm_callVi hX dX14_findRest_70 (ct_shifts 4 I J _ hf) (gd_shifts q2126) np_shifts rfl rfl ⟨Nat.le_of_ble_eq_true rfl, Nat.le_of_ble_eq_true rfl⟩ ⟨Nat.le_refl _, Nat.le_refl _⟩ (Nat.le_of_ble_eq_true rfl) ?_
  intro r13 I14 J15 hf
  refine hv_istore_n (loc2 := [(3, .int r13), (2, .int (s0 + s1)), (0, .ref 0), (1, .int a1)]) hX dX14_findRest_73 rfl hN (Nat.le_of_ble_eq_true rfl) rfl ?_
  refine hv_iload_n hX dX14_findRest_74 rfl 0 rfl ?_
  refine hv_if_ne (tgt := 93) hX dX14_findRest_75 (by decide) (fun c16 => ?_) (fun c16 => ?_)
  · replace hf := hf.2 c16
    refine hv_fewer [2, 3, 1, 0] (loc2 := [(0, .ref 0), (1, .int a1), (2, .int (s0 + s1)), (3, .int r13)]) rfl ?_
    exact w_findRest_j93 hX hN hE hk33 _ _ _ _ _ hf
  · replace hf := hf.1 c16
    refine hv_aload_n hX dX14_findRest_78 rfl 2 rfl ?_
    refine hv_iconst (v := 0) hX ic_0 dX14_findRest_79 ?_
    refine hm_callVi hX dX14_findRest_80 (ct_shifts 0 I14 J15 _ hf) (gd_shifts q2126) np_shifts rfl rfl ⟨Nat.le_of_ble_eq_true rfl, Nat.le_of_ble_eq_true rfl⟩ ⟨Nat.le_refl _, Nat.le_refl _⟩ (Nat.le_of_ble_eq_true rfl) ?_
    intro r17 I18 J19 hf
    refine hv_istore_n (loc2 := [(3, .int r17), (2, .int (s0 + s1)), (0, .ref 0), (1, .int a1)]) hX dX14_findRest_83 rfl hN (Nat.le_of_ble_eq_true rfl) rfl ?_
    refine hv_aload_n hX dX14_findRest_84 rfl 2 rfl ?_
    refine hv_iconst (v := 4) hX ic_4 dX14_findRest_85 ?_
    refine hv_aload_n hX dX14_findRest_86 rfl 2 rfl ?_
    refine hm_getI (v := (I18 0 7)) hX dX14_findRest_87 mfl268 (.inl rfl) rfl ?_
    refine hm_callVv hX dX14_findRest_90 (ct_lays 4 (I18 0 7) I18 J19 _ hf) (gd_lays q2114) np_lays rfl rfl ⟨Nat.le_of_ble_eq_true rfl, Nat.le_of_ble_eq_true rfl⟩ ⟨Nat.le_refl _, Nat.le_refl _⟩ (Nat.le_of_ble_eq_true rfl) ?_
    intro  I20 J21 hf
    refine hv_fewer [2, 3, 1, 0] (loc2 := [(0, .ref 0), (1, .int a1), (2, .int (s0 + s1)), (3, .int r17)]) rfl ?_
    exact w_findRest_j93 hX hN hE hk33 _ _ _ _ _ hf
def m_findRest_j55 (Q : Int32 → mI → mJ → Prop) (k33 : Int32 → Int32 → Int32 → mI → mJ → Prop) (a1 : Int32) (a2 : Int32) (a4 : Int32) (I : mI) (J : mJ) : Prop :=
  (a4 = 0 →
    m_findRest_j66 Q k33 a1 a2 0 I J) ∧ (¬ a4 = 0 →
    m_findRest_j66 Q k33 a1 a2 1 I J)
theorem w_findRest_j55 {X : hh_CX} {Q : Int32 → mI → mJ → Prop} (hX : hh_C X cX14_findRest RX14 (hrm 2 46)) (hN : hh_nL X = 5) (hE : hh_E X (some .int) (mQi Q) 0 0) {k33 : Int32 → Int32 → Int32 → mI → mJ → Prop} (hk33 : ∀ (b0 : Int32) (b1 : Int32) (b2 : Int32) (I : mI) (J : mJ), k33 b0 b1 b2 I J → hh_V X 33 [(0, .ref 0), (1, .int b0), (2, .int b1), (3, .int b2)] [] 0 0 (hm I J)) : ∀ (a1 : Int32) (a2 : Int32) (a4 : Int32) (I : mI) (J : mJ), m_findRest_j55 Q k33 a1 a2 a4 I J → hh_V X 55 [(0, .ref 0), (1, .int a1), (2, .int a2), (4, .int a4)] [] 0 0 (hm I J) := by
  intro a1 a2 a4 I J hf
  unfold m_findRest_j55 at hf
  refine hv_iload_n hX dX14_findRest_55 rfl 2 rfl ?_
  refine hv_iload hX dX14_findRest_56 3 rfl ?_
  refine hv_if_eq (tgt := 65) hX dX14_findRest_58 (by decide) (fun c12 => ?_) (fun c12 => ?_)
  · replace hf := hf.1 c12
    refine hv_iconst (v := 0) hX ic_0 dX14_findRest_65 ?_
    refine hv_fewer [0, 1] (loc2 := [(0, .ref 0), (1, .int a1)]) rfl ?_
    exact w_findRest_j66 hX hN hE hk33 _ _ _ _ _ hf
  · replace hf := hf.2 c12
    refine hv_iconst (v := 1) hX ic_1 dX14_findRest_61 ?_
    refine hv_goto (tgt := 66) hX dX14_findRest_62 (by decide) ?_
    refine hv_fewer [0, 1] (loc2 := [(0, .ref 0), (1, .int a1)]) rfl ?_
    exact w_findRest_j66 hX hN hE hk33 _ _ _ _ _ hf
def m_findRest_l33 (Q : Int32 → mI → mJ → Prop) : Nat → Int32 → Int32 → Int32 → mI → mJ → Prop
  | 0, _, _, _, _, _ => False
  | n + 1, a1, a2, a3, I, J =>
    (a3 = 0 →
      ((0 : Int32) ≤ a1 →
        Q (-3) I J) ∧ (¬ (0 : Int32) ≤ a1 →
        Q a2 I J)) ∧ (¬ a3 = 0 →
      m_isRest  I J (fun r8 I9 J10 => (r8 = 0 →
        m_findRest_j55 Q (fun b0 b1 b2 I J => m_findRest_l33 Q n b0 b1 b2 I J) a1 a2 r8 I9 J10) ∧ (¬ r8 = 0 →
        (a2 = a1 →
          Q a1 I9 J10) ∧ (¬ a2 = a1 →
          m_findRest_j55 Q (fun b0 b1 b2 I J => m_findRest_l33 Q n b0 b1 b2 I J) a1 a2 r8 I9 J10))))
theorem w_findRest_l33 {X : hh_CX} {Q : Int32 → mI → mJ → Prop} (hX : hh_C X cX14_findRest RX14 (hrm 2 46)) (hN : hh_nL X = 5) (hE : hh_E X (some .int) (mQi Q) 0 0) : ∀ (n : Nat) (a1 : Int32) (a2 : Int32) (a3 : Int32) (I : mI) (J : mJ), m_findRest_l33 Q  n a1 a2 a3 I J → hh_V X 33 [(0, .ref 0), (1, .int a1), (2, .int a2), (3, .int a3)] [] 0 0 (hm I J) := by
  intro n
  induction n with
  | zero => intro _ _ _ _ _ hf; exact hf.elim
  | succ n ih =>
    intro a1 a2 a3 I J hf
    unfold m_findRest_l33 at hf
    refine hv_iload_n hX dX14_findRest_33 rfl 3 rfl ?_
    refine hv_if_eq (tgt := 96) hX dX14_findRest_34 (by decide) (fun c6 => ?_) (fun c6 => ?_)
    · replace hf := hf.1 c6
      refine hv_iload_n hX dX14_findRest_96 rfl 1 rfl ?_
      refine hv_if_ge (tgt := 104) hX dX14_findRest_97 (by decide) (fun c7 => ?_) (fun c7 => ?_)
      · replace hf := hf.1 c7
        refine hv_bipush (v := (-3)) hX bi_m3 dX14_findRest_104 ?_
        exact hm_iret hX hE dX14_findRest_106 hf
      · replace hf := hf.2 c7
        refine hv_iload_n hX dX14_findRest_100 rfl 2 rfl ?_
        refine hv_goto (tgt := 106) hX dX14_findRest_101 (by decide) ?_
        exact hm_iret hX hE dX14_findRest_106 hf
    · replace hf := hf.2 c6
      refine hv_aload_n hX dX14_findRest_37 rfl 0 rfl ?_
      refine hm_callVi hX dX14_findRest_38 (ct_isRest  I J _ hf) (gd_isRest q2118) np_isRest rfl rfl ⟨Nat.le_of_ble_eq_true rfl, Nat.le_of_ble_eq_true rfl⟩ ⟨Nat.le_refl _, Nat.le_refl _⟩ (Nat.le_of_ble_eq_true rfl) ?_
      intro r8 I9 J10 hf
      refine hv_istore (loc2 := [(4, .int r8), (0, .ref 0), (1, .int a1), (2, .int a2), (3, .int a3)]) hX dX14_findRest_41 hN (Nat.le_of_ble_eq_true rfl) rfl ?_
      refine hv_iload hX dX14_findRest_43 0 rfl ?_
      refine hv_if_eq (tgt := 55) hX dX14_findRest_45 (by decide) (fun c11 => ?_) (fun c11 => ?_)
      · replace hf := hf.1 c11
        refine hv_fewer [1, 2, 3, 0] (loc2 := [(0, .ref 0), (1, .int a1), (2, .int a2), (4, .int r8)]) rfl ?_
        exact w_findRest_j55 hX hN hE ih _ _ _ _ _ hf
      · replace hf := hf.2 c11
        refine hv_iload_n hX dX14_findRest_48 rfl 3 rfl ?_
        refine hv_iload_n hX dX14_findRest_49 rfl 2 rfl ?_
        refine hv_icmp_ne (tgt := 55) hX dX14_findRest_50 (by decide) (fun c22 => ?_) (fun c22 => ?_)
        · replace hf := hf.2 c22
          refine hv_fewer [1, 2, 3, 0] (loc2 := [(0, .ref 0), (1, .int a1), (2, .int a2), (4, .int r8)]) rfl ?_
          exact w_findRest_j55 hX hN hE ih _ _ _ _ _ hf
        · replace hf := hf.1 c22
          refine hv_iload_n hX dX14_findRest_53 rfl 2 rfl ?_
          exact hm_iret hX hE dX14_findRest_54 hf
def m_findRest_j32 (Q : Int32 → mI → mJ → Prop) (a1 : Int32) (a2 : Int32) (s0 : Int32) (I : mI) (J : mJ) : Prop :=
  ∃ n0 : Nat, m_findRest_l33 Q  n0 a1 a2 s0 I J
theorem w_findRest_j32 {X : hh_CX} {Q : Int32 → mI → mJ → Prop} (hX : hh_C X cX14_findRest RX14 (hrm 2 46)) (hN : hh_nL X = 5) (hE : hh_E X (some .int) (mQi Q) 0 0) : ∀ (a1 : Int32) (a2 : Int32) (s0 : Int32) (I : mI) (J : mJ), m_findRest_j32 Q  a1 a2 s0 I J → hh_V X 32 [(0, .ref 0), (1, .int a1), (2, .int a2)] [.int s0] 0 0 (hm I J) := by
  intro a1 a2 s0 I J hf
  unfold m_findRest_j32 at hf
  refine hv_istore_n (loc2 := [(3, .int s0), (0, .ref 0), (1, .int a1), (2, .int a2)]) hX dX14_findRest_32 rfl hN (Nat.le_of_ble_eq_true rfl) rfl ?_
  refine hv_fewer [1, 2, 3, 0] (loc2 := [(0, .ref 0), (1, .int a1), (2, .int a2), (3, .int s0)]) rfl ?_
  obtain ⟨n0, hf⟩ := hf
  exact w_findRest_l33 hX hN hE  n0 _ _ _ _ _ hf
def m_findRest (a1 : Int32) (I : mI) (J : mJ) (Q : Int32 → mI → mJ → Prop) : Prop :=
  m_lays 0 (I 0 6) I J (fun  I1 J2 => m_lays 4 (I1 0 7) I1 J2 (fun  I3 J4 => ((I3 0 8) ≤ 0 →
    m_findRest_j32 Q  a1 0 0 I3 J4) ∧ (¬ (I3 0 8) ≤ 0 →
    m_findRest_j32 Q  a1 0 1 I3 J4)))
theorem ct_findRest (a1 : Int32) (I : mI) (J : mJ) (Q : Int32 → mI → mJ → Prop) (hf : m_findRest a1 I J Q) : hh_Ct yX14_findRest cX14_findRest 5 (some .int) 2 46 [.ref 0, .int a1] (hm I J) (mQi Q) 0 0 := by
  refine hh_Ct.of (own := RX14) rfl (by decide +kernel) (Nat.le_of_ble_eq_true rfl) ?_
  intro X hX hN hE
  show hh_V X 0 [(0, .ref 0), (1, .int a1)] [] 0 0 (hm I J)
  unfold m_findRest at hf
  refine hv_iconst (v := 0) hX ic_0 dX14_findRest_0 ?_
  refine hv_istore_n (loc2 := [(2, .int 0), (0, .ref 0), (1, .int a1)]) hX dX14_findRest_1 rfl hN (Nat.le_of_ble_eq_true rfl) rfl ?_
  refine hv_aload_n hX dX14_findRest_2 rfl 1 rfl ?_
  refine hv_iconst (v := 0) hX ic_0 dX14_findRest_3 ?_
  refine hv_aload_n hX dX14_findRest_4 rfl 1 rfl ?_
  refine hm_getI (v := (I 0 6)) hX dX14_findRest_5 mfl265 (.inl rfl) rfl ?_
  refine hm_callVv hX dX14_findRest_8 (ct_lays 0 (I 0 6) I J _ hf) (gd_lays q2114) np_lays rfl rfl ⟨Nat.le_of_ble_eq_true rfl, Nat.le_of_ble_eq_true rfl⟩ ⟨Nat.le_refl _, Nat.le_refl _⟩ (Nat.le_of_ble_eq_true rfl) ?_
  intro  I1 J2 hf
  refine hv_aload_n hX dX14_findRest_11 rfl 1 rfl ?_
  refine hv_iconst (v := 4) hX ic_4 dX14_findRest_12 ?_
  refine hv_aload_n hX dX14_findRest_13 rfl 1 rfl ?_
  refine hm_getI (v := (I1 0 7)) hX dX14_findRest_14 mfl268 (.inl rfl) rfl ?_
  refine hm_callVv hX dX14_findRest_17 (ct_lays 4 (I1 0 7) I1 J2 _ hf) (gd_lays q2114) np_lays rfl rfl ⟨Nat.le_of_ble_eq_true rfl, Nat.le_of_ble_eq_true rfl⟩ ⟨Nat.le_refl _, Nat.le_refl _⟩ (Nat.le_of_ble_eq_true rfl) ?_
  intro  I3 J4 hf
  refine hv_aload_n hX dX14_findRest_20 rfl 1 rfl ?_
  refine hm_getI (v := (I3 0 8)) hX dX14_findRest_21 mfl130 (.inl rfl) rfl ?_
  refine hv_if_le (tgt := 31) hX dX14_findRest_24 (by decide) (fun c5 => ?_) (fun c5 => ?_)
  · replace hf := hf.1 c5
    refine hv_iconst (v := 0) hX ic_0 dX14_findRest_31 ?_
    refine hv_fewer [1, 2, 0] (loc2 := [(0, .ref 0), (1, .int a1), (2, .int 0)]) rfl ?_
    exact w_findRest_j32 hX hN hE  _ _ _ _ _ hf
  · replace hf := hf.2 c5
    refine hv_iconst (v := 1) hX ic_1 dX14_findRest_27 ?_
    refine hv_goto (tgt := 32) hX dX14_findRest_28 (by decide) ?_
    refine hv_fewer [1, 2, 0] (loc2 := [(0, .ref 0), (1, .int a1), (2, .int 0)]) rfl ?_
    exact w_findRest_j32 hX hN hE  _ _ _ _ _ hf
theorem np_findRest : yX14_findRest.cls = RX14 ∧ yX14_findRest.cls ≠ "java/lang/invoke/MethodHandle" ∧ yX14_findRest.cls ≠ "java/lang/invoke/VarHandle" ∧ (parseMethodDescriptor yX14_findRest.desc).map (fun d => d.parameters.length) = some 1 := by decide +kernel
theorem gd_findRest {idx : Nat} (h : Cond.methodLink RX14 idx yX14_findRest ∈ lw_all) : GoodIn lw_all (wsV RX14 idx RX14 yX14_findRest (ws_ yX14_findRest cX14_findRest 5 (some .int))) := lw_V h q2112 qs66 q123 q2113
/-! rests()I -/
def m_rests  (I : mI) (J : mJ) (Q : Int32 → mI → mJ → Prop) : Prop :=
  m_findRest (-1) I J (fun r1 I2 J3 => Q r1 I2 J3)
theorem ct_rests  (I : mI) (J : mJ) (Q : Int32 → mI → mJ → Prop) (hf : m_rests  I J Q) : hh_Ct yX14_rests cX14_rests 1 (some .int) 3 70 [.ref 0] (hm I J) (mQi Q) 0 0 := by
  refine hh_Ct.of (own := RX14) rfl (by decide +kernel) (Nat.le_of_ble_eq_true rfl) ?_
  intro X hX hN hE
  show hh_V X 0 [(0, .ref 0)] [] 0 0 (hm I J)
  unfold m_rests at hf
  refine hv_aload_n hX dX14_rests_0 rfl 0 rfl ?_
  refine hv_iconst (v := (-1)) hX ic_m1 dX14_rests_1 ?_
  refine hm_callVi hX dX14_rests_2 (ct_findRest (-1) I J _ hf) (gd_findRest q2110) np_findRest rfl rfl ⟨Nat.le_of_ble_eq_true rfl, Nat.le_of_ble_eq_true rfl⟩ ⟨Nat.le_refl _, Nat.le_refl _⟩ (Nat.le_of_ble_eq_true rfl) ?_
  intro r1 I2 J3 hf
  exact hm_iret hX hE dX14_rests_5 hf
theorem np_rests : yX14_rests.cls = RX14 ∧ yX14_rests.cls ≠ "java/lang/invoke/MethodHandle" ∧ yX14_rests.cls ≠ "java/lang/invoke/VarHandle" ∧ (parseMethodDescriptor yX14_rests.desc).map (fun d => d.parameters.length) = some 0 := by decide +kernel
theorem gd_rests {idx : Nat} (h : Cond.methodLink RX14 idx yX14_rests ∈ lw_all) : GoodIn lw_all (wsV RX14 idx RX14 yX14_rests (ws_ yX14_rests cX14_rests 1 (some .int))) := lw_V h q2107 q2108 q123 q2109
/-! restOf(II)I -/
def m_restOf (a1 : Int32) (a2 : Int32) (I : mI) (J : mJ) (Q : Int32 → mI → mJ → Prop) : Prop :=
  m_in a2 0 7 I J (fun r1 I2 J3 => (r1 = 0 →
    Q (-1) I2 J3) ∧ (¬ r1 = 0 →
    m_isPatch (a2 - a2 / 4 * 4) I2 J3 (fun r5 I6 J7 => (r5 = 0 →
      Q (-1) I6 J7) ∧ (¬ r5 = 0 →
      (a1 < 0 →
        Q (-3) I6 J7) ∧ (¬ a1 < 0 →
        m_findRest a1 I6 J7 (fun r10 I11 J12 => (r10 = (-3) →
          Q (-3) I11 J12) ∧ (¬ r10 = (-3) →
          vp_in a2 8 ∧ (Q (I11 17 a2.toNatClampNeg) I11 J12))))))))
theorem ct_restOf (a1 : Int32) (a2 : Int32) (I : mI) (J : mJ) (Q : Int32 → mI → mJ → Prop) (hf : m_restOf a1 a2 I J Q) : hh_Ct yX14_restOf cX14_restOf 3 (some .int) 3 70 [.ref 0, .int a1, .int a2] (hm I J) (mQi Q) 0 0 := by
  refine hh_Ct.of (own := RX14) rfl (by decide +kernel) (Nat.le_of_ble_eq_true rfl) ?_
  intro X hX hN hE
  show hh_V X 0 [(0, .ref 0), (1, .int a1), (2, .int a2)] [] 0 0 (hm I J)
  unfold m_restOf at hf
  refine hv_iload_n hX dX14_restOf_0 rfl 2 rfl ?_
  refine hv_iconst (v := 0) hX ic_0 dX14_restOf_1 ?_
  refine hv_bipush (v := 7) hX bi_7 dX14_restOf_2 ?_
  refine hm_callSi hX dX14_restOf_4 (ct_in a2 0 7 I J _ hf) (gd_in q1923) np_in rfl rfl ⟨Nat.le_of_ble_eq_true rfl, Nat.le_of_ble_eq_true rfl⟩ ⟨Nat.le_refl _, Nat.le_refl _⟩ (Nat.le_of_ble_eq_true rfl) ?_
  intro r1 I2 J3 hf
  refine hv_if_eq (tgt := 20) hX dX14_restOf_7 (by decide) (fun c4 => ?_) (fun c4 => ?_)
  · replace hf := hf.1 c4
    refine hv_iconst (v := (-1)) hX ic_m1 dX14_restOf_20 ?_
    exact hm_iret hX hE dX14_restOf_21 hf
  · replace hf := hf.2 c4
    refine hv_aload_n hX dX14_restOf_10 rfl 0 rfl ?_
    refine hv_iload_n hX dX14_restOf_11 rfl 2 rfl ?_
    refine hv_iconst (v := 4) hX ic_4 dX14_restOf_12 ?_
    refine hv_irem hX (by decide) dX14_restOf_13 ?_
    refine hm_callVi hX dX14_restOf_14 (ct_isPatch (a2 - a2 / 4 * 4) I2 J3 _ hf) (gd_isPatch q1936) np_isPatch rfl rfl ⟨Nat.le_of_ble_eq_true rfl, Nat.le_of_ble_eq_true rfl⟩ ⟨Nat.le_refl _, Nat.le_refl _⟩ (Nat.le_of_ble_eq_true rfl) ?_
    intro r5 I6 J7 hf
    refine hv_if_ne (tgt := 22) hX dX14_restOf_17 (by decide) (fun c8 => ?_) (fun c8 => ?_)
    · replace hf := hf.2 c8
      refine hv_iload_n hX dX14_restOf_22 rfl 1 rfl ?_
      refine hv_if_lt (tgt := 36) hX dX14_restOf_23 (by decide) (fun c9 => ?_) (fun c9 => ?_)
      · replace hf := hf.1 c9
        refine hv_bipush (v := (-3)) hX bi_m3 dX14_restOf_36 ?_
        refine hv_goto (tgt := 47) hX dX14_restOf_38 (by decide) ?_
        exact hm_iret hX hE dX14_restOf_47 hf
      · replace hf := hf.2 c9
        refine hv_aload_n hX dX14_restOf_26 rfl 0 rfl ?_
        refine hv_iload_n hX dX14_restOf_27 rfl 1 rfl ?_
        refine hm_callVi hX dX14_restOf_28 (ct_findRest a1 I6 J7 _ hf) (gd_findRest q2110) np_findRest rfl rfl ⟨Nat.le_of_ble_eq_true rfl, Nat.le_of_ble_eq_true rfl⟩ ⟨Nat.le_refl _, Nat.le_refl _⟩ (Nat.le_of_ble_eq_true rfl) ?_
        intro r10 I11 J12 hf
        refine hv_bipush (v := (-3)) hX bi_m3 dX14_restOf_31 ?_
        refine hv_icmp_ne (tgt := 41) hX dX14_restOf_33 (by decide) (fun c13 => ?_) (fun c13 => ?_)
        · replace hf := hf.2 c13
          refine hv_aload_n hX dX14_restOf_41 rfl 0 rfl ?_
          refine hm_getR hX dX14_restOf_42 mfl76 17 rfl ?_
          refine hv_iload_n hX dX14_restOf_45 rfl 2 rfl ?_
          obtain ⟨g, hf⟩ := hf
          refine hm_iald (v := (I11 17 a2.toNatClampNeg)) hX dX14_restOf_46 (by decide) rfl rfl g rfl ?_
          exact hm_iret hX hE dX14_restOf_47 hf
        · replace hf := hf.1 c13
          refine hv_bipush (v := (-3)) hX bi_m3 dX14_restOf_36 ?_
          refine hv_goto (tgt := 47) hX dX14_restOf_38 (by decide) ?_
          exact hm_iret hX hE dX14_restOf_47 hf
    · replace hf := hf.1 c8
      refine hv_iconst (v := (-1)) hX ic_m1 dX14_restOf_20 ?_
      exact hm_iret hX hE dX14_restOf_21 hf
theorem np_restOf : yX14_restOf.cls = RX14 ∧ yX14_restOf.cls ≠ "java/lang/invoke/MethodHandle" ∧ yX14_restOf.cls ≠ "java/lang/invoke/VarHandle" ∧ (parseMethodDescriptor yX14_restOf.desc).map (fun d => d.parameters.length) = some 2 := by decide +kernel
theorem gd_restOf {idx : Nat} (h : Cond.methodLink RX14 idx yX14_restOf ∈ lw_all) : GoodIn lw_all (wsV RX14 idx RX14 yX14_restOf (ws_ yX14_restOf cX14_restOf 3 (some .int))) := lw_V h q2131 q2132 q123 q2133
/-! finders(III)I -/
def m_finders_j150 (Q : Int32 → mI → mJ → Prop) (k42 : Int32 → Int32 → Int32 → Int32 → Int32 → mI → mJ → Prop) (a1 : Int32) (a3 : Int32) (a4 : Int32) (a6 : Int32) (s0 : Int32) (s1 : Int32) (I : mI) (J : mJ) : Prop :=
  k42 a1 a3 a4 (s0 ||| s1) (a6 + 1) I J
theorem w_finders_j150 {X : hh_CX} {Q : Int32 → mI → mJ → Prop} (hX : hh_C X cX14_finders RX14 (hrm 1 22)) (hN : hh_nL X = 10) (hE : hh_E X (some .int) (mQi Q) 0 0) {k42 : Int32 → Int32 → Int32 → Int32 → Int32 → mI → mJ → Prop} (hk42 : ∀ (b0 : Int32) (b1 : Int32) (b2 : Int32) (b3 : Int32) (b4 : Int32) (I : mI) (J : mJ), k42 b0 b1 b2 b3 b4 I J → hh_V X 42 [(1, .int b0), (3, .int b1), (4, .int b2), (5, .int b3), (6, .int b4)] [] 0 0 (hm I J)) : ∀ (a1 : Int32) (a3 : Int32) (a4 : Int32) (a6 : Int32) (s0 : Int32) (s1 : Int32) (I : mI) (J : mJ), m_finders_j150 Q k42 a1 a3 a4 a6 s0 s1 I J → hh_V X 150 [(1, .int a1), (3, .int a3), (4, .int a4), (6, .int a6)] [.int s1, .int s0] 0 0 (hm I J) := by
  intro a1 a3 a4 a6 s0 s1 I J hf
  unfold m_finders_j150 at hf
  refine hv_ior hX dX14_finders_150 ?_
  refine hv_istore (loc2 := [(5, .int (s0 ||| s1)), (1, .int a1), (3, .int a3), (4, .int a4), (6, .int a6)]) hX dX14_finders_151 hN (Nat.le_of_ble_eq_true rfl) rfl ?_
  refine hv_iinc (v := (a6 + 1)) (loc2 := [(6, .int (a6 + 1)), (5, .int (s0 ||| s1)), (1, .int a1), (3, .int a3), (4, .int a4)]) hX dX14_finders_153 4 rfl (congrArg (fun y => a6 + y) ic_1) hN (Nat.le_of_ble_eq_true rfl) rfl ?_
  refine hv_goto (tgt := 42) hX dX14_finders_156 (by decide) ?_
  refine hv_fewer [2, 3, 4, 1, 0] (loc2 := [(1, .int a1), (3, .int a3), (4, .int a4), (5, .int (s0 ||| s1)), (6, .int (a6 + 1))]) rfl ?_
  exact hk42 _ _ _ _ _ _ _ hf
def m_finders_j149 (Q : Int32 → mI → mJ → Prop) (k42 : Int32 → Int32 → Int32 → Int32 → Int32 → mI → mJ → Prop) (a1 : Int32) (a3 : Int32) (a4 : Int32) (a6 : Int32) (s0 : Int32) (I : mI) (J : mJ) : Prop :=
  m_finders_j150 Q k42 a1 a3 a4 a6 s0 0 I J
theorem w_finders_j149 {X : hh_CX} {Q : Int32 → mI → mJ → Prop} (hX : hh_C X cX14_finders RX14 (hrm 1 22)) (hN : hh_nL X = 10) (hE : hh_E X (some .int) (mQi Q) 0 0) {k42 : Int32 → Int32 → Int32 → Int32 → Int32 → mI → mJ → Prop} (hk42 : ∀ (b0 : Int32) (b1 : Int32) (b2 : Int32) (b3 : Int32) (b4 : Int32) (I : mI) (J : mJ), k42 b0 b1 b2 b3 b4 I J → hh_V X 42 [(1, .int b0), (3, .int b1), (4, .int b2), (5, .int b3), (6, .int b4)] [] 0 0 (hm I J)) : ∀ (a1 : Int32) (a3 : Int32) (a4 : Int32) (a6 : Int32) (s0 : Int32) (I : mI) (J : mJ), m_finders_j149 Q k42 a1 a3 a4 a6 s0 I J → hh_V X 149 [(1, .int a1), (3, .int a3), (4, .int a4), (6, .int a6)] [.int s0] 0 0 (hm I J) := by
  intro a1 a3 a4 a6 s0 I J hf
  unfold m_finders_j149 at hf
  refine hv_iconst (v := 0) hX ic_0 dX14_finders_149 ?_
  exact w_finders_j150 hX hN hE hk42 _ _ _ _ _ _ _ _ hf
def m_finders_j128 (Q : Int32 → mI → mJ → Prop) (k42 : Int32 → Int32 → Int32 → Int32 → Int32 → mI → mJ → Prop) (a1 : Int32) (a3 : Int32) (a4 : Int32) (a5 : Int32) (a6 : Int32) (a8 : Int32) (s0 : Int32) (I : mI) (J : mJ) : Prop :=
  (a8 = 0 →
    m_finders_j149 Q k42 a1 a3 a4 a6 a5 I J) ∧ (¬ a8 = 0 →
    (s0 = 0 →
      m_finders_j149 Q k42 a1 a3 a4 a6 a5 I J) ∧ (¬ s0 = 0 →
      m_finders_j150 Q k42 a1 a3 a4 a6 a5 (1 <<< (a6 &&& 31)) I J))
theorem w_finders_j128 {X : hh_CX} {Q : Int32 → mI → mJ → Prop} (hX : hh_C X cX14_finders RX14 (hrm 1 22)) (hN : hh_nL X = 10) (hE : hh_E X (some .int) (mQi Q) 0 0) {k42 : Int32 → Int32 → Int32 → Int32 → Int32 → mI → mJ → Prop} (hk42 : ∀ (b0 : Int32) (b1 : Int32) (b2 : Int32) (b3 : Int32) (b4 : Int32) (I : mI) (J : mJ), k42 b0 b1 b2 b3 b4 I J → hh_V X 42 [(1, .int b0), (3, .int b1), (4, .int b2), (5, .int b3), (6, .int b4)] [] 0 0 (hm I J)) : ∀ (a1 : Int32) (a3 : Int32) (a4 : Int32) (a5 : Int32) (a6 : Int32) (a8 : Int32) (s0 : Int32) (I : mI) (J : mJ), m_finders_j128 Q k42 a1 a3 a4 a5 a6 a8 s0 I J → hh_V X 128 [(1, .int a1), (3, .int a3), (4, .int a4), (5, .int a5), (6, .int a6), (8, .int a8)] [.int s0] 0 0 (hm I J) := by
  intro a1 a3 a4 a5 a6 a8 s0 I J hf
  unfold m_finders_j128 at hf
  refine hv_istore (loc2 := [(9, .int s0), (1, .int a1), (3, .int a3), (4, .int a4), (5, .int a5), (6, .int a6), (8, .int a8)]) hX dX14_finders_128 hN (Nat.le_of_ble_eq_true rfl) rfl ?_
  refine hv_iload hX dX14_finders_130 4 rfl ?_
  refine hv_iload hX dX14_finders_132 6 rfl ?_
  refine hv_if_eq (tgt := 149) hX dX14_finders_134 (by decide) (fun c16 => ?_) (fun c16 => ?_)
  · replace hf := hf.1 c16
    refine hv_fewer [1, 2, 3, 5] (loc2 := [(1, .int a1), (3, .int a3), (4, .int a4), (6, .int a6)]) rfl ?_
    exact w_finders_j149 hX hN hE hk42 _ _ _ _ _ _ _ hf
  · replace hf := hf.2 c16
    refine hv_iload hX dX14_finders_137 0 rfl ?_
    refine hv_if_eq (tgt := 149) hX dX14_finders_139 (by decide) (fun c17 => ?_) (fun c17 => ?_)
    · replace hf := hf.1 c17
      refine hv_fewer [1, 2, 3, 5] (loc2 := [(1, .int a1), (3, .int a3), (4, .int a4), (6, .int a6)]) rfl ?_
      exact w_finders_j149 hX hN hE hk42 _ _ _ _ _ _ _ hf
    · replace hf := hf.2 c17
      refine hv_iconst (v := 1) hX ic_1 dX14_finders_142 ?_
      refine hv_iload hX dX14_finders_143 5 rfl ?_
      refine hv_ishl hX dX14_finders_145 ?_
      refine hv_goto (tgt := 150) hX dX14_finders_146 (by decide) ?_
      refine hv_fewer [1, 2, 3, 5] (loc2 := [(1, .int a1), (3, .int a3), (4, .int a4), (6, .int a6)]) rfl ?_
      exact w_finders_j150 hX hN hE hk42 _ _ _ _ _ _ _ _ hf
def m_finders_j123 (Q : Int32 → mI → mJ → Prop) (k42 : Int32 → Int32 → Int32 → Int32 → Int32 → mI → mJ → Prop) (a1 : Int32) (a3 : Int32) (a4 : Int32) (a5 : Int32) (a6 : Int32) (a8 : Int32) (I : mI) (J : mJ) : Prop :=
  m_finders_j128 Q k42 a1 a3 a4 a5 a6 a8 1 I J
theorem w_finders_j123 {X : hh_CX} {Q : Int32 → mI → mJ → Prop} (hX : hh_C X cX14_finders RX14 (hrm 1 22)) (hN : hh_nL X = 10) (hE : hh_E X (some .int) (mQi Q) 0 0) {k42 : Int32 → Int32 → Int32 → Int32 → Int32 → mI → mJ → Prop} (hk42 : ∀ (b0 : Int32) (b1 : Int32) (b2 : Int32) (b3 : Int32) (b4 : Int32) (I : mI) (J : mJ), k42 b0 b1 b2 b3 b4 I J → hh_V X 42 [(1, .int b0), (3, .int b1), (4, .int b2), (5, .int b3), (6, .int b4)] [] 0 0 (hm I J)) : ∀ (a1 : Int32) (a3 : Int32) (a4 : Int32) (a5 : Int32) (a6 : Int32) (a8 : Int32) (I : mI) (J : mJ), m_finders_j123 Q k42 a1 a3 a4 a5 a6 a8 I J → hh_V X 123 [(1, .int a1), (3, .int a3), (4, .int a4), (5, .int a5), (6, .int a6), (8, .int a8)] [] 0 0 (hm I J) := by
  intro a1 a3 a4 a5 a6 a8 I J hf
  unfold m_finders_j123 at hf
  refine hv_iconst (v := 1) hX ic_1 dX14_finders_123 ?_
  refine hv_goto (tgt := 128) hX dX14_finders_124 (by decide) ?_
  exact w_finders_j128 hX hN hE hk42 _ _ _ _ _ _ _ _ _ hf
def m_finders_j93 (Q : Int32 → mI → mJ → Prop) (k42 : Int32 → Int32 → Int32 → Int32 → Int32 → mI → mJ → Prop) (a1 : Int32) (a3 : Int32) (a4 : Int32) (a5 : Int32) (a6 : Int32) (a7 : Int32) (s0 : Int32) (I : mI) (J : mJ) : Prop :=
  (a7 = 0 →
    m_finders_j123 Q k42 a1 a3 a4 a5 a6 s0 I J) ∧ (¬ a7 = 0 →
    (((a6 * a4) * a7) < (((a3 * a7) + a4) * (a7 + 1)) →
      m_finders_j128 Q k42 a1 a3 a4 a5 a6 s0 0 I J) ∧ (¬ ((a6 * a4) * a7) < (((a3 * a7) + a4) * (a7 + 1)) →
      m_finders_j123 Q k42 a1 a3 a4 a5 a6 s0 I J))
theorem w_finders_j93 {X : hh_CX} {Q : Int32 → mI → mJ → Prop} (hX : hh_C X cX14_finders RX14 (hrm 1 22)) (hN : hh_nL X = 10) (hE : hh_E X (some .int) (mQi Q) 0 0) {k42 : Int32 → Int32 → Int32 → Int32 → Int32 → mI → mJ → Prop} (hk42 : ∀ (b0 : Int32) (b1 : Int32) (b2 : Int32) (b3 : Int32) (b4 : Int32) (I : mI) (J : mJ), k42 b0 b1 b2 b3 b4 I J → hh_V X 42 [(1, .int b0), (3, .int b1), (4, .int b2), (5, .int b3), (6, .int b4)] [] 0 0 (hm I J)) : ∀ (a1 : Int32) (a3 : Int32) (a4 : Int32) (a5 : Int32) (a6 : Int32) (a7 : Int32) (s0 : Int32) (I : mI) (J : mJ), m_finders_j93 Q k42 a1 a3 a4 a5 a6 a7 s0 I J → hh_V X 93 [(1, .int a1), (3, .int a3), (4, .int a4), (5, .int a5), (6, .int a6), (7, .int a7)] [.int s0] 0 0 (hm I J) := by
  intro a1 a3 a4 a5 a6 a7 s0 I J hf
  unfold m_finders_j93 at hf
  refine hv_istore (loc2 := [(8, .int s0), (1, .int a1), (3, .int a3), (4, .int a4), (5, .int a5), (6, .int a6), (7, .int a7)]) hX dX14_finders_93 hN (Nat.le_of_ble_eq_true rfl) rfl ?_
  refine hv_iload hX dX14_finders_95 6 rfl ?_
  refine hv_if_eq (tgt := 123) hX dX14_finders_97 (by decide) (fun c15 => ?_) (fun c15 => ?_)
  · replace hf := hf.1 c15
    refine hv_fewer [1, 2, 3, 4, 5, 0] (loc2 := [(1, .int a1), (3, .int a3), (4, .int a4), (5, .int a5), (6, .int a6), (8, .int s0)]) rfl ?_
    exact w_finders_j123 hX hN hE hk42 _ _ _ _ _ _ _ _ hf
  · replace hf := hf.2 c15
    refine hv_iload_n hX dX14_finders_100 rfl 2 rfl ?_
    refine hv_iload hX dX14_finders_101 6 rfl ?_
    refine hv_imul hX dX14_finders_103 ?_
    refine hv_iload hX dX14_finders_104 3 rfl ?_
    refine hv_iadd hX dX14_finders_106 ?_
    refine hv_iload hX dX14_finders_107 6 rfl ?_
    refine hv_iconst (v := 1) hX ic_1 dX14_finders_109 ?_
    refine hv_iadd hX dX14_finders_110 ?_
    refine hv_imul hX dX14_finders_111 ?_
    refine hv_iload hX dX14_finders_112 5 rfl ?_
    refine hv_iload hX dX14_finders_114 3 rfl ?_
    refine hv_imul hX dX14_finders_116 ?_
    refine hv_iload hX dX14_finders_117 6 rfl ?_
    refine hv_imul hX dX14_finders_119 ?_
    refine hv_icmp_gt (tgt := 127) hX dX14_finders_120 (by decide) (fun c18 => ?_) (fun c18 => ?_)
    · replace hf := hf.1 c18
      refine hv_iconst (v := 0) hX ic_0 dX14_finders_127 ?_
      refine hv_fewer [1, 2, 3, 4, 5, 0] (loc2 := [(1, .int a1), (3, .int a3), (4, .int a4), (5, .int a5), (6, .int a6), (8, .int s0)]) rfl ?_
      exact w_finders_j128 hX hN hE hk42 _ _ _ _ _ _ _ _ _ hf
    · replace hf := hf.2 c18
      refine hv_fewer [1, 2, 3, 4, 5, 0] (loc2 := [(1, .int a1), (3, .int a3), (4, .int a4), (5, .int a5), (6, .int a6), (8, .int s0)]) rfl ?_
      exact w_finders_j123 hX hN hE hk42 _ _ _ _ _ _ _ _ hf
def m_finders_j88 (Q : Int32 → mI → mJ → Prop) (k42 : Int32 → Int32 → Int32 → Int32 → Int32 → mI → mJ → Prop) (a1 : Int32) (a3 : Int32) (a4 : Int32) (a5 : Int32) (a6 : Int32) (a7 : Int32) (I : mI) (J : mJ) : Prop :=
  m_finders_j93 Q k42 a1 a3 a4 a5 a6 a7 1 I J
theorem w_finders_j88 {X : hh_CX} {Q : Int32 → mI → mJ → Prop} (hX : hh_C X cX14_finders RX14 (hrm 1 22)) (hN : hh_nL X = 10) (hE : hh_E X (some .int) (mQi Q) 0 0) {k42 : Int32 → Int32 → Int32 → Int32 → Int32 → mI → mJ → Prop} (hk42 : ∀ (b0 : Int32) (b1 : Int32) (b2 : Int32) (b3 : Int32) (b4 : Int32) (I : mI) (J : mJ), k42 b0 b1 b2 b3 b4 I J → hh_V X 42 [(1, .int b0), (3, .int b1), (4, .int b2), (5, .int b3), (6, .int b4)] [] 0 0 (hm I J)) : ∀ (a1 : Int32) (a3 : Int32) (a4 : Int32) (a5 : Int32) (a6 : Int32) (a7 : Int32) (I : mI) (J : mJ), m_finders_j88 Q k42 a1 a3 a4 a5 a6 a7 I J → hh_V X 88 [(1, .int a1), (3, .int a3), (4, .int a4), (5, .int a5), (6, .int a6), (7, .int a7)] [] 0 0 (hm I J) := by
  intro a1 a3 a4 a5 a6 a7 I J hf
  unfold m_finders_j88 at hf
  refine hv_iconst (v := 1) hX ic_1 dX14_finders_88 ?_
  refine hv_goto (tgt := 93) hX dX14_finders_89 (by decide) ?_
  exact w_finders_j93 hX hN hE hk42 _ _ _ _ _ _ _ _ _ hf
def m_finders_l42 (Q : Int32 → mI → mJ → Prop) : Nat → Int32 → Int32 → Int32 → Int32 → Int32 → mI → mJ → Prop
  | 0, _, _, _, _, _, _, _ => False
  | n + 1, a1, a3, a4, a5, a6, I, J =>
    (a1 < a6 →
      Q a5 I J) ∧ (¬ a1 < a6 →
      (a6 = 0 →
        m_finders_j88 Q (fun b0 b1 b2 b3 b4 I J => m_finders_l42 Q n b0 b1 b2 b3 b4 I J) a1 a3 a4 a5 a6 (a1 - a6) I J) ∧ (¬ a6 = 0 →
        ((((a3 * ((a1 - a6) + 1)) + a4) * ((a1 - a6) + 2)) < (((a6 - 1) * a4) * ((a1 - a6) + 1)) →
          m_finders_j93 Q (fun b0 b1 b2 b3 b4 I J => m_finders_l42 Q n b0 b1 b2 b3 b4 I J) a1 a3 a4 a5 a6 (a1 - a6) 0 I J) ∧ (¬ (((a3 * ((a1 - a6) + 1)) + a4) * ((a1 - a6) + 2)) < (((a6 - 1) * a4) * ((a1 - a6) + 1)) →
          m_finders_j88 Q (fun b0 b1 b2 b3 b4 I J => m_finders_l42 Q n b0 b1 b2 b3 b4 I J) a1 a3 a4 a5 a6 (a1 - a6) I J)))
theorem w_finders_l42 {X : hh_CX} {Q : Int32 → mI → mJ → Prop} (hX : hh_C X cX14_finders RX14 (hrm 1 22)) (hN : hh_nL X = 10) (hE : hh_E X (some .int) (mQi Q) 0 0) : ∀ (n : Nat) (a1 : Int32) (a3 : Int32) (a4 : Int32) (a5 : Int32) (a6 : Int32) (I : mI) (J : mJ), m_finders_l42 Q  n a1 a3 a4 a5 a6 I J → hh_V X 42 [(1, .int a1), (3, .int a3), (4, .int a4), (5, .int a5), (6, .int a6)] [] 0 0 (hm I J) := by
  intro n
  induction n with
  | zero => intro _ _ _ _ _ _ _ hf; exact hf.elim
  | succ n ih =>
    intro a1 a3 a4 a5 a6 I J hf
    unfold m_finders_l42 at hf
    refine hv_iload hX dX14_finders_42 4 rfl ?_
    refine hv_iload_n hX dX14_finders_44 rfl 0 rfl ?_
    refine hv_icmp_gt (tgt := 159) hX dX14_finders_45 (by decide) (fun c13 => ?_) (fun c13 => ?_)
    · replace hf := hf.1 c13
      refine hv_iload hX dX14_finders_159 3 rfl ?_
      exact hm_iret hX hE dX14_finders_161 hf
    · replace hf := hf.2 c13
      refine hv_iload_n hX dX14_finders_48 rfl 0 rfl ?_
      refine hv_iload hX dX14_finders_49 4 rfl ?_
      refine hv_isub hX dX14_finders_51 ?_
      refine hv_istore (loc2 := [(7, .int (a1 - a6)), (1, .int a1), (3, .int a3), (4, .int a4), (5, .int a5), (6, .int a6)]) hX dX14_finders_52 hN (Nat.le_of_ble_eq_true rfl) rfl ?_
      refine hv_iload hX dX14_finders_54 5 rfl ?_
      refine hv_if_eq (tgt := 88) hX dX14_finders_56 (by decide) (fun c14 => ?_) (fun c14 => ?_)
      · replace hf := hf.1 c14
        refine hv_fewer [1, 2, 3, 4, 5, 0] (loc2 := [(1, .int a1), (3, .int a3), (4, .int a4), (5, .int a5), (6, .int a6), (7, .int (a1 - a6))]) rfl ?_
        exact w_finders_j88 hX hN hE ih _ _ _ _ _ _ _ _ hf
      · replace hf := hf.2 c14
        refine hv_iload hX dX14_finders_59 5 rfl ?_
        refine hv_iconst (v := 1) hX ic_1 dX14_finders_61 ?_
        refine hv_isub hX dX14_finders_62 ?_
        refine hv_iload hX dX14_finders_63 3 rfl ?_
        refine hv_imul hX dX14_finders_65 ?_
        refine hv_iload hX dX14_finders_66 0 rfl ?_
        refine hv_iconst (v := 1) hX ic_1 dX14_finders_68 ?_
        refine hv_iadd hX dX14_finders_69 ?_
        refine hv_imul hX dX14_finders_70 ?_
        refine hv_iload_n hX dX14_finders_71 rfl 2 rfl ?_
        refine hv_iload hX dX14_finders_72 0 rfl ?_
        refine hv_iconst (v := 1) hX ic_1 dX14_finders_74 ?_
        refine hv_iadd hX dX14_finders_75 ?_
        refine hv_imul hX dX14_finders_76 ?_
        refine hv_iload hX dX14_finders_77 3 rfl ?_
        refine hv_iadd hX dX14_finders_79 ?_
        refine hv_iload hX dX14_finders_80 0 rfl ?_
        refine hv_iconst (v := 2) hX ic_2 dX14_finders_82 ?_
        refine hv_iadd hX dX14_finders_83 ?_
        refine hv_imul hX dX14_finders_84 ?_
        refine hv_icmp_gt (tgt := 92) hX dX14_finders_85 (by decide) (fun c19 => ?_) (fun c19 => ?_)
        · replace hf := hf.1 c19
          refine hv_iconst (v := 0) hX ic_0 dX14_finders_92 ?_
          refine hv_fewer [1, 2, 3, 4, 5, 0] (loc2 := [(1, .int a1), (3, .int a3), (4, .int a4), (5, .int a5), (6, .int a6), (7, .int (a1 - a6))]) rfl ?_
          exact w_finders_j93 hX hN hE ih _ _ _ _ _ _ _ _ _ hf
        · replace hf := hf.2 c19
          refine hv_fewer [1, 2, 3, 4, 5, 0] (loc2 := [(1, .int a1), (3, .int a3), (4, .int a4), (5, .int a5), (6, .int a6), (7, .int (a1 - a6))]) rfl ?_
          exact w_finders_j88 hX hN hE ih _ _ _ _ _ _ _ _ hf
def m_finders (a1 : Int32) (a2 : Int32) (a3 : Int32) (I : mI) (J : mJ) (Q : Int32 → mI → mJ → Prop) : Prop :=
  m_in a1 2 20 I J (fun r1 I2 J3 => (r1 = 0 →
    Q (-1) I2 J3) ∧ (¬ r1 = 0 →
    m_in a2 1 60 I2 J3 (fun r5 I6 J7 => (r5 = 0 →
      Q (-1) I6 J7) ∧ (¬ r5 = 0 →
      m_in a3 0 a2 I6 J7 (fun r9 I10 J11 => (r9 = 0 →
        Q (-1) I10 J11) ∧ (¬ r9 = 0 →
        ∃ n0 : Nat, m_finders_l42 Q  n0 a1 a3 (a2 - a3) 0 0 I10 J11))))))
theorem ct_finders (a1 : Int32) (a2 : Int32) (a3 : Int32) (I : mI) (J : mJ) (Q : Int32 → mI → mJ → Prop) (hf : m_finders a1 a2 a3 I J Q) : hh_Ct yX14_finders cX14_finders 10 (some .int) 1 22 [.ref 0, .int a1, .int a2, .int a3] (hm I J) (mQi Q) 0 0 := by
  refine hh_Ct.of (own := RX14) rfl (by decide +kernel) (Nat.le_of_ble_eq_true rfl) ?_
  intro X hX hN hE
  show hh_V X 0 [(0, .ref 0), (1, .int a1), (2, .int a2), (3, .int a3)] [] 0 0 (hm I J)
  unfold m_finders at hf
  refine hv_iload_n hX dX14_finders_0 rfl 1 rfl ?_
  refine hv_iconst (v := 2) hX ic_2 dX14_finders_1 ?_
  refine hv_bipush (v := 20) hX bi_20 dX14_finders_2 ?_
  refine hm_callSi hX dX14_finders_4 (ct_in a1 2 20 I J _ hf) (gd_in q1923) np_in rfl rfl ⟨Nat.le_of_ble_eq_true rfl, Nat.le_of_ble_eq_true rfl⟩ ⟨Nat.le_refl _, Nat.le_refl _⟩ (Nat.le_of_ble_eq_true rfl) ?_
  intro r1 I2 J3 hf
  refine hv_if_eq (tgt := 29) hX dX14_finders_7 (by decide) (fun c4 => ?_) (fun c4 => ?_)
  · replace hf := hf.1 c4
    refine hv_iconst (v := (-1)) hX ic_m1 dX14_finders_29 ?_
    exact hm_iret hX hE dX14_finders_30 hf
  · replace hf := hf.2 c4
    refine hv_iload_n hX dX14_finders_10 rfl 2 rfl ?_
    refine hv_iconst (v := 1) hX ic_1 dX14_finders_11 ?_
    refine hv_bipush (v := 60) hX bi_60 dX14_finders_12 ?_
    refine hm_callSi hX dX14_finders_14 (ct_in a2 1 60 I2 J3 _ hf) (gd_in q1923) np_in rfl rfl ⟨Nat.le_of_ble_eq_true rfl, Nat.le_of_ble_eq_true rfl⟩ ⟨Nat.le_refl _, Nat.le_refl _⟩ (Nat.le_of_ble_eq_true rfl) ?_
    intro r5 I6 J7 hf
    refine hv_if_eq (tgt := 29) hX dX14_finders_17 (by decide) (fun c8 => ?_) (fun c8 => ?_)
    · replace hf := hf.1 c8
      refine hv_iconst (v := (-1)) hX ic_m1 dX14_finders_29 ?_
      exact hm_iret hX hE dX14_finders_30 hf
    · replace hf := hf.2 c8
      refine hv_iload_n hX dX14_finders_20 rfl 3 rfl ?_
      refine hv_iconst (v := 0) hX ic_0 dX14_finders_21 ?_
      refine hv_iload_n hX dX14_finders_22 rfl 2 rfl ?_
      refine hm_callSi hX dX14_finders_23 (ct_in a3 0 a2 I6 J7 _ hf) (gd_in q1923) np_in rfl rfl ⟨Nat.le_of_ble_eq_true rfl, Nat.le_of_ble_eq_true rfl⟩ ⟨Nat.le_refl _, Nat.le_refl _⟩ (Nat.le_of_ble_eq_true rfl) ?_
      intro r9 I10 J11 hf
      refine hv_if_ne (tgt := 31) hX dX14_finders_26 (by decide) (fun c12 => ?_) (fun c12 => ?_)
      · replace hf := hf.2 c12
        refine hv_iload_n hX dX14_finders_31 rfl 2 rfl ?_
        refine hv_iload_n hX dX14_finders_32 rfl 3 rfl ?_
        refine hv_isub hX dX14_finders_33 ?_
        refine hv_istore (loc2 := [(4, .int (a2 - a3)), (0, .ref 0), (1, .int a1), (2, .int a2), (3, .int a3)]) hX dX14_finders_34 hN (Nat.le_of_ble_eq_true rfl) rfl ?_
        refine hv_iconst (v := 0) hX ic_0 dX14_finders_36 ?_
        refine hv_istore (loc2 := [(5, .int 0), (4, .int (a2 - a3)), (0, .ref 0), (1, .int a1), (2, .int a2), (3, .int a3)]) hX dX14_finders_37 hN (Nat.le_of_ble_eq_true rfl) rfl ?_
        refine hv_iconst (v := 0) hX ic_0 dX14_finders_39 ?_
        refine hv_istore (loc2 := [(6, .int 0), (5, .int 0), (4, .int (a2 - a3)), (0, .ref 0), (1, .int a1), (2, .int a2), (3, .int a3)]) hX dX14_finders_40 hN (Nat.le_of_ble_eq_true rfl) rfl ?_
        refine hv_fewer [4, 6, 2, 1, 0] (loc2 := [(1, .int a1), (3, .int a3), (4, .int (a2 - a3)), (5, .int 0), (6, .int 0)]) rfl ?_
        obtain ⟨n0, hf⟩ := hf
        exact w_finders_l42 hX hN hE  n0 _ _ _ _ _ _ _ hf
      · replace hf := hf.1 c12
        refine hv_iconst (v := (-1)) hX ic_m1 dX14_finders_29 ?_
        exact hm_iret hX hE dX14_finders_30 hf
theorem np_finders : yX14_finders.cls = RX14 ∧ yX14_finders.cls ≠ "java/lang/invoke/MethodHandle" ∧ yX14_finders.cls ≠ "java/lang/invoke/VarHandle" ∧ (parseMethodDescriptor yX14_finders.desc).map (fun d => d.parameters.length) = some 3 := by decide +kernel
theorem gd_finders {idx : Nat} (h : Cond.methodLink RX14 idx yX14_finders ∈ lw_all) : GoodIn lw_all (wsV RX14 idx RX14 yX14_finders (ws_ yX14_finders cX14_finders 10 (some .int))) := lw_V h q2135 q2136 q123 q2137
/-! feed(JI)I -/
def m_feed_l30 (Q : Int32 → mI → mJ → Prop) : Nat → Int64 → Int32 → Int32 → mI → mJ → Prop
  | 0, _, _, _, _, _ => False
  | n + 1, a1, a3, a4, I, J =>
    (a3 ≤ a4 →
      Q (I 0 39) I J) ∧ (¬ a3 ≤ a4 →
      vp_in (I 0 39) 200 ∧ (m_feed_l30 Q n a1 a3 (a4 + 1) (u2 (u2 I 19 (I 0 39).toNatClampNeg ((((a1.toUInt64 >>> ((8 * a4).toInt64.toUInt64 &&& Int64.toUInt64 63)).toInt64) &&& 255).toInt32)) 0 39 ((I 0 39) + 1)) J))
theorem w_feed_l30 {X : hh_CX} {Q : Int32 → mI → mJ → Prop} (hX : hh_C X cX14_feed RX14 (hrm 1 22)) (hN : hh_nL X = 5) (hE : hh_E X (some .int) (mQi Q) 0 0) : ∀ (n : Nat) (a1 : Int64) (a3 : Int32) (a4 : Int32) (I : mI) (J : mJ), m_feed_l30 Q  n a1 a3 a4 I J → hh_V X 30 [(0, .ref 0), (1, .long a1), (3, .int a3), (4, .int a4)] [] 0 0 (hm I J) := by
  intro n
  induction n with
  | zero => intro _ _ _ _ _ hf; exact hf.elim
  | succ n ih =>
    intro a1 a3 a4 I J hf
    unfold m_feed_l30 at hf
    refine hv_iload hX dX14_feed_30 3 rfl ?_
    refine hv_iload_n hX dX14_feed_32 rfl 2 rfl ?_
    refine hv_icmp_ge (tgt := 73) hX dX14_feed_33 (by decide) (fun c6 => ?_) (fun c6 => ?_)
    · replace hf := hf.1 c6
      refine hv_aload_n hX dX14_feed_73 rfl 0 rfl ?_
      refine hm_getI (v := (I 0 39)) hX dX14_feed_74 mfl287 (.inl rfl) rfl ?_
      exact hm_iret hX hE dX14_feed_77 hf
    · replace hf := hf.2 c6
      refine hv_aload_n hX dX14_feed_36 rfl 0 rfl ?_
      refine hm_getR hX dX14_feed_37 mfl82 19 rfl ?_
      refine hv_aload_n hX dX14_feed_40 rfl 0 rfl ?_
      refine hm_getI (v := (I 0 39)) hX dX14_feed_41 mfl287 (.inl rfl) rfl ?_
      refine hv_lload_n hX dX14_feed_44 rfl 1 rfl ?_
      refine hv_bipush (v := 8) hX bi_8 dX14_feed_45 ?_
      refine hv_iload hX dX14_feed_47 3 rfl ?_
      refine hv_imul hX dX14_feed_49 ?_
      refine hv_lushr hX dX14_feed_50 ?_
      refine hv_ldc2 (v := 255) hX dX14_feed_51 q2142 ?_
      refine hv_land hX dX14_feed_54 ?_
      refine hv_l2i hX dX14_feed_55 ?_
      obtain ⟨g, hf⟩ := hf
      refine hm_iast hX dX14_feed_56 (by decide) rfl rfl g ?_
      refine hv_aload_n hX dX14_feed_57 rfl 0 rfl ?_
      refine hv_dup hX rfl dX14_feed_58 ?_
      refine hm_getI (v := (I 0 39)) hX dX14_feed_59 mfl287 (.inl rfl) ((u2_ne _ _ (.inl (by decide)))) ?_
      refine hv_iconst (v := 1) hX ic_1 dX14_feed_62 ?_
      refine hv_iadd hX dX14_feed_63 ?_
      refine hm_putI hX dX14_feed_64 mfl287 ?_
      refine hv_iinc (v := (a4 + 1)) (loc2 := [(4, .int (a4 + 1)), (0, .ref 0), (1, .long a1), (3, .int a3)]) hX dX14_feed_67 3 rfl (congrArg (fun y => a4 + y) ic_1) hN (Nat.le_of_ble_eq_true rfl) rfl ?_
      refine hv_goto (tgt := 30) hX dX14_feed_70 (by decide) ?_
      refine hv_fewer [1, 2, 3, 0] (loc2 := [(0, .ref 0), (1, .long a1), (3, .int a3), (4, .int (a4 + 1))]) rfl ?_
      exact ih _ _ _ _ _ hf
def m_feed (a1 : Int64) (a3 : Int32) (I : mI) (J : mJ) (Q : Int32 → mI → mJ → Prop) : Prop :=
  m_in a3 1 8 I J (fun r1 I2 J3 => (r1 = 0 →
    Q (-1) I2 J3) ∧ (¬ r1 = 0 →
    (((I2 0 39) + a3) ≤ 200 →
      ∃ n0 : Nat, m_feed_l30 Q  n0 a1 a3 0 I2 J3) ∧ (¬ ((I2 0 39) + a3) ≤ 200 →
      Q (-2) I2 J3)))
theorem ct_feed (a1 : Int64) (a3 : Int32) (I : mI) (J : mJ) (Q : Int32 → mI → mJ → Prop) (hf : m_feed a1 a3 I J Q) : hh_Ct yX14_feed cX14_feed 5 (some .int) 1 22 [.ref 0, .long a1, .int a3] (hm I J) (mQi Q) 0 0 := by
  refine hh_Ct.of (own := RX14) rfl (by decide +kernel) (Nat.le_of_ble_eq_true rfl) ?_
  intro X hX hN hE
  show hh_V X 0 [(0, .ref 0), (1, .long a1), (3, .int a3)] [] 0 0 (hm I J)
  unfold m_feed at hf
  refine hv_iload_n hX dX14_feed_0 rfl 2 rfl ?_
  refine hv_iconst (v := 1) hX ic_1 dX14_feed_1 ?_
  refine hv_bipush (v := 8) hX bi_8 dX14_feed_2 ?_
  refine hm_callSi hX dX14_feed_4 (ct_in a3 1 8 I J _ hf) (gd_in q1923) np_in rfl rfl ⟨Nat.le_of_ble_eq_true rfl, Nat.le_of_ble_eq_true rfl⟩ ⟨Nat.le_refl _, Nat.le_refl _⟩ (Nat.le_of_ble_eq_true rfl) ?_
  intro r1 I2 J3 hf
  refine hv_if_ne (tgt := 12) hX dX14_feed_7 (by decide) (fun c4 => ?_) (fun c4 => ?_)
  · replace hf := hf.2 c4
    refine hv_aload_n hX dX14_feed_12 rfl 0 rfl ?_
    refine hm_getI (v := (I2 0 39)) hX dX14_feed_13 mfl287 (.inl rfl) rfl ?_
    refine hv_iload_n hX dX14_feed_16 rfl 2 rfl ?_
    refine hv_iadd hX dX14_feed_17 ?_
    refine hv_sipush (v := 200) hX si_200 dX14_feed_18 ?_
    refine hv_icmp_le (tgt := 27) hX dX14_feed_21 (by decide) (fun c5 => ?_) (fun c5 => ?_)
    · replace hf := hf.1 c5
      refine hv_iconst (v := 0) hX ic_0 dX14_feed_27 ?_
      refine hv_istore (loc2 := [(4, .int 0), (0, .ref 0), (1, .long a1), (3, .int a3)]) hX dX14_feed_28 hN (Nat.le_of_ble_eq_true rfl) rfl ?_
      refine hv_fewer [1, 2, 3, 0] (loc2 := [(0, .ref 0), (1, .long a1), (3, .int a3), (4, .int 0)]) rfl ?_
      obtain ⟨n0, hf⟩ := hf
      exact w_feed_l30 hX hN hE  n0 _ _ _ _ _ hf
    · replace hf := hf.2 c5
      refine hv_bipush (v := (-2)) hX bi_m2 dX14_feed_24 ?_
      exact hm_iret hX hE dX14_feed_26 hf
  · replace hf := hf.1 c4
    refine hv_iconst (v := (-1)) hX ic_m1 dX14_feed_10 ?_
    exact hm_iret hX hE dX14_feed_11 hf
theorem np_feed : yX14_feed.cls = RX14 ∧ yX14_feed.cls ≠ "java/lang/invoke/MethodHandle" ∧ yX14_feed.cls ≠ "java/lang/invoke/VarHandle" ∧ (parseMethodDescriptor yX14_feed.desc).map (fun d => d.parameters.length) = some 2 := by decide +kernel
theorem gd_feed {idx : Nat} (h : Cond.methodLink RX14 idx yX14_feed ∈ lw_all) : GoodIn lw_all (wsV RX14 idx RX14 yX14_feed (ws_ yX14_feed cX14_feed 5 (some .int))) := lw_V h q2139 q2140 q123 q2141
/-! isLetter(I)Z -/
def m_isLetter (a0 : Int32) (I : mI) (J : mJ) (Q : Int32 → mI → mJ → Prop) : Prop :=
  (a0 < 97 →
    Q 0 I J) ∧ (¬ a0 < 97 →
    ((122 : Int32) < a0 →
      Q 0 I J) ∧ (¬ (122 : Int32) < a0 →
      Q 1 I J))
theorem ct_isLetter (a0 : Int32) (I : mI) (J : mJ) (Q : Int32 → mI → mJ → Prop) (hf : m_isLetter a0 I J Q) : hh_Ct yX14_isLetter cX14_isLetter 1 (some .boolean) 0 0 [.int a0] (hm I J) (mQi Q) 0 0 := by
  refine hh_Ct.of (own := RX14) rfl (by decide +kernel) (Nat.le_of_ble_eq_true rfl) ?_
  intro X hX hN hE
  show hh_V X 0 [(0, .int a0)] [] 0 0 (hm I J)
  unfold m_isLetter at hf
  refine hv_iload_n hX dX14_isLetter_0 rfl 0 rfl ?_
  refine hv_bipush (v := 97) hX bi_97 dX14_isLetter_1 ?_
  refine hv_icmp_lt (tgt := 16) hX dX14_isLetter_3 (by decide) (fun c1 => ?_) (fun c1 => ?_)
  · replace hf := hf.1 c1
    refine hv_iconst (v := 0) hX ic_0 dX14_isLetter_16 ?_
    exact hm_zret hX hE dX14_isLetter_17 (by decide) hf
  · replace hf := hf.2 c1
    refine hv_iload_n hX dX14_isLetter_6 rfl 0 rfl ?_
    refine hv_bipush (v := 122) hX bi_122 dX14_isLetter_7 ?_
    refine hv_icmp_gt (tgt := 16) hX dX14_isLetter_9 (by decide) (fun c2 => ?_) (fun c2 => ?_)
    · replace hf := hf.1 c2
      refine hv_iconst (v := 0) hX ic_0 dX14_isLetter_16 ?_
      exact hm_zret hX hE dX14_isLetter_17 (by decide) hf
    · replace hf := hf.2 c2
      refine hv_iconst (v := 1) hX ic_1 dX14_isLetter_12 ?_
      refine hv_goto (tgt := 17) hX dX14_isLetter_13 (by decide) ?_
      exact hm_zret hX hE dX14_isLetter_17 (by decide) hf
theorem np_isLetter : yX14_isLetter.cls ≠ "java/lang/invoke/MethodHandle" ∧ yX14_isLetter.cls ≠ "java/lang/invoke/VarHandle" ∧ (parseMethodDescriptor yX14_isLetter.desc).map (fun d => d.parameters.length) = some 1 := by decide +kernel
theorem gd_isLetter {idx : Nat} (h : Cond.methodLink RX14 idx yX14_isLetter ∈ lw_all) : GoodIn lw_all (va_wsS RX14 idx yX14_isLetter (ws_ yX14_isLetter cX14_isLetter 1 (some .boolean))) := lw_S h q2152 q123 q2153
/-! isDigit(I)Z -/
def m_isDigit (a0 : Int32) (I : mI) (J : mJ) (Q : Int32 → mI → mJ → Prop) : Prop :=
  (a0 < 48 →
    Q 0 I J) ∧ (¬ a0 < 48 →
    ((57 : Int32) < a0 →
      Q 0 I J) ∧ (¬ (57 : Int32) < a0 →
      Q 1 I J))
theorem ct_isDigit (a0 : Int32) (I : mI) (J : mJ) (Q : Int32 → mI → mJ → Prop) (hf : m_isDigit a0 I J Q) : hh_Ct yX14_isDigit cX14_isDigit 1 (some .boolean) 0 0 [.int a0] (hm I J) (mQi Q) 0 0 := by
  refine hh_Ct.of (own := RX14) rfl (by decide +kernel) (Nat.le_of_ble_eq_true rfl) ?_
  intro X hX hN hE
  show hh_V X 0 [(0, .int a0)] [] 0 0 (hm I J)
  unfold m_isDigit at hf
  refine hv_iload_n hX dX14_isDigit_0 rfl 0 rfl ?_
  refine hv_bipush (v := 48) hX bi_48 dX14_isDigit_1 ?_
  refine hv_icmp_lt (tgt := 16) hX dX14_isDigit_3 (by decide) (fun c1 => ?_) (fun c1 => ?_)
  · replace hf := hf.1 c1
    refine hv_iconst (v := 0) hX ic_0 dX14_isDigit_16 ?_
    exact hm_zret hX hE dX14_isDigit_17 (by decide) hf
  · replace hf := hf.2 c1
    refine hv_iload_n hX dX14_isDigit_6 rfl 0 rfl ?_
    refine hv_bipush (v := 57) hX bi_57 dX14_isDigit_7 ?_
    refine hv_icmp_gt (tgt := 16) hX dX14_isDigit_9 (by decide) (fun c2 => ?_) (fun c2 => ?_)
    · replace hf := hf.1 c2
      refine hv_iconst (v := 0) hX ic_0 dX14_isDigit_16 ?_
      exact hm_zret hX hE dX14_isDigit_17 (by decide) hf
    · replace hf := hf.2 c2
      refine hv_iconst (v := 1) hX ic_1 dX14_isDigit_12 ?_
      refine hv_goto (tgt := 17) hX dX14_isDigit_13 (by decide) ?_
      exact hm_zret hX hE dX14_isDigit_17 (by decide) hf
theorem np_isDigit : yX14_isDigit.cls ≠ "java/lang/invoke/MethodHandle" ∧ yX14_isDigit.cls ≠ "java/lang/invoke/VarHandle" ∧ (parseMethodDescriptor yX14_isDigit.desc).map (fun d => d.parameters.length) = some 1 := by decide +kernel
theorem gd_isDigit {idx : Nat} (h : Cond.methodLink RX14 idx yX14_isDigit ∈ lw_all) : GoodIn lw_all (va_wsS RX14 idx yX14_isDigit (ws_ yX14_isDigit cX14_isDigit 1 (some .boolean))) := lw_S h q2157 q123 q2158
/-! advance()V -/
def m_advance_j239 (Q : mI → mJ → Prop) (k181 : Int32 → mI → mJ → Prop) (a1 : Int32) (s1 : Int64) (I : mI) (J : mJ) : Prop :=
  k181 (a1 + 1) I (u2 J 0 43 s1)
theorem w_advance_j239 {X : hh_CX} {Q : mI → mJ → Prop} (hX : hh_C X cX14_advance RX14 (hrm 1 20)) (hN : hh_nL X = 2) (hE : hh_E X none (mQv Q) 0 0) {k181 : Int32 → mI → mJ → Prop} (hk181 : ∀ (b0 : Int32) (I : mI) (J : mJ), k181 b0 I J → hh_V X 181 [(0, .ref 0), (1, .int b0)] [] 0 0 (hm I J)) : ∀ (a1 : Int32) (s1 : Int64) (I : mI) (J : mJ), m_advance_j239 Q k181 a1 s1 I J → hh_V X 239 [(0, .ref 0), (1, .int a1)] [.long s1, .ref 0] 0 0 (hm I J) := by
  intro a1 s1 I J hf
  unfold m_advance_j239 at hf
  refine hm_putJ hX dX14_advance_239 mfl298 ?_
  refine hv_iinc (v := (a1 + 1)) (loc2 := [(1, .int (a1 + 1)), (0, .ref 0)]) hX dX14_advance_242 1 rfl (congrArg (fun y => a1 + y) ic_1) hN (Nat.le_of_ble_eq_true rfl) rfl ?_
  refine hv_goto (tgt := 181) hX dX14_advance_245 (by decide) ?_
  refine hv_fewer [1, 0] (loc2 := [(0, .ref 0), (1, .int (a1 + 1))]) rfl ?_
  exact hk181 _ _ _ hf
def m_advance_l181 (Q : mI → mJ → Prop) : Nat → Int32 → mI → mJ → Prop
  | 0, _, _, _ => False
  | n + 1, a1, I, J =>
    ((I 0 39) ≤ a1 →
      Q (u2 I 0 42 a1) J) ∧ (¬ (I 0 39) ≤ a1 →
      vp_in a1 200 ∧ (m_isDigit (I 19 a1.toNatClampNeg) I J (fun r12 I13 J14 => (r12 = 0 →
        Q (u2 I13 0 42 a1) J14) ∧ (¬ r12 = 0 →
        ((3 : Int32) ≤ (a1 - (I13 0 41)) →
          m_advance_j239 Q (fun b0 I J => m_advance_l181 Q n b0 I J) a1 (J14 0 43) I13 J14) ∧ (¬ (3 : Int32) ≤ (a1 - (I13 0 41)) →
          vp_in a1 200 ∧ (m_advance_j239 Q (fun b0 I J => m_advance_l181 Q n b0 I J) a1 (((10 * (J14 0 43)) + ((I13 19 a1.toNatClampNeg).toInt64)) - 48) I13 J14))))))
theorem w_advance_l181 {X : hh_CX} {Q : mI → mJ → Prop} (hX : hh_C X cX14_advance RX14 (hrm 1 20)) (hN : hh_nL X = 2) (hE : hh_E X none (mQv Q) 0 0) : ∀ (n : Nat) (a1 : Int32) (I : mI) (J : mJ), m_advance_l181 Q  n a1 I J → hh_V X 181 [(0, .ref 0), (1, .int a1)] [] 0 0 (hm I J) := by
  intro n
  induction n with
  | zero => intro _ _ _ hf; exact hf.elim
  | succ n ih =>
    intro a1 I J hf
    unfold m_advance_l181 at hf
    refine hv_iload_n hX dX14_advance_181 rfl 1 rfl ?_
    refine hv_aload_n hX dX14_advance_182 rfl 0 rfl ?_
    refine hm_getI (v := (I 0 39)) hX dX14_advance_183 mfl287 (.inl rfl) rfl ?_
    refine hv_icmp_ge (tgt := 267) hX dX14_advance_186 (by decide) (fun c11 => ?_) (fun c11 => ?_)
    · replace hf := hf.1 c11
      refine hv_aload_n hX dX14_advance_267 rfl 0 rfl ?_
      refine hv_iload_n hX dX14_advance_268 rfl 1 rfl ?_
      refine hm_putI hX dX14_advance_269 mfl292 ?_
      exact hm_vret hX hE dX14_advance_272 hf
    · replace hf := hf.2 c11
      refine hv_aload_n hX dX14_advance_189 rfl 0 rfl ?_
      refine hm_getR hX dX14_advance_190 mfl82 19 rfl ?_
      refine hv_iload_n hX dX14_advance_193 rfl 1 rfl ?_
      obtain ⟨g, hf⟩ := hf
      refine hm_iald (v := (I 19 a1.toNatClampNeg)) hX dX14_advance_194 (by decide) rfl rfl g rfl ?_
      refine hm_callSi hX dX14_advance_195 (ct_isDigit (I 19 a1.toNatClampNeg) I J _ hf) (gd_isDigit q2156) np_isDigit rfl rfl ⟨Nat.le_of_ble_eq_true rfl, Nat.le_of_ble_eq_true rfl⟩ ⟨Nat.le_refl _, Nat.le_refl _⟩ (Nat.le_of_ble_eq_true rfl) ?_
      intro r12 I13 J14 hf
      refine hv_if_eq (tgt := 267) hX dX14_advance_198 (by decide) (fun c15 => ?_) (fun c15 => ?_)
      · replace hf := hf.1 c15
        refine hv_aload_n hX dX14_advance_267 rfl 0 rfl ?_
        refine hv_iload_n hX dX14_advance_268 rfl 1 rfl ?_
        refine hm_putI hX dX14_advance_269 mfl292 ?_
        exact hm_vret hX hE dX14_advance_272 hf
      · replace hf := hf.2 c15
        refine hv_aload_n hX dX14_advance_201 rfl 0 rfl ?_
        refine hv_iload_n hX dX14_advance_202 rfl 1 rfl ?_
        refine hv_aload_n hX dX14_advance_203 rfl 0 rfl ?_
        refine hm_getI (v := (I13 0 41)) hX dX14_advance_204 mfl295 (.inl rfl) rfl ?_
        refine hv_isub hX dX14_advance_207 ?_
        refine hv_iconst (v := 3) hX ic_3 dX14_advance_208 ?_
        refine hv_icmp_ge (tgt := 235) hX dX14_advance_209 (by decide) (fun c16 => ?_) (fun c16 => ?_)
        · replace hf := hf.1 c16
          refine hv_aload_n hX dX14_advance_235 rfl 0 rfl ?_
          refine hm_getJ (v := (J14 0 43)) hX dX14_advance_236 mfl298 rfl ?_
          exact w_advance_j239 hX hN hE ih _ _ _ _ hf
        · replace hf := hf.2 c16
          refine hv_ldc2 (v := 10) hX dX14_advance_212 q2089 ?_
          refine hv_aload_n hX dX14_advance_215 rfl 0 rfl ?_
          refine hm_getJ (v := (J14 0 43)) hX dX14_advance_216 mfl298 rfl ?_
          refine hv_lmul hX dX14_advance_219 ?_
          refine hv_aload_n hX dX14_advance_220 rfl 0 rfl ?_
          refine hm_getR hX dX14_advance_221 mfl82 19 rfl ?_
          refine hv_iload_n hX dX14_advance_224 rfl 1 rfl ?_
          obtain ⟨g, hf⟩ := hf
          refine hm_iald (v := (I13 19 a1.toNatClampNeg)) hX dX14_advance_225 (by decide) rfl rfl g rfl ?_
          refine hv_i2l hX dX14_advance_226 ?_
          refine hv_ladd hX dX14_advance_227 ?_
          refine hv_ldc2 (v := 48) hX dX14_advance_228 q2159 ?_
          refine hv_lsub hX dX14_advance_231 ?_
          refine hv_goto (tgt := 239) hX dX14_advance_232 (by decide) ?_
          exact w_advance_j239 hX hN hE ih _ _ _ _ hf
def m_advance_j158 (Q : mI → mJ → Prop) (a1 : Int32) (s1 : Int64) (I : mI) (J : mJ) : Prop :=
  Q (u2 I 0 42 a1) (u2 J 0 43 s1)
theorem w_advance_j158 {X : hh_CX} {Q : mI → mJ → Prop} (hX : hh_C X cX14_advance RX14 (hrm 1 20)) (hN : hh_nL X = 2) (hE : hh_E X none (mQv Q) 0 0) : ∀ (a1 : Int32) (s1 : Int64) (I : mI) (J : mJ), m_advance_j158 Q  a1 s1 I J → hh_V X 158 [(0, .ref 0), (1, .int a1)] [.long s1, .ref 0] 0 0 (hm I J) := by
  intro a1 s1 I J hf
  unfold m_advance_j158 at hf
  refine hm_putJ hX dX14_advance_158 mfl298 ?_
  refine hv_goto (tgt := 267) hX dX14_advance_161 (by decide) ?_
  refine hv_aload_n hX dX14_advance_267 rfl 0 rfl ?_
  refine hv_iload_n hX dX14_advance_268 rfl 1 rfl ?_
  refine hm_putI hX dX14_advance_269 mfl292 ?_
  exact hm_vret hX hE dX14_advance_272 hf
def m_advance_j138 (Q : mI → mJ → Prop) (a1 : Int32) (I : mI) (J : mJ) : Prop :=
  ((a1 - (I 0 41)) ≤ 8 →
    m_advance_j158 Q  a1 (J 0 43) I J) ∧ (¬ (a1 - (I 0 41)) ≤ 8 →
    m_advance_j158 Q  a1 0 I J)
theorem w_advance_j138 {X : hh_CX} {Q : mI → mJ → Prop} (hX : hh_C X cX14_advance RX14 (hrm 1 20)) (hN : hh_nL X = 2) (hE : hh_E X none (mQv Q) 0 0) : ∀ (a1 : Int32) (I : mI) (J : mJ), m_advance_j138 Q  a1 I J → hh_V X 138 [(0, .ref 0), (1, .int a1)] [] 0 0 (hm I J) := by
  intro a1 I J hf
  unfold m_advance_j138 at hf
  refine hv_aload_n hX dX14_advance_138 rfl 0 rfl ?_
  refine hv_iload_n hX dX14_advance_139 rfl 1 rfl ?_
  refine hv_aload_n hX dX14_advance_140 rfl 0 rfl ?_
  refine hm_getI (v := (I 0 41)) hX dX14_advance_141 mfl295 (.inl rfl) rfl ?_
  refine hv_isub hX dX14_advance_144 ?_
  refine hv_bipush (v := 8) hX bi_8 dX14_advance_145 ?_
  refine hv_icmp_le (tgt := 154) hX dX14_advance_147 (by decide) (fun c18 => ?_) (fun c18 => ?_)
  · replace hf := hf.1 c18
    refine hv_aload_n hX dX14_advance_154 rfl 0 rfl ?_
    refine hm_getJ (v := (J 0 43)) hX dX14_advance_155 mfl298 rfl ?_
    exact w_advance_j158 hX hN hE  _ _ _ _ hf
  · replace hf := hf.2 c18
    refine hv_lconst (v := 0) hX rfl dX14_advance_150 ?_
    refine hv_goto (tgt := 158) hX dX14_advance_151 (by decide) ?_
    exact w_advance_j158 hX hN hE  _ _ _ _ hf
def m_advance_j129 (Q : mI → mJ → Prop) (k73 : Int32 → mI → mJ → Prop) (a1 : Int32) (s1 : Int64) (I : mI) (J : mJ) : Prop :=
  k73 (a1 + 1) I (u2 J 0 43 s1)
theorem w_advance_j129 {X : hh_CX} {Q : mI → mJ → Prop} (hX : hh_C X cX14_advance RX14 (hrm 1 20)) (hN : hh_nL X = 2) (hE : hh_E X none (mQv Q) 0 0) {k73 : Int32 → mI → mJ → Prop} (hk73 : ∀ (b0 : Int32) (I : mI) (J : mJ), k73 b0 I J → hh_V X 73 [(0, .ref 0), (1, .int b0)] [] 0 0 (hm I J)) : ∀ (a1 : Int32) (s1 : Int64) (I : mI) (J : mJ), m_advance_j129 Q k73 a1 s1 I J → hh_V X 129 [(0, .ref 0), (1, .int a1)] [.long s1, .ref 0] 0 0 (hm I J) := by
  intro a1 s1 I J hf
  unfold m_advance_j129 at hf
  refine hm_putJ hX dX14_advance_129 mfl298 ?_
  refine hv_iinc (v := (a1 + 1)) (loc2 := [(1, .int (a1 + 1)), (0, .ref 0)]) hX dX14_advance_132 1 rfl (congrArg (fun y => a1 + y) ic_1) hN (Nat.le_of_ble_eq_true rfl) rfl ?_
  refine hv_goto (tgt := 73) hX dX14_advance_135 (by decide) ?_
  refine hv_fewer [1, 0] (loc2 := [(0, .ref 0), (1, .int (a1 + 1))]) rfl ?_
  exact hk73 _ _ _ hf
def m_advance_l73 (Q : mI → mJ → Prop) : Nat → Int32 → mI → mJ → Prop
  | 0, _, _, _ => False
  | n + 1, a1, I, J =>
    ((I 0 39) ≤ a1 →
      m_advance_j138 Q  a1 I J) ∧ (¬ (I 0 39) ≤ a1 →
      vp_in a1 200 ∧ (m_isLetter (I 19 a1.toNatClampNeg) I J (fun r19 I20 J21 => (r19 = 0 →
        m_advance_j138 Q  a1 I20 J21) ∧ (¬ r19 = 0 →
        ((8 : Int32) ≤ (a1 - (I20 0 41)) →
          m_advance_j129 Q (fun b0 I J => m_advance_l73 Q n b0 I J) a1 0 I20 J21) ∧ (¬ (8 : Int32) ≤ (a1 - (I20 0 41)) →
          vp_in a1 200 ∧ (m_advance_j129 Q (fun b0 I J => m_advance_l73 Q n b0 I J) a1 (((27 * (J21 0 43)) + ((I20 19 a1.toNatClampNeg).toInt64)) - 96) I20 J21))))))
theorem w_advance_l73 {X : hh_CX} {Q : mI → mJ → Prop} (hX : hh_C X cX14_advance RX14 (hrm 1 20)) (hN : hh_nL X = 2) (hE : hh_E X none (mQv Q) 0 0) : ∀ (n : Nat) (a1 : Int32) (I : mI) (J : mJ), m_advance_l73 Q  n a1 I J → hh_V X 73 [(0, .ref 0), (1, .int a1)] [] 0 0 (hm I J) := by
  intro n
  induction n with
  | zero => intro _ _ _ hf; exact hf.elim
  | succ n ih =>
    intro a1 I J hf
    unfold m_advance_l73 at hf
    refine hv_iload_n hX dX14_advance_73 rfl 1 rfl ?_
    refine hv_aload_n hX dX14_advance_74 rfl 0 rfl ?_
    refine hm_getI (v := (I 0 39)) hX dX14_advance_75 mfl287 (.inl rfl) rfl ?_
    refine hv_icmp_ge (tgt := 138) hX dX14_advance_78 (by decide) (fun c17 => ?_) (fun c17 => ?_)
    · replace hf := hf.1 c17
      exact w_advance_j138 hX hN hE  _ _ _ hf
    · replace hf := hf.2 c17
      refine hv_aload_n hX dX14_advance_81 rfl 0 rfl ?_
      refine hm_getR hX dX14_advance_82 mfl82 19 rfl ?_
      refine hv_iload_n hX dX14_advance_85 rfl 1 rfl ?_
      obtain ⟨g, hf⟩ := hf
      refine hm_iald (v := (I 19 a1.toNatClampNeg)) hX dX14_advance_86 (by decide) rfl rfl g rfl ?_
      refine hm_callSi hX dX14_advance_87 (ct_isLetter (I 19 a1.toNatClampNeg) I J _ hf) (gd_isLetter q2151) np_isLetter rfl rfl ⟨Nat.le_of_ble_eq_true rfl, Nat.le_of_ble_eq_true rfl⟩ ⟨Nat.le_refl _, Nat.le_refl _⟩ (Nat.le_of_ble_eq_true rfl) ?_
      intro r19 I20 J21 hf
      refine hv_if_eq (tgt := 138) hX dX14_advance_90 (by decide) (fun c22 => ?_) (fun c22 => ?_)
      · replace hf := hf.1 c22
        exact w_advance_j138 hX hN hE  _ _ _ hf
      · replace hf := hf.2 c22
        refine hv_aload_n hX dX14_advance_93 rfl 0 rfl ?_
        refine hv_iload_n hX dX14_advance_94 rfl 1 rfl ?_
        refine hv_aload_n hX dX14_advance_95 rfl 0 rfl ?_
        refine hm_getI (v := (I20 0 41)) hX dX14_advance_96 mfl295 (.inl rfl) rfl ?_
        refine hv_isub hX dX14_advance_99 ?_
        refine hv_bipush (v := 8) hX bi_8 dX14_advance_100 ?_
        refine hv_icmp_ge (tgt := 128) hX dX14_advance_102 (by decide) (fun c23 => ?_) (fun c23 => ?_)
        · replace hf := hf.1 c23
          refine hv_lconst (v := 0) hX rfl dX14_advance_128 ?_
          exact w_advance_j129 hX hN hE ih _ _ _ _ hf
        · replace hf := hf.2 c23
          refine hv_ldc2 (v := 27) hX dX14_advance_105 q2154 ?_
          refine hv_aload_n hX dX14_advance_108 rfl 0 rfl ?_
          refine hm_getJ (v := (J21 0 43)) hX dX14_advance_109 mfl298 rfl ?_
          refine hv_lmul hX dX14_advance_112 ?_
          refine hv_aload_n hX dX14_advance_113 rfl 0 rfl ?_
          refine hm_getR hX dX14_advance_114 mfl82 19 rfl ?_
          refine hv_iload_n hX dX14_advance_117 rfl 1 rfl ?_
          obtain ⟨g, hf⟩ := hf
          refine hm_iald (v := (I20 19 a1.toNatClampNeg)) hX dX14_advance_118 (by decide) rfl rfl g rfl ?_
          refine hv_i2l hX dX14_advance_119 ?_
          refine hv_ladd hX dX14_advance_120 ?_
          refine hv_ldc2 (v := 96) hX dX14_advance_121 q2155 ?_
          refine hv_lsub hX dX14_advance_124 ?_
          refine hv_goto (tgt := 129) hX dX14_advance_125 (by decide) ?_
          exact w_advance_j129 hX hN hE ih _ _ _ _ hf
def m_advance_j30 (Q : mI → mJ → Prop) (a1 : Int32) (I : mI) (J : mJ) : Prop :=
  (a1 = (I 0 39) →
    Q (u2 (u2 (u2 I 0 41 a1) 0 40 0) 0 42 a1) (u2 J 0 43 0)) ∧ (¬ a1 = (I 0 39) →
    vp_in a1 200 ∧ (m_isLetter (I 19 a1.toNatClampNeg) (u2 I 0 41 a1) (u2 J 0 43 0) (fun r3 I4 J5 => (r3 = 0 →
      vp_in a1 200 ∧ (m_isDigit (I4 19 a1.toNatClampNeg) I4 J5 (fun r7 I8 J9 => (r7 = 0 →
        vp_in a1 200 ∧ (Q (u2 (u2 I8 0 40 3) 0 42 (a1 + 1)) (u2 J9 0 43 ((I8 19 a1.toNatClampNeg).toInt64)))) ∧ (¬ r7 = 0 →
        ∃ n0 : Nat, m_advance_l181 Q  n0 a1 (u2 I8 0 40 2) J9)))) ∧ (¬ r3 = 0 →
      ∃ n0 : Nat, m_advance_l73 Q  n0 a1 (u2 I4 0 40 1) J5))))
theorem w_advance_j30 {X : hh_CX} {Q : mI → mJ → Prop} (hX : hh_C X cX14_advance RX14 (hrm 1 20)) (hN : hh_nL X = 2) (hE : hh_E X none (mQv Q) 0 0) : ∀ (a1 : Int32) (I : mI) (J : mJ), m_advance_j30 Q  a1 I J → hh_V X 30 [(0, .ref 0), (1, .int a1)] [] 0 0 (hm I J) := by
  intro a1 I J hf
  unfold m_advance_j30 at hf
  refine hv_aload_n hX dX14_advance_30 rfl 0 rfl ?_
  refine hv_iload_n hX dX14_advance_31 rfl 1 rfl ?_
  refine hm_putI hX dX14_advance_32 mfl295 ?_
  refine hv_aload_n hX dX14_advance_35 rfl 0 rfl ?_
  refine hv_lconst (v := 0) hX rfl dX14_advance_36 ?_
  refine hm_putJ hX dX14_advance_37 mfl298 ?_
  refine hv_iload_n hX dX14_advance_40 rfl 1 rfl ?_
  refine hv_aload_n hX dX14_advance_41 rfl 0 rfl ?_
  refine hm_getI (v := (I 0 39)) hX dX14_advance_42 mfl287 (.inl rfl) ((u2_ne _ _ (.inr (by decide)))) ?_
  refine hv_icmp_ne (tgt := 56) hX dX14_advance_45 (by decide) (fun c2 => ?_) (fun c2 => ?_)
  · replace hf := hf.2 c2
    refine hv_aload_n hX dX14_advance_56 rfl 0 rfl ?_
    refine hm_getR hX dX14_advance_57 mfl82 19 rfl ?_
    refine hv_iload_n hX dX14_advance_60 rfl 1 rfl ?_
    obtain ⟨g, hf⟩ := hf
    refine hm_iald (v := (I 19 a1.toNatClampNeg)) hX dX14_advance_61 (by decide) rfl rfl g ((u2_ne _ _ (.inl (by decide)))) ?_
    refine hm_callSi hX dX14_advance_62 (ct_isLetter (I 19 a1.toNatClampNeg) (u2 I 0 41 a1) (u2 J 0 43 0) _ hf) (gd_isLetter q2151) np_isLetter rfl rfl ⟨Nat.le_of_ble_eq_true rfl, Nat.le_of_ble_eq_true rfl⟩ ⟨Nat.le_refl _, Nat.le_refl _⟩ (Nat.le_of_ble_eq_true rfl) ?_
    intro r3 I4 J5 hf
    refine hv_if_eq (tgt := 164) hX dX14_advance_65 (by decide) (fun c6 => ?_) (fun c6 => ?_)
    · replace hf := hf.1 c6
      refine hv_aload_n hX dX14_advance_164 rfl 0 rfl ?_
      refine hm_getR hX dX14_advance_165 mfl82 19 rfl ?_
      refine hv_iload_n hX dX14_advance_168 rfl 1 rfl ?_
      obtain ⟨g, hf⟩ := hf
      refine hm_iald (v := (I4 19 a1.toNatClampNeg)) hX dX14_advance_169 (by decide) rfl rfl g rfl ?_
      refine hm_callSi hX dX14_advance_170 (ct_isDigit (I4 19 a1.toNatClampNeg) I4 J5 _ hf) (gd_isDigit q2156) np_isDigit rfl rfl ⟨Nat.le_of_ble_eq_true rfl, Nat.le_of_ble_eq_true rfl⟩ ⟨Nat.le_refl _, Nat.le_refl _⟩ (Nat.le_of_ble_eq_true rfl) ?_
      intro r7 I8 J9 hf
      refine hv_if_eq (tgt := 248) hX dX14_advance_173 (by decide) (fun c10 => ?_) (fun c10 => ?_)
      · replace hf := hf.1 c10
        refine hv_aload_n hX dX14_advance_248 rfl 0 rfl ?_
        refine hv_iconst (v := 3) hX ic_3 dX14_advance_249 ?_
        refine hm_putI hX dX14_advance_250 mfl302 ?_
        refine hv_aload_n hX dX14_advance_253 rfl 0 rfl ?_
        refine hv_aload_n hX dX14_advance_254 rfl 0 rfl ?_
        refine hm_getR hX dX14_advance_255 mfl82 19 rfl ?_
        refine hv_iload_n hX dX14_advance_258 rfl 1 rfl ?_
        obtain ⟨g, hf⟩ := hf
        refine hm_iald (v := (I8 19 a1.toNatClampNeg)) hX dX14_advance_259 (by decide) rfl rfl g ((u2_ne _ _ (.inl (by decide)))) ?_
        refine hv_i2l hX dX14_advance_260 ?_
        refine hm_putJ hX dX14_advance_261 mfl298 ?_
        refine hv_iinc (v := (a1 + 1)) (loc2 := [(1, .int (a1 + 1)), (0, .ref 0)]) hX dX14_advance_264 1 rfl (congrArg (fun y => a1 + y) ic_1) hN (Nat.le_of_ble_eq_true rfl) rfl ?_
        refine hv_aload_n hX dX14_advance_267 rfl 1 rfl ?_
        refine hv_iload_n hX dX14_advance_268 rfl 0 rfl ?_
        refine hm_putI hX dX14_advance_269 mfl292 ?_
        exact hm_vret hX hE dX14_advance_272 hf
      · replace hf := hf.2 c10
        refine hv_aload_n hX dX14_advance_176 rfl 0 rfl ?_
        refine hv_iconst (v := 2) hX ic_2 dX14_advance_177 ?_
        refine hm_putI hX dX14_advance_178 mfl302 ?_
        obtain ⟨n0, hf⟩ := hf
        exact w_advance_l181 hX hN hE  n0 _ _ _ hf
    · replace hf := hf.2 c6
      refine hv_aload_n hX dX14_advance_68 rfl 0 rfl ?_
      refine hv_iconst (v := 1) hX ic_1 dX14_advance_69 ?_
      refine hm_putI hX dX14_advance_70 mfl302 ?_
      obtain ⟨n0, hf⟩ := hf
      exact w_advance_l73 hX hN hE  n0 _ _ _ hf
  · replace hf := hf.1 c2
    refine hv_aload_n hX dX14_advance_48 rfl 0 rfl ?_
    refine hv_iconst (v := 0) hX ic_0 dX14_advance_49 ?_
    refine hm_putI hX dX14_advance_50 mfl302 ?_
    refine hv_goto (tgt := 267) hX dX14_advance_53 (by decide) ?_
    refine hv_aload_n hX dX14_advance_267 rfl 0 rfl ?_
    refine hv_iload_n hX dX14_advance_268 rfl 1 rfl ?_
    refine hm_putI hX dX14_advance_269 mfl292 ?_
    exact hm_vret hX hE dX14_advance_272 hf
def m_advance_l5 (Q : mI → mJ → Prop) : Nat → Int32 → mI → mJ → Prop
  | 0, _, _, _ => False
  | n + 1, a1, I, J =>
    ((I 0 39) ≤ a1 →
      m_advance_j30 Q  a1 I J) ∧ (¬ (I 0 39) ≤ a1 →
      vp_in a1 200 ∧ (((I 19 a1.toNatClampNeg) = 32 →
        m_advance_l5 Q n (a1 + 1) I J) ∧ (¬ (I 19 a1.toNatClampNeg) = 32 →
        m_advance_j30 Q  a1 I J)))
theorem w_advance_l5 {X : hh_CX} {Q : mI → mJ → Prop} (hX : hh_C X cX14_advance RX14 (hrm 1 20)) (hN : hh_nL X = 2) (hE : hh_E X none (mQv Q) 0 0) : ∀ (n : Nat) (a1 : Int32) (I : mI) (J : mJ), m_advance_l5 Q  n a1 I J → hh_V X 5 [(0, .ref 0), (1, .int a1)] [] 0 0 (hm I J) := by
  intro n
  induction n with
  | zero => intro _ _ _ hf; exact hf.elim
  | succ n ih =>
    intro a1 I J hf
    unfold m_advance_l5 at hf
    refine hv_iload_n hX dX14_advance_5 rfl 1 rfl ?_
    refine hv_aload_n hX dX14_advance_6 rfl 0 rfl ?_
    refine hm_getI (v := (I 0 39)) hX dX14_advance_7 mfl287 (.inl rfl) rfl ?_
    refine hv_icmp_ge (tgt := 30) hX dX14_advance_10 (by decide) (fun c1 => ?_) (fun c1 => ?_)
    · replace hf := hf.1 c1
      exact w_advance_j30 hX hN hE  _ _ _ hf
    · replace hf := hf.2 c1
      refine hv_aload_n hX dX14_advance_13 rfl 0 rfl ?_
      refine hm_getR hX dX14_advance_14 mfl82 19 rfl ?_
      refine hv_iload_n hX dX14_advance_17 rfl 1 rfl ?_
      obtain ⟨g, hf⟩ := hf
      refine hm_iald (v := (I 19 a1.toNatClampNeg)) hX dX14_advance_18 (by decide) rfl rfl g rfl ?_
      refine hv_bipush (v := 32) hX bi_32 dX14_advance_19 ?_
      refine hv_icmp_ne (tgt := 30) hX dX14_advance_21 (by decide) (fun c24 => ?_) (fun c24 => ?_)
      · replace hf := hf.2 c24
        exact w_advance_j30 hX hN hE  _ _ _ hf
      · replace hf := hf.1 c24
        refine hv_iinc (v := (a1 + 1)) (loc2 := [(1, .int (a1 + 1)), (0, .ref 0)]) hX dX14_advance_24 1 rfl (congrArg (fun y => a1 + y) ic_1) hN (Nat.le_of_ble_eq_true rfl) rfl ?_
        refine hv_goto (tgt := 5) hX dX14_advance_27 (by decide) ?_
        refine hv_fewer [1, 0] (loc2 := [(0, .ref 0), (1, .int (a1 + 1))]) rfl ?_
        exact ih _ _ _ hf
def m_advance  (I : mI) (J : mJ) (Q : mI → mJ → Prop) : Prop :=
  ∃ n0 : Nat, m_advance_l5 Q  n0 (I 0 42) I J
theorem ct_advance  (I : mI) (J : mJ) (Q : mI → mJ → Prop) (hf : m_advance  I J Q) : hh_Ct yX14_advance cX14_advance 2 none 1 20 [.ref 0] (hm I J) (mQv Q) 0 0 := by
  refine hh_Ct.of (own := RX14) rfl (by decide +kernel) (Nat.le_of_ble_eq_true rfl) ?_
  intro X hX hN hE
  show hh_V X 0 [(0, .ref 0)] [] 0 0 (hm I J)
  unfold m_advance at hf
  refine hv_aload_n hX dX14_advance_0 rfl 0 rfl ?_
  refine hm_getI (v := (I 0 42)) hX dX14_advance_1 mfl292 (.inl rfl) rfl ?_
  refine hv_istore_n (loc2 := [(1, .int (I 0 42)), (0, .ref 0)]) hX dX14_advance_4 rfl hN (Nat.le_of_ble_eq_true rfl) rfl ?_
  refine hv_fewer [1, 0] (loc2 := [(0, .ref 0), (1, .int (I 0 42))]) rfl ?_
  obtain ⟨n0, hf⟩ := hf
  exact w_advance_l5 hX hN hE  n0 _ _ _ hf
theorem np_advance : yX14_advance.cls = RX14 ∧ yX14_advance.cls ≠ "java/lang/invoke/MethodHandle" ∧ yX14_advance.cls ≠ "java/lang/invoke/VarHandle" ∧ (parseMethodDescriptor yX14_advance.desc).map (fun d => d.parameters.length) = some 0 := by decide +kernel
theorem gd_advance {idx : Nat} (h : Cond.methodLink RX14 idx yX14_advance ∈ lw_all) : GoodIn lw_all (wsV RX14 idx RX14 yX14_advance (ws_ yX14_advance cX14_advance 2 none)) := lw_V h q2149 qs71 q123 q2150
/-! isGood()Z -/
def m_isGood  (I : mI) (J : mJ) (Q : Int32 → mI → mJ → Prop) : Prop :=
  ((0 : Int32) ≤ (I 0 44) →
    Q 0 I J) ∧ (¬ (0 : Int32) ≤ (I 0 44) →
    Q 1 I J)
theorem ct_isGood  (I : mI) (J : mJ) (Q : Int32 → mI → mJ → Prop) (hf : m_isGood  I J Q) : hh_Ct yX14_isGood cX14_isGood 1 (some .boolean) 0 0 [.ref 0] (hm I J) (mQi Q) 0 0 := by
  refine hh_Ct.of (own := RX14) rfl (by decide +kernel) (Nat.le_of_ble_eq_true rfl) ?_
  intro X hX hN hE
  show hh_V X 0 [(0, .ref 0)] [] 0 0 (hm I J)
  unfold m_isGood at hf
  refine hv_aload_n hX dX14_isGood_0 rfl 0 rfl ?_
  refine hm_getI (v := (I 0 44)) hX dX14_isGood_1 mfl317 (.inl rfl) rfl ?_
  refine hv_if_ge (tgt := 11) hX dX14_isGood_4 (by decide) (fun c1 => ?_) (fun c1 => ?_)
  · replace hf := hf.1 c1
    refine hv_iconst (v := 0) hX ic_0 dX14_isGood_11 ?_
    exact hm_zret hX hE dX14_isGood_12 (by decide) hf
  · replace hf := hf.2 c1
    refine hv_iconst (v := 1) hX ic_1 dX14_isGood_7 ?_
    refine hv_goto (tgt := 12) hX dX14_isGood_8 (by decide) ?_
    exact hm_zret hX hE dX14_isGood_12 (by decide) hf
theorem np_isGood : yX14_isGood.cls = RX14 ∧ yX14_isGood.cls ≠ "java/lang/invoke/MethodHandle" ∧ yX14_isGood.cls ≠ "java/lang/invoke/VarHandle" ∧ (parseMethodDescriptor yX14_isGood.desc).map (fun d => d.parameters.length) = some 0 := by decide +kernel
theorem gd_isGood {idx : Nat} (h : Cond.methodLink RX14 idx yX14_isGood ∈ lw_all) : GoodIn lw_all (wsV RX14 idx RX14 yX14_isGood (ws_ yX14_isGood cX14_isGood 1 (some .boolean))) := lw_V h q2162 qs72 q123 q2163
/-! isWord(J)Z -/
def m_isWord (a1 : Int64) (I : mI) (J : mJ) (Q : Int32 → mI → mJ → Prop) : Prop :=
  ((I 0 40) = 1 →
    ((lg_cmp (J 0 43) a1) = 0 →
      Q 1 I J) ∧ (¬ (lg_cmp (J 0 43) a1) = 0 →
      Q 0 I J)) ∧ (¬ (I 0 40) = 1 →
    Q 0 I J)
theorem ct_isWord (a1 : Int64) (I : mI) (J : mJ) (Q : Int32 → mI → mJ → Prop) (hf : m_isWord a1 I J Q) : hh_Ct yX14_isWord cX14_isWord 3 (some .boolean) 0 0 [.ref 0, .long a1] (hm I J) (mQi Q) 0 0 := by
  refine hh_Ct.of (own := RX14) rfl (by decide +kernel) (Nat.le_of_ble_eq_true rfl) ?_
  intro X hX hN hE
  show hh_V X 0 [(0, .ref 0), (1, .long a1)] [] 0 0 (hm I J)
  unfold m_isWord at hf
  refine hv_aload_n hX dX14_isWord_0 rfl 0 rfl ?_
  refine hm_getI (v := (I 0 40)) hX dX14_isWord_1 mfl302 (.inl rfl) rfl ?_
  refine hv_iconst (v := 1) hX ic_1 dX14_isWord_4 ?_
  refine hv_icmp_ne (tgt := 21) hX dX14_isWord_5 (by decide) (fun c1 => ?_) (fun c1 => ?_)
  · replace hf := hf.2 c1
    refine hv_iconst (v := 0) hX ic_0 dX14_isWord_21 ?_
    exact hm_zret hX hE dX14_isWord_22 (by decide) hf
  · replace hf := hf.1 c1
    refine hv_aload_n hX dX14_isWord_8 rfl 0 rfl ?_
    refine hm_getJ (v := (J 0 43)) hX dX14_isWord_9 mfl298 rfl ?_
    refine hv_lload_n hX dX14_isWord_12 rfl 1 rfl ?_
    refine hv_lcmp hX dX14_isWord_13 ?_
    refine hv_if_ne (tgt := 21) hX dX14_isWord_14 (by decide) (fun c2 => ?_) (fun c2 => ?_)
    · replace hf := hf.2 c2
      refine hv_iconst (v := 0) hX ic_0 dX14_isWord_21 ?_
      exact hm_zret hX hE dX14_isWord_22 (by decide) hf
    · replace hf := hf.1 c2
      refine hv_iconst (v := 1) hX ic_1 dX14_isWord_17 ?_
      refine hv_goto (tgt := 22) hX dX14_isWord_18 (by decide) ?_
      exact hm_zret hX hE dX14_isWord_22 (by decide) hf
theorem np_isWord : yX14_isWord.cls = RX14 ∧ yX14_isWord.cls ≠ "java/lang/invoke/MethodHandle" ∧ yX14_isWord.cls ≠ "java/lang/invoke/VarHandle" ∧ (parseMethodDescriptor yX14_isWord.desc).map (fun d => d.parameters.length) = some 1 := by decide +kernel
theorem gd_isWord {idx : Nat} (h : Cond.methodLink RX14 idx yX14_isWord ∈ lw_all) : GoodIn lw_all (wsV RX14 idx RX14 yX14_isWord (ws_ yX14_isWord cX14_isWord 3 (some .boolean))) := lw_V h q2167 qs73 q123 q2168
/-! faulty()V -/
def m_faulty  (I : mI) (J : mJ) (Q : mI → mJ → Prop) : Prop :=
  ((0 : Int32) ≤ (I 0 44) →
    Q (u2 I 0 44 (I 0 44)) J) ∧ (¬ (0 : Int32) ≤ (I 0 44) →
    Q (u2 I 0 44 (I 0 41)) J)
theorem ct_faulty  (I : mI) (J : mJ) (Q : mI → mJ → Prop) (hf : m_faulty  I J Q) : hh_Ct yX14_faulty cX14_faulty 1 none 0 0 [.ref 0] (hm I J) (mQv Q) 0 0 := by
  refine hh_Ct.of (own := RX14) rfl (by decide +kernel) (Nat.le_of_ble_eq_true rfl) ?_
  intro X hX hN hE
  show hh_V X 0 [(0, .ref 0)] [] 0 0 (hm I J)
  unfold m_faulty at hf
  refine hv_aload_n hX dX14_faulty_0 rfl 0 rfl ?_
  refine hv_aload_n hX dX14_faulty_1 rfl 0 rfl ?_
  refine hm_getI (v := (I 0 44)) hX dX14_faulty_2 mfl317 (.inl rfl) rfl ?_
  refine hv_if_ge (tgt := 15) hX dX14_faulty_5 (by decide) (fun c1 => ?_) (fun c1 => ?_)
  · replace hf := hf.1 c1
    refine hv_aload_n hX dX14_faulty_15 rfl 0 rfl ?_
    refine hm_getI (v := (I 0 44)) hX dX14_faulty_16 mfl317 (.inl rfl) rfl ?_
    refine hm_putI hX dX14_faulty_19 mfl317 ?_
    exact hm_vret hX hE dX14_faulty_22 hf
  · replace hf := hf.2 c1
    refine hv_aload_n hX dX14_faulty_8 rfl 0 rfl ?_
    refine hm_getI (v := (I 0 41)) hX dX14_faulty_9 mfl295 (.inl rfl) rfl ?_
    refine hv_goto (tgt := 19) hX dX14_faulty_12 (by decide) ?_
    refine hm_putI hX dX14_faulty_19 mfl317 ?_
    exact hm_vret hX hE dX14_faulty_22 hf
theorem np_faulty : yX14_faulty.cls = RX14 ∧ yX14_faulty.cls ≠ "java/lang/invoke/MethodHandle" ∧ yX14_faulty.cls ≠ "java/lang/invoke/VarHandle" ∧ (parseMethodDescriptor yX14_faulty.desc).map (fun d => d.parameters.length) = some 0 := by decide +kernel
theorem gd_faulty {idx : Nat} (h : Cond.methodLink RX14 idx yX14_faulty ∈ lw_all) : GoodIn lw_all (wsV RX14 idx RX14 yX14_faulty (ws_ yX14_faulty cX14_faulty 1 none)) := lw_V h q2176 qs75 q123 q2177
/-! want(Z)V -/
def m_want (a1 : Int32) (I : mI) (J : mJ) (Q : mI → mJ → Prop) : Prop :=
  m_isGood  I J (fun r1 I2 J3 => (r1 = 0 →
    Q I2 J3) ∧ (¬ r1 = 0 →
    (a1 = 0 →
      m_faulty  I2 J3 (fun  I6 J7 => Q I6 J7)) ∧ (¬ a1 = 0 →
      m_advance  I2 J3 (fun  I8 J9 => Q I8 J9))))
theorem ct_want (a1 : Int32) (I : mI) (J : mJ) (Q : mI → mJ → Prop) (hf : m_want a1 I J Q) : hh_Ct yX14_want cX14_want 2 none 2 41 [.ref 0, .int a1] (hm I J) (mQv Q) 0 0 := by
  refine hh_Ct.of (own := RX14) rfl (by decide +kernel) (Nat.le_of_ble_eq_true rfl) ?_
  intro X hX hN hE
  show hh_V X 0 [(0, .ref 0), (1, .int a1)] [] 0 0 (hm I J)
  unfold m_want at hf
  refine hv_aload_n hX dX14_want_0 rfl 0 rfl ?_
  refine hm_callVi hX dX14_want_1 (ct_isGood  I J _ hf) (gd_isGood q2160) np_isGood rfl rfl ⟨Nat.le_of_ble_eq_true rfl, Nat.le_of_ble_eq_true rfl⟩ ⟨Nat.le_refl _, Nat.le_refl _⟩ (Nat.le_of_ble_eq_true rfl) ?_
  intro r1 I2 J3 hf
  refine hv_if_eq (tgt := 22) hX dX14_want_4 (by decide) (fun c4 => ?_) (fun c4 => ?_)
  · replace hf := hf.1 c4
    exact hm_vret hX hE dX14_want_22 hf
  · replace hf := hf.2 c4
    refine hv_iload_n hX dX14_want_7 rfl 1 rfl ?_
    refine hv_if_eq (tgt := 18) hX dX14_want_8 (by decide) (fun c5 => ?_) (fun c5 => ?_)
    · replace hf := hf.1 c5
      refine hv_aload_n hX dX14_want_18 rfl 0 rfl ?_
      refine hm_callVv hX dX14_want_19 (ct_faulty  I2 J3 _ hf) (gd_faulty q2174) np_faulty rfl rfl ⟨Nat.le_of_ble_eq_true rfl, Nat.le_of_ble_eq_true rfl⟩ ⟨Nat.le_refl _, Nat.le_refl _⟩ (Nat.le_of_ble_eq_true rfl) ?_
      intro  I6 J7 hf
      exact hm_vret hX hE dX14_want_22 hf
    · replace hf := hf.2 c5
      refine hv_aload_n hX dX14_want_11 rfl 0 rfl ?_
      refine hm_callVv hX dX14_want_12 (ct_advance  I2 J3 _ hf) (gd_advance q2147) np_advance rfl rfl ⟨Nat.le_of_ble_eq_true rfl, Nat.le_of_ble_eq_true rfl⟩ ⟨Nat.le_refl _, Nat.le_refl _⟩ (Nat.le_of_ble_eq_true rfl) ?_
      intro  I8 J9 hf
      refine hv_goto (tgt := 22) hX dX14_want_15 (by decide) ?_
      exact hm_vret hX hE dX14_want_22 hf
theorem np_want : yX14_want.cls = RX14 ∧ yX14_want.cls ≠ "java/lang/invoke/MethodHandle" ∧ yX14_want.cls ≠ "java/lang/invoke/VarHandle" ∧ (parseMethodDescriptor yX14_want.desc).map (fun d => d.parameters.length) = some 1 := by decide +kernel
theorem gd_want {idx : Nat} (h : Cond.methodLink RX14 idx yX14_want ∈ lw_all) : GoodIn lw_all (wsV RX14 idx RX14 yX14_want (ws_ yX14_want cX14_want 2 none)) := lw_V h q2172 qs74 q123 q2173
/-! wantNumber(I)I -/
def m_wantNumber_j38 (Q : Int32 → mI → mJ → Prop) (a2 : Int32) (s1 : Int32) (I : mI) (J : mJ) : Prop :=
  m_want s1 I J (fun  I2 J3 => Q a2 I2 J3)
theorem w_wantNumber_j38 {X : hh_CX} {Q : Int32 → mI → mJ → Prop} (hX : hh_C X cX14_wantNumber RX14 (hrm 3 62)) (hN : hh_nL X = 3) (hE : hh_E X (some .int) (mQi Q) 0 0) : ∀ (a2 : Int32) (s1 : Int32) (I : mI) (J : mJ), m_wantNumber_j38 Q  a2 s1 I J → hh_V X 38 [(2, .int a2)] [.int s1, .ref 0] 0 0 (hm I J) := by
  intro a2 s1 I J hf
  unfold m_wantNumber_j38 at hf
  refine hm_callVv hX dX14_wantNumber_38 (ct_want s1 I J _ hf) (gd_want q2170) np_want rfl rfl ⟨Nat.le_of_ble_eq_true rfl, Nat.le_of_ble_eq_true rfl⟩ ⟨Nat.le_refl _, Nat.le_refl _⟩ (Nat.le_of_ble_eq_true rfl) ?_
  intro  I2 J3 hf
  refine hv_iload_n hX dX14_wantNumber_41 rfl 0 rfl ?_
  exact hm_iret hX hE dX14_wantNumber_42 hf
def m_wantNumber_j37 (Q : Int32 → mI → mJ → Prop) (a2 : Int32) (I : mI) (J : mJ) : Prop :=
  m_wantNumber_j38 Q  a2 0 I J
theorem w_wantNumber_j37 {X : hh_CX} {Q : Int32 → mI → mJ → Prop} (hX : hh_C X cX14_wantNumber RX14 (hrm 3 62)) (hN : hh_nL X = 3) (hE : hh_E X (some .int) (mQi Q) 0 0) : ∀ (a2 : Int32) (I : mI) (J : mJ), m_wantNumber_j37 Q  a2 I J → hh_V X 37 [(2, .int a2)] [.ref 0] 0 0 (hm I J) := by
  intro a2 I J hf
  unfold m_wantNumber_j37 at hf
  refine hv_iconst (v := 0) hX ic_0 dX14_wantNumber_37 ?_
  exact w_wantNumber_j38 hX hN hE  _ _ _ _ hf
def m_wantNumber (a1 : Int32) (I : mI) (J : mJ) (Q : Int32 → mI → mJ → Prop) : Prop :=
  ((I 0 40) = 2 →
    ((3 : Int32) < ((I 0 42) - (I 0 41)) →
      m_wantNumber_j37 Q  ((J 0 43).toInt32) I J) ∧ (¬ (3 : Int32) < ((I 0 42) - (I 0 41)) →
      (a1 < ((J 0 43).toInt32) →
        m_wantNumber_j37 Q  ((J 0 43).toInt32) I J) ∧ (¬ a1 < ((J 0 43).toInt32) →
        m_wantNumber_j38 Q  ((J 0 43).toInt32) 1 I J))) ∧ (¬ (I 0 40) = 2 →
    m_wantNumber_j37 Q  ((J 0 43).toInt32) I J)
theorem ct_wantNumber (a1 : Int32) (I : mI) (J : mJ) (Q : Int32 → mI → mJ → Prop) (hf : m_wantNumber a1 I J Q) : hh_Ct yX14_wantNumber cX14_wantNumber 3 (some .int) 3 62 [.ref 0, .int a1] (hm I J) (mQi Q) 0 0 := by
  refine hh_Ct.of (own := RX14) rfl (by decide +kernel) (Nat.le_of_ble_eq_true rfl) ?_
  intro X hX hN hE
  show hh_V X 0 [(0, .ref 0), (1, .int a1)] [] 0 0 (hm I J)
  unfold m_wantNumber at hf
  refine hv_aload_n hX dX14_wantNumber_0 rfl 0 rfl ?_
  refine hm_getJ (v := (J 0 43)) hX dX14_wantNumber_1 mfl298 rfl ?_
  refine hv_l2i hX dX14_wantNumber_4 ?_
  refine hv_istore_n (loc2 := [(2, .int ((J 0 43).toInt32)), (0, .ref 0), (1, .int a1)]) hX dX14_wantNumber_5 rfl hN (Nat.le_of_ble_eq_true rfl) rfl ?_
  refine hv_aload_n hX dX14_wantNumber_6 rfl 1 rfl ?_
  refine hv_aload_n hX dX14_wantNumber_7 rfl 1 rfl ?_
  refine hm_getI (v := (I 0 40)) hX dX14_wantNumber_8 mfl302 (.inl rfl) rfl ?_
  refine hv_iconst (v := 2) hX ic_2 dX14_wantNumber_11 ?_
  refine hv_icmp_ne (tgt := 37) hX dX14_wantNumber_12 (by decide) (fun c1 => ?_) (fun c1 => ?_)
  · replace hf := hf.2 c1
    refine hv_fewer [0] (loc2 := [(2, .int ((J 0 43).toInt32))]) rfl ?_
    exact w_wantNumber_j37 hX hN hE  _ _ _ hf
  · replace hf := hf.1 c1
    refine hv_aload_n hX dX14_wantNumber_15 rfl 1 rfl ?_
    refine hm_getI (v := (I 0 42)) hX dX14_wantNumber_16 mfl292 (.inl rfl) rfl ?_
    refine hv_aload_n hX dX14_wantNumber_19 rfl 1 rfl ?_
    refine hm_getI (v := (I 0 41)) hX dX14_wantNumber_20 mfl295 (.inl rfl) rfl ?_
    refine hv_isub hX dX14_wantNumber_23 ?_
    refine hv_iconst (v := 3) hX ic_3 dX14_wantNumber_24 ?_
    refine hv_icmp_gt (tgt := 37) hX dX14_wantNumber_25 (by decide) (fun c4 => ?_) (fun c4 => ?_)
    · replace hf := hf.1 c4
      refine hv_fewer [0] (loc2 := [(2, .int ((J 0 43).toInt32))]) rfl ?_
      exact w_wantNumber_j37 hX hN hE  _ _ _ hf
    · replace hf := hf.2 c4
      refine hv_iload_n hX dX14_wantNumber_28 rfl 0 rfl ?_
      refine hv_iload_n hX dX14_wantNumber_29 rfl 2 rfl ?_
      refine hv_icmp_gt (tgt := 37) hX dX14_wantNumber_30 (by decide) (fun c5 => ?_) (fun c5 => ?_)
      · replace hf := hf.1 c5
        refine hv_fewer [0] (loc2 := [(2, .int ((J 0 43).toInt32))]) rfl ?_
        exact w_wantNumber_j37 hX hN hE  _ _ _ hf
      · replace hf := hf.2 c5
        refine hv_iconst (v := 1) hX ic_1 dX14_wantNumber_33 ?_
        refine hv_goto (tgt := 38) hX dX14_wantNumber_34 (by decide) ?_
        refine hv_fewer [0] (loc2 := [(2, .int ((J 0 43).toInt32))]) rfl ?_
        exact w_wantNumber_j38 hX hN hE  _ _ _ _ hf
theorem np_wantNumber : yX14_wantNumber.cls = RX14 ∧ yX14_wantNumber.cls ≠ "java/lang/invoke/MethodHandle" ∧ yX14_wantNumber.cls ≠ "java/lang/invoke/VarHandle" ∧ (parseMethodDescriptor yX14_wantNumber.desc).map (fun d => d.parameters.length) = some 1 := by decide +kernel
theorem gd_wantNumber {idx : Nat} (h : Cond.methodLink RX14 idx yX14_wantNumber ∈ lw_all) : GoodIn lw_all (wsV RX14 idx RX14 yX14_wantNumber (ws_ yX14_wantNumber cX14_wantNumber 3 (some .int))) := lw_V h q2180 qs76 q123 q2181
/-! hold(I)V -/
def m_hold (a1 : Int32) (I : mI) (J : mJ) (Q : mI → mJ → Prop) : Prop :=
  vp_in (I 0 50) 210 ∧ (m_advance  (u2 (u2 I 21 (I 0 50).toNatClampNeg a1) 0 50 ((I 0 50) + 1)) J (fun  I1 J2 => Q I1 J2))
theorem ct_hold (a1 : Int32) (I : mI) (J : mJ) (Q : mI → mJ → Prop) (hf : m_hold a1 I J Q) : hh_Ct yX14_hold cX14_hold 2 none 2 41 [.ref 0, .int a1] (hm I J) (mQv Q) 0 0 := by
  refine hh_Ct.of (own := RX14) rfl (by decide +kernel) (Nat.le_of_ble_eq_true rfl) ?_
  intro X hX hN hE
  show hh_V X 0 [(0, .ref 0), (1, .int a1)] [] 0 0 (hm I J)
  unfold m_hold at hf
  refine hv_aload_n hX dX14_hold_0 rfl 0 rfl ?_
  refine hm_getR hX dX14_hold_1 mfl88 21 rfl ?_
  refine hv_aload_n hX dX14_hold_4 rfl 0 rfl ?_
  refine hm_getI (v := (I 0 50)) hX dX14_hold_5 mfl336 (.inl rfl) rfl ?_
  refine hv_iload_n hX dX14_hold_8 rfl 1 rfl ?_
  obtain ⟨g, hf⟩ := hf
  refine hm_iast hX dX14_hold_9 (by decide) rfl rfl g ?_
  refine hv_aload_n hX dX14_hold_10 rfl 0 rfl ?_
  refine hv_dup hX rfl dX14_hold_11 ?_
  refine hm_getI (v := (I 0 50)) hX dX14_hold_12 mfl336 (.inl rfl) ((u2_ne _ _ (.inl (by decide)))) ?_
  refine hv_iconst (v := 1) hX ic_1 dX14_hold_15 ?_
  refine hv_iadd hX dX14_hold_16 ?_
  refine hm_putI hX dX14_hold_17 mfl336 ?_
  refine hv_aload_n hX dX14_hold_20 rfl 0 rfl ?_
  refine hm_callVv hX dX14_hold_21 (ct_advance  (u2 (u2 I 21 (I 0 50).toNatClampNeg a1) 0 50 ((I 0 50) + 1)) J _ hf) (gd_advance q2147) np_advance rfl rfl ⟨Nat.le_of_ble_eq_true rfl, Nat.le_of_ble_eq_true rfl⟩ ⟨Nat.le_refl _, Nat.le_refl _⟩ (Nat.le_of_ble_eq_true rfl) ?_
  intro  I1 J2 hf
  exact hm_vret hX hE dX14_hold_24 hf
theorem np_hold : yX14_hold.cls = RX14 ∧ yX14_hold.cls ≠ "java/lang/invoke/MethodHandle" ∧ yX14_hold.cls ≠ "java/lang/invoke/VarHandle" ∧ (parseMethodDescriptor yX14_hold.desc).map (fun d => d.parameters.length) = some 1 := by decide +kernel
theorem gd_hold {idx : Nat} (h : Cond.methodLink RX14 idx yX14_hold ∈ lw_all) : GoodIn lw_all (wsV RX14 idx RX14 yX14_hold (ws_ yX14_hold cX14_hold 2 none)) := lw_V h q2189 qs78 q123 q2190
/-! isMark(I)Z -/
def m_isMark (a1 : Int32) (I : mI) (J : mJ) (Q : Int32 → mI → mJ → Prop) : Prop :=
  ((I 0 40) = 3 →
    ((lg_cmp (J 0 43) (a1.toInt64)) = 0 →
      Q 1 I J) ∧ (¬ (lg_cmp (J 0 43) (a1.toInt64)) = 0 →
      Q 0 I J)) ∧ (¬ (I 0 40) = 3 →
    Q 0 I J)
theorem ct_isMark (a1 : Int32) (I : mI) (J : mJ) (Q : Int32 → mI → mJ → Prop) (hf : m_isMark a1 I J Q) : hh_Ct yX14_isMark cX14_isMark 2 (some .boolean) 0 0 [.ref 0, .int a1] (hm I J) (mQi Q) 0 0 := by
  refine hh_Ct.of (own := RX14) rfl (by decide +kernel) (Nat.le_of_ble_eq_true rfl) ?_
  intro X hX hN hE
  show hh_V X 0 [(0, .ref 0), (1, .int a1)] [] 0 0 (hm I J)
  unfold m_isMark at hf
  refine hv_aload_n hX dX14_isMark_0 rfl 0 rfl ?_
  refine hm_getI (v := (I 0 40)) hX dX14_isMark_1 mfl302 (.inl rfl) rfl ?_
  refine hv_iconst (v := 3) hX ic_3 dX14_isMark_4 ?_
  refine hv_icmp_ne (tgt := 22) hX dX14_isMark_5 (by decide) (fun c1 => ?_) (fun c1 => ?_)
  · replace hf := hf.2 c1
    refine hv_iconst (v := 0) hX ic_0 dX14_isMark_22 ?_
    exact hm_zret hX hE dX14_isMark_23 (by decide) hf
  · replace hf := hf.1 c1
    refine hv_aload_n hX dX14_isMark_8 rfl 0 rfl ?_
    refine hm_getJ (v := (J 0 43)) hX dX14_isMark_9 mfl298 rfl ?_
    refine hv_iload_n hX dX14_isMark_12 rfl 1 rfl ?_
    refine hv_i2l hX dX14_isMark_13 ?_
    refine hv_lcmp hX dX14_isMark_14 ?_
    refine hv_if_ne (tgt := 22) hX dX14_isMark_15 (by decide) (fun c2 => ?_) (fun c2 => ?_)
    · replace hf := hf.2 c2
      refine hv_iconst (v := 0) hX ic_0 dX14_isMark_22 ?_
      exact hm_zret hX hE dX14_isMark_23 (by decide) hf
    · replace hf := hf.1 c2
      refine hv_iconst (v := 1) hX ic_1 dX14_isMark_18 ?_
      refine hv_goto (tgt := 23) hX dX14_isMark_19 (by decide) ?_
      exact hm_zret hX hE dX14_isMark_23 (by decide) hf
theorem np_isMark : yX14_isMark.cls = RX14 ∧ yX14_isMark.cls ≠ "java/lang/invoke/MethodHandle" ∧ yX14_isMark.cls ≠ "java/lang/invoke/VarHandle" ∧ (parseMethodDescriptor yX14_isMark.desc).map (fun d => d.parameters.length) = some 1 := by decide +kernel
theorem gd_isMark {idx : Nat} (h : Cond.methodLink RX14 idx yX14_isMark ∈ lw_all) : GoodIn lw_all (wsV RX14 idx RX14 yX14_isMark (ws_ yX14_isMark cX14_isMark 2 (some .boolean))) := lw_V h q2193 qs79 q123 q2194
/-! wordHere()I -/
def m_wordHere  (I : mI) (J : mJ) (Q : Int32 → mI → mJ → Prop) : Prop :=
  m_isWord 13467145 I J (fun r1 I2 J3 => (r1 = 0 →
    m_isWord 240023 I2 J3 (fun r5 I6 J7 => (r5 = 0 →
      m_isWord 5528 I6 J7 (fun r9 I10 J11 => (r9 = 0 →
        m_isWord 161600 I10 J11 (fun r13 I14 J15 => (r13 = 0 →
          Q 0 I14 J15) ∧ (¬ r13 = 0 →
          Q 103 I14 J15))) ∧ (¬ r9 = 0 →
        Q 102 I10 J11))) ∧ (¬ r5 = 0 →
      Q 101 I6 J7))) ∧ (¬ r1 = 0 →
    Q 100 I2 J3))
theorem ct_wordHere  (I : mI) (J : mJ) (Q : Int32 → mI → mJ → Prop) (hf : m_wordHere  I J Q) : hh_Ct yX14_wordHere cX14_wordHere 1 (some .int) 1 22 [.ref 0] (hm I J) (mQi Q) 0 0 := by
  refine hh_Ct.of (own := RX14) rfl (by decide +kernel) (Nat.le_of_ble_eq_true rfl) ?_
  intro X hX hN hE
  show hh_V X 0 [(0, .ref 0)] [] 0 0 (hm I J)
  unfold m_wordHere at hf
  refine hv_aload_n hX dX14_wordHere_0 rfl 0 rfl ?_
  refine hv_ldc2 (v := 13467145) hX dX14_wordHere_1 q2207 ?_
  refine hm_callVi hX dX14_wordHere_4 (ct_isWord 13467145 I J _ hf) (gd_isWord q2165) np_isWord rfl rfl ⟨Nat.le_of_ble_eq_true rfl, Nat.le_of_ble_eq_true rfl⟩ ⟨Nat.le_refl _, Nat.le_refl _⟩ (Nat.le_of_ble_eq_true rfl) ?_
  intro r1 I2 J3 hf
  refine hv_if_eq (tgt := 15) hX dX14_wordHere_7 (by decide) (fun c4 => ?_) (fun c4 => ?_)
  · replace hf := hf.1 c4
    refine hv_aload_n hX dX14_wordHere_15 rfl 0 rfl ?_
    refine hv_ldc2 (v := 240023) hX dX14_wordHere_16 q2208 ?_
    refine hm_callVi hX dX14_wordHere_19 (ct_isWord 240023 I2 J3 _ hf) (gd_isWord q2165) np_isWord rfl rfl ⟨Nat.le_of_ble_eq_true rfl, Nat.le_of_ble_eq_true rfl⟩ ⟨Nat.le_refl _, Nat.le_refl _⟩ (Nat.le_of_ble_eq_true rfl) ?_
    intro r5 I6 J7 hf
    refine hv_if_eq (tgt := 30) hX dX14_wordHere_22 (by decide) (fun c8 => ?_) (fun c8 => ?_)
    · replace hf := hf.1 c8
      refine hv_aload_n hX dX14_wordHere_30 rfl 0 rfl ?_
      refine hv_ldc2 (v := 5528) hX dX14_wordHere_31 q2209 ?_
      refine hm_callVi hX dX14_wordHere_34 (ct_isWord 5528 I6 J7 _ hf) (gd_isWord q2165) np_isWord rfl rfl ⟨Nat.le_of_ble_eq_true rfl, Nat.le_of_ble_eq_true rfl⟩ ⟨Nat.le_refl _, Nat.le_refl _⟩ (Nat.le_of_ble_eq_true rfl) ?_
      intro r9 I10 J11 hf
      refine hv_if_eq (tgt := 45) hX dX14_wordHere_37 (by decide) (fun c12 => ?_) (fun c12 => ?_)
      · replace hf := hf.1 c12
        refine hv_aload_n hX dX14_wordHere_45 rfl 0 rfl ?_
        refine hv_ldc2 (v := 161600) hX dX14_wordHere_46 q2210 ?_
        refine hm_callVi hX dX14_wordHere_49 (ct_isWord 161600 I10 J11 _ hf) (gd_isWord q2165) np_isWord rfl rfl ⟨Nat.le_of_ble_eq_true rfl, Nat.le_of_ble_eq_true rfl⟩ ⟨Nat.le_refl _, Nat.le_refl _⟩ (Nat.le_of_ble_eq_true rfl) ?_
        intro r13 I14 J15 hf
        refine hv_if_eq (tgt := 60) hX dX14_wordHere_52 (by decide) (fun c16 => ?_) (fun c16 => ?_)
        · replace hf := hf.1 c16
          refine hv_iconst (v := 0) hX ic_0 dX14_wordHere_60 ?_
          exact hm_iret hX hE dX14_wordHere_61 hf
        · replace hf := hf.2 c16
          refine hv_bipush (v := 103) hX bi_103 dX14_wordHere_55 ?_
          refine hv_goto (tgt := 61) hX dX14_wordHere_57 (by decide) ?_
          exact hm_iret hX hE dX14_wordHere_61 hf
      · replace hf := hf.2 c12
        refine hv_bipush (v := 102) hX bi_102 dX14_wordHere_40 ?_
        refine hv_goto (tgt := 61) hX dX14_wordHere_42 (by decide) ?_
        exact hm_iret hX hE dX14_wordHere_61 hf
    · replace hf := hf.2 c8
      refine hv_bipush (v := 101) hX bi_101 dX14_wordHere_25 ?_
      refine hv_goto (tgt := 61) hX dX14_wordHere_27 (by decide) ?_
      exact hm_iret hX hE dX14_wordHere_61 hf
  · replace hf := hf.2 c4
    refine hv_bipush (v := 100) hX bi_100 dX14_wordHere_10 ?_
    refine hv_goto (tgt := 61) hX dX14_wordHere_12 (by decide) ?_
    exact hm_iret hX hE dX14_wordHere_61 hf
theorem np_wordHere : yX14_wordHere.cls = RX14 ∧ yX14_wordHere.cls ≠ "java/lang/invoke/MethodHandle" ∧ yX14_wordHere.cls ≠ "java/lang/invoke/VarHandle" ∧ (parseMethodDescriptor yX14_wordHere.desc).map (fun d => d.parameters.length) = some 0 := by decide +kernel
theorem gd_wordHere {idx : Nat} (h : Cond.methodLink RX14 idx yX14_wordHere ∈ lw_all) : GoodIn lw_all (wsV RX14 idx RX14 yX14_wordHere (ws_ yX14_wordHere cX14_wordHere 1 (some .int))) := lw_V h q2205 qs82 q123 q2206
/-! emit(I)V -/
def m_emit (a1 : Int32) (I : mI) (J : mJ) (Q : mI → mJ → Prop) : Prop :=
  vp_in (I 0 49) 210 ∧ (Q (u2 (u2 I 20 (I 0 49).toNatClampNeg a1) 0 49 ((I 0 49) + 1)) J)
theorem ct_emit (a1 : Int32) (I : mI) (J : mJ) (Q : mI → mJ → Prop) (hf : m_emit a1 I J Q) : hh_Ct yX14_emit cX14_emit 2 none 0 0 [.ref 0, .int a1] (hm I J) (mQv Q) 0 0 := by
  refine hh_Ct.of (own := RX14) rfl (by decide +kernel) (Nat.le_of_ble_eq_true rfl) ?_
  intro X hX hN hE
  show hh_V X 0 [(0, .ref 0), (1, .int a1)] [] 0 0 (hm I J)
  unfold m_emit at hf
  refine hv_aload_n hX dX14_emit_0 rfl 0 rfl ?_
  refine hm_getR hX dX14_emit_1 mfl85 20 rfl ?_
  refine hv_aload_n hX dX14_emit_4 rfl 0 rfl ?_
  refine hm_getI (v := (I 0 49)) hX dX14_emit_5 mfl333 (.inl rfl) rfl ?_
  refine hv_iload_n hX dX14_emit_8 rfl 1 rfl ?_
  obtain ⟨g, hf⟩ := hf
  refine hm_iast hX dX14_emit_9 (by decide) rfl rfl g ?_
  refine hv_aload_n hX dX14_emit_10 rfl 0 rfl ?_
  refine hv_dup hX rfl dX14_emit_11 ?_
  refine hm_getI (v := (I 0 49)) hX dX14_emit_12 mfl333 (.inl rfl) ((u2_ne _ _ (.inl (by decide)))) ?_
  refine hv_iconst (v := 1) hX ic_1 dX14_emit_15 ?_
  refine hv_iadd hX dX14_emit_16 ?_
  refine hm_putI hX dX14_emit_17 mfl333 ?_
  exact hm_vret hX hE dX14_emit_20 hf
theorem np_emit : yX14_emit.cls = RX14 ∧ yX14_emit.cls ≠ "java/lang/invoke/MethodHandle" ∧ yX14_emit.cls ≠ "java/lang/invoke/VarHandle" ∧ (parseMethodDescriptor yX14_emit.desc).map (fun d => d.parameters.length) = some 1 := by decide +kernel
theorem gd_emit {idx : Nat} (h : Cond.methodLink RX14 idx yX14_emit ∈ lw_all) : GoodIn lw_all (wsV RX14 idx RX14 yX14_emit (ws_ yX14_emit cX14_emit 2 none)) := lw_V h q2214 qs83 q123 q2215
/-! wantValue()V -/
def m_wantValue_j67 (Q : mI → mJ → Prop) (a3 : Int32) (s1 : Int32) (I : mI) (J : mJ) : Prop :=
  m_emit (s1 + a3) I J (fun  I15 J16 => Q I15 J16)
theorem w_wantValue_j67 {X : hh_CX} {Q : mI → mJ → Prop} (hX : hh_C X cX14_wantValue RX14 (hrm 4 84)) (hN : hh_nL X = 4) (hE : hh_E X none (mQv Q) 0 0) : ∀ (a3 : Int32) (s1 : Int32) (I : mI) (J : mJ), m_wantValue_j67 Q  a3 s1 I J → hh_V X 67 [(3, .int a3)] [.int s1, .ref 0] 0 0 (hm I J) := by
  intro a3 s1 I J hf
  unfold m_wantValue_j67 at hf
  refine hv_iload_n hX dX14_wantValue_67 rfl 0 rfl ?_
  refine hv_iadd hX dX14_wantValue_68 ?_
  refine hm_callVv hX dX14_wantValue_69 (ct_emit (s1 + a3) I J _ hf) (gd_emit q2212) np_emit rfl rfl ⟨Nat.le_of_ble_eq_true rfl, Nat.le_of_ble_eq_true rfl⟩ ⟨Nat.le_refl _, Nat.le_refl _⟩ (Nat.le_of_ble_eq_true rfl) ?_
  intro  I15 J16 hf
  refine hv_goto (tgt := 92) hX dX14_wantValue_72 (by decide) ?_
  exact hm_vret hX hE dX14_wantValue_92 hf
def m_wantValue_j43 (Q : mI → mJ → Prop) (a2 : Int32) (I : mI) (J : mJ) : Prop :=
  m_advance  I J (fun  I9 J10 => m_wantNumber 3 I9 J10 (fun r11 I12 J13 => (a2 = 0 →
    m_wantValue_j67 Q  r11 300 I12 J13) ∧ (¬ a2 = 0 →
    m_wantValue_j67 Q  r11 200 I12 J13)))
theorem w_wantValue_j43 {X : hh_CX} {Q : mI → mJ → Prop} (hX : hh_C X cX14_wantValue RX14 (hrm 4 84)) (hN : hh_nL X = 4) (hE : hh_E X none (mQv Q) 0 0) : ∀ (a2 : Int32) (I : mI) (J : mJ), m_wantValue_j43 Q  a2 I J → hh_V X 43 [(0, .ref 0), (2, .int a2)] [] 0 0 (hm I J) := by
  intro a2 I J hf
  unfold m_wantValue_j43 at hf
  refine hv_aload_n hX dX14_wantValue_43 rfl 0 rfl ?_
  refine hm_callVv hX dX14_wantValue_44 (ct_advance  I J _ hf) (gd_advance q2147) np_advance rfl rfl ⟨Nat.le_of_ble_eq_true rfl, Nat.le_of_ble_eq_true rfl⟩ ⟨Nat.le_refl _, Nat.le_refl _⟩ (Nat.le_of_ble_eq_true rfl) ?_
  intro  I9 J10 hf
  refine hv_aload_n hX dX14_wantValue_47 rfl 0 rfl ?_
  refine hv_iconst (v := 3) hX ic_3 dX14_wantValue_48 ?_
  refine hm_callVi hX dX14_wantValue_49 (ct_wantNumber 3 I9 J10 _ hf) (gd_wantNumber q2178) np_wantNumber rfl rfl ⟨Nat.le_of_ble_eq_true rfl, Nat.le_of_ble_eq_true rfl⟩ ⟨Nat.le_refl _, Nat.le_refl _⟩ (Nat.le_of_ble_eq_true rfl) ?_
  intro r11 I12 J13 hf
  refine hv_istore_n (loc2 := [(3, .int r11), (0, .ref 0), (2, .int a2)]) hX dX14_wantValue_52 rfl hN (Nat.le_of_ble_eq_true rfl) rfl ?_
  refine hv_aload_n hX dX14_wantValue_53 rfl 1 rfl ?_
  refine hv_iload_n hX dX14_wantValue_54 rfl 2 rfl ?_
  refine hv_if_eq (tgt := 64) hX dX14_wantValue_55 (by decide) (fun c14 => ?_) (fun c14 => ?_)
  · replace hf := hf.1 c14
    refine hv_sipush (v := 300) hX si_300 dX14_wantValue_64 ?_
    refine hv_fewer [0] (loc2 := [(3, .int r11)]) rfl ?_
    exact w_wantValue_j67 hX hN hE  _ _ _ _ hf
  · replace hf := hf.2 c14
    refine hv_sipush (v := 200) hX si_200 dX14_wantValue_58 ?_
    refine hv_goto (tgt := 67) hX dX14_wantValue_61 (by decide) ?_
    refine hv_fewer [0] (loc2 := [(3, .int r11)]) rfl ?_
    exact w_wantValue_j67 hX hN hE  _ _ _ _ hf
def m_wantValue  (I : mI) (J : mJ) (Q : mI → mJ → Prop) : Prop :=
  m_wordHere  I J (fun r1 I2 J3 => m_isWord 129442 I2 J3 (fun r4 I5 J6 => (r1 ≤ 0 →
    (r4 = 0 →
      m_isWord 7094782 I5 J6 (fun r17 I18 J19 => (r17 = 0 →
        m_wantNumber 999 I18 J19 (fun r21 I22 J23 => m_emit (3000 + r21) I22 J23 (fun  I24 J25 => Q I24 J25))) ∧ (¬ r17 = 0 →
        m_wantValue_j43 Q  r4 I18 J19))) ∧ (¬ r4 = 0 →
      m_wantValue_j43 Q  r4 I5 J6)) ∧ (¬ r1 ≤ 0 →
    m_emit r1 I5 J6 (fun  I26 J27 => m_advance  I26 J27 (fun  I28 J29 => Q I28 J29)))))
theorem ct_wantValue  (I : mI) (J : mJ) (Q : mI → mJ → Prop) (hf : m_wantValue  I J Q) : hh_Ct yX14_wantValue cX14_wantValue 4 none 4 84 [.ref 0] (hm I J) (mQv Q) 0 0 := by
  refine hh_Ct.of (own := RX14) rfl (by decide +kernel) (Nat.le_of_ble_eq_true rfl) ?_
  intro X hX hN hE
  show hh_V X 0 [(0, .ref 0)] [] 0 0 (hm I J)
  unfold m_wantValue at hf
  refine hv_aload_n hX dX14_wantValue_0 rfl 0 rfl ?_
  refine hm_callVi hX dX14_wantValue_1 (ct_wordHere  I J _ hf) (gd_wordHere q2203) np_wordHere rfl rfl ⟨Nat.le_of_ble_eq_true rfl, Nat.le_of_ble_eq_true rfl⟩ ⟨Nat.le_refl _, Nat.le_refl _⟩ (Nat.le_of_ble_eq_true rfl) ?_
  intro r1 I2 J3 hf
  refine hv_istore_n (loc2 := [(1, .int r1), (0, .ref 0)]) hX dX14_wantValue_4 rfl hN (Nat.le_of_ble_eq_true rfl) rfl ?_
  refine hv_aload_n hX dX14_wantValue_5 rfl 1 rfl ?_
  refine hv_ldc2 (v := 129442) hX dX14_wantValue_6 q2211 ?_
  refine hm_callVi hX dX14_wantValue_9 (ct_isWord 129442 I2 J3 _ hf) (gd_isWord q2165) np_isWord rfl rfl ⟨Nat.le_of_ble_eq_true rfl, Nat.le_of_ble_eq_true rfl⟩ ⟨Nat.le_refl _, Nat.le_refl _⟩ (Nat.le_of_ble_eq_true rfl) ?_
  intro r4 I5 J6 hf
  refine hv_istore_n (loc2 := [(2, .int r4), (1, .int r1), (0, .ref 0)]) hX dX14_wantValue_12 rfl hN (Nat.le_of_ble_eq_true rfl) rfl ?_
  refine hv_iload_n hX dX14_wantValue_13 rfl 1 rfl ?_
  refine hv_if_le (tgt := 29) hX dX14_wantValue_14 (by decide) (fun c7 => ?_) (fun c7 => ?_)
  · replace hf := hf.1 c7
    refine hv_iload_n hX dX14_wantValue_29 rfl 0 rfl ?_
    refine hv_if_ne (tgt := 43) hX dX14_wantValue_30 (by decide) (fun c8 => ?_) (fun c8 => ?_)
    · replace hf := hf.2 c8
      refine hv_fewer [2, 0] (loc2 := [(0, .ref 0), (2, .int r4)]) rfl ?_
      exact w_wantValue_j43 hX hN hE  _ _ _ hf
    · replace hf := hf.1 c8
      refine hv_aload_n hX dX14_wantValue_33 rfl 2 rfl ?_
      refine hv_ldc2 (v := 7094782) hX dX14_wantValue_34 q2216 ?_
      refine hm_callVi hX dX14_wantValue_37 (ct_isWord 7094782 I5 J6 _ hf) (gd_isWord q2165) np_isWord rfl rfl ⟨Nat.le_of_ble_eq_true rfl, Nat.le_of_ble_eq_true rfl⟩ ⟨Nat.le_refl _, Nat.le_refl _⟩ (Nat.le_of_ble_eq_true rfl) ?_
      intro r17 I18 J19 hf
      refine hv_if_eq (tgt := 75) hX dX14_wantValue_40 (by decide) (fun c20 => ?_) (fun c20 => ?_)
      · replace hf := hf.1 c20
        refine hv_aload_n hX dX14_wantValue_75 rfl 2 rfl ?_
        refine hv_sipush (v := 999) hX si_999 dX14_wantValue_76 ?_
        refine hm_callVi hX dX14_wantValue_79 (ct_wantNumber 999 I18 J19 _ hf) (gd_wantNumber q2178) np_wantNumber rfl rfl ⟨Nat.le_of_ble_eq_true rfl, Nat.le_of_ble_eq_true rfl⟩ ⟨Nat.le_refl _, Nat.le_refl _⟩ (Nat.le_of_ble_eq_true rfl) ?_
        intro r21 I22 J23 hf
        refine hv_istore_n (loc2 := [(3, .int r21), (2, .int r4), (1, .int r1), (0, .ref 0)]) hX dX14_wantValue_82 rfl hN (Nat.le_of_ble_eq_true rfl) rfl ?_
        refine hv_aload_n hX dX14_wantValue_83 rfl 3 rfl ?_
        refine hv_sipush (v := 3000) hX si_3000 dX14_wantValue_84 ?_
        refine hv_iload_n hX dX14_wantValue_87 rfl 0 rfl ?_
        refine hv_iadd hX dX14_wantValue_88 ?_
        refine hm_callVv hX dX14_wantValue_89 (ct_emit (3000 + r21) I22 J23 _ hf) (gd_emit q2212) np_emit rfl rfl ⟨Nat.le_of_ble_eq_true rfl, Nat.le_of_ble_eq_true rfl⟩ ⟨Nat.le_refl _, Nat.le_refl _⟩ (Nat.le_of_ble_eq_true rfl) ?_
        intro  I24 J25 hf
        exact hm_vret hX hE dX14_wantValue_92 hf
      · replace hf := hf.2 c20
        refine hv_fewer [2, 0] (loc2 := [(0, .ref 0), (2, .int r4)]) rfl ?_
        exact w_wantValue_j43 hX hN hE  _ _ _ hf
  · replace hf := hf.2 c7
    refine hv_aload_n hX dX14_wantValue_17 rfl 2 rfl ?_
    refine hv_iload_n hX dX14_wantValue_18 rfl 1 rfl ?_
    refine hm_callVv hX dX14_wantValue_19 (ct_emit r1 I5 J6 _ hf) (gd_emit q2212) np_emit rfl rfl ⟨Nat.le_of_ble_eq_true rfl, Nat.le_of_ble_eq_true rfl⟩ ⟨Nat.le_refl _, Nat.le_refl _⟩ (Nat.le_of_ble_eq_true rfl) ?_
    intro  I26 J27 hf
    refine hv_aload_n hX dX14_wantValue_22 rfl 2 rfl ?_
    refine hm_callVv hX dX14_wantValue_23 (ct_advance  I26 J27 _ hf) (gd_advance q2147) np_advance rfl rfl ⟨Nat.le_of_ble_eq_true rfl, Nat.le_of_ble_eq_true rfl⟩ ⟨Nat.le_refl _, Nat.le_refl _⟩ (Nat.le_of_ble_eq_true rfl) ?_
    intro  I28 J29 hf
    refine hv_goto (tgt := 92) hX dX14_wantValue_26 (by decide) ?_
    exact hm_vret hX hE dX14_wantValue_92 hf
theorem np_wantValue : yX14_wantValue.cls = RX14 ∧ yX14_wantValue.cls ≠ "java/lang/invoke/MethodHandle" ∧ yX14_wantValue.cls ≠ "java/lang/invoke/VarHandle" ∧ (parseMethodDescriptor yX14_wantValue.desc).map (fun d => d.parameters.length) = some 0 := by decide +kernel
theorem gd_wantValue {idx : Nat} (h : Cond.methodLink RX14 idx yX14_wantValue ∈ lw_all) : GoodIn lw_all (wsV RX14 idx RX14 yX14_wantValue (ws_ yX14_wantValue cX14_wantValue 4 none)) := lw_V h q2201 qs81 q123 q2202
/-! wantAsk()V -/
def m_wantAsk_j58 (Q : mI → mJ → Prop) (a1 : Int32) (s1 : Int32) (I : mI) (J : mJ) : Prop :=
  m_want s1 I J (fun  I16 J17 => m_isGood  I16 J17 (fun r18 I19 J20 => (r18 = 0 →
    Q I19 J20) ∧ (¬ r18 = 0 →
    m_wantValue  I19 J20 (fun  I22 J23 => m_emit a1 I22 J23 (fun  I24 J25 => Q I24 J25)))))
theorem w_wantAsk_j58 {X : hh_CX} {Q : mI → mJ → Prop} (hX : hh_C X cX14_wantAsk RX14 (hrm 5 107)) (hN : hh_nL X = 2) (hE : hh_E X none (mQv Q) 0 0) : ∀ (a1 : Int32) (s1 : Int32) (I : mI) (J : mJ), m_wantAsk_j58 Q  a1 s1 I J → hh_V X 58 [(0, .ref 0), (1, .int a1)] [.int s1, .ref 0] 0 0 (hm I J) := by
  intro a1 s1 I J hf
  unfold m_wantAsk_j58 at hf
  refine hm_callVv hX dX14_wantAsk_58 (ct_want s1 I J _ hf) (gd_want q2170) np_want rfl rfl ⟨Nat.le_of_ble_eq_true rfl, Nat.le_of_ble_eq_true rfl⟩ ⟨Nat.le_refl _, Nat.le_refl _⟩ (Nat.le_of_ble_eq_true rfl) ?_
  intro  I16 J17 hf
  refine hv_aload_n hX dX14_wantAsk_61 rfl 0 rfl ?_
  refine hm_callVi hX dX14_wantAsk_62 (ct_isGood  I16 J17 _ hf) (gd_isGood q2160) np_isGood rfl rfl ⟨Nat.le_of_ble_eq_true rfl, Nat.le_of_ble_eq_true rfl⟩ ⟨Nat.le_refl _, Nat.le_refl _⟩ (Nat.le_of_ble_eq_true rfl) ?_
  intro r18 I19 J20 hf
  refine hv_if_eq (tgt := 77) hX dX14_wantAsk_65 (by decide) (fun c21 => ?_) (fun c21 => ?_)
  · replace hf := hf.1 c21
    exact hm_vret hX hE dX14_wantAsk_77 hf
  · replace hf := hf.2 c21
    refine hv_aload_n hX dX14_wantAsk_68 rfl 0 rfl ?_
    refine hm_callVv hX dX14_wantAsk_69 (ct_wantValue  I19 J20 _ hf) (gd_wantValue q2199) np_wantValue rfl rfl ⟨Nat.le_of_ble_eq_true rfl, Nat.le_of_ble_eq_true rfl⟩ ⟨Nat.le_refl _, Nat.le_refl _⟩ (Nat.le_of_ble_eq_true rfl) ?_
    intro  I22 J23 hf
    refine hv_aload_n hX dX14_wantAsk_72 rfl 0 rfl ?_
    refine hv_iload_n hX dX14_wantAsk_73 rfl 1 rfl ?_
    refine hm_callVv hX dX14_wantAsk_74 (ct_emit a1 I22 J23 _ hf) (gd_emit q2212) np_emit rfl rfl ⟨Nat.le_of_ble_eq_true rfl, Nat.le_of_ble_eq_true rfl⟩ ⟨Nat.le_refl _, Nat.le_refl _⟩ (Nat.le_of_ble_eq_true rfl) ?_
    intro  I24 J25 hf
    exact hm_vret hX hE dX14_wantAsk_77 hf
def m_wantAsk_j47 (Q : mI → mJ → Prop) (s0 : Int32) (I : mI) (J : mJ) : Prop :=
  (s0 ≤ 0 →
    m_wantAsk_j58 Q  s0 0 I J) ∧ (¬ s0 ≤ 0 →
    m_wantAsk_j58 Q  s0 1 I J)
theorem w_wantAsk_j47 {X : hh_CX} {Q : mI → mJ → Prop} (hX : hh_C X cX14_wantAsk RX14 (hrm 5 107)) (hN : hh_nL X = 2) (hE : hh_E X none (mQv Q) 0 0) : ∀ (s0 : Int32) (I : mI) (J : mJ), m_wantAsk_j47 Q  s0 I J → hh_V X 47 [(0, .ref 0)] [.int s0] 0 0 (hm I J) := by
  intro s0 I J hf
  unfold m_wantAsk_j47 at hf
  refine hv_istore_n (loc2 := [(1, .int s0), (0, .ref 0)]) hX dX14_wantAsk_47 rfl hN (Nat.le_of_ble_eq_true rfl) rfl ?_
  refine hv_aload_n hX dX14_wantAsk_48 rfl 1 rfl ?_
  refine hv_iload_n hX dX14_wantAsk_49 rfl 0 rfl ?_
  refine hv_if_le (tgt := 57) hX dX14_wantAsk_50 (by decide) (fun c15 => ?_) (fun c15 => ?_)
  · replace hf := hf.1 c15
    refine hv_iconst (v := 0) hX ic_0 dX14_wantAsk_57 ?_
    refine hv_fewer [1, 0] (loc2 := [(0, .ref 0), (1, .int s0)]) rfl ?_
    exact w_wantAsk_j58 hX hN hE  _ _ _ _ hf
  · replace hf := hf.2 c15
    refine hv_iconst (v := 1) hX ic_1 dX14_wantAsk_53 ?_
    refine hv_goto (tgt := 58) hX dX14_wantAsk_54 (by decide) ?_
    refine hv_fewer [1, 0] (loc2 := [(0, .ref 0), (1, .int s0)]) rfl ?_
    exact w_wantAsk_j58 hX hN hE  _ _ _ _ hf
def m_wantAsk  (I : mI) (J : mJ) (Q : mI → mJ → Prop) : Prop :=
  m_wantValue  I J (fun  I1 J2 => m_isMark 60 I1 J2 (fun r3 I4 J5 => (r3 = 0 →
    m_isMark 61 I4 J5 (fun r7 I8 J9 => (r7 = 0 →
      m_isMark 62 I8 J9 (fun r11 I12 J13 => (r11 = 0 →
        m_wantAsk_j47 Q  0 I12 J13) ∧ (¬ r11 = 0 →
        m_wantAsk_j47 Q  17 I12 J13))) ∧ (¬ r7 = 0 →
      m_wantAsk_j47 Q  16 I8 J9))) ∧ (¬ r3 = 0 →
    m_wantAsk_j47 Q  15 I4 J5)))
theorem ct_wantAsk  (I : mI) (J : mJ) (Q : mI → mJ → Prop) (hf : m_wantAsk  I J Q) : hh_Ct yX14_wantAsk cX14_wantAsk 2 none 5 107 [.ref 0] (hm I J) (mQv Q) 0 0 := by
  refine hh_Ct.of (own := RX14) rfl (by decide +kernel) (Nat.le_of_ble_eq_true rfl) ?_
  intro X hX hN hE
  show hh_V X 0 [(0, .ref 0)] [] 0 0 (hm I J)
  unfold m_wantAsk at hf
  refine hv_aload_n hX dX14_wantAsk_0 rfl 0 rfl ?_
  refine hm_callVv hX dX14_wantAsk_1 (ct_wantValue  I J _ hf) (gd_wantValue q2199) np_wantValue rfl rfl ⟨Nat.le_of_ble_eq_true rfl, Nat.le_of_ble_eq_true rfl⟩ ⟨Nat.le_refl _, Nat.le_refl _⟩ (Nat.le_of_ble_eq_true rfl) ?_
  intro  I1 J2 hf
  refine hv_aload_n hX dX14_wantAsk_4 rfl 0 rfl ?_
  refine hv_bipush (v := 60) hX bi_60 dX14_wantAsk_5 ?_
  refine hm_callVi hX dX14_wantAsk_7 (ct_isMark 60 I1 J2 _ hf) (gd_isMark q2191) np_isMark rfl rfl ⟨Nat.le_of_ble_eq_true rfl, Nat.le_of_ble_eq_true rfl⟩ ⟨Nat.le_refl _, Nat.le_refl _⟩ (Nat.le_of_ble_eq_true rfl) ?_
  intro r3 I4 J5 hf
  refine hv_if_eq (tgt := 18) hX dX14_wantAsk_10 (by decide) (fun c6 => ?_) (fun c6 => ?_)
  · replace hf := hf.1 c6
    refine hv_aload_n hX dX14_wantAsk_18 rfl 0 rfl ?_
    refine hv_bipush (v := 61) hX bi_61 dX14_wantAsk_19 ?_
    refine hm_callVi hX dX14_wantAsk_21 (ct_isMark 61 I4 J5 _ hf) (gd_isMark q2191) np_isMark rfl rfl ⟨Nat.le_of_ble_eq_true rfl, Nat.le_of_ble_eq_true rfl⟩ ⟨Nat.le_refl _, Nat.le_refl _⟩ (Nat.le_of_ble_eq_true rfl) ?_
    intro r7 I8 J9 hf
    refine hv_if_eq (tgt := 32) hX dX14_wantAsk_24 (by decide) (fun c10 => ?_) (fun c10 => ?_)
    · replace hf := hf.1 c10
      refine hv_aload_n hX dX14_wantAsk_32 rfl 0 rfl ?_
      refine hv_bipush (v := 62) hX bi_62 dX14_wantAsk_33 ?_
      refine hm_callVi hX dX14_wantAsk_35 (ct_isMark 62 I8 J9 _ hf) (gd_isMark q2191) np_isMark rfl rfl ⟨Nat.le_of_ble_eq_true rfl, Nat.le_of_ble_eq_true rfl⟩ ⟨Nat.le_refl _, Nat.le_refl _⟩ (Nat.le_of_ble_eq_true rfl) ?_
      intro r11 I12 J13 hf
      refine hv_if_eq (tgt := 46) hX dX14_wantAsk_38 (by decide) (fun c14 => ?_) (fun c14 => ?_)
      · replace hf := hf.1 c14
        refine hv_iconst (v := 0) hX ic_0 dX14_wantAsk_46 ?_
        exact w_wantAsk_j47 hX hN hE  _ _ _ hf
      · replace hf := hf.2 c14
        refine hv_bipush (v := 17) hX bi_17 dX14_wantAsk_41 ?_
        refine hv_goto (tgt := 47) hX dX14_wantAsk_43 (by decide) ?_
        exact w_wantAsk_j47 hX hN hE  _ _ _ hf
    · replace hf := hf.2 c10
      refine hv_bipush (v := 16) hX bi_16 dX14_wantAsk_27 ?_
      refine hv_goto (tgt := 47) hX dX14_wantAsk_29 (by decide) ?_
      exact w_wantAsk_j47 hX hN hE  _ _ _ hf
  · replace hf := hf.2 c6
    refine hv_bipush (v := 15) hX bi_15 dX14_wantAsk_13 ?_
    refine hv_goto (tgt := 47) hX dX14_wantAsk_15 (by decide) ?_
    exact w_wantAsk_j47 hX hN hE  _ _ _ hf
theorem np_wantAsk : yX14_wantAsk.cls = RX14 ∧ yX14_wantAsk.cls ≠ "java/lang/invoke/MethodHandle" ∧ yX14_wantAsk.cls ≠ "java/lang/invoke/VarHandle" ∧ (parseMethodDescriptor yX14_wantAsk.desc).map (fun d => d.parameters.length) = some 0 := by decide +kernel
theorem gd_wantAsk {idx : Nat} (h : Cond.methodLink RX14 idx yX14_wantAsk ∈ lw_all) : GoodIn lw_all (wsV RX14 idx RX14 yX14_wantAsk (ws_ yX14_wantAsk cX14_wantAsk 2 none)) := lw_V h q2197 qs80 q123 q2198
/-! settle(I)V -/
def m_settle_l0 (Q : mI → mJ → Prop) : Nat → Int32 → mI → mJ → Prop
  | 0, _, _, _ => False
  | n + 1, a1, I, J =>
    ((I 0 50) ≤ 0 →
      Q I J) ∧ (¬ (I 0 50) ≤ 0 →
      vp_in ((I 0 50) - 1) 210 ∧ (((I 21 ((I 0 50) - 1).toNatClampNeg) = 10 →
        Q I J) ∧ (¬ (I 21 ((I 0 50) - 1).toNatClampNeg) = 10 →
        vp_in ((I 0 50) - 1) 210 ∧ ((a1 < (I 21 ((I 0 50) - 1).toNatClampNeg) →
          Q I J) ∧ (¬ a1 < (I 21 ((I 0 50) - 1).toNatClampNeg) →
          vp_in ((I 0 50) - 1) 210 ∧ (m_emit (I 21 ((I 0 50) - 1).toNatClampNeg) (u2 I 0 50 ((I 0 50) - 1)) J (fun  I4 J5 => m_settle_l0 Q n a1 I4 J5)))))))
theorem w_settle_l0 {X : hh_CX} {Q : mI → mJ → Prop} (hX : hh_C X cX14_settle RX14 (hrm 1 21)) (hN : hh_nL X = 2) (hE : hh_E X none (mQv Q) 0 0) : ∀ (n : Nat) (a1 : Int32) (I : mI) (J : mJ), m_settle_l0 Q  n a1 I J → hh_V X 0 [(0, .ref 0), (1, .int a1)] [] 0 0 (hm I J) := by
  intro n
  induction n with
  | zero => intro _ _ _ hf; exact hf.elim
  | succ n ih =>
    intro a1 I J hf
    unfold m_settle_l0 at hf
    refine hv_aload_n hX dX14_settle_0 rfl 0 rfl ?_
    refine hm_getI (v := (I 0 50)) hX dX14_settle_1 mfl336 (.inl rfl) rfl ?_
    refine hv_if_le (tgt := 64) hX dX14_settle_4 (by decide) (fun c1 => ?_) (fun c1 => ?_)
    · replace hf := hf.1 c1
      exact hm_vret hX hE dX14_settle_64 hf
    · replace hf := hf.2 c1
      refine hv_aload_n hX dX14_settle_7 rfl 0 rfl ?_
      refine hm_getR hX dX14_settle_8 mfl88 21 rfl ?_
      refine hv_aload_n hX dX14_settle_11 rfl 0 rfl ?_
      refine hm_getI (v := (I 0 50)) hX dX14_settle_12 mfl336 (.inl rfl) rfl ?_
      refine hv_iconst (v := 1) hX ic_1 dX14_settle_15 ?_
      refine hv_isub hX dX14_settle_16 ?_
      obtain ⟨g, hf⟩ := hf
      refine hm_iald (v := (I 21 ((I 0 50) - 1).toNatClampNeg)) hX dX14_settle_17 (by decide) rfl rfl g rfl ?_
      refine hv_bipush (v := 10) hX bi_10 dX14_settle_18 ?_
      refine hv_icmp_eq (tgt := 64) hX dX14_settle_20 (by decide) (fun c2 => ?_) (fun c2 => ?_)
      · replace hf := hf.1 c2
        exact hm_vret hX hE dX14_settle_64 hf
      · replace hf := hf.2 c2
        refine hv_aload_n hX dX14_settle_23 rfl 0 rfl ?_
        refine hm_getR hX dX14_settle_24 mfl88 21 rfl ?_
        refine hv_aload_n hX dX14_settle_27 rfl 0 rfl ?_
        refine hm_getI (v := (I 0 50)) hX dX14_settle_28 mfl336 (.inl rfl) rfl ?_
        refine hv_iconst (v := 1) hX ic_1 dX14_settle_31 ?_
        refine hv_isub hX dX14_settle_32 ?_
        obtain ⟨g, hf⟩ := hf
        refine hm_iald (v := (I 21 ((I 0 50) - 1).toNatClampNeg)) hX dX14_settle_33 (by decide) rfl rfl g rfl ?_
        refine hv_iload_n hX dX14_settle_34 rfl 1 rfl ?_
        refine hv_icmp_gt (tgt := 64) hX dX14_settle_35 (by decide) (fun c3 => ?_) (fun c3 => ?_)
        · replace hf := hf.1 c3
          exact hm_vret hX hE dX14_settle_64 hf
        · replace hf := hf.2 c3
          refine hv_aload_n hX dX14_settle_38 rfl 0 rfl ?_
          refine hv_dup hX rfl dX14_settle_39 ?_
          refine hm_getI (v := (I 0 50)) hX dX14_settle_40 mfl336 (.inl rfl) rfl ?_
          refine hv_iconst (v := 1) hX ic_1 dX14_settle_43 ?_
          refine hv_isub hX dX14_settle_44 ?_
          refine hm_putI hX dX14_settle_45 mfl336 ?_
          refine hv_aload_n hX dX14_settle_48 rfl 0 rfl ?_
          refine hv_aload_n hX dX14_settle_49 rfl 0 rfl ?_
          refine hm_getR hX dX14_settle_50 mfl88 21 rfl ?_
          refine hv_aload_n hX dX14_settle_53 rfl 0 rfl ?_
          refine hm_getI (v := ((I 0 50) - 1)) hX dX14_settle_54 mfl336 (.inl rfl) (u2_self _ _ _ _) ?_
          obtain ⟨g, hf⟩ := hf
          refine hm_iald (v := (I 21 ((I 0 50) - 1).toNatClampNeg)) hX dX14_settle_57 (by decide) rfl rfl g ((u2_ne _ _ (.inl (by decide)))) ?_
          refine hm_callVv hX dX14_settle_58 (ct_emit (I 21 ((I 0 50) - 1).toNatClampNeg) (u2 I 0 50 ((I 0 50) - 1)) J _ hf) (gd_emit q2212) np_emit rfl rfl ⟨Nat.le_of_ble_eq_true rfl, Nat.le_of_ble_eq_true rfl⟩ ⟨Nat.le_refl _, Nat.le_refl _⟩ (Nat.le_of_ble_eq_true rfl) ?_
          intro  I4 J5 hf
          refine hv_goto (tgt := 0) hX dX14_settle_61 (by decide) ?_
          exact ih _ _ _ hf
def m_settle (a1 : Int32) (I : mI) (J : mJ) (Q : mI → mJ → Prop) : Prop :=
  ∃ n0 : Nat, m_settle_l0 Q  n0 a1 I J
theorem ct_settle (a1 : Int32) (I : mI) (J : mJ) (Q : mI → mJ → Prop) (hf : m_settle a1 I J Q) : hh_Ct yX14_settle cX14_settle 2 none 1 21 [.ref 0, .int a1] (hm I J) (mQv Q) 0 0 := by
  refine hh_Ct.of (own := RX14) rfl (by decide +kernel) (Nat.le_of_ble_eq_true rfl) ?_
  intro X hX hN hE
  show hh_V X 0 [(0, .ref 0), (1, .int a1)] [] 0 0 (hm I J)
  unfold m_settle at hf
  obtain ⟨n0, hf⟩ := hf
  exact w_settle_l0 hX hN hE  n0 _ _ _ hf
theorem np_settle : yX14_settle.cls = RX14 ∧ yX14_settle.cls ≠ "java/lang/invoke/MethodHandle" ∧ yX14_settle.cls ≠ "java/lang/invoke/VarHandle" ∧ (parseMethodDescriptor yX14_settle.desc).map (fun d => d.parameters.length) = some 1 := by decide +kernel
theorem gd_settle {idx : Nat} (h : Cond.methodLink RX14 idx yX14_settle ∈ lw_all) : GoodIn lw_all (wsV RX14 idx RX14 yX14_settle (ws_ yX14_settle cX14_settle 2 none)) := lw_V h q2219 qs84 q123 q2220
/-! wantCond()V -/
def m_wantCond_j196 (Q : mI → mJ → Prop)  (I : mI) (J : mJ) : Prop :=
  m_settle 9 I J (fun  I2 J3 => Q I2 J3)
theorem w_wantCond_j196 {X : hh_CX} {Q : mI → mJ → Prop} (hX : hh_C X cX14_wantCond RX14 (hrm 6 128)) (hN : hh_nL X = 5) (hE : hh_E X none (mQv Q) 0 0) : ∀  (I : mI) (J : mJ), m_wantCond_j196 Q   I J → hh_V X 196 [(0, .ref 0)] [] 0 0 (hm I J) := by
  intro  I J hf
  unfold m_wantCond_j196 at hf
  refine hv_aload_n hX dX14_wantCond_196 rfl 0 rfl ?_
  refine hv_bipush (v := 9) hX bi_9 dX14_wantCond_197 ?_
  refine hm_callVv hX dX14_wantCond_199 (ct_settle 9 I J _ hf) (gd_settle q2217) np_settle rfl rfl ⟨Nat.le_of_ble_eq_true rfl, Nat.le_of_ble_eq_true rfl⟩ ⟨Nat.le_refl _, Nat.le_refl _⟩ (Nat.le_of_ble_eq_true rfl) ?_
  intro  I2 J3 hf
  exact hm_vret hX hE dX14_wantCond_202 hf
def m_wantCond_j130 (Q : mI → mJ → Prop) (k11 : Int32 → Int32 → Int32 → mI → mJ → Prop) (a1 : Int32) (a3 : Int32) (s0 : Int32) (I : mI) (J : mJ) : Prop :=
  m_settle s0 I J (fun  I17 J18 => m_hold s0 I17 J18 (fun  I19 J20 => k11 a1 1 a3 I19 J20))
theorem w_wantCond_j130 {X : hh_CX} {Q : mI → mJ → Prop} (hX : hh_C X cX14_wantCond RX14 (hrm 6 128)) (hN : hh_nL X = 5) (hE : hh_E X none (mQv Q) 0 0) {k11 : Int32 → Int32 → Int32 → mI → mJ → Prop} (hk11 : ∀ (b0 : Int32) (b1 : Int32) (b2 : Int32) (I : mI) (J : mJ), k11 b0 b1 b2 I J → hh_V X 11 [(0, .ref 0), (1, .int b0), (2, .int b1), (3, .int b2)] [] 0 0 (hm I J)) : ∀ (a1 : Int32) (a3 : Int32) (s0 : Int32) (I : mI) (J : mJ), m_wantCond_j130 Q k11 a1 a3 s0 I J → hh_V X 130 [(0, .ref 0), (1, .int a1), (3, .int a3)] [.int s0] 0 0 (hm I J) := by
  intro a1 a3 s0 I J hf
  unfold m_wantCond_j130 at hf
  refine hv_istore (loc2 := [(4, .int s0), (0, .ref 0), (1, .int a1), (3, .int a3)]) hX dX14_wantCond_130 hN (Nat.le_of_ble_eq_true rfl) rfl ?_
  refine hv_aload_n hX dX14_wantCond_132 rfl 1 rfl ?_
  refine hv_iload hX dX14_wantCond_133 0 rfl ?_
  refine hm_callVv hX dX14_wantCond_135 (ct_settle s0 I J _ hf) (gd_settle q2217) np_settle rfl rfl ⟨Nat.le_of_ble_eq_true rfl, Nat.le_of_ble_eq_true rfl⟩ ⟨Nat.le_refl _, Nat.le_refl _⟩ (Nat.le_of_ble_eq_true rfl) ?_
  intro  I17 J18 hf
  refine hv_aload_n hX dX14_wantCond_138 rfl 1 rfl ?_
  refine hv_iload hX dX14_wantCond_139 0 rfl ?_
  refine hm_callVv hX dX14_wantCond_141 (ct_hold s0 I17 J18 _ hf) (gd_hold q2187) np_hold rfl rfl ⟨Nat.le_of_ble_eq_true rfl, Nat.le_of_ble_eq_true rfl⟩ ⟨Nat.le_refl _, Nat.le_refl _⟩ (Nat.le_of_ble_eq_true rfl) ?_
  intro  I19 J20 hf
  refine hv_iconst (v := 1) hX ic_1 dX14_wantCond_144 ?_
  refine hv_istore_n (loc2 := [(2, .int 1), (4, .int s0), (0, .ref 0), (1, .int a1), (3, .int a3)]) hX dX14_wantCond_145 rfl hN (Nat.le_of_ble_eq_true rfl) rfl ?_
  refine hv_goto (tgt := 11) hX dX14_wantCond_146 (by decide) ?_
  refine hv_fewer [2, 3, 0, 4] (loc2 := [(0, .ref 0), (1, .int a1), (2, .int 1), (3, .int a3)]) rfl ?_
  exact hk11 _ _ _ _ _ hf
def m_wantCond_j113 (Q : mI → mJ → Prop) (k11 : Int32 → Int32 → Int32 → mI → mJ → Prop) (a1 : Int32) (a3 : Int32) (I : mI) (J : mJ) : Prop :=
  m_isWord 1111 I J (fun r13 I14 J15 => (r13 = 0 →
    m_wantCond_j130 Q k11 a1 a3 9 I14 J15) ∧ (¬ r13 = 0 →
    m_wantCond_j130 Q k11 a1 a3 8 I14 J15))
theorem w_wantCond_j113 {X : hh_CX} {Q : mI → mJ → Prop} (hX : hh_C X cX14_wantCond RX14 (hrm 6 128)) (hN : hh_nL X = 5) (hE : hh_E X none (mQv Q) 0 0) {k11 : Int32 → Int32 → Int32 → mI → mJ → Prop} (hk11 : ∀ (b0 : Int32) (b1 : Int32) (b2 : Int32) (I : mI) (J : mJ), k11 b0 b1 b2 I J → hh_V X 11 [(0, .ref 0), (1, .int b0), (2, .int b1), (3, .int b2)] [] 0 0 (hm I J)) : ∀ (a1 : Int32) (a3 : Int32) (I : mI) (J : mJ), m_wantCond_j113 Q k11 a1 a3 I J → hh_V X 113 [(0, .ref 0), (1, .int a1), (3, .int a3)] [] 0 0 (hm I J) := by
  intro a1 a3 I J hf
  unfold m_wantCond_j113 at hf
  refine hv_aload_n hX dX14_wantCond_113 rfl 0 rfl ?_
  refine hv_ldc2 (v := 1111) hX dX14_wantCond_114 q2221 ?_
  refine hm_callVi hX dX14_wantCond_117 (ct_isWord 1111 I J _ hf) (gd_isWord q2165) np_isWord rfl rfl ⟨Nat.le_of_ble_eq_true rfl, Nat.le_of_ble_eq_true rfl⟩ ⟨Nat.le_refl _, Nat.le_refl _⟩ (Nat.le_of_ble_eq_true rfl) ?_
  intro r13 I14 J15 hf
  refine hv_if_eq (tgt := 128) hX dX14_wantCond_120 (by decide) (fun c16 => ?_) (fun c16 => ?_)
  · replace hf := hf.1 c16
    refine hv_bipush (v := 9) hX bi_9 dX14_wantCond_128 ?_
    exact w_wantCond_j130 hX hN hE hk11 _ _ _ _ _ hf
  · replace hf := hf.2 c16
    refine hv_bipush (v := 8) hX bi_8 dX14_wantCond_123 ?_
    refine hv_goto (tgt := 130) hX dX14_wantCond_125 (by decide) ?_
    exact w_wantCond_j130 hX hN hE hk11 _ _ _ _ _ hf
def m_wantCond_l11 (Q : mI → mJ → Prop) : Nat → Int32 → Int32 → Int32 → mI → mJ → Prop
  | 0, _, _, _, _, _ => False
  | n + 1, a1, a2, a3, I, J =>
    (a3 = 0 →
      m_wantCond_j196 Q   I J) ∧ (¬ a3 = 0 →
      m_isGood  I J (fun r4 I5 J6 => (r4 = 0 →
        m_wantCond_j196 Q   I5 J6) ∧ (¬ r4 = 0 →
        (a2 = 0 →
          m_isWord 1111 I5 J6 (fun r9 I10 J11 => (r9 = 0 →
            m_isWord 423 I10 J11 (fun r21 I22 J23 => (r21 = 0 →
              (a1 ≤ 0 →
                m_wantCond_l11 Q n a1 a2 0 I22 J23) ∧ (¬ a1 ≤ 0 →
                m_settle 9 I22 J23 (fun  I26 J27 => m_isMark 41 (u2 I26 0 50 ((I26 0 50) - 1)) J27 (fun r28 I29 J30 => m_want r28 I29 J30 (fun  I31 J32 => m_settle 7 I31 J32 (fun  I33 J34 => m_wantCond_l11 Q n (a1 + (-1)) a2 a3 I33 J34)))))) ∧ (¬ r21 = 0 →
              m_wantCond_j113 Q (fun b0 b1 b2 I J => m_wantCond_l11 Q n b0 b1 b2 I J) a1 a3 I22 J23))) ∧ (¬ r9 = 0 →
            m_wantCond_j113 Q (fun b0 b1 b2 I J => m_wantCond_l11 Q n b0 b1 b2 I J) a1 a3 I10 J11))) ∧ (¬ a2 = 0 →
          m_isWord 10631 I5 J6 (fun r35 I36 J37 => (r35 = 0 →
            m_isMark 40 I36 J37 (fun r39 I40 J41 => (r39 = 0 →
              m_wantAsk  I40 J41 (fun  I43 J44 => m_settle 7 I43 J44 (fun  I45 J46 => m_wantCond_l11 Q n a1 0 a3 I45 J46))) ∧ (¬ r39 = 0 →
              (a1 = 3 →
                m_faulty  I40 J41 (fun  I50 J51 => m_wantCond_l11 Q n a1 a2 a3 I50 J51)) ∧ (¬ a1 = 3 →
                m_hold 10 I40 J41 (fun  I48 J49 => m_wantCond_l11 Q n (a1 + 1) a2 a3 I48 J49))))) ∧ (¬ r35 = 0 →
            m_hold 7 I36 J37 (fun  I52 J53 => m_wantCond_l11 Q n a1 a2 a3 I52 J53)))))))
theorem w_wantCond_l11 {X : hh_CX} {Q : mI → mJ → Prop} (hX : hh_C X cX14_wantCond RX14 (hrm 6 128)) (hN : hh_nL X = 5) (hE : hh_E X none (mQv Q) 0 0) : ∀ (n : Nat) (a1 : Int32) (a2 : Int32) (a3 : Int32) (I : mI) (J : mJ), m_wantCond_l11 Q  n a1 a2 a3 I J → hh_V X 11 [(0, .ref 0), (1, .int a1), (2, .int a2), (3, .int a3)] [] 0 0 (hm I J) := by
  intro n
  induction n with
  | zero => intro _ _ _ _ _ hf; exact hf.elim
  | succ n ih =>
    intro a1 a2 a3 I J hf
    unfold m_wantCond_l11 at hf
    refine hv_iload_n hX dX14_wantCond_11 rfl 3 rfl ?_
    refine hv_if_eq (tgt := 196) hX dX14_wantCond_12 (by decide) (fun c1 => ?_) (fun c1 => ?_)
    · replace hf := hf.1 c1
      refine hv_fewer [0] (loc2 := [(0, .ref 0)]) rfl ?_
      exact w_wantCond_j196 hX hN hE   _ _ hf
    · replace hf := hf.2 c1
      refine hv_aload_n hX dX14_wantCond_15 rfl 0 rfl ?_
      refine hm_callVi hX dX14_wantCond_16 (ct_isGood  I J _ hf) (gd_isGood q2160) np_isGood rfl rfl ⟨Nat.le_of_ble_eq_true rfl, Nat.le_of_ble_eq_true rfl⟩ ⟨Nat.le_refl _, Nat.le_refl _⟩ (Nat.le_of_ble_eq_true rfl) ?_
      intro r4 I5 J6 hf
      refine hv_if_eq (tgt := 196) hX dX14_wantCond_19 (by decide) (fun c7 => ?_) (fun c7 => ?_)
      · replace hf := hf.1 c7
        refine hv_fewer [0] (loc2 := [(0, .ref 0)]) rfl ?_
        exact w_wantCond_j196 hX hN hE   _ _ hf
      · replace hf := hf.2 c7
        refine hv_iload_n hX dX14_wantCond_22 rfl 2 rfl ?_
        refine hv_if_eq (tgt := 93) hX dX14_wantCond_23 (by decide) (fun c8 => ?_) (fun c8 => ?_)
        · replace hf := hf.1 c8
          refine hv_aload_n hX dX14_wantCond_93 rfl 0 rfl ?_
          refine hv_ldc2 (v := 1111) hX dX14_wantCond_94 q2221 ?_
          refine hm_callVi hX dX14_wantCond_97 (ct_isWord 1111 I5 J6 _ hf) (gd_isWord q2165) np_isWord rfl rfl ⟨Nat.le_of_ble_eq_true rfl, Nat.le_of_ble_eq_true rfl⟩ ⟨Nat.le_refl _, Nat.le_refl _⟩ (Nat.le_of_ble_eq_true rfl) ?_
          intro r9 I10 J11 hf
          refine hv_if_ne (tgt := 113) hX dX14_wantCond_100 (by decide) (fun c12 => ?_) (fun c12 => ?_)
          · replace hf := hf.2 c12
            refine hv_fewer [0, 1, 3] (loc2 := [(0, .ref 0), (1, .int a1), (3, .int a3)]) rfl ?_
            exact w_wantCond_j113 hX hN hE ih _ _ _ _ hf
          · replace hf := hf.1 c12
            refine hv_aload_n hX dX14_wantCond_103 rfl 0 rfl ?_
            refine hv_ldc2 (v := 423) hX dX14_wantCond_104 q2222 ?_
            refine hm_callVi hX dX14_wantCond_107 (ct_isWord 423 I10 J11 _ hf) (gd_isWord q2165) np_isWord rfl rfl ⟨Nat.le_of_ble_eq_true rfl, Nat.le_of_ble_eq_true rfl⟩ ⟨Nat.le_refl _, Nat.le_refl _⟩ (Nat.le_of_ble_eq_true rfl) ?_
            intro r21 I22 J23 hf
            refine hv_if_eq (tgt := 149) hX dX14_wantCond_110 (by decide) (fun c24 => ?_) (fun c24 => ?_)
            · replace hf := hf.1 c24
              refine hv_iload_n hX dX14_wantCond_149 rfl 1 rfl ?_
              refine hv_if_le (tgt := 191) hX dX14_wantCond_150 (by decide) (fun c25 => ?_) (fun c25 => ?_)
              · replace hf := hf.1 c25
                refine hv_iconst (v := 0) hX ic_0 dX14_wantCond_191 ?_
                refine hv_istore_n (loc2 := [(3, .int 0), (0, .ref 0), (1, .int a1), (2, .int a2)]) hX dX14_wantCond_192 rfl hN (Nat.le_of_ble_eq_true rfl) rfl ?_
                refine hv_goto (tgt := 11) hX dX14_wantCond_193 (by decide) ?_
                refine hv_fewer [1, 2, 3, 0] (loc2 := [(0, .ref 0), (1, .int a1), (2, .int a2), (3, .int 0)]) rfl ?_
                exact ih _ _ _ _ _ hf
              · replace hf := hf.2 c25
                refine hv_aload_n hX dX14_wantCond_153 rfl 0 rfl ?_
                refine hv_bipush (v := 9) hX bi_9 dX14_wantCond_154 ?_
                refine hm_callVv hX dX14_wantCond_156 (ct_settle 9 I22 J23 _ hf) (gd_settle q2217) np_settle rfl rfl ⟨Nat.le_of_ble_eq_true rfl, Nat.le_of_ble_eq_true rfl⟩ ⟨Nat.le_refl _, Nat.le_refl _⟩ (Nat.le_of_ble_eq_true rfl) ?_
                intro  I26 J27 hf
                refine hv_aload_n hX dX14_wantCond_159 rfl 0 rfl ?_
                refine hv_dup hX rfl dX14_wantCond_160 ?_
                refine hm_getI (v := (I26 0 50)) hX dX14_wantCond_161 mfl336 (.inl rfl) rfl ?_
                refine hv_iconst (v := 1) hX ic_1 dX14_wantCond_164 ?_
                refine hv_isub hX dX14_wantCond_165 ?_
                refine hm_putI hX dX14_wantCond_166 mfl336 ?_
                refine hv_iinc (v := (a1 + (-1))) (loc2 := [(1, .int (a1 + (-1))), (0, .ref 0), (2, .int a2), (3, .int a3)]) hX dX14_wantCond_169 1 rfl (congrArg (fun y => a1 + y) ic_m1) hN (Nat.le_of_ble_eq_true rfl) rfl ?_
                refine hv_aload_n hX dX14_wantCond_172 rfl 1 rfl ?_
                refine hv_aload_n hX dX14_wantCond_173 rfl 1 rfl ?_
                refine hv_bipush (v := 41) hX bi_41 dX14_wantCond_174 ?_
                refine hm_callVi hX dX14_wantCond_176 (ct_isMark 41 (u2 I26 0 50 ((I26 0 50) - 1)) J27 _ hf) (gd_isMark q2191) np_isMark rfl rfl ⟨Nat.le_of_ble_eq_true rfl, Nat.le_of_ble_eq_true rfl⟩ ⟨Nat.le_refl _, Nat.le_refl _⟩ (Nat.le_of_ble_eq_true rfl) ?_
                intro r28 I29 J30 hf
                refine hm_callVv hX dX14_wantCond_179 (ct_want r28 I29 J30 _ hf) (gd_want q2170) np_want rfl rfl ⟨Nat.le_of_ble_eq_true rfl, Nat.le_of_ble_eq_true rfl⟩ ⟨Nat.le_refl _, Nat.le_refl _⟩ (Nat.le_of_ble_eq_true rfl) ?_
                intro  I31 J32 hf
                refine hv_aload_n hX dX14_wantCond_182 rfl 1 rfl ?_
                refine hv_bipush (v := 7) hX bi_7 dX14_wantCond_183 ?_
                refine hm_callVv hX dX14_wantCond_185 (ct_settle 7 I31 J32 _ hf) (gd_settle q2217) np_settle rfl rfl ⟨Nat.le_of_ble_eq_true rfl, Nat.le_of_ble_eq_true rfl⟩ ⟨Nat.le_refl _, Nat.le_refl _⟩ (Nat.le_of_ble_eq_true rfl) ?_
                intro  I33 J34 hf
                refine hv_goto (tgt := 11) hX dX14_wantCond_188 (by decide) ?_
                refine hv_fewer [1, 0, 2, 3] (loc2 := [(0, .ref 0), (1, .int (a1 + (-1))), (2, .int a2), (3, .int a3)]) rfl ?_
                exact ih _ _ _ _ _ hf
            · replace hf := hf.2 c24
              refine hv_fewer [0, 1, 3] (loc2 := [(0, .ref 0), (1, .int a1), (3, .int a3)]) rfl ?_
              exact w_wantCond_j113 hX hN hE ih _ _ _ _ hf
        · replace hf := hf.2 c8
          refine hv_aload_n hX dX14_wantCond_26 rfl 0 rfl ?_
          refine hv_ldc2 (v := 10631) hX dX14_wantCond_27 q2186 ?_
          refine hm_callVi hX dX14_wantCond_30 (ct_isWord 10631 I5 J6 _ hf) (gd_isWord q2165) np_isWord rfl rfl ⟨Nat.le_of_ble_eq_true rfl, Nat.le_of_ble_eq_true rfl⟩ ⟨Nat.le_refl _, Nat.le_refl _⟩ (Nat.le_of_ble_eq_true rfl) ?_
          intro r35 I36 J37 hf
          refine hv_if_eq (tgt := 45) hX dX14_wantCond_33 (by decide) (fun c38 => ?_) (fun c38 => ?_)
          · replace hf := hf.1 c38
            refine hv_aload_n hX dX14_wantCond_45 rfl 0 rfl ?_
            refine hv_bipush (v := 40) hX bi_40 dX14_wantCond_46 ?_
            refine hm_callVi hX dX14_wantCond_48 (ct_isMark 40 I36 J37 _ hf) (gd_isMark q2191) np_isMark rfl rfl ⟨Nat.le_of_ble_eq_true rfl, Nat.le_of_ble_eq_true rfl⟩ ⟨Nat.le_refl _, Nat.le_refl _⟩ (Nat.le_of_ble_eq_true rfl) ?_
            intro r39 I40 J41 hf
            refine hv_if_eq (tgt := 78) hX dX14_wantCond_51 (by decide) (fun c42 => ?_) (fun c42 => ?_)
            · replace hf := hf.1 c42
              refine hv_aload_n hX dX14_wantCond_78 rfl 0 rfl ?_
              refine hm_callVv hX dX14_wantCond_79 (ct_wantAsk  I40 J41 _ hf) (gd_wantAsk q2195) np_wantAsk rfl rfl ⟨Nat.le_of_ble_eq_true rfl, Nat.le_of_ble_eq_true rfl⟩ ⟨Nat.le_refl _, Nat.le_refl _⟩ (Nat.le_of_ble_eq_true rfl) ?_
              intro  I43 J44 hf
              refine hv_aload_n hX dX14_wantCond_82 rfl 0 rfl ?_
              refine hv_bipush (v := 7) hX bi_7 dX14_wantCond_83 ?_
              refine hm_callVv hX dX14_wantCond_85 (ct_settle 7 I43 J44 _ hf) (gd_settle q2217) np_settle rfl rfl ⟨Nat.le_of_ble_eq_true rfl, Nat.le_of_ble_eq_true rfl⟩ ⟨Nat.le_refl _, Nat.le_refl _⟩ (Nat.le_of_ble_eq_true rfl) ?_
              intro  I45 J46 hf
              refine hv_iconst (v := 0) hX ic_0 dX14_wantCond_88 ?_
              refine hv_istore_n (loc2 := [(2, .int 0), (0, .ref 0), (1, .int a1), (3, .int a3)]) hX dX14_wantCond_89 rfl hN (Nat.le_of_ble_eq_true rfl) rfl ?_
              refine hv_goto (tgt := 11) hX dX14_wantCond_90 (by decide) ?_
              refine hv_fewer [1, 2, 0, 3] (loc2 := [(0, .ref 0), (1, .int a1), (2, .int 0), (3, .int a3)]) rfl ?_
              exact ih _ _ _ _ _ hf
            · replace hf := hf.2 c42
              refine hv_iload_n hX dX14_wantCond_54 rfl 1 rfl ?_
              refine hv_iconst (v := 3) hX ic_3 dX14_wantCond_55 ?_
              refine hv_icmp_ne (tgt := 66) hX dX14_wantCond_56 (by decide) (fun c47 => ?_) (fun c47 => ?_)
              · replace hf := hf.2 c47
                refine hv_aload_n hX dX14_wantCond_66 rfl 0 rfl ?_
                refine hv_bipush (v := 10) hX bi_10 dX14_wantCond_67 ?_
                refine hm_callVv hX dX14_wantCond_69 (ct_hold 10 I40 J41 _ hf) (gd_hold q2187) np_hold rfl rfl ⟨Nat.le_of_ble_eq_true rfl, Nat.le_of_ble_eq_true rfl⟩ ⟨Nat.le_refl _, Nat.le_refl _⟩ (Nat.le_of_ble_eq_true rfl) ?_
                intro  I48 J49 hf
                refine hv_iinc (v := (a1 + 1)) (loc2 := [(1, .int (a1 + 1)), (0, .ref 0), (2, .int a2), (3, .int a3)]) hX dX14_wantCond_72 1 rfl (congrArg (fun y => a1 + y) ic_1) hN (Nat.le_of_ble_eq_true rfl) rfl ?_
                refine hv_goto (tgt := 11) hX dX14_wantCond_75 (by decide) ?_
                refine hv_fewer [1, 0, 2, 3] (loc2 := [(0, .ref 0), (1, .int (a1 + 1)), (2, .int a2), (3, .int a3)]) rfl ?_
                exact ih _ _ _ _ _ hf
              · replace hf := hf.1 c47
                refine hv_aload_n hX dX14_wantCond_59 rfl 0 rfl ?_
                refine hm_callVv hX dX14_wantCond_60 (ct_faulty  I40 J41 _ hf) (gd_faulty q2174) np_faulty rfl rfl ⟨Nat.le_of_ble_eq_true rfl, Nat.le_of_ble_eq_true rfl⟩ ⟨Nat.le_refl _, Nat.le_refl _⟩ (Nat.le_of_ble_eq_true rfl) ?_
                intro  I50 J51 hf
                refine hv_goto (tgt := 11) hX dX14_wantCond_63 (by decide) ?_
                exact ih _ _ _ _ _ hf
          · replace hf := hf.2 c38
            refine hv_aload_n hX dX14_wantCond_36 rfl 0 rfl ?_
            refine hv_bipush (v := 7) hX bi_7 dX14_wantCond_37 ?_
            refine hm_callVv hX dX14_wantCond_39 (ct_hold 7 I36 J37 _ hf) (gd_hold q2187) np_hold rfl rfl ⟨Nat.le_of_ble_eq_true rfl, Nat.le_of_ble_eq_true rfl⟩ ⟨Nat.le_refl _, Nat.le_refl _⟩ (Nat.le_of_ble_eq_true rfl) ?_
            intro  I52 J53 hf
            refine hv_goto (tgt := 11) hX dX14_wantCond_42 (by decide) ?_
            exact ih _ _ _ _ _ hf
def m_wantCond  (I : mI) (J : mJ) (Q : mI → mJ → Prop) : Prop :=
  ∃ n0 : Nat, m_wantCond_l11 Q  n0 0 1 1 (u2 I 0 50 0) J
theorem ct_wantCond  (I : mI) (J : mJ) (Q : mI → mJ → Prop) (hf : m_wantCond  I J Q) : hh_Ct yX14_wantCond cX14_wantCond 5 none 6 128 [.ref 0] (hm I J) (mQv Q) 0 0 := by
  refine hh_Ct.of (own := RX14) rfl (by decide +kernel) (Nat.le_of_ble_eq_true rfl) ?_
  intro X hX hN hE
  show hh_V X 0 [(0, .ref 0)] [] 0 0 (hm I J)
  unfold m_wantCond at hf
  refine hv_iconst (v := 0) hX ic_0 dX14_wantCond_0 ?_
  refine hv_istore_n (loc2 := [(1, .int 0), (0, .ref 0)]) hX dX14_wantCond_1 rfl hN (Nat.le_of_ble_eq_true rfl) rfl ?_
  refine hv_iconst (v := 1) hX ic_1 dX14_wantCond_2 ?_
  refine hv_istore_n (loc2 := [(2, .int 1), (1, .int 0), (0, .ref 0)]) hX dX14_wantCond_3 rfl hN (Nat.le_of_ble_eq_true rfl) rfl ?_
  refine hv_iconst (v := 1) hX ic_1 dX14_wantCond_4 ?_
  refine hv_istore_n (loc2 := [(3, .int 1), (2, .int 1), (1, .int 0), (0, .ref 0)]) hX dX14_wantCond_5 rfl hN (Nat.le_of_ble_eq_true rfl) rfl ?_
  refine hv_aload_n hX dX14_wantCond_6 rfl 3 rfl ?_
  refine hv_iconst (v := 0) hX ic_0 dX14_wantCond_7 ?_
  refine hm_putI hX dX14_wantCond_8 mfl336 ?_
  refine hv_fewer [3, 2, 1, 0] (loc2 := [(0, .ref 0), (1, .int 0), (2, .int 1), (3, .int 1)]) rfl ?_
  obtain ⟨n0, hf⟩ := hf
  exact w_wantCond_l11 hX hN hE  n0 _ _ _ _ _ hf
theorem np_wantCond : yX14_wantCond.cls = RX14 ∧ yX14_wantCond.cls ≠ "java/lang/invoke/MethodHandle" ∧ yX14_wantCond.cls ≠ "java/lang/invoke/VarHandle" ∧ (parseMethodDescriptor yX14_wantCond.desc).map (fun d => d.parameters.length) = some 0 := by decide +kernel
theorem gd_wantCond {idx : Nat} (h : Cond.methodLink RX14 idx yX14_wantCond ∈ lw_all) : GoodIn lw_all (wsV RX14 idx RX14 yX14_wantCond (ws_ yX14_wantCond cX14_wantCond 5 none)) := lw_V h q2184 qs77 q123 q2185
/-! read()I -/
def m_read_l206 (Q : Int32 → mI → mJ → Prop) : Nat → Int32 → Int32 → mI → mJ → Prop
  | 0, _, _, _, _ => False
  | n + 1, a1, a2, I, J =>
    ((I 0 49) ≤ a2 →
      Q a1 I J) ∧ (¬ (I 0 49) ≤ a2 →
      vp_in a2 210 ∧ (vp_in a2 210 ∧ (m_read_l206 Q n a1 (a2 + 1) (u2 I 6 a2.toNatClampNeg (I 20 a2.toNatClampNeg)) J)))
theorem w_read_l206 {X : hh_CX} {Q : Int32 → mI → mJ → Prop} (hX : hh_C X cX14_read RX14 (hrm 7 152)) (hN : hh_nL X = 4) (hE : hh_E X (some .int) (mQi Q) 0 0) : ∀ (n : Nat) (a1 : Int32) (a2 : Int32) (I : mI) (J : mJ), m_read_l206 Q  n a1 a2 I J → hh_V X 206 [(0, .ref 0), (1, .int a1), (2, .int a2)] [] 0 0 (hm I J) := by
  intro n
  induction n with
  | zero => intro _ _ _ _ hf; exact hf.elim
  | succ n ih =>
    intro a1 a2 I J hf
    unfold m_read_l206 at hf
    refine hv_iload_n hX dX14_read_206 rfl 2 rfl ?_
    refine hv_aload_n hX dX14_read_207 rfl 0 rfl ?_
    refine hm_getI (v := (I 0 49)) hX dX14_read_208 mfl333 (.inl rfl) rfl ?_
    refine hv_icmp_ge (tgt := 232) hX dX14_read_211 (by decide) (fun c9 => ?_) (fun c9 => ?_)
    · replace hf := hf.1 c9
      refine hv_iload_n hX dX14_read_232 rfl 1 rfl ?_
      exact hm_iret hX hE dX14_read_233 hf
    · replace hf := hf.2 c9
      refine hv_aload_n hX dX14_read_214 rfl 0 rfl ?_
      refine hm_getR hX dX14_read_215 mfl35 6 rfl ?_
      refine hv_iload_n hX dX14_read_218 rfl 2 rfl ?_
      refine hv_aload_n hX dX14_read_219 rfl 0 rfl ?_
      refine hm_getR hX dX14_read_220 mfl85 20 rfl ?_
      refine hv_iload_n hX dX14_read_223 rfl 2 rfl ?_
      obtain ⟨g, hf⟩ := hf
      refine hm_iald (v := (I 20 a2.toNatClampNeg)) hX dX14_read_224 (by decide) rfl rfl g rfl ?_
      obtain ⟨g, hf⟩ := hf
      refine hm_iast hX dX14_read_225 (by decide) rfl rfl g ?_
      refine hv_iinc (v := (a2 + 1)) (loc2 := [(2, .int (a2 + 1)), (0, .ref 0), (1, .int a1)]) hX dX14_read_226 2 rfl (congrArg (fun y => a2 + y) ic_1) hN (Nat.le_of_ble_eq_true rfl) rfl ?_
      refine hv_goto (tgt := 206) hX dX14_read_229 (by decide) ?_
      refine hv_fewer [1, 2, 0] (loc2 := [(0, .ref 0), (1, .int a1), (2, .int (a2 + 1))]) rfl ?_
      exact ih _ _ _ _ hf
def m_read_l169 (Q : Int32 → mI → mJ → Prop) : Nat → Int32 → Int32 → mI → mJ → Prop
  | 0, _, _, _, _ => False
  | n + 1, a1, a2, I, J =>
    (a1 ≤ a2 →
      ∃ n0 : Nat, m_read_l206 Q  n0 a1 0 I J) ∧ (¬ a1 ≤ a2 →
      vp_in a2 6 ∧ (vp_in a2 6 ∧ (vp_in a2 6 ∧ (vp_in a2 6 ∧ (m_read_l169 Q n a1 (a2 + 1) (u2 (u2 I 4 a2.toNatClampNeg (I 22 a2.toNatClampNeg)) 5 a2.toNatClampNeg (I 23 a2.toNatClampNeg)) J)))))
theorem w_read_l169 {X : hh_CX} {Q : Int32 → mI → mJ → Prop} (hX : hh_C X cX14_read RX14 (hrm 7 152)) (hN : hh_nL X = 4) (hE : hh_E X (some .int) (mQi Q) 0 0) : ∀ (n : Nat) (a1 : Int32) (a2 : Int32) (I : mI) (J : mJ), m_read_l169 Q  n a1 a2 I J → hh_V X 169 [(0, .ref 0), (1, .int a1), (2, .int a2)] [] 0 0 (hm I J) := by
  intro n
  induction n with
  | zero => intro _ _ _ _ hf; exact hf.elim
  | succ n ih =>
    intro a1 a2 I J hf
    unfold m_read_l169 at hf
    refine hv_iload_n hX dX14_read_169 rfl 2 rfl ?_
    refine hv_iload_n hX dX14_read_170 rfl 1 rfl ?_
    refine hv_icmp_ge (tgt := 204) hX dX14_read_171 (by decide) (fun c8 => ?_) (fun c8 => ?_)
    · replace hf := hf.1 c8
      refine hv_iconst (v := 0) hX ic_0 dX14_read_204 ?_
      refine hv_istore_n (loc2 := [(2, .int 0), (0, .ref 0), (1, .int a1)]) hX dX14_read_205 rfl hN (Nat.le_of_ble_eq_true rfl) rfl ?_
      refine hv_fewer [1, 2, 0] (loc2 := [(0, .ref 0), (1, .int a1), (2, .int 0)]) rfl ?_
      obtain ⟨n0, hf⟩ := hf
      exact w_read_l206 hX hN hE  n0 _ _ _ _ hf
    · replace hf := hf.2 c8
      refine hv_aload_n hX dX14_read_174 rfl 0 rfl ?_
      refine hm_getR hX dX14_read_175 mfl29 4 rfl ?_
      refine hv_iload_n hX dX14_read_178 rfl 2 rfl ?_
      refine hv_aload_n hX dX14_read_179 rfl 0 rfl ?_
      refine hm_getR hX dX14_read_180 mfl91 22 rfl ?_
      refine hv_iload_n hX dX14_read_183 rfl 2 rfl ?_
      obtain ⟨g, hf⟩ := hf
      refine hm_iald (v := (I 22 a2.toNatClampNeg)) hX dX14_read_184 (by decide) rfl rfl g rfl ?_
      obtain ⟨g, hf⟩ := hf
      refine hm_iast hX dX14_read_185 (by decide) rfl rfl g ?_
      refine hv_aload_n hX dX14_read_186 rfl 0 rfl ?_
      refine hm_getR hX dX14_read_187 mfl32 5 rfl ?_
      refine hv_iload_n hX dX14_read_190 rfl 2 rfl ?_
      refine hv_aload_n hX dX14_read_191 rfl 0 rfl ?_
      refine hm_getR hX dX14_read_192 mfl94 23 rfl ?_
      refine hv_iload_n hX dX14_read_195 rfl 2 rfl ?_
      obtain ⟨g, hf⟩ := hf
      refine hm_iald (v := (I 23 a2.toNatClampNeg)) hX dX14_read_196 (by decide) rfl rfl g ((u2_ne _ _ (.inl (by decide)))) ?_
      obtain ⟨g, hf⟩ := hf
      refine hm_iast hX dX14_read_197 (by decide) rfl rfl g ?_
      refine hv_iinc (v := (a2 + 1)) (loc2 := [(2, .int (a2 + 1)), (0, .ref 0), (1, .int a1)]) hX dX14_read_198 2 rfl (congrArg (fun y => a2 + y) ic_1) hN (Nat.le_of_ble_eq_true rfl) rfl ?_
      refine hv_goto (tgt := 169) hX dX14_read_201 (by decide) ?_
      refine hv_fewer [1, 2, 0] (loc2 := [(0, .ref 0), (1, .int a1), (2, .int (a2 + 1))]) rfl ?_
      exact ih _ _ _ _ hf
def m_read_j142 (Q : Int32 → mI → mJ → Prop) (a1 : Int32) (I : mI) (J : mJ) : Prop :=
  m_isGood  (u2 I 0 39 0) J (fun r4 I5 J6 => (r4 = 0 →
    Q ((-100) - (I5 0 44)) I5 J6) ∧ (¬ r4 = 0 →
    ∃ n0 : Nat, m_read_l169 Q  n0 a1 0 (u2 I5 0 10 a1) J6))
theorem w_read_j142 {X : hh_CX} {Q : Int32 → mI → mJ → Prop} (hX : hh_C X cX14_read RX14 (hrm 7 152)) (hN : hh_nL X = 4) (hE : hh_E X (some .int) (mQi Q) 0 0) : ∀ (a1 : Int32) (I : mI) (J : mJ), m_read_j142 Q  a1 I J → hh_V X 142 [(0, .ref 0), (1, .int a1)] [] 0 0 (hm I J) := by
  intro a1 I J hf
  unfold m_read_j142 at hf
  refine hv_aload_n hX dX14_read_142 rfl 0 rfl ?_
  refine hv_iconst (v := 0) hX ic_0 dX14_read_143 ?_
  refine hm_putI hX dX14_read_144 mfl287 ?_
  refine hv_aload_n hX dX14_read_147 rfl 0 rfl ?_
  refine hm_callVi hX dX14_read_148 (ct_isGood  (u2 I 0 39 0) J _ hf) (gd_isGood q2160) np_isGood rfl rfl ⟨Nat.le_of_ble_eq_true rfl, Nat.le_of_ble_eq_true rfl⟩ ⟨Nat.le_refl _, Nat.le_refl _⟩ (Nat.le_of_ble_eq_true rfl) ?_
  intro r4 I5 J6 hf
  refine hv_if_ne (tgt := 162) hX dX14_read_151 (by decide) (fun c7 => ?_) (fun c7 => ?_)
  · replace hf := hf.2 c7
    refine hv_aload_n hX dX14_read_162 rfl 0 rfl ?_
    refine hv_iload_n hX dX14_read_163 rfl 1 rfl ?_
    refine hm_putI hX dX14_read_164 mfl393 ?_
    refine hv_iconst (v := 0) hX ic_0 dX14_read_167 ?_
    refine hv_istore_n (loc2 := [(2, .int 0), (0, .ref 0), (1, .int a1)]) hX dX14_read_168 rfl hN (Nat.le_of_ble_eq_true rfl) rfl ?_
    refine hv_fewer [1, 2, 0] (loc2 := [(0, .ref 0), (1, .int a1), (2, .int 0)]) rfl ?_
    obtain ⟨n0, hf⟩ := hf
    exact w_read_l169 hX hN hE  n0 _ _ _ _ hf
  · replace hf := hf.1 c7
    refine hv_bipush (v := (-100)) hX bi_m100 dX14_read_154 ?_
    refine hv_aload_n hX dX14_read_156 rfl 0 rfl ?_
    refine hm_getI (v := (I5 0 44)) hX dX14_read_157 mfl317 (.inl rfl) rfl ?_
    refine hv_isub hX dX14_read_160 ?_
    exact hm_iret hX hE dX14_read_161 hf
def m_read_j139 (Q : Int32 → mI → mJ → Prop) (k21 : Int32 → mI → mJ → Prop) (a1 : Int32) (I : mI) (J : mJ) : Prop :=
  k21 a1 I J
theorem w_read_j139 {X : hh_CX} {Q : Int32 → mI → mJ → Prop} (hX : hh_C X cX14_read RX14 (hrm 7 152)) (hN : hh_nL X = 4) (hE : hh_E X (some .int) (mQi Q) 0 0) {k21 : Int32 → mI → mJ → Prop} (hk21 : ∀ (b0 : Int32) (I : mI) (J : mJ), k21 b0 I J → hh_V X 21 [(0, .ref 0), (1, .int b0)] [] 0 0 (hm I J)) : ∀ (a1 : Int32) (I : mI) (J : mJ), m_read_j139 Q k21 a1 I J → hh_V X 139 [(0, .ref 0), (1, .int a1)] [] 0 0 (hm I J) := by
  intro a1 I J hf
  unfold m_read_j139 at hf
  refine hv_goto (tgt := 21) hX dX14_read_139 (by decide) ?_
  exact hk21 _ _ _ hf
def m_read_j112 (Q : Int32 → mI → mJ → Prop) (k21 : Int32 → mI → mJ → Prop) (a1 : Int32) (a3 : Int32) (I : mI) (J : mJ) : Prop :=
  m_isGood  I J (fun r29 I30 J31 => (r29 = 0 →
    m_read_j139 Q k21 a1 I30 J31) ∧ (¬ r29 = 0 →
    vp_in a1 6 ∧ (vp_in a1 6 ∧ (m_read_j139 Q k21 (a1 + 1) (u2 (u2 I30 22 a1.toNatClampNeg (I30 0 49)) 23 a1.toNatClampNeg a3) J31))))
theorem w_read_j112 {X : hh_CX} {Q : Int32 → mI → mJ → Prop} (hX : hh_C X cX14_read RX14 (hrm 7 152)) (hN : hh_nL X = 4) (hE : hh_E X (some .int) (mQi Q) 0 0) {k21 : Int32 → mI → mJ → Prop} (hk21 : ∀ (b0 : Int32) (I : mI) (J : mJ), k21 b0 I J → hh_V X 21 [(0, .ref 0), (1, .int b0)] [] 0 0 (hm I J)) : ∀ (a1 : Int32) (a3 : Int32) (I : mI) (J : mJ), m_read_j112 Q k21 a1 a3 I J → hh_V X 112 [(0, .ref 0), (1, .int a1), (3, .int a3)] [] 0 0 (hm I J) := by
  intro a1 a3 I J hf
  unfold m_read_j112 at hf
  refine hv_aload_n hX dX14_read_112 rfl 0 rfl ?_
  refine hm_callVi hX dX14_read_113 (ct_isGood  I J _ hf) (gd_isGood q2160) np_isGood rfl rfl ⟨Nat.le_of_ble_eq_true rfl, Nat.le_of_ble_eq_true rfl⟩ ⟨Nat.le_refl _, Nat.le_refl _⟩ (Nat.le_of_ble_eq_true rfl) ?_
  intro r29 I30 J31 hf
  refine hv_if_eq (tgt := 139) hX dX14_read_116 (by decide) (fun c32 => ?_) (fun c32 => ?_)
  · replace hf := hf.1 c32
    refine hv_fewer [0, 1] (loc2 := [(0, .ref 0), (1, .int a1)]) rfl ?_
    exact w_read_j139 hX hN hE hk21 _ _ _ hf
  · replace hf := hf.2 c32
    refine hv_aload_n hX dX14_read_119 rfl 0 rfl ?_
    refine hm_getR hX dX14_read_120 mfl91 22 rfl ?_
    refine hv_iload_n hX dX14_read_123 rfl 1 rfl ?_
    refine hv_aload_n hX dX14_read_124 rfl 0 rfl ?_
    refine hm_getI (v := (I30 0 49)) hX dX14_read_125 mfl333 (.inl rfl) rfl ?_
    obtain ⟨g, hf⟩ := hf
    refine hm_iast hX dX14_read_128 (by decide) rfl rfl g ?_
    refine hv_aload_n hX dX14_read_129 rfl 0 rfl ?_
    refine hm_getR hX dX14_read_130 mfl94 23 rfl ?_
    refine hv_iload_n hX dX14_read_133 rfl 1 rfl ?_
    refine hv_iload_n hX dX14_read_134 rfl 2 rfl ?_
    obtain ⟨g, hf⟩ := hf
    refine hm_iast hX dX14_read_135 (by decide) rfl rfl g ?_
    refine hv_iinc (v := (a1 + 1)) (loc2 := [(1, .int (a1 + 1)), (0, .ref 0), (3, .int a3)]) hX dX14_read_136 1 rfl (congrArg (fun y => a1 + y) ic_1) hN (Nat.le_of_ble_eq_true rfl) rfl ?_
    refine hv_fewer [1, 0] (loc2 := [(0, .ref 0), (1, .int (a1 + 1))]) rfl ?_
    exact w_read_j139 hX hN hE hk21 _ _ _ hf
def m_read_j91 (Q : Int32 → mI → mJ → Prop) (k21 : Int32 → mI → mJ → Prop) (a1 : Int32) (a3 : Int32) (I : mI) (J : mJ) : Prop :=
  m_isGood  I J (fun r25 I26 J27 => (r25 = 0 →
    m_read_j112 Q k21 a1 a3 I26 J27) ∧ (¬ r25 = 0 →
    m_wantCond  I26 J27 (fun  I33 J34 => m_isMark 59 I33 J34 (fun r35 I36 J37 => m_want r35 I36 J37 (fun  I38 J39 => m_read_j112 Q k21 a1 a3 I38 J39)))))
theorem w_read_j91 {X : hh_CX} {Q : Int32 → mI → mJ → Prop} (hX : hh_C X cX14_read RX14 (hrm 7 152)) (hN : hh_nL X = 4) (hE : hh_E X (some .int) (mQi Q) 0 0) {k21 : Int32 → mI → mJ → Prop} (hk21 : ∀ (b0 : Int32) (I : mI) (J : mJ), k21 b0 I J → hh_V X 21 [(0, .ref 0), (1, .int b0)] [] 0 0 (hm I J)) : ∀ (a1 : Int32) (a3 : Int32) (I : mI) (J : mJ), m_read_j91 Q k21 a1 a3 I J → hh_V X 91 [(0, .ref 0), (1, .int a1), (3, .int a3)] [] 0 0 (hm I J) := by
  intro a1 a3 I J hf
  unfold m_read_j91 at hf
  refine hv_aload_n hX dX14_read_91 rfl 0 rfl ?_
  refine hm_callVi hX dX14_read_92 (ct_isGood  I J _ hf) (gd_isGood q2160) np_isGood rfl rfl ⟨Nat.le_of_ble_eq_true rfl, Nat.le_of_ble_eq_true rfl⟩ ⟨Nat.le_refl _, Nat.le_refl _⟩ (Nat.le_of_ble_eq_true rfl) ?_
  intro r25 I26 J27 hf
  refine hv_if_eq (tgt := 112) hX dX14_read_95 (by decide) (fun c28 => ?_) (fun c28 => ?_)
  · replace hf := hf.1 c28
    exact w_read_j112 hX hN hE hk21 _ _ _ _ hf
  · replace hf := hf.2 c28
    refine hv_aload_n hX dX14_read_98 rfl 0 rfl ?_
    refine hm_callVv hX dX14_read_99 (ct_wantCond  I26 J27 _ hf) (gd_wantCond q2182) np_wantCond rfl rfl ⟨Nat.le_of_ble_eq_true rfl, Nat.le_of_ble_eq_true rfl⟩ ⟨Nat.le_refl _, Nat.le_refl _⟩ (Nat.le_of_ble_eq_true rfl) ?_
    intro  I33 J34 hf
    refine hv_aload_n hX dX14_read_102 rfl 0 rfl ?_
    refine hv_aload_n hX dX14_read_103 rfl 0 rfl ?_
    refine hv_bipush (v := 59) hX bi_59 dX14_read_104 ?_
    refine hm_callVi hX dX14_read_106 (ct_isMark 59 I33 J34 _ hf) (gd_isMark q2191) np_isMark rfl rfl ⟨Nat.le_of_ble_eq_true rfl, Nat.le_of_ble_eq_true rfl⟩ ⟨Nat.le_refl _, Nat.le_refl _⟩ (Nat.le_of_ble_eq_true rfl) ?_
    intro r35 I36 J37 hf
    refine hm_callVv hX dX14_read_109 (ct_want r35 I36 J37 _ hf) (gd_want q2170) np_want rfl rfl ⟨Nat.le_of_ble_eq_true rfl, Nat.le_of_ble_eq_true rfl⟩ ⟨Nat.le_refl _, Nat.le_refl _⟩ (Nat.le_of_ble_eq_true rfl) ?_
    intro  I38 J39 hf
    exact w_read_j112 hX hN hE hk21 _ _ _ _ hf
def m_read_j69 (Q : Int32 → mI → mJ → Prop) (k21 : Int32 → mI → mJ → Prop) (a1 : Int32) (a2 : Int32) (s1 : Int32) (I : mI) (J : mJ) : Prop :=
  m_want s1 I J (fun  I19 J20 => m_isGood  I19 J20 (fun r21 I22 J23 => (r21 = 0 →
    m_read_j91 Q k21 a1 (-1) I22 J23) ∧ (¬ r21 = 0 →
    (a2 = 0 →
      m_wantNumber 3 I22 J23 (fun r41 I42 J43 => m_read_j91 Q k21 a1 r41 I42 J43)) ∧ (¬ a2 = 0 →
      m_read_j91 Q k21 a1 (-1) I22 J23))))
theorem w_read_j69 {X : hh_CX} {Q : Int32 → mI → mJ → Prop} (hX : hh_C X cX14_read RX14 (hrm 7 152)) (hN : hh_nL X = 4) (hE : hh_E X (some .int) (mQi Q) 0 0) {k21 : Int32 → mI → mJ → Prop} (hk21 : ∀ (b0 : Int32) (I : mI) (J : mJ), k21 b0 I J → hh_V X 21 [(0, .ref 0), (1, .int b0)] [] 0 0 (hm I J)) : ∀ (a1 : Int32) (a2 : Int32) (s1 : Int32) (I : mI) (J : mJ), m_read_j69 Q k21 a1 a2 s1 I J → hh_V X 69 [(0, .ref 0), (1, .int a1), (2, .int a2)] [.int s1, .ref 0] 0 0 (hm I J) := by
  intro a1 a2 s1 I J hf
  unfold m_read_j69 at hf
  refine hm_callVv hX dX14_read_69 (ct_want s1 I J _ hf) (gd_want q2170) np_want rfl rfl ⟨Nat.le_of_ble_eq_true rfl, Nat.le_of_ble_eq_true rfl⟩ ⟨Nat.le_refl _, Nat.le_refl _⟩ (Nat.le_of_ble_eq_true rfl) ?_
  intro  I19 J20 hf
  refine hv_iconst (v := (-1)) hX ic_m1 dX14_read_72 ?_
  refine hv_istore_n (loc2 := [(3, .int (-1)), (0, .ref 0), (1, .int a1), (2, .int a2)]) hX dX14_read_73 rfl hN (Nat.le_of_ble_eq_true rfl) rfl ?_
  refine hv_aload_n hX dX14_read_74 rfl 1 rfl ?_
  refine hm_callVi hX dX14_read_75 (ct_isGood  I19 J20 _ hf) (gd_isGood q2160) np_isGood rfl rfl ⟨Nat.le_of_ble_eq_true rfl, Nat.le_of_ble_eq_true rfl⟩ ⟨Nat.le_refl _, Nat.le_refl _⟩ (Nat.le_of_ble_eq_true rfl) ?_
  intro r21 I22 J23 hf
  refine hv_if_eq (tgt := 91) hX dX14_read_78 (by decide) (fun c24 => ?_) (fun c24 => ?_)
  · replace hf := hf.1 c24
    refine hv_fewer [1, 2, 0] (loc2 := [(0, .ref 0), (1, .int a1), (3, .int (-1))]) rfl ?_
    exact w_read_j91 hX hN hE hk21 _ _ _ _ hf
  · replace hf := hf.2 c24
    refine hv_iload_n hX dX14_read_81 rfl 3 rfl ?_
    refine hv_if_ne (tgt := 91) hX dX14_read_82 (by decide) (fun c40 => ?_) (fun c40 => ?_)
    · replace hf := hf.2 c40
      refine hv_fewer [1, 2, 0] (loc2 := [(0, .ref 0), (1, .int a1), (3, .int (-1))]) rfl ?_
      exact w_read_j91 hX hN hE hk21 _ _ _ _ hf
    · replace hf := hf.1 c40
      refine hv_aload_n hX dX14_read_85 rfl 1 rfl ?_
      refine hv_iconst (v := 3) hX ic_3 dX14_read_86 ?_
      refine hm_callVi hX dX14_read_87 (ct_wantNumber 3 I22 J23 _ hf) (gd_wantNumber q2178) np_wantNumber rfl rfl ⟨Nat.le_of_ble_eq_true rfl, Nat.le_of_ble_eq_true rfl⟩ ⟨Nat.le_refl _, Nat.le_refl _⟩ (Nat.le_of_ble_eq_true rfl) ?_
      intro r41 I42 J43 hf
      refine hv_istore_n (loc2 := [(3, .int r41), (0, .ref 0), (1, .int a1), (2, .int a2)]) hX dX14_read_90 rfl hN (Nat.le_of_ble_eq_true rfl) rfl ?_
      refine hv_fewer [1, 2, 0] (loc2 := [(0, .ref 0), (1, .int a1), (3, .int r41)]) rfl ?_
      exact w_read_j91 hX hN hE hk21 _ _ _ _ hf
def m_read_j68 (Q : Int32 → mI → mJ → Prop) (k21 : Int32 → mI → mJ → Prop) (a1 : Int32) (a2 : Int32) (I : mI) (J : mJ) : Prop :=
  m_read_j69 Q k21 a1 a2 0 I J
theorem w_read_j68 {X : hh_CX} {Q : Int32 → mI → mJ → Prop} (hX : hh_C X cX14_read RX14 (hrm 7 152)) (hN : hh_nL X = 4) (hE : hh_E X (some .int) (mQi Q) 0 0) {k21 : Int32 → mI → mJ → Prop} (hk21 : ∀ (b0 : Int32) (I : mI) (J : mJ), k21 b0 I J → hh_V X 21 [(0, .ref 0), (1, .int b0)] [] 0 0 (hm I J)) : ∀ (a1 : Int32) (a2 : Int32) (I : mI) (J : mJ), m_read_j68 Q k21 a1 a2 I J → hh_V X 68 [(0, .ref 0), (1, .int a1), (2, .int a2)] [.ref 0] 0 0 (hm I J) := by
  intro a1 a2 I J hf
  unfold m_read_j68 at hf
  refine hv_iconst (v := 0) hX ic_0 dX14_read_68 ?_
  exact w_read_j69 hX hN hE hk21 _ _ _ _ _ hf
def m_read_j58 (Q : Int32 → mI → mJ → Prop) (k21 : Int32 → mI → mJ → Prop) (a1 : Int32) (a2 : Int32) (I : mI) (J : mJ) : Prop :=
  ((6 : Int32) ≤ a1 →
    m_read_j68 Q k21 a1 a2 I J) ∧ (¬ (6 : Int32) ≤ a1 →
    m_read_j69 Q k21 a1 a2 1 I J)
theorem w_read_j58 {X : hh_CX} {Q : Int32 → mI → mJ → Prop} (hX : hh_C X cX14_read RX14 (hrm 7 152)) (hN : hh_nL X = 4) (hE : hh_E X (some .int) (mQi Q) 0 0) {k21 : Int32 → mI → mJ → Prop} (hk21 : ∀ (b0 : Int32) (I : mI) (J : mJ), k21 b0 I J → hh_V X 21 [(0, .ref 0), (1, .int b0)] [] 0 0 (hm I J)) : ∀ (a1 : Int32) (a2 : Int32) (I : mI) (J : mJ), m_read_j58 Q k21 a1 a2 I J → hh_V X 58 [(0, .ref 0), (1, .int a1), (2, .int a2)] [.ref 0] 0 0 (hm I J) := by
  intro a1 a2 I J hf
  unfold m_read_j58 at hf
  refine hv_iload_n hX dX14_read_58 rfl 1 rfl ?_
  refine hv_bipush (v := 6) hX bi_6 dX14_read_59 ?_
  refine hv_icmp_ge (tgt := 68) hX dX14_read_61 (by decide) (fun c18 => ?_) (fun c18 => ?_)
  · replace hf := hf.1 c18
    exact w_read_j68 hX hN hE hk21 _ _ _ _ hf
  · replace hf := hf.2 c18
    refine hv_iconst (v := 1) hX ic_1 dX14_read_64 ?_
    refine hv_goto (tgt := 69) hX dX14_read_65 (by decide) ?_
    exact w_read_j69 hX hN hE hk21 _ _ _ _ _ hf
def m_read_l21 (Q : Int32 → mI → mJ → Prop) : Nat → Int32 → mI → mJ → Prop
  | 0, _, _, _ => False
  | n + 1, a1, I, J =>
    ((I 0 40) = 0 →
      m_read_j142 Q  a1 I J) ∧ (¬ (I 0 40) = 0 →
      m_isGood  I J (fun r10 I11 J12 => (r10 = 0 →
        m_read_j142 Q  a1 I11 J12) ∧ (¬ r10 = 0 →
        m_isWord 121882 I11 J12 (fun r14 I15 J16 => (r14 = 0 →
          m_isWord 204 I15 J16 (fun r44 I45 J46 => (r44 = 0 →
            m_read_j68 Q (fun b0 I J => m_read_l21 Q n b0 I J) a1 r14 I45 J46) ∧ (¬ r44 = 0 →
            m_read_j58 Q (fun b0 I J => m_read_l21 Q n b0 I J) a1 r14 I45 J46))) ∧ (¬ r14 = 0 →
          m_read_j58 Q (fun b0 I J => m_read_l21 Q n b0 I J) a1 r14 I15 J16)))))
theorem w_read_l21 {X : hh_CX} {Q : Int32 → mI → mJ → Prop} (hX : hh_C X cX14_read RX14 (hrm 7 152)) (hN : hh_nL X = 4) (hE : hh_E X (some .int) (mQi Q) 0 0) : ∀ (n : Nat) (a1 : Int32) (I : mI) (J : mJ), m_read_l21 Q  n a1 I J → hh_V X 21 [(0, .ref 0), (1, .int a1)] [] 0 0 (hm I J) := by
  intro n
  induction n with
  | zero => intro _ _ _ hf; exact hf.elim
  | succ n ih =>
    intro a1 I J hf
    unfold m_read_l21 at hf
    refine hv_aload_n hX dX14_read_21 rfl 0 rfl ?_
    refine hm_getI (v := (I 0 40)) hX dX14_read_22 mfl302 (.inl rfl) rfl ?_
    refine hv_if_eq (tgt := 142) hX dX14_read_25 (by decide) (fun c3 => ?_) (fun c3 => ?_)
    · replace hf := hf.1 c3
      exact w_read_j142 hX hN hE  _ _ _ hf
    · replace hf := hf.2 c3
      refine hv_aload_n hX dX14_read_28 rfl 0 rfl ?_
      refine hm_callVi hX dX14_read_29 (ct_isGood  I J _ hf) (gd_isGood q2160) np_isGood rfl rfl ⟨Nat.le_of_ble_eq_true rfl, Nat.le_of_ble_eq_true rfl⟩ ⟨Nat.le_refl _, Nat.le_refl _⟩ (Nat.le_of_ble_eq_true rfl) ?_
      intro r10 I11 J12 hf
      refine hv_if_eq (tgt := 142) hX dX14_read_32 (by decide) (fun c13 => ?_) (fun c13 => ?_)
      · replace hf := hf.1 c13
        exact w_read_j142 hX hN hE  _ _ _ hf
      · replace hf := hf.2 c13
        refine hv_aload_n hX dX14_read_35 rfl 0 rfl ?_
        refine hv_ldc2 (v := 121882) hX dX14_read_36 q2164 ?_
        refine hm_callVi hX dX14_read_39 (ct_isWord 121882 I11 J12 _ hf) (gd_isWord q2165) np_isWord rfl rfl ⟨Nat.le_of_ble_eq_true rfl, Nat.le_of_ble_eq_true rfl⟩ ⟨Nat.le_refl _, Nat.le_refl _⟩ (Nat.le_of_ble_eq_true rfl) ?_
        intro r14 I15 J16 hf
        refine hv_istore_n (loc2 := [(2, .int r14), (0, .ref 0), (1, .int a1)]) hX dX14_read_42 rfl hN (Nat.le_of_ble_eq_true rfl) rfl ?_
        refine hv_aload_n hX dX14_read_43 rfl 1 rfl ?_
        refine hv_iload_n hX dX14_read_44 rfl 0 rfl ?_
        refine hv_if_ne (tgt := 58) hX dX14_read_45 (by decide) (fun c17 => ?_) (fun c17 => ?_)
        · replace hf := hf.2 c17
          refine hv_fewer [1, 2, 0] (loc2 := [(0, .ref 0), (1, .int a1), (2, .int r14)]) rfl ?_
          exact w_read_j58 hX hN hE ih _ _ _ _ hf
        · replace hf := hf.1 c17
          refine hv_aload_n hX dX14_read_48 rfl 1 rfl ?_
          refine hv_ldc2 (v := 204) hX dX14_read_49 q2169 ?_
          refine hm_callVi hX dX14_read_52 (ct_isWord 204 I15 J16 _ hf) (gd_isWord q2165) np_isWord rfl rfl ⟨Nat.le_of_ble_eq_true rfl, Nat.le_of_ble_eq_true rfl⟩ ⟨Nat.le_refl _, Nat.le_refl _⟩ (Nat.le_of_ble_eq_true rfl) ?_
          intro r44 I45 J46 hf
          refine hv_if_eq (tgt := 68) hX dX14_read_55 (by decide) (fun c47 => ?_) (fun c47 => ?_)
          · replace hf := hf.1 c47
            refine hv_fewer [1, 2, 0] (loc2 := [(0, .ref 0), (1, .int a1), (2, .int r14)]) rfl ?_
            exact w_read_j68 hX hN hE ih _ _ _ _ hf
          · replace hf := hf.2 c47
            refine hv_fewer [1, 2, 0] (loc2 := [(0, .ref 0), (1, .int a1), (2, .int r14)]) rfl ?_
            exact w_read_j58 hX hN hE ih _ _ _ _ hf
def m_read  (I : mI) (J : mJ) (Q : Int32 → mI → mJ → Prop) : Prop :=
  m_advance  (u2 (u2 (u2 I 0 44 (-1)) 0 42 0) 0 49 0) J (fun  I1 J2 => ∃ n0 : Nat, m_read_l21 Q  n0 0 I1 J2)
theorem ct_read  (I : mI) (J : mJ) (Q : Int32 → mI → mJ → Prop) (hf : m_read  I J Q) : hh_Ct yX14_read cX14_read 4 (some .int) 7 152 [.ref 0] (hm I J) (mQi Q) 0 0 := by
  refine hh_Ct.of (own := RX14) rfl (by decide +kernel) (Nat.le_of_ble_eq_true rfl) ?_
  intro X hX hN hE
  show hh_V X 0 [(0, .ref 0)] [] 0 0 (hm I J)
  unfold m_read at hf
  refine hv_aload_n hX dX14_read_0 rfl 0 rfl ?_
  refine hv_iconst (v := (-1)) hX ic_m1 dX14_read_1 ?_
  refine hm_putI hX dX14_read_2 mfl317 ?_
  refine hv_aload_n hX dX14_read_5 rfl 0 rfl ?_
  refine hv_iconst (v := 0) hX ic_0 dX14_read_6 ?_
  refine hm_putI hX dX14_read_7 mfl292 ?_
  refine hv_aload_n hX dX14_read_10 rfl 0 rfl ?_
  refine hv_iconst (v := 0) hX ic_0 dX14_read_11 ?_
  refine hm_putI hX dX14_read_12 mfl333 ?_
  refine hv_aload_n hX dX14_read_15 rfl 0 rfl ?_
  refine hm_callVv hX dX14_read_16 (ct_advance  (u2 (u2 (u2 I 0 44 (-1)) 0 42 0) 0 49 0) J _ hf) (gd_advance q2147) np_advance rfl rfl ⟨Nat.le_of_ble_eq_true rfl, Nat.le_of_ble_eq_true rfl⟩ ⟨Nat.le_refl _, Nat.le_refl _⟩ (Nat.le_of_ble_eq_true rfl) ?_
  intro  I1 J2 hf
  refine hv_iconst (v := 0) hX ic_0 dX14_read_19 ?_
  refine hv_istore_n (loc2 := [(1, .int 0), (0, .ref 0)]) hX dX14_read_20 rfl hN (Nat.le_of_ble_eq_true rfl) rfl ?_
  refine hv_fewer [1, 0] (loc2 := [(0, .ref 0), (1, .int 0)]) rfl ?_
  obtain ⟨n0, hf⟩ := hf
  exact w_read_l21 hX hN hE  n0 _ _ _ hf
theorem np_read : yX14_read.cls = RX14 ∧ yX14_read.cls ≠ "java/lang/invoke/MethodHandle" ∧ yX14_read.cls ≠ "java/lang/invoke/VarHandle" ∧ (parseMethodDescriptor yX14_read.desc).map (fun d => d.parameters.length) = some 0 := by decide +kernel
theorem gd_read {idx : Nat} (h : Cond.methodLink RX14 idx yX14_read ∈ lw_all) : GoodIn lw_all (wsV RX14 idx RX14 yX14_read (ws_ yX14_read cX14_read 4 (some .int))) := lw_V h q2144 q2145 q123 q2146
/-! askHere()V -/
def m_askHere  (I : mI) (J : mJ) (Q : mI → mJ → Prop) : Prop :=
  Q (u2 (u2 (u2 (u2 I 0 51 (I 0 0)) 0 52 (I 0 3)) 0 53 (I 0 12)) 0 54 (I 0 1)) J
theorem ct_askHere  (I : mI) (J : mJ) (Q : mI → mJ → Prop) (hf : m_askHere  I J Q) : hh_Ct yX14_askHere cX14_askHere 1 none 0 0 [.ref 0] (hm I J) (mQv Q) 0 0 := by
  refine hh_Ct.of (own := RX14) rfl (by decide +kernel) (Nat.le_of_ble_eq_true rfl) ?_
  intro X hX hN hE
  show hh_V X 0 [(0, .ref 0)] [] 0 0 (hm I J)
  unfold m_askHere at hf
  refine hv_aload_n hX dX14_askHere_0 rfl 0 rfl ?_
  refine hv_aload_n hX dX14_askHere_1 rfl 0 rfl ?_
  refine hm_getI (v := (I 0 0)) hX dX14_askHere_2 mfl166 (.inl rfl) rfl ?_
  refine hm_putI hX dX14_askHere_5 mfl402 ?_
  refine hv_aload_n hX dX14_askHere_8 rfl 0 rfl ?_
  refine hv_aload_n hX dX14_askHere_9 rfl 0 rfl ?_
  refine hm_getI (v := (I 0 3)) hX dX14_askHere_10 mfl169 (.inl rfl) ((u2_ne _ _ (.inr (by decide)))) ?_
  refine hm_putI hX dX14_askHere_13 mfl399 ?_
  refine hv_aload_n hX dX14_askHere_16 rfl 0 rfl ?_
  refine hv_aload_n hX dX14_askHere_17 rfl 0 rfl ?_
  refine hm_getI (v := (I 0 12)) hX dX14_askHere_18 mfl141 (.inl rfl) ((u2_ne _ _ (.inr (by decide))) |>.trans (u2_ne _ _ (.inr (by decide)))) ?_
  refine hm_putI hX dX14_askHere_21 mfl396 ?_
  refine hv_aload_n hX dX14_askHere_24 rfl 0 rfl ?_
  refine hv_aload_n hX dX14_askHere_25 rfl 0 rfl ?_
  refine hm_getI (v := (I 0 1)) hX dX14_askHere_26 mfl172 (.inl rfl) ((u2_ne _ _ (.inr (by decide))) |>.trans (u2_ne _ _ (.inr (by decide))) |>.trans (u2_ne _ _ (.inr (by decide)))) ?_
  refine hm_putI hX dX14_askHere_29 mfl405 ?_
  exact hm_vret hX hE dX14_askHere_32 hf
theorem np_askHere : yX14_askHere.cls = RX14 ∧ yX14_askHere.cls ≠ "java/lang/invoke/MethodHandle" ∧ yX14_askHere.cls ≠ "java/lang/invoke/VarHandle" ∧ (parseMethodDescriptor yX14_askHere.desc).map (fun d => d.parameters.length) = some 0 := by decide +kernel
theorem gd_askHere {idx : Nat} (h : Cond.methodLink RX14 idx yX14_askHere ∈ lw_all) : GoodIn lw_all (wsV RX14 idx RX14 yX14_askHere (ws_ yX14_askHere cX14_askHere 1 none)) := lw_V h q2229 qs85 q123 q2230
/-! joined(III)I -/
def m_joined (a0 : Int32) (a1 : Int32) (a2 : Int32) (I : mI) (J : mJ) (Q : Int32 → mI → mJ → Prop) : Prop :=
  (a0 = 8 →
    Q (a1 &&& a2) I J) ∧ (¬ a0 = 8 →
    (a0 = 9 →
    Q (a1 ||| a2) I J) ∧ (¬ a0 = 9 →
    (a0 = 10 →
    (a1 ≤ a2 →
          Q 0 I J) ∧ (¬ a1 ≤ a2 →
          Q 1 I J)) ∧ (¬ a0 = 10 →
    (a0 = 11 →
    (a1 ≤ a2 →
            Q 0 I J) ∧ (¬ a1 ≤ a2 →
            Q 1 I J)) ∧ (¬ a0 = 11 →
    (a0 = 12 →
    (a1 ≤ a2 →
              Q 0 I J) ∧ (¬ a1 ≤ a2 →
              Q 1 I J)) ∧ (¬ a0 = 12 →
    (a0 = 13 →
    (a1 ≤ a2 →
                Q 0 I J) ∧ (¬ a1 ≤ a2 →
                Q 1 I J)) ∧ (¬ a0 = 13 →
    (a0 = 14 →
    (a1 ≤ a2 →
                  Q 0 I J) ∧ (¬ a1 ≤ a2 →
                  Q 1 I J)) ∧ (¬ a0 = 14 →
    (a0 = 15 →
    (a2 ≤ a1 →
                    Q 0 I J) ∧ (¬ a2 ≤ a1 →
                    Q 1 I J)) ∧ (¬ a0 = 15 →
    (a0 = 16 →
    (a1 = a2 →
                      Q 1 I J) ∧ (¬ a1 = a2 →
                      Q 0 I J)) ∧ (¬ a0 = 16 →
    (a1 ≤ a2 →
                      Q 0 I J) ∧ (¬ a1 ≤ a2 →
                      Q 1 I J))))))))))
theorem ct_joined (a0 : Int32) (a1 : Int32) (a2 : Int32) (I : mI) (J : mJ) (Q : Int32 → mI → mJ → Prop) (hf : m_joined a0 a1 a2 I J Q) : hh_Ct yX14_joined cX14_joined 3 (some .int) 0 0 [.int a0, .int a1, .int a2] (hm I J) (mQi Q) 0 0 := by
  refine hh_Ct.of (own := RX14) rfl (by decide +kernel) (Nat.le_of_ble_eq_true rfl) ?_
  intro X hX hN hE
  show hh_V X 0 [(0, .int a0), (1, .int a1), (2, .int a2)] [] 0 0 (hm I J)
  unfold m_joined at hf
  refine hv_iload_n hX dX14_joined_0 rfl 0 rfl ?_
  by_cases c1 : a0 = 8
  · replace hf := hf.1 c1
    refine hv_tswA (v := 8) (tgt := 52) (off := 51) hX dX14_joined_1 c1 ⟨by decide, by decide, by decide⟩ (by decide) ?_
    refine hv_iload_n hX dX14_joined_52 rfl 1 rfl ?_
    refine hv_iload_n hX dX14_joined_53 rfl 2 rfl ?_
    refine hv_iand hX dX14_joined_54 ?_
    exact hm_iret hX hE dX14_joined_55 hf
  · replace hf := hf.2 c1
    by_cases c2 : a0 = 9
    · replace hf := hf.1 c2
      refine hv_tswA (v := 9) (tgt := 56) (off := 55) hX dX14_joined_1 c2 ⟨by decide, by decide, by decide⟩ (by decide) ?_
      refine hv_iload_n hX dX14_joined_56 rfl 1 rfl ?_
      refine hv_iload_n hX dX14_joined_57 rfl 2 rfl ?_
      refine hv_ior hX dX14_joined_58 ?_
      exact hm_iret hX hE dX14_joined_59 hf
    · replace hf := hf.2 c2
      by_cases c3 : a0 = 10
      · replace hf := hf.1 c3
        refine hv_tswA (v := 10) (tgt := 82) (off := 81) hX dX14_joined_1 c3 ⟨by decide, by decide, by decide⟩ (by decide) ?_
        refine hv_iload_n hX dX14_joined_82 rfl 1 rfl ?_
        refine hv_iload_n hX dX14_joined_83 rfl 2 rfl ?_
        refine hv_icmp_le (tgt := 91) hX dX14_joined_84 (by decide) (fun c4 => ?_) (fun c4 => ?_)
        · replace hf := hf.1 c4
          refine hv_iconst (v := 0) hX ic_0 dX14_joined_91 ?_
          exact hm_iret hX hE dX14_joined_92 hf
        · replace hf := hf.2 c4
          refine hv_iconst (v := 1) hX ic_1 dX14_joined_87 ?_
          refine hv_goto (tgt := 92) hX dX14_joined_88 (by decide) ?_
          exact hm_iret hX hE dX14_joined_92 hf
      · replace hf := hf.2 c3
        by_cases c5 : a0 = 11
        · replace hf := hf.1 c5
          refine hv_tswA (v := 11) (tgt := 82) (off := 81) hX dX14_joined_1 c5 ⟨by decide, by decide, by decide⟩ (by decide) ?_
          refine hv_iload_n hX dX14_joined_82 rfl 1 rfl ?_
          refine hv_iload_n hX dX14_joined_83 rfl 2 rfl ?_
          refine hv_icmp_le (tgt := 91) hX dX14_joined_84 (by decide) (fun c6 => ?_) (fun c6 => ?_)
          · replace hf := hf.1 c6
            refine hv_iconst (v := 0) hX ic_0 dX14_joined_91 ?_
            exact hm_iret hX hE dX14_joined_92 hf
          · replace hf := hf.2 c6
            refine hv_iconst (v := 1) hX ic_1 dX14_joined_87 ?_
            refine hv_goto (tgt := 92) hX dX14_joined_88 (by decide) ?_
            exact hm_iret hX hE dX14_joined_92 hf
        · replace hf := hf.2 c5
          by_cases c7 : a0 = 12
          · replace hf := hf.1 c7
            refine hv_tswA (v := 12) (tgt := 82) (off := 81) hX dX14_joined_1 c7 ⟨by decide, by decide, by decide⟩ (by decide) ?_
            refine hv_iload_n hX dX14_joined_82 rfl 1 rfl ?_
            refine hv_iload_n hX dX14_joined_83 rfl 2 rfl ?_
            refine hv_icmp_le (tgt := 91) hX dX14_joined_84 (by decide) (fun c8 => ?_) (fun c8 => ?_)
            · replace hf := hf.1 c8
              refine hv_iconst (v := 0) hX ic_0 dX14_joined_91 ?_
              exact hm_iret hX hE dX14_joined_92 hf
            · replace hf := hf.2 c8
              refine hv_iconst (v := 1) hX ic_1 dX14_joined_87 ?_
              refine hv_goto (tgt := 92) hX dX14_joined_88 (by decide) ?_
              exact hm_iret hX hE dX14_joined_92 hf
          · replace hf := hf.2 c7
            by_cases c9 : a0 = 13
            · replace hf := hf.1 c9
              refine hv_tswA (v := 13) (tgt := 82) (off := 81) hX dX14_joined_1 c9 ⟨by decide, by decide, by decide⟩ (by decide) ?_
              refine hv_iload_n hX dX14_joined_82 rfl 1 rfl ?_
              refine hv_iload_n hX dX14_joined_83 rfl 2 rfl ?_
              refine hv_icmp_le (tgt := 91) hX dX14_joined_84 (by decide) (fun c10 => ?_) (fun c10 => ?_)
              · replace hf := hf.1 c10
                refine hv_iconst (v := 0) hX ic_0 dX14_joined_91 ?_
                exact hm_iret hX hE dX14_joined_92 hf
              · replace hf := hf.2 c10
                refine hv_iconst (v := 1) hX ic_1 dX14_joined_87 ?_
                refine hv_goto (tgt := 92) hX dX14_joined_88 (by decide) ?_
                exact hm_iret hX hE dX14_joined_92 hf
            · replace hf := hf.2 c9
              by_cases c11 : a0 = 14
              · replace hf := hf.1 c11
                refine hv_tswA (v := 14) (tgt := 82) (off := 81) hX dX14_joined_1 c11 ⟨by decide, by decide, by decide⟩ (by decide) ?_
                refine hv_iload_n hX dX14_joined_82 rfl 1 rfl ?_
                refine hv_iload_n hX dX14_joined_83 rfl 2 rfl ?_
                refine hv_icmp_le (tgt := 91) hX dX14_joined_84 (by decide) (fun c12 => ?_) (fun c12 => ?_)
                · replace hf := hf.1 c12
                  refine hv_iconst (v := 0) hX ic_0 dX14_joined_91 ?_
                  exact hm_iret hX hE dX14_joined_92 hf
                · replace hf := hf.2 c12
                  refine hv_iconst (v := 1) hX ic_1 dX14_joined_87 ?_
                  refine hv_goto (tgt := 92) hX dX14_joined_88 (by decide) ?_
                  exact hm_iret hX hE dX14_joined_92 hf
              · replace hf := hf.2 c11
                by_cases c13 : a0 = 15
                · replace hf := hf.1 c13
                  refine hv_tswA (v := 15) (tgt := 60) (off := 59) hX dX14_joined_1 c13 ⟨by decide, by decide, by decide⟩ (by decide) ?_
                  refine hv_iload_n hX dX14_joined_60 rfl 1 rfl ?_
                  refine hv_iload_n hX dX14_joined_61 rfl 2 rfl ?_
                  refine hv_icmp_ge (tgt := 69) hX dX14_joined_62 (by decide) (fun c14 => ?_) (fun c14 => ?_)
                  · replace hf := hf.1 c14
                    refine hv_iconst (v := 0) hX ic_0 dX14_joined_69 ?_
                    exact hm_iret hX hE dX14_joined_70 hf
                  · replace hf := hf.2 c14
                    refine hv_iconst (v := 1) hX ic_1 dX14_joined_65 ?_
                    refine hv_goto (tgt := 70) hX dX14_joined_66 (by decide) ?_
                    exact hm_iret hX hE dX14_joined_70 hf
                · replace hf := hf.2 c13
                  by_cases c15 : a0 = 16
                  · replace hf := hf.1 c15
                    refine hv_tswA (v := 16) (tgt := 71) (off := 70) hX dX14_joined_1 c15 ⟨by decide, by decide, by decide⟩ (by decide) ?_
                    refine hv_iload_n hX dX14_joined_71 rfl 1 rfl ?_
                    refine hv_iload_n hX dX14_joined_72 rfl 2 rfl ?_
                    refine hv_icmp_ne (tgt := 80) hX dX14_joined_73 (by decide) (fun c16 => ?_) (fun c16 => ?_)
                    · replace hf := hf.2 c16
                      refine hv_iconst (v := 0) hX ic_0 dX14_joined_80 ?_
                      exact hm_iret hX hE dX14_joined_81 hf
                    · replace hf := hf.1 c16
                      refine hv_iconst (v := 1) hX ic_1 dX14_joined_76 ?_
                      refine hv_goto (tgt := 81) hX dX14_joined_77 (by decide) ?_
                      exact hm_iret hX hE dX14_joined_81 hf
                  · replace hf := hf.2 c15
                    refine hv_tswO (tgt := 82) hX dX14_joined_1 (by have z0 := lv_neT c1 (a := 8) (by decide); have z1 := lv_neT c2 (a := 9) (by decide); have z2 := lv_neT c3 (a := 10) (by decide); have z3 := lv_neT c5 (a := 11) (by decide); have z4 := lv_neT c7 (a := 12) (by decide); have z5 := lv_neT c9 (a := 13) (by decide); have z6 := lv_neT c11 (a := 14) (by decide); have z7 := lv_neT c13 (a := 15) (by decide); have z8 := lv_neT c15 (a := 16) (by decide); omega) (by decide) ?_
                    refine hv_iload_n hX dX14_joined_82 rfl 1 rfl ?_
                    refine hv_iload_n hX dX14_joined_83 rfl 2 rfl ?_
                    refine hv_icmp_le (tgt := 91) hX dX14_joined_84 (by decide) (fun c17 => ?_) (fun c17 => ?_)
                    · replace hf := hf.1 c17
                      refine hv_iconst (v := 0) hX ic_0 dX14_joined_91 ?_
                      exact hm_iret hX hE dX14_joined_92 hf
                    · replace hf := hf.2 c17
                      refine hv_iconst (v := 1) hX ic_1 dX14_joined_87 ?_
                      refine hv_goto (tgt := 92) hX dX14_joined_88 (by decide) ?_
                      exact hm_iret hX hE dX14_joined_92 hf
theorem np_joined : yX14_joined.cls ≠ "java/lang/invoke/MethodHandle" ∧ yX14_joined.cls ≠ "java/lang/invoke/VarHandle" ∧ (parseMethodDescriptor yX14_joined.desc).map (fun d => d.parameters.length) = some 3 := by decide +kernel
theorem gd_joined {idx : Nat} (h : Cond.methodLink RX14 idx yX14_joined ∈ lw_all) : GoodIn lw_all (va_wsS RX14 idx yX14_joined (ws_ yX14_joined cX14_joined 3 (some .int))) := lw_S h q2244 q123 q2245
/-! valueOf(I)I -/
def m_valueOf_j28 (Q : Int32 → mI → mJ → Prop) (a1 : Int32) (s0 : Int32) (I : mI) (J : mJ) : Prop :=
  ((a1 - s0) = 100 →
    ((I 0 8) ≤ 0 →
      Q 0 I J) ∧ (¬ (I 0 8) ≤ 0 →
      m_foodIn (I 0 53) (I 0 52) I J (fun r5 I6 J7 => m_yieldIn (I 0 52) r5 I6 J7 (fun r8 I9 J10 => Q r8 I9 J10)))) ∧ (¬ (a1 - s0) = 100 →
    ((a1 - s0) = 101 →
    ((I 0 2) ≤ (I 0 51) →
        Q 0 I J) ∧ (¬ (I 0 2) ≤ (I 0 51) →
        Q ((I 0 2) - (I 0 51)) I J)) ∧ (¬ (a1 - s0) = 101 →
    ((a1 - s0) = 102 →
    Q (I 0 54) I J) ∧ (¬ (a1 - s0) = 102 →
    ((a1 - s0) = 200 →
    m_isPatch s0 I J (fun r15 I16 J17 => (r15 = 0 →
            Q 0 I16 J17) ∧ (¬ r15 = 0 →
            m_foodIn (I16 0 53) s0 I16 J17 (fun r19 I20 J21 => Q r19 I20 J21)))) ∧ (¬ (a1 - s0) = 200 →
    ((a1 - s0) = 300 →
    m_isPatch s0 I J (fun r23 I24 J25 => (r23 = 0 →
              Q 0 I24 J25) ∧ (¬ r23 = 0 →
              ((I24 0 8) ≤ 0 →
                Q 0 I24 J25) ∧ (¬ (I24 0 8) ≤ 0 →
                vp_in ((4 * (I24 0 52)) + s0) 16 ∧ (Q (I24 2 ((4 * (I24 0 52)) + s0).toNatClampNeg) I24 J25))))) ∧ (¬ (a1 - s0) = 300 →
    Q (I 0 52) I J)))))
theorem w_valueOf_j28 {X : hh_CX} {Q : Int32 → mI → mJ → Prop} (hX : hh_C X cX14_valueOf RX14 (hrm 2 43)) (hN : hh_nL X = 3) (hE : hh_E X (some .int) (mQi Q) 0 0) : ∀ (a1 : Int32) (s0 : Int32) (I : mI) (J : mJ), m_valueOf_j28 Q  a1 s0 I J → hh_V X 28 [(0, .ref 0), (1, .int a1)] [.int s0] 0 0 (hm I J) := by
  intro a1 s0 I J hf
  unfold m_valueOf_j28 at hf
  refine hv_istore_n (loc2 := [(2, .int s0), (0, .ref 0), (1, .int a1)]) hX dX14_valueOf_28 rfl hN (Nat.le_of_ble_eq_true rfl) rfl ?_
  refine hv_iload_n hX dX14_valueOf_29 rfl 2 rfl ?_
  refine hv_iload_n hX dX14_valueOf_30 rfl 0 rfl ?_
  refine hv_isub hX dX14_valueOf_31 ?_
  by_cases c3 : (a1 - s0) = 100
  · replace hf := hf.1 c3
    refine hv_lsw (tgt := 138) (off := 106) hX dX14_valueOf_32 (by decide) (by rw [c3]; decide) (by decide) ?_
    refine hv_aload_n hX dX14_valueOf_138 rfl 1 rfl ?_
    refine hm_getI (v := (I 0 8)) hX dX14_valueOf_139 mfl130 (.inl rfl) rfl ?_
    refine hv_if_le (tgt := 167) hX dX14_valueOf_142 (by decide) (fun c4 => ?_) (fun c4 => ?_)
    · replace hf := hf.1 c4
      refine hv_iconst (v := 0) hX ic_0 dX14_valueOf_167 ?_
      exact hm_iret hX hE dX14_valueOf_168 hf
    · replace hf := hf.2 c4
      refine hv_aload_n hX dX14_valueOf_145 rfl 1 rfl ?_
      refine hv_aload_n hX dX14_valueOf_146 rfl 1 rfl ?_
      refine hm_getI (v := (I 0 52)) hX dX14_valueOf_147 mfl399 (.inl rfl) rfl ?_
      refine hv_aload_n hX dX14_valueOf_150 rfl 1 rfl ?_
      refine hm_getI (v := (I 0 53)) hX dX14_valueOf_151 mfl396 (.inl rfl) rfl ?_
      refine hv_aload_n hX dX14_valueOf_154 rfl 1 rfl ?_
      refine hm_getI (v := (I 0 52)) hX dX14_valueOf_155 mfl399 (.inl rfl) rfl ?_
      refine hm_callSi hX dX14_valueOf_158 (ct_foodIn (I 0 53) (I 0 52) I J _ hf) (gd_foodIn q1926) np_foodIn rfl rfl ⟨Nat.le_of_ble_eq_true rfl, Nat.le_of_ble_eq_true rfl⟩ ⟨Nat.le_refl _, Nat.le_refl _⟩ (Nat.le_of_ble_eq_true rfl) ?_
      intro r5 I6 J7 hf
      refine hm_callVi hX dX14_valueOf_161 (ct_yieldIn (I 0 52) r5 I6 J7 _ hf) (gd_yieldIn q1956) np_yieldIn rfl rfl ⟨Nat.le_of_ble_eq_true rfl, Nat.le_of_ble_eq_true rfl⟩ ⟨Nat.le_refl _, Nat.le_refl _⟩ (Nat.le_of_ble_eq_true rfl) ?_
      intro r8 I9 J10 hf
      refine hv_goto (tgt := 168) hX dX14_valueOf_164 (by decide) ?_
      exact hm_iret hX hE dX14_valueOf_168 hf
  · replace hf := hf.2 c3
    by_cases c11 : (a1 - s0) = 101
    · replace hf := hf.1 c11
      refine hv_lsw (tgt := 169) (off := 137) hX dX14_valueOf_32 (by decide) (by rw [c11]; decide) (by decide) ?_
      refine hv_aload_n hX dX14_valueOf_169 rfl 1 rfl ?_
      refine hm_getI (v := (I 0 2)) hX dX14_valueOf_170 mfl7 (.inl rfl) rfl ?_
      refine hv_aload_n hX dX14_valueOf_173 rfl 1 rfl ?_
      refine hm_getI (v := (I 0 51)) hX dX14_valueOf_174 mfl402 (.inl rfl) rfl ?_
      refine hv_icmp_le (tgt := 192) hX dX14_valueOf_177 (by decide) (fun c12 => ?_) (fun c12 => ?_)
      · replace hf := hf.1 c12
        refine hv_iconst (v := 0) hX ic_0 dX14_valueOf_192 ?_
        exact hm_iret hX hE dX14_valueOf_193 hf
      · replace hf := hf.2 c12
        refine hv_aload_n hX dX14_valueOf_180 rfl 1 rfl ?_
        refine hm_getI (v := (I 0 2)) hX dX14_valueOf_181 mfl7 (.inl rfl) rfl ?_
        refine hv_aload_n hX dX14_valueOf_184 rfl 1 rfl ?_
        refine hm_getI (v := (I 0 51)) hX dX14_valueOf_185 mfl402 (.inl rfl) rfl ?_
        refine hv_isub hX dX14_valueOf_188 ?_
        refine hv_goto (tgt := 193) hX dX14_valueOf_189 (by decide) ?_
        exact hm_iret hX hE dX14_valueOf_193 hf
    · replace hf := hf.2 c11
      by_cases c13 : (a1 - s0) = 102
      · replace hf := hf.1 c13
        refine hv_lsw (tgt := 194) (off := 162) hX dX14_valueOf_32 (by decide) (by rw [c13]; decide) (by decide) ?_
        refine hv_aload_n hX dX14_valueOf_194 rfl 1 rfl ?_
        refine hm_getI (v := (I 0 54)) hX dX14_valueOf_195 mfl405 (.inl rfl) rfl ?_
        exact hm_iret hX hE dX14_valueOf_198 hf
      · replace hf := hf.2 c13
        by_cases c14 : (a1 - s0) = 200
        · replace hf := hf.1 c14
          refine hv_lsw (tgt := 84) (off := 52) hX dX14_valueOf_32 (by decide) (by rw [c14]; decide) (by decide) ?_
          refine hv_aload_n hX dX14_valueOf_84 rfl 1 rfl ?_
          refine hv_iload_n hX dX14_valueOf_85 rfl 0 rfl ?_
          refine hm_callVi hX dX14_valueOf_86 (ct_isPatch s0 I J _ hf) (gd_isPatch q1936) np_isPatch rfl rfl ⟨Nat.le_of_ble_eq_true rfl, Nat.le_of_ble_eq_true rfl⟩ ⟨Nat.le_refl _, Nat.le_refl _⟩ (Nat.le_of_ble_eq_true rfl) ?_
          intro r15 I16 J17 hf
          refine hv_if_eq (tgt := 103) hX dX14_valueOf_89 (by decide) (fun c18 => ?_) (fun c18 => ?_)
          · replace hf := hf.1 c18
            refine hv_iconst (v := 0) hX ic_0 dX14_valueOf_103 ?_
            exact hm_iret hX hE dX14_valueOf_104 hf
          · replace hf := hf.2 c18
            refine hv_aload_n hX dX14_valueOf_92 rfl 1 rfl ?_
            refine hm_getI (v := (I16 0 53)) hX dX14_valueOf_93 mfl396 (.inl rfl) rfl ?_
            refine hv_iload_n hX dX14_valueOf_96 rfl 0 rfl ?_
            refine hm_callSi hX dX14_valueOf_97 (ct_foodIn (I16 0 53) s0 I16 J17 _ hf) (gd_foodIn q1926) np_foodIn rfl rfl ⟨Nat.le_of_ble_eq_true rfl, Nat.le_of_ble_eq_true rfl⟩ ⟨Nat.le_refl _, Nat.le_refl _⟩ (Nat.le_of_ble_eq_true rfl) ?_
            intro r19 I20 J21 hf
            refine hv_goto (tgt := 104) hX dX14_valueOf_100 (by decide) ?_
            exact hm_iret hX hE dX14_valueOf_104 hf
        · replace hf := hf.2 c14
          by_cases c22 : (a1 - s0) = 300
          · replace hf := hf.1 c22
            refine hv_lsw (tgt := 105) (off := 73) hX dX14_valueOf_32 (by decide) (by rw [c22]; decide) (by decide) ?_
            refine hv_aload_n hX dX14_valueOf_105 rfl 1 rfl ?_
            refine hv_iload_n hX dX14_valueOf_106 rfl 0 rfl ?_
            refine hm_callVi hX dX14_valueOf_107 (ct_isPatch s0 I J _ hf) (gd_isPatch q1936) np_isPatch rfl rfl ⟨Nat.le_of_ble_eq_true rfl, Nat.le_of_ble_eq_true rfl⟩ ⟨Nat.le_refl _, Nat.le_refl _⟩ (Nat.le_of_ble_eq_true rfl) ?_
            intro r23 I24 J25 hf
            refine hv_if_eq (tgt := 136) hX dX14_valueOf_110 (by decide) (fun c26 => ?_) (fun c26 => ?_)
            · replace hf := hf.1 c26
              refine hv_iconst (v := 0) hX ic_0 dX14_valueOf_136 ?_
              exact hm_iret hX hE dX14_valueOf_137 hf
            · replace hf := hf.2 c26
              refine hv_aload_n hX dX14_valueOf_113 rfl 1 rfl ?_
              refine hm_getI (v := (I24 0 8)) hX dX14_valueOf_114 mfl130 (.inl rfl) rfl ?_
              refine hv_if_le (tgt := 136) hX dX14_valueOf_117 (by decide) (fun c27 => ?_) (fun c27 => ?_)
              · replace hf := hf.1 c27
                refine hv_iconst (v := 0) hX ic_0 dX14_valueOf_136 ?_
                exact hm_iret hX hE dX14_valueOf_137 hf
              · replace hf := hf.2 c27
                refine hv_aload_n hX dX14_valueOf_120 rfl 1 rfl ?_
                refine hm_getR hX dX14_valueOf_121 mfl23 2 rfl ?_
                refine hv_iconst (v := 4) hX ic_4 dX14_valueOf_124 ?_
                refine hv_aload_n hX dX14_valueOf_125 rfl 1 rfl ?_
                refine hm_getI (v := (I24 0 52)) hX dX14_valueOf_126 mfl399 (.inl rfl) rfl ?_
                refine hv_imul hX dX14_valueOf_129 ?_
                refine hv_iload_n hX dX14_valueOf_130 rfl 0 rfl ?_
                refine hv_iadd hX dX14_valueOf_131 ?_
                obtain ⟨g, hf⟩ := hf
                refine hm_iald (v := (I24 2 ((4 * (I24 0 52)) + s0).toNatClampNeg)) hX dX14_valueOf_132 (by decide) rfl rfl g rfl ?_
                refine hv_goto (tgt := 137) hX dX14_valueOf_133 (by decide) ?_
                exact hm_iret hX hE dX14_valueOf_137 hf
          · replace hf := hf.2 c22
            refine hv_lsw (tgt := 199) (off := 167) hX dX14_valueOf_32 (by decide) (by show Op.lookupswitch.offset [(100, 106), (101, 137), (102, 162), (200, 52), (300, 73)] _ _ = _; rw [lv_osw c3 (a := 100) (by decide), lv_osw c11 (a := 101) (by decide), lv_osw c13 (a := 102) (by decide), lv_osw c14 (a := 200) (by decide), lv_osw c22 (a := 300) (by decide)]; rfl) (by decide) ?_
            refine hv_aload_n hX dX14_valueOf_199 rfl 1 rfl ?_
            refine hm_getI (v := (I 0 52)) hX dX14_valueOf_200 mfl399 (.inl rfl) rfl ?_
            exact hm_iret hX hE dX14_valueOf_203 hf
def m_valueOf (a1 : Int32) (I : mI) (J : mJ) (Q : Int32 → mI → mJ → Prop) : Prop :=
  (a1 < 3000 →
    (a1 < 200 →
      m_valueOf_j28 Q  a1 0 I J) ∧ (¬ a1 < 200 →
      m_valueOf_j28 Q  a1 (a1 - a1 / 100 * 100) I J)) ∧ (¬ a1 < 3000 →
    Q (a1 - 3000) I J)
theorem ct_valueOf (a1 : Int32) (I : mI) (J : mJ) (Q : Int32 → mI → mJ → Prop) (hf : m_valueOf a1 I J Q) : hh_Ct yX14_valueOf cX14_valueOf 3 (some .int) 2 43 [.ref 0, .int a1] (hm I J) (mQi Q) 0 0 := by
  refine hh_Ct.of (own := RX14) rfl (by decide +kernel) (Nat.le_of_ble_eq_true rfl) ?_
  intro X hX hN hE
  show hh_V X 0 [(0, .ref 0), (1, .int a1)] [] 0 0 (hm I J)
  unfold m_valueOf at hf
  refine hv_iload_n hX dX14_valueOf_0 rfl 1 rfl ?_
  refine hv_sipush (v := 3000) hX si_3000 dX14_valueOf_1 ?_
  refine hv_icmp_lt (tgt := 13) hX dX14_valueOf_4 (by decide) (fun c1 => ?_) (fun c1 => ?_)
  · replace hf := hf.1 c1
    refine hv_iload_n hX dX14_valueOf_13 rfl 1 rfl ?_
    refine hv_sipush (v := 200) hX si_200 dX14_valueOf_14 ?_
    refine hv_icmp_lt (tgt := 27) hX dX14_valueOf_17 (by decide) (fun c2 => ?_) (fun c2 => ?_)
    · replace hf := hf.1 c2
      refine hv_iconst (v := 0) hX ic_0 dX14_valueOf_27 ?_
      exact w_valueOf_j28 hX hN hE  _ _ _ _ hf
    · replace hf := hf.2 c2
      refine hv_iload_n hX dX14_valueOf_20 rfl 1 rfl ?_
      refine hv_bipush (v := 100) hX bi_100 dX14_valueOf_21 ?_
      refine hv_irem hX (by decide) dX14_valueOf_23 ?_
      refine hv_goto (tgt := 28) hX dX14_valueOf_24 (by decide) ?_
      exact w_valueOf_j28 hX hN hE  _ _ _ _ hf
  · replace hf := hf.2 c1
    refine hv_iload_n hX dX14_valueOf_7 rfl 1 rfl ?_
    refine hv_sipush (v := 3000) hX si_3000 dX14_valueOf_8 ?_
    refine hv_isub hX dX14_valueOf_11 ?_
    exact hm_iret hX hE dX14_valueOf_12 hf
theorem np_valueOf : yX14_valueOf.cls = RX14 ∧ yX14_valueOf.cls ≠ "java/lang/invoke/MethodHandle" ∧ yX14_valueOf.cls ≠ "java/lang/invoke/VarHandle" ∧ (parseMethodDescriptor yX14_valueOf.desc).map (fun d => d.parameters.length) = some 1 := by decide +kernel
theorem gd_valueOf {idx : Nat} (h : Cond.methodLink RX14 idx yX14_valueOf ∈ lw_all) : GoodIn lw_all (wsV RX14 idx RX14 yX14_valueOf (ws_ yX14_valueOf cX14_valueOf 3 (some .int))) := lw_V h q2248 qs89 q123 q2249
/-! holds(I)Z -/
def m_holds_j139 (Q : Int32 → mI → mJ → Prop) (k19 : Int32 → Int32 → Int32 → mI → mJ → Prop) (a1 : Int32) (a2 : Int32) (a3 : Int32) (I : mI) (J : mJ) : Prop :=
  k19 a1 a2 (a3 + 1) I J
theorem w_holds_j139 {X : hh_CX} {Q : Int32 → mI → mJ → Prop} (hX : hh_C X cX14_holds RX14 (hrm 3 65)) (hN : hh_nL X = 5) (hE : hh_E X (some .boolean) (mQi Q) 0 0) {k19 : Int32 → Int32 → Int32 → mI → mJ → Prop} (hk19 : ∀ (b0 : Int32) (b1 : Int32) (b2 : Int32) (I : mI) (J : mJ), k19 b0 b1 b2 I J → hh_V X 19 [(0, .ref 0), (1, .int b0), (2, .int b1), (3, .int b2)] [] 0 0 (hm I J)) : ∀ (a1 : Int32) (a2 : Int32) (a3 : Int32) (I : mI) (J : mJ), m_holds_j139 Q k19 a1 a2 a3 I J → hh_V X 139 [(0, .ref 0), (1, .int a1), (2, .int a2), (3, .int a3)] [] 0 0 (hm I J) := by
  intro a1 a2 a3 I J hf
  unfold m_holds_j139 at hf
  refine hv_iinc (v := (a3 + 1)) (loc2 := [(3, .int (a3 + 1)), (0, .ref 0), (1, .int a1), (2, .int a2)]) hX dX14_holds_139 3 rfl (congrArg (fun y => a3 + y) ic_1) hN (Nat.le_of_ble_eq_true rfl) rfl ?_
  refine hv_goto (tgt := 19) hX dX14_holds_142 (by decide) ?_
  refine hv_fewer [1, 2, 3, 0] (loc2 := [(0, .ref 0), (1, .int a1), (2, .int a2), (3, .int (a3 + 1))]) rfl ?_
  exact hk19 _ _ _ _ _ hf
def m_holds_j91 (Q : Int32 → mI → mJ → Prop) (k19 : Int32 → Int32 → Int32 → mI → mJ → Prop) (a1 : Int32) (a2 : Int32) (a3 : Int32) (a4 : Int32) (I : mI) (J : mJ) : Prop :=
  vp_in ((a2 + (-1)) - 1) 210 ∧ (vp_in (a2 + (-1)) 210 ∧ (m_joined a4 (I 24 ((a2 + (-1)) - 1).toNatClampNeg) (I 24 (a2 + (-1)).toNatClampNeg) I J (fun r6 I7 J8 => vp_in ((a2 + (-1)) - 1) 210 ∧ (m_holds_j139 Q k19 a1 (a2 + (-1)) a3 (u2 I7 24 ((a2 + (-1)) - 1).toNatClampNeg r6) J8))))
theorem w_holds_j91 {X : hh_CX} {Q : Int32 → mI → mJ → Prop} (hX : hh_C X cX14_holds RX14 (hrm 3 65)) (hN : hh_nL X = 5) (hE : hh_E X (some .boolean) (mQi Q) 0 0) {k19 : Int32 → Int32 → Int32 → mI → mJ → Prop} (hk19 : ∀ (b0 : Int32) (b1 : Int32) (b2 : Int32) (I : mI) (J : mJ), k19 b0 b1 b2 I J → hh_V X 19 [(0, .ref 0), (1, .int b0), (2, .int b1), (3, .int b2)] [] 0 0 (hm I J)) : ∀ (a1 : Int32) (a2 : Int32) (a3 : Int32) (a4 : Int32) (I : mI) (J : mJ), m_holds_j91 Q k19 a1 a2 a3 a4 I J → hh_V X 91 [(0, .ref 0), (1, .int a1), (2, .int a2), (3, .int a3), (4, .int a4)] [] 0 0 (hm I J) := by
  intro a1 a2 a3 a4 I J hf
  unfold m_holds_j91 at hf
  refine hv_iinc (v := (a2 + (-1))) (loc2 := [(2, .int (a2 + (-1))), (0, .ref 0), (1, .int a1), (3, .int a3), (4, .int a4)]) hX dX14_holds_91 2 rfl (congrArg (fun y => a2 + y) ic_m1) hN (Nat.le_of_ble_eq_true rfl) rfl ?_
  refine hv_aload_n hX dX14_holds_94 rfl 1 rfl ?_
  refine hm_getR hX dX14_holds_95 mfl97 24 rfl ?_
  refine hv_iload_n hX dX14_holds_98 rfl 0 rfl ?_
  refine hv_iconst (v := 1) hX ic_1 dX14_holds_99 ?_
  refine hv_isub hX dX14_holds_100 ?_
  refine hv_iload hX dX14_holds_101 4 rfl ?_
  refine hv_aload_n hX dX14_holds_103 rfl 1 rfl ?_
  refine hm_getR hX dX14_holds_104 mfl97 24 rfl ?_
  refine hv_iload_n hX dX14_holds_107 rfl 0 rfl ?_
  refine hv_iconst (v := 1) hX ic_1 dX14_holds_108 ?_
  refine hv_isub hX dX14_holds_109 ?_
  obtain ⟨g, hf⟩ := hf
  refine hm_iald (v := (I 24 ((a2 + (-1)) - 1).toNatClampNeg)) hX dX14_holds_110 (by decide) rfl rfl g rfl ?_
  refine hv_aload_n hX dX14_holds_111 rfl 1 rfl ?_
  refine hm_getR hX dX14_holds_112 mfl97 24 rfl ?_
  refine hv_iload_n hX dX14_holds_115 rfl 0 rfl ?_
  obtain ⟨g, hf⟩ := hf
  refine hm_iald (v := (I 24 (a2 + (-1)).toNatClampNeg)) hX dX14_holds_116 (by decide) rfl rfl g rfl ?_
  refine hm_callSi hX dX14_holds_117 (ct_joined a4 (I 24 ((a2 + (-1)) - 1).toNatClampNeg) (I 24 (a2 + (-1)).toNatClampNeg) I J _ hf) (gd_joined q2243) np_joined rfl rfl ⟨Nat.le_of_ble_eq_true rfl, Nat.le_of_ble_eq_true rfl⟩ ⟨Nat.le_refl _, Nat.le_refl _⟩ (Nat.le_of_ble_eq_true rfl) ?_
  intro r6 I7 J8 hf
  obtain ⟨g, hf⟩ := hf
  refine hm_iast hX dX14_holds_120 (by decide) rfl rfl g ?_
  refine hv_goto (tgt := 139) hX dX14_holds_121 (by decide) ?_
  refine hv_fewer [1, 2, 0, 3] (loc2 := [(0, .ref 0), (1, .int a1), (2, .int (a2 + (-1))), (3, .int a3)]) rfl ?_
  exact w_holds_j139 hX hN hE hk19 _ _ _ _ _ hf
def m_holds_l19 (Q : Int32 → mI → mJ → Prop) : Nat → Int32 → Int32 → Int32 → mI → mJ → Prop
  | 0, _, _, _, _, _ => False
  | n + 1, a1, a2, a3, I, J =>
    vp_in a1 6 ∧ (((I 4 a1.toNatClampNeg) ≤ a3 →
      ((I 24 (0 : Int32).toNatClampNeg) = 1 →
        Q 1 I J) ∧ (¬ (I 24 (0 : Int32).toNatClampNeg) = 1 →
        Q 0 I J)) ∧ (¬ (I 4 a1.toNatClampNeg) ≤ a3 →
      vp_in a3 210 ∧ (((I 6 a3.toNatClampNeg) = 7 →
        vp_in (a2 - 1) 210 ∧ (vp_in (a2 - 1) 210 ∧ (m_holds_j139 Q (fun b0 b1 b2 I J => m_holds_l19 Q n b0 b1 b2 I J) a1 a2 a3 (u2 I 24 (a2 - 1).toNatClampNeg (1 - (I 24 (a2 - 1).toNatClampNeg))) J))) ∧ (¬ (I 6 a3.toNatClampNeg) = 7 →
        ((I 6 a3.toNatClampNeg) = 8 →
          m_holds_j91 Q (fun b0 b1 b2 I J => m_holds_l19 Q n b0 b1 b2 I J) a1 a2 a3 (I 6 a3.toNatClampNeg) I J) ∧ (¬ (I 6 a3.toNatClampNeg) = 8 →
          ((I 6 a3.toNatClampNeg) = 9 →
            m_holds_j91 Q (fun b0 b1 b2 I J => m_holds_l19 Q n b0 b1 b2 I J) a1 a2 a3 (I 6 a3.toNatClampNeg) I J) ∧ (¬ (I 6 a3.toNatClampNeg) = 9 →
            m_in (I 6 a3.toNatClampNeg) 15 17 I J (fun r10 I11 J12 => (r10 = 0 →
              m_valueOf (I 6 a3.toNatClampNeg) I11 J12 (fun r14 I15 J16 => vp_in a2 210 ∧ (m_holds_j139 Q (fun b0 b1 b2 I J => m_holds_l19 Q n b0 b1 b2 I J) a1 (a2 + 1) a3 (u2 I15 24 a2.toNatClampNeg r14) J16))) ∧ (¬ r10 = 0 →
              m_holds_j91 Q (fun b0 b1 b2 I J => m_holds_l19 Q n b0 b1 b2 I J) a1 a2 a3 (I 6 a3.toNatClampNeg) I11 J12))))))))
theorem w_holds_l19 {X : hh_CX} {Q : Int32 → mI → mJ → Prop} (hX : hh_C X cX14_holds RX14 (hrm 3 65)) (hN : hh_nL X = 5) (hE : hh_E X (some .boolean) (mQi Q) 0 0) : ∀ (n : Nat) (a1 : Int32) (a2 : Int32) (a3 : Int32) (I : mI) (J : mJ), m_holds_l19 Q  n a1 a2 a3 I J → hh_V X 19 [(0, .ref 0), (1, .int a1), (2, .int a2), (3, .int a3)] [] 0 0 (hm I J) := by
  intro n
  induction n with
  | zero => intro _ _ _ _ _ hf; exact hf.elim
  | succ n ih =>
    intro a1 a2 a3 I J hf
    unfold m_holds_l19 at hf
    refine hv_iload_n hX dX14_holds_19 rfl 3 rfl ?_
    refine hv_aload_n hX dX14_holds_20 rfl 0 rfl ?_
    refine hm_getR hX dX14_holds_21 mfl29 4 rfl ?_
    refine hv_iload_n hX dX14_holds_24 rfl 1 rfl ?_
    obtain ⟨g, hf⟩ := hf
    refine hm_iald (v := (I 4 a1.toNatClampNeg)) hX dX14_holds_25 (by decide) rfl rfl g rfl ?_
    refine hv_icmp_ge (tgt := 145) hX dX14_holds_26 (by decide) (fun c2 => ?_) (fun c2 => ?_)
    · replace hf := hf.1 c2
      refine hv_aload_n hX dX14_holds_145 rfl 0 rfl ?_
      refine hm_getR hX dX14_holds_146 mfl97 24 rfl ?_
      refine hv_iconst (v := 0) hX ic_0 dX14_holds_149 ?_
      refine hm_iald (v := (I 24 (0 : Int32).toNatClampNeg)) hX dX14_holds_150 (by decide) rfl rfl (vp_in_iff.mpr (by decide)) rfl ?_
      refine hv_iconst (v := 1) hX ic_1 dX14_holds_151 ?_
      refine hv_icmp_ne (tgt := 159) hX dX14_holds_152 (by decide) (fun c3 => ?_) (fun c3 => ?_)
      · replace hf := hf.2 c3
        refine hv_iconst (v := 0) hX ic_0 dX14_holds_159 ?_
        exact hm_zret hX hE dX14_holds_160 (by decide) hf
      · replace hf := hf.1 c3
        refine hv_iconst (v := 1) hX ic_1 dX14_holds_155 ?_
        refine hv_goto (tgt := 160) hX dX14_holds_156 (by decide) ?_
        exact hm_zret hX hE dX14_holds_160 (by decide) hf
    · replace hf := hf.2 c2
      refine hv_aload_n hX dX14_holds_29 rfl 0 rfl ?_
      refine hm_getR hX dX14_holds_30 mfl35 6 rfl ?_
      refine hv_iload_n hX dX14_holds_33 rfl 3 rfl ?_
      obtain ⟨g, hf⟩ := hf
      refine hm_iald (v := (I 6 a3.toNatClampNeg)) hX dX14_holds_34 (by decide) rfl rfl g rfl ?_
      refine hv_istore (loc2 := [(4, .int (I 6 a3.toNatClampNeg)), (0, .ref 0), (1, .int a1), (2, .int a2), (3, .int a3)]) hX dX14_holds_35 hN (Nat.le_of_ble_eq_true rfl) rfl ?_
      refine hv_iload hX dX14_holds_37 0 rfl ?_
      refine hv_bipush (v := 7) hX bi_7 dX14_holds_39 ?_
      refine hv_icmp_ne (tgt := 65) hX dX14_holds_41 (by decide) (fun c4 => ?_) (fun c4 => ?_)
      · replace hf := hf.2 c4
        refine hv_iload hX dX14_holds_65 0 rfl ?_
        refine hv_bipush (v := 8) hX bi_8 dX14_holds_67 ?_
        refine hv_icmp_eq (tgt := 91) hX dX14_holds_69 (by decide) (fun c5 => ?_) (fun c5 => ?_)
        · replace hf := hf.1 c5
          refine hv_fewer [1, 2, 3, 4, 0] (loc2 := [(0, .ref 0), (1, .int a1), (2, .int a2), (3, .int a3), (4, .int (I 6 a3.toNatClampNeg))]) rfl ?_
          exact w_holds_j91 hX hN hE ih _ _ _ _ _ _ hf
        · replace hf := hf.2 c5
          refine hv_iload hX dX14_holds_72 0 rfl ?_
          refine hv_bipush (v := 9) hX bi_9 dX14_holds_74 ?_
          refine hv_icmp_eq (tgt := 91) hX dX14_holds_76 (by decide) (fun c9 => ?_) (fun c9 => ?_)
          · replace hf := hf.1 c9
            refine hv_fewer [1, 2, 3, 4, 0] (loc2 := [(0, .ref 0), (1, .int a1), (2, .int a2), (3, .int a3), (4, .int (I 6 a3.toNatClampNeg))]) rfl ?_
            exact w_holds_j91 hX hN hE ih _ _ _ _ _ _ hf
          · replace hf := hf.2 c9
            refine hv_iload hX dX14_holds_79 0 rfl ?_
            refine hv_bipush (v := 15) hX bi_15 dX14_holds_81 ?_
            refine hv_bipush (v := 17) hX bi_17 dX14_holds_83 ?_
            refine hm_callSi hX dX14_holds_85 (ct_in (I 6 a3.toNatClampNeg) 15 17 I J _ hf) (gd_in q1923) np_in rfl rfl ⟨Nat.le_of_ble_eq_true rfl, Nat.le_of_ble_eq_true rfl⟩ ⟨Nat.le_refl _, Nat.le_refl _⟩ (Nat.le_of_ble_eq_true rfl) ?_
            intro r10 I11 J12 hf
            refine hv_if_eq (tgt := 124) hX dX14_holds_88 (by decide) (fun c13 => ?_) (fun c13 => ?_)
            · replace hf := hf.1 c13
              refine hv_aload_n hX dX14_holds_124 rfl 1 rfl ?_
              refine hm_getR hX dX14_holds_125 mfl97 24 rfl ?_
              refine hv_iload_n hX dX14_holds_128 rfl 3 rfl ?_
              refine hv_aload_n hX dX14_holds_129 rfl 1 rfl ?_
              refine hv_iload hX dX14_holds_130 0 rfl ?_
              refine hm_callVi hX dX14_holds_132 (ct_valueOf (I 6 a3.toNatClampNeg) I11 J12 _ hf) (gd_valueOf q2246) np_valueOf rfl rfl ⟨Nat.le_of_ble_eq_true rfl, Nat.le_of_ble_eq_true rfl⟩ ⟨Nat.le_refl _, Nat.le_refl _⟩ (Nat.le_of_ble_eq_true rfl) ?_
              intro r14 I15 J16 hf
              obtain ⟨g, hf⟩ := hf
              refine hm_iast hX dX14_holds_135 (by decide) rfl rfl g ?_
              refine hv_iinc (v := (a2 + 1)) (loc2 := [(2, .int (a2 + 1)), (4, .int (I 6 a3.toNatClampNeg)), (0, .ref 0), (1, .int a1), (3, .int a3)]) hX dX14_holds_136 3 rfl (congrArg (fun y => a2 + y) ic_1) hN (Nat.le_of_ble_eq_true rfl) rfl ?_
              refine hv_fewer [2, 3, 0, 4] (loc2 := [(0, .ref 0), (1, .int a1), (2, .int (a2 + 1)), (3, .int a3)]) rfl ?_
              exact w_holds_j139 hX hN hE ih _ _ _ _ _ hf
            · replace hf := hf.2 c13
              refine hv_fewer [1, 2, 3, 4, 0] (loc2 := [(0, .ref 0), (1, .int a1), (2, .int a2), (3, .int a3), (4, .int (I 6 a3.toNatClampNeg))]) rfl ?_
              exact w_holds_j91 hX hN hE ih _ _ _ _ _ _ hf
      · replace hf := hf.1 c4
        refine hv_aload_n hX dX14_holds_44 rfl 1 rfl ?_
        refine hm_getR hX dX14_holds_45 mfl97 24 rfl ?_
        refine hv_iload_n hX dX14_holds_48 rfl 3 rfl ?_
        refine hv_iconst (v := 1) hX ic_1 dX14_holds_49 ?_
        refine hv_isub hX dX14_holds_50 ?_
        refine hv_iconst (v := 1) hX ic_1 dX14_holds_51 ?_
        refine hv_aload_n hX dX14_holds_52 rfl 1 rfl ?_
        refine hm_getR hX dX14_holds_53 mfl97 24 rfl ?_
        refine hv_iload_n hX dX14_holds_56 rfl 3 rfl ?_
        refine hv_iconst (v := 1) hX ic_1 dX14_holds_57 ?_
        refine hv_isub hX dX14_holds_58 ?_
        obtain ⟨g, hf⟩ := hf
        refine hm_iald (v := (I 24 (a2 - 1).toNatClampNeg)) hX dX14_holds_59 (by decide) rfl rfl g rfl ?_
        refine hv_isub hX dX14_holds_60 ?_
        obtain ⟨g, hf⟩ := hf
        refine hm_iast hX dX14_holds_61 (by decide) rfl rfl g ?_
        refine hv_goto (tgt := 139) hX dX14_holds_62 (by decide) ?_
        refine hv_fewer [1, 2, 3, 4] (loc2 := [(0, .ref 0), (1, .int a1), (2, .int a2), (3, .int a3)]) rfl ?_
        exact w_holds_j139 hX hN hE ih _ _ _ _ _ hf
def m_holds_j18 (Q : Int32 → mI → mJ → Prop) (a1 : Int32) (a2 : Int32) (s0 : Int32) (I : mI) (J : mJ) : Prop :=
  ∃ n0 : Nat, m_holds_l19 Q  n0 a1 a2 s0 I J
theorem w_holds_j18 {X : hh_CX} {Q : Int32 → mI → mJ → Prop} (hX : hh_C X cX14_holds RX14 (hrm 3 65)) (hN : hh_nL X = 5) (hE : hh_E X (some .boolean) (mQi Q) 0 0) : ∀ (a1 : Int32) (a2 : Int32) (s0 : Int32) (I : mI) (J : mJ), m_holds_j18 Q  a1 a2 s0 I J → hh_V X 18 [(0, .ref 0), (1, .int a1), (2, .int a2)] [.int s0] 0 0 (hm I J) := by
  intro a1 a2 s0 I J hf
  unfold m_holds_j18 at hf
  refine hv_istore_n (loc2 := [(3, .int s0), (0, .ref 0), (1, .int a1), (2, .int a2)]) hX dX14_holds_18 rfl hN (Nat.le_of_ble_eq_true rfl) rfl ?_
  refine hv_fewer [1, 2, 3, 0] (loc2 := [(0, .ref 0), (1, .int a1), (2, .int a2), (3, .int s0)]) rfl ?_
  obtain ⟨n0, hf⟩ := hf
  exact w_holds_l19 hX hN hE  n0 _ _ _ _ _ hf
def m_holds (a1 : Int32) (I : mI) (J : mJ) (Q : Int32 → mI → mJ → Prop) : Prop :=
  (a1 = 0 →
    m_holds_j18 Q  a1 0 0 I J) ∧ (¬ a1 = 0 →
    vp_in (a1 - 1) 6 ∧ (m_holds_j18 Q  a1 0 (I 4 (a1 - 1).toNatClampNeg) I J))
theorem ct_holds (a1 : Int32) (I : mI) (J : mJ) (Q : Int32 → mI → mJ → Prop) (hf : m_holds a1 I J Q) : hh_Ct yX14_holds cX14_holds 5 (some .boolean) 3 65 [.ref 0, .int a1] (hm I J) (mQi Q) 0 0 := by
  refine hh_Ct.of (own := RX14) rfl (by decide +kernel) (Nat.le_of_ble_eq_true rfl) ?_
  intro X hX hN hE
  show hh_V X 0 [(0, .ref 0), (1, .int a1)] [] 0 0 (hm I J)
  unfold m_holds at hf
  refine hv_iconst (v := 0) hX ic_0 dX14_holds_0 ?_
  refine hv_istore_n (loc2 := [(2, .int 0), (0, .ref 0), (1, .int a1)]) hX dX14_holds_1 rfl hN (Nat.le_of_ble_eq_true rfl) rfl ?_
  refine hv_iload_n hX dX14_holds_2 rfl 2 rfl ?_
  refine hv_if_ne (tgt := 10) hX dX14_holds_3 (by decide) (fun c1 => ?_) (fun c1 => ?_)
  · replace hf := hf.2 c1
    refine hv_aload_n hX dX14_holds_10 rfl 1 rfl ?_
    refine hm_getR hX dX14_holds_11 mfl29 4 rfl ?_
    refine hv_iload_n hX dX14_holds_14 rfl 2 rfl ?_
    refine hv_iconst (v := 1) hX ic_1 dX14_holds_15 ?_
    refine hv_isub hX dX14_holds_16 ?_
    obtain ⟨g, hf⟩ := hf
    refine hm_iald (v := (I 4 (a1 - 1).toNatClampNeg)) hX dX14_holds_17 (by decide) rfl rfl g rfl ?_
    refine hv_fewer [1, 2, 0] (loc2 := [(0, .ref 0), (1, .int a1), (2, .int 0)]) rfl ?_
    exact w_holds_j18 hX hN hE  _ _ _ _ _ hf
  · replace hf := hf.1 c1
    refine hv_iconst (v := 0) hX ic_0 dX14_holds_6 ?_
    refine hv_goto (tgt := 18) hX dX14_holds_7 (by decide) ?_
    refine hv_fewer [1, 2, 0] (loc2 := [(0, .ref 0), (1, .int a1), (2, .int 0)]) rfl ?_
    exact w_holds_j18 hX hN hE  _ _ _ _ _ hf
theorem np_holds : yX14_holds.cls = RX14 ∧ yX14_holds.cls ≠ "java/lang/invoke/MethodHandle" ∧ yX14_holds.cls ≠ "java/lang/invoke/VarHandle" ∧ (parseMethodDescriptor yX14_holds.desc).map (fun d => d.parameters.length) = some 1 := by decide +kernel
theorem gd_holds {idx : Nat} (h : Cond.methodLink RX14 idx yX14_holds ∈ lw_all) : GoodIn lw_all (wsV RX14 idx RX14 yX14_holds (ws_ yX14_holds cX14_holds 5 (some .boolean))) := lw_V h q2241 qs88 q123 q2242
/-! clauseThere()I -/
def m_clauseThere_j45 (Q : Int32 → mI → mJ → Prop) (k2 : Int32 → mI → mJ → Prop) (a1 : Int32) (I : mI) (J : mJ) : Prop :=
  k2 (a1 + 1) I J
theorem w_clauseThere_j45 {X : hh_CX} {Q : Int32 → mI → mJ → Prop} (hX : hh_C X cX14_clauseThere RX14 (hrm 4 92)) (hN : hh_nL X = 2) (hE : hh_E X (some .int) (mQi Q) 0 0) {k2 : Int32 → mI → mJ → Prop} (hk2 : ∀ (b0 : Int32) (I : mI) (J : mJ), k2 b0 I J → hh_V X 2 [(0, .ref 0), (1, .int b0)] [] 0 0 (hm I J)) : ∀ (a1 : Int32) (I : mI) (J : mJ), m_clauseThere_j45 Q k2 a1 I J → hh_V X 45 [(0, .ref 0), (1, .int a1)] [] 0 0 (hm I J) := by
  intro a1 I J hf
  unfold m_clauseThere_j45 at hf
  refine hv_iinc (v := (a1 + 1)) (loc2 := [(1, .int (a1 + 1)), (0, .ref 0)]) hX dX14_clauseThere_45 1 rfl (congrArg (fun y => a1 + y) ic_1) hN (Nat.le_of_ble_eq_true rfl) rfl ?_
  refine hv_goto (tgt := 2) hX dX14_clauseThere_48 (by decide) ?_
  refine hv_fewer [1, 0] (loc2 := [(0, .ref 0), (1, .int (a1 + 1))]) rfl ?_
  exact hk2 _ _ _ hf
def m_clauseThere_l2 (Q : Int32 → mI → mJ → Prop) : Nat → Int32 → mI → mJ → Prop
  | 0, _, _, _ => False
  | n + 1, a1, I, J =>
    ((I 0 10) ≤ a1 →
      Q (-1) I J) ∧ (¬ (I 0 10) ≤ a1 →
      m_holds a1 I J (fun r2 I3 J4 => (r2 = 0 →
        m_clauseThere_j45 Q (fun b0 I J => m_clauseThere_l2 Q n b0 I J) a1 I3 J4) ∧ (¬ r2 = 0 →
        vp_in a1 6 ∧ (m_leads (I3 0 51) (I3 0 52) (I3 0 53) (I3 5 a1.toNatClampNeg) I3 J4 (fun r6 I7 J8 => (r6 = 0 →
          m_clauseThere_j45 Q (fun b0 I J => m_clauseThere_l2 Q n b0 I J) a1 I7 J8) ∧ (¬ r6 = 0 →
          Q a1 I7 J8))))))
theorem w_clauseThere_l2 {X : hh_CX} {Q : Int32 → mI → mJ → Prop} (hX : hh_C X cX14_clauseThere RX14 (hrm 4 92)) (hN : hh_nL X = 2) (hE : hh_E X (some .int) (mQi Q) 0 0) : ∀ (n : Nat) (a1 : Int32) (I : mI) (J : mJ), m_clauseThere_l2 Q  n a1 I J → hh_V X 2 [(0, .ref 0), (1, .int a1)] [] 0 0 (hm I J) := by
  intro n
  induction n with
  | zero => intro _ _ _ hf; exact hf.elim
  | succ n ih =>
    intro a1 I J hf
    unfold m_clauseThere_l2 at hf
    refine hv_iload_n hX dX14_clauseThere_2 rfl 1 rfl ?_
    refine hv_aload_n hX dX14_clauseThere_3 rfl 0 rfl ?_
    refine hm_getI (v := (I 0 10)) hX dX14_clauseThere_4 mfl393 (.inl rfl) rfl ?_
    refine hv_icmp_ge (tgt := 51) hX dX14_clauseThere_7 (by decide) (fun c1 => ?_) (fun c1 => ?_)
    · replace hf := hf.1 c1
      refine hv_iconst (v := (-1)) hX ic_m1 dX14_clauseThere_51 ?_
      exact hm_iret hX hE dX14_clauseThere_52 hf
    · replace hf := hf.2 c1
      refine hv_aload_n hX dX14_clauseThere_10 rfl 0 rfl ?_
      refine hv_iload_n hX dX14_clauseThere_11 rfl 1 rfl ?_
      refine hm_callVi hX dX14_clauseThere_12 (ct_holds a1 I J _ hf) (gd_holds q2239) np_holds rfl rfl ⟨Nat.le_of_ble_eq_true rfl, Nat.le_of_ble_eq_true rfl⟩ ⟨Nat.le_refl _, Nat.le_refl _⟩ (Nat.le_of_ble_eq_true rfl) ?_
      intro r2 I3 J4 hf
      refine hv_if_eq (tgt := 45) hX dX14_clauseThere_15 (by decide) (fun c5 => ?_) (fun c5 => ?_)
      · replace hf := hf.1 c5
        exact w_clauseThere_j45 hX hN hE ih _ _ _ hf
      · replace hf := hf.2 c5
        refine hv_aload_n hX dX14_clauseThere_18 rfl 0 rfl ?_
        refine hv_aload_n hX dX14_clauseThere_19 rfl 0 rfl ?_
        refine hm_getI (v := (I3 0 51)) hX dX14_clauseThere_20 mfl402 (.inl rfl) rfl ?_
        refine hv_aload_n hX dX14_clauseThere_23 rfl 0 rfl ?_
        refine hm_getI (v := (I3 0 52)) hX dX14_clauseThere_24 mfl399 (.inl rfl) rfl ?_
        refine hv_aload_n hX dX14_clauseThere_27 rfl 0 rfl ?_
        refine hm_getI (v := (I3 0 53)) hX dX14_clauseThere_28 mfl396 (.inl rfl) rfl ?_
        refine hv_aload_n hX dX14_clauseThere_31 rfl 0 rfl ?_
        refine hm_getR hX dX14_clauseThere_32 mfl32 5 rfl ?_
        refine hv_iload_n hX dX14_clauseThere_35 rfl 1 rfl ?_
        obtain ⟨g, hf⟩ := hf
        refine hm_iald (v := (I3 5 a1.toNatClampNeg)) hX dX14_clauseThere_36 (by decide) rfl rfl g rfl ?_
        refine hm_callVi hX dX14_clauseThere_37 (ct_leads (I3 0 51) (I3 0 52) (I3 0 53) (I3 5 a1.toNatClampNeg) I3 J4 _ hf) (gd_leads q1991) np_leads rfl rfl ⟨Nat.le_of_ble_eq_true rfl, Nat.le_of_ble_eq_true rfl⟩ ⟨Nat.le_refl _, Nat.le_refl _⟩ (Nat.le_of_ble_eq_true rfl) ?_
        intro r6 I7 J8 hf
        refine hv_if_eq (tgt := 45) hX dX14_clauseThere_40 (by decide) (fun c9 => ?_) (fun c9 => ?_)
        · replace hf := hf.1 c9
          exact w_clauseThere_j45 hX hN hE ih _ _ _ hf
        · replace hf := hf.2 c9
          refine hv_iload_n hX dX14_clauseThere_43 rfl 1 rfl ?_
          exact hm_iret hX hE dX14_clauseThere_44 hf
def m_clauseThere  (I : mI) (J : mJ) (Q : Int32 → mI → mJ → Prop) : Prop :=
  ∃ n0 : Nat, m_clauseThere_l2 Q  n0 0 I J
theorem ct_clauseThere  (I : mI) (J : mJ) (Q : Int32 → mI → mJ → Prop) (hf : m_clauseThere  I J Q) : hh_Ct yX14_clauseThere cX14_clauseThere 2 (some .int) 4 92 [.ref 0] (hm I J) (mQi Q) 0 0 := by
  refine hh_Ct.of (own := RX14) rfl (by decide +kernel) (Nat.le_of_ble_eq_true rfl) ?_
  intro X hX hN hE
  show hh_V X 0 [(0, .ref 0)] [] 0 0 (hm I J)
  unfold m_clauseThere at hf
  refine hv_iconst (v := 0) hX ic_0 dX14_clauseThere_0 ?_
  refine hv_istore_n (loc2 := [(1, .int 0), (0, .ref 0)]) hX dX14_clauseThere_1 rfl hN (Nat.le_of_ble_eq_true rfl) rfl ?_
  refine hv_fewer [1, 0] (loc2 := [(0, .ref 0), (1, .int 0)]) rfl ?_
  obtain ⟨n0, hf⟩ := hf
  exact w_clauseThere_l2 hX hN hE  n0 _ _ _ hf
theorem np_clauseThere : yX14_clauseThere.cls = RX14 ∧ yX14_clauseThere.cls ≠ "java/lang/invoke/MethodHandle" ∧ yX14_clauseThere.cls ≠ "java/lang/invoke/VarHandle" ∧ (parseMethodDescriptor yX14_clauseThere.desc).map (fun d => d.parameters.length) = some 0 := by decide +kernel
theorem gd_clauseThere {idx : Nat} (h : Cond.methodLink RX14 idx yX14_clauseThere ∈ lw_all) : GoodIn lw_all (wsV RX14 idx RX14 yX14_clauseThere (ws_ yX14_clauseThere cX14_clauseThere 2 (some .int))) := lw_V h q2237 qs87 q123 q2238
/-! ruledThere()I -/
def m_ruledThere  (I : mI) (J : mJ) (Q : Int32 → mI → mJ → Prop) : Prop :=
  m_clauseThere  I J (fun r1 I2 J3 => (r1 < 0 →
    m_leads (I2 0 51) (I2 0 52) (I2 0 53) (-1) I2 J3 (fun r5 I6 J7 => (r5 = 0 →
      Q (-9) I6 J7) ∧ (¬ r5 = 0 →
      Q (-1) I6 J7))) ∧ (¬ r1 < 0 →
    vp_in r1 6 ∧ (Q (I2 5 r1.toNatClampNeg) I2 J3)))
theorem ct_ruledThere  (I : mI) (J : mJ) (Q : Int32 → mI → mJ → Prop) (hf : m_ruledThere  I J Q) : hh_Ct yX14_ruledThere cX14_ruledThere 2 (some .int) 5 113 [.ref 0] (hm I J) (mQi Q) 0 0 := by
  refine hh_Ct.of (own := RX14) rfl (by decide +kernel) (Nat.le_of_ble_eq_true rfl) ?_
  intro X hX hN hE
  show hh_V X 0 [(0, .ref 0)] [] 0 0 (hm I J)
  unfold m_ruledThere at hf
  refine hv_aload_n hX dX14_ruledThere_0 rfl 0 rfl ?_
  refine hm_callVi hX dX14_ruledThere_1 (ct_clauseThere  I J _ hf) (gd_clauseThere q2235) np_clauseThere rfl rfl ⟨Nat.le_of_ble_eq_true rfl, Nat.le_of_ble_eq_true rfl⟩ ⟨Nat.le_refl _, Nat.le_refl _⟩ (Nat.le_of_ble_eq_true rfl) ?_
  intro r1 I2 J3 hf
  refine hv_istore_n (loc2 := [(1, .int r1), (0, .ref 0)]) hX dX14_ruledThere_4 rfl hN (Nat.le_of_ble_eq_true rfl) rfl ?_
  refine hv_iload_n hX dX14_ruledThere_5 rfl 0 rfl ?_
  refine hv_if_lt (tgt := 16) hX dX14_ruledThere_6 (by decide) (fun c4 => ?_) (fun c4 => ?_)
  · replace hf := hf.1 c4
    refine hv_aload_n hX dX14_ruledThere_16 rfl 1 rfl ?_
    refine hv_aload_n hX dX14_ruledThere_17 rfl 1 rfl ?_
    refine hm_getI (v := (I2 0 51)) hX dX14_ruledThere_18 mfl402 (.inl rfl) rfl ?_
    refine hv_aload_n hX dX14_ruledThere_21 rfl 1 rfl ?_
    refine hm_getI (v := (I2 0 52)) hX dX14_ruledThere_22 mfl399 (.inl rfl) rfl ?_
    refine hv_aload_n hX dX14_ruledThere_25 rfl 1 rfl ?_
    refine hm_getI (v := (I2 0 53)) hX dX14_ruledThere_26 mfl396 (.inl rfl) rfl ?_
    refine hv_iconst (v := (-1)) hX ic_m1 dX14_ruledThere_29 ?_
    refine hm_callVi hX dX14_ruledThere_30 (ct_leads (I2 0 51) (I2 0 52) (I2 0 53) (-1) I2 J3 _ hf) (gd_leads q1991) np_leads rfl rfl ⟨Nat.le_of_ble_eq_true rfl, Nat.le_of_ble_eq_true rfl⟩ ⟨Nat.le_refl _, Nat.le_refl _⟩ (Nat.le_of_ble_eq_true rfl) ?_
    intro r5 I6 J7 hf
    refine hv_if_eq (tgt := 40) hX dX14_ruledThere_33 (by decide) (fun c8 => ?_) (fun c8 => ?_)
    · replace hf := hf.1 c8
      refine hv_bipush (v := (-9)) hX bi_m9 dX14_ruledThere_40 ?_
      exact hm_iret hX hE dX14_ruledThere_42 hf
    · replace hf := hf.2 c8
      refine hv_iconst (v := (-1)) hX ic_m1 dX14_ruledThere_36 ?_
      refine hv_goto (tgt := 42) hX dX14_ruledThere_37 (by decide) ?_
      exact hm_iret hX hE dX14_ruledThere_42 hf
  · replace hf := hf.2 c4
    refine hv_aload_n hX dX14_ruledThere_9 rfl 1 rfl ?_
    refine hm_getR hX dX14_ruledThere_10 mfl32 5 rfl ?_
    refine hv_iload_n hX dX14_ruledThere_13 rfl 0 rfl ?_
    obtain ⟨g, hf⟩ := hf
    refine hm_iald (v := (I2 5 r1.toNatClampNeg)) hX dX14_ruledThere_14 (by decide) rfl rfl g rfl ?_
    exact hm_iret hX hE dX14_ruledThere_15 hf
theorem np_ruledThere : yX14_ruledThere.cls = RX14 ∧ yX14_ruledThere.cls ≠ "java/lang/invoke/MethodHandle" ∧ yX14_ruledThere.cls ≠ "java/lang/invoke/VarHandle" ∧ (parseMethodDescriptor yX14_ruledThere.desc).map (fun d => d.parameters.length) = some 0 := by decide +kernel
theorem gd_ruledThere {idx : Nat} (h : Cond.methodLink RX14 idx yX14_ruledThere ∈ lw_all) : GoodIn lw_all (wsV RX14 idx RX14 yX14_ruledThere (ws_ yX14_ruledThere cX14_ruledThere 2 (some .int))) := lw_V h q2233 qs86 q123 q2234
/-! ruled()I -/
def m_ruled  (I : mI) (J : mJ) (Q : Int32 → mI → mJ → Prop) : Prop :=
  m_askHere  I J (fun  I1 J2 => m_ruledThere  I1 J2 (fun r3 I4 J5 => Q r3 I4 J5))
theorem ct_ruled  (I : mI) (J : mJ) (Q : Int32 → mI → mJ → Prop) (hf : m_ruled  I J Q) : hh_Ct yX14_ruled cX14_ruled 1 (some .int) 6 134 [.ref 0] (hm I J) (mQi Q) 0 0 := by
  refine hh_Ct.of (own := RX14) rfl (by decide +kernel) (Nat.le_of_ble_eq_true rfl) ?_
  intro X hX hN hE
  show hh_V X 0 [(0, .ref 0)] [] 0 0 (hm I J)
  unfold m_ruled at hf
  refine hv_aload_n hX dX14_ruled_0 rfl 0 rfl ?_
  refine hm_callVv hX dX14_ruled_1 (ct_askHere  I J _ hf) (gd_askHere q2227) np_askHere rfl rfl ⟨Nat.le_of_ble_eq_true rfl, Nat.le_of_ble_eq_true rfl⟩ ⟨Nat.le_refl _, Nat.le_refl _⟩ (Nat.le_of_ble_eq_true rfl) ?_
  intro  I1 J2 hf
  refine hv_aload_n hX dX14_ruled_4 rfl 0 rfl ?_
  refine hm_callVi hX dX14_ruled_5 (ct_ruledThere  I1 J2 _ hf) (gd_ruledThere q2231) np_ruledThere rfl rfl ⟨Nat.le_of_ble_eq_true rfl, Nat.le_of_ble_eq_true rfl⟩ ⟨Nat.le_refl _, Nat.le_refl _⟩ (Nat.le_of_ble_eq_true rfl) ?_
  intro r3 I4 J5 hf
  exact hm_iret hX hE dX14_ruled_8 hf
theorem np_ruled : yX14_ruled.cls = RX14 ∧ yX14_ruled.cls ≠ "java/lang/invoke/MethodHandle" ∧ yX14_ruled.cls ≠ "java/lang/invoke/VarHandle" ∧ (parseMethodDescriptor yX14_ruled.desc).map (fun d => d.parameters.length) = some 0 := by decide +kernel
theorem gd_ruled {idx : Nat} (h : Cond.methodLink RX14 idx yX14_ruled ∈ lw_all) : GoodIn lw_all (wsV RX14 idx RX14 yX14_ruled (ws_ yX14_ruled cX14_ruled 1 (some .int))) := lw_V h q2224 q2225 q123 q2226
/-! clause()I -/
def m_clause  (I : mI) (J : mJ) (Q : Int32 → mI → mJ → Prop) : Prop :=
  m_askHere  I J (fun  I1 J2 => m_clauseThere  I1 J2 (fun r3 I4 J5 => ((0 : Int32) ≤ r3 →
    Q r3 I4 J5) ∧ (¬ (0 : Int32) ≤ r3 →
    Q (-3) I4 J5)))
theorem ct_clause  (I : mI) (J : mJ) (Q : Int32 → mI → mJ → Prop) (hf : m_clause  I J Q) : hh_Ct yX14_clause cX14_clause 2 (some .int) 5 113 [.ref 0] (hm I J) (mQi Q) 0 0 := by
  refine hh_Ct.of (own := RX14) rfl (by decide +kernel) (Nat.le_of_ble_eq_true rfl) ?_
  intro X hX hN hE
  show hh_V X 0 [(0, .ref 0)] [] 0 0 (hm I J)
  unfold m_clause at hf
  refine hv_aload_n hX dX14_clause_0 rfl 0 rfl ?_
  refine hm_callVv hX dX14_clause_1 (ct_askHere  I J _ hf) (gd_askHere q2227) np_askHere rfl rfl ⟨Nat.le_of_ble_eq_true rfl, Nat.le_of_ble_eq_true rfl⟩ ⟨Nat.le_refl _, Nat.le_refl _⟩ (Nat.le_of_ble_eq_true rfl) ?_
  intro  I1 J2 hf
  refine hv_aload_n hX dX14_clause_4 rfl 0 rfl ?_
  refine hm_callVi hX dX14_clause_5 (ct_clauseThere  I1 J2 _ hf) (gd_clauseThere q2235) np_clauseThere rfl rfl ⟨Nat.le_of_ble_eq_true rfl, Nat.le_of_ble_eq_true rfl⟩ ⟨Nat.le_refl _, Nat.le_refl _⟩ (Nat.le_of_ble_eq_true rfl) ?_
  intro r3 I4 J5 hf
  refine hv_istore_n (loc2 := [(1, .int r3), (0, .ref 0)]) hX dX14_clause_8 rfl hN (Nat.le_of_ble_eq_true rfl) rfl ?_
  refine hv_iload_n hX dX14_clause_9 rfl 0 rfl ?_
  refine hv_if_ge (tgt := 18) hX dX14_clause_10 (by decide) (fun c6 => ?_) (fun c6 => ?_)
  · replace hf := hf.1 c6
    refine hv_iload_n hX dX14_clause_18 rfl 0 rfl ?_
    exact hm_iret hX hE dX14_clause_19 hf
  · replace hf := hf.2 c6
    refine hv_bipush (v := (-3)) hX bi_m3 dX14_clause_13 ?_
    refine hv_goto (tgt := 19) hX dX14_clause_15 (by decide) ?_
    exact hm_iret hX hE dX14_clause_19 hf
theorem np_clause : yX14_clause.cls = RX14 ∧ yX14_clause.cls ≠ "java/lang/invoke/MethodHandle" ∧ yX14_clause.cls ≠ "java/lang/invoke/VarHandle" ∧ (parseMethodDescriptor yX14_clause.desc).map (fun d => d.parameters.length) = some 0 := by decide +kernel
theorem gd_clause {idx : Nat} (h : Cond.methodLink RX14 idx yX14_clause ∈ lw_all) : GoodIn lw_all (wsV RX14 idx RX14 yX14_clause (ws_ yX14_clause cX14_clause 2 (some .int))) := lw_V h q2251 q2252 q123 q2253
/-! run()I -/
def m_run_j83 (Q : Int32 → mI → mJ → Prop) (k9 : Int32 → mI → mJ → Prop) (s0 : Int32) (I : mI) (J : mJ) : Prop :=
  k9 s0 I J
theorem w_run_j83 {X : hh_CX} {Q : Int32 → mI → mJ → Prop} (hX : hh_C X cX14_run RX14 (hrm 6 134)) (hN : hh_nL X = 3) (hE : hh_E X (some .int) (mQi Q) 0 0) {k9 : Int32 → mI → mJ → Prop} (hk9 : ∀ (b0 : Int32) (I : mI) (J : mJ), k9 b0 I J → hh_V X 9 [(0, .ref 0), (1, .int b0)] [] 0 0 (hm I J)) : ∀ (s0 : Int32) (I : mI) (J : mJ), m_run_j83 Q k9 s0 I J → hh_V X 83 [(0, .ref 0)] [.int s0] 0 0 (hm I J) := by
  intro s0 I J hf
  unfold m_run_j83 at hf
  refine hv_istore_n (loc2 := [(1, .int s0), (0, .ref 0)]) hX dX14_run_83 rfl hN (Nat.le_of_ble_eq_true rfl) rfl ?_
  refine hv_goto (tgt := 9) hX dX14_run_84 (by decide) ?_
  refine hv_fewer [1, 0] (loc2 := [(0, .ref 0), (1, .int s0)]) rfl ?_
  exact hk9 _ _ _ hf
def m_run_l9 (Q : Int32 → mI → mJ → Prop) : Nat → Int32 → mI → mJ → Prop
  | 0, _, _, _ => False
  | n + 1, a1, I, J =>
    (a1 = (-9) →
      Q ((I 0 54) - (I 0 1)) I J) ∧ (¬ a1 = (-9) →
      m_leads (I 0 51) (I 0 52) (I 0 53) a1 I J (fun r7 I8 J9 => (r7 = 0 →
        m_run_j83 Q (fun b0 I J => m_run_l9 Q n b0 I J) (-9) (u2 (u2 (u2 (u2 I8 0 51 (I8 0 19)) 0 52 (I8 0 20)) 0 53 (I8 0 21)) 0 54 ((I8 0 54) + (I8 0 22))) J9) ∧ (¬ r7 = 0 →
        m_ruledThere  (u2 (u2 (u2 (u2 I8 0 51 (I8 0 19)) 0 52 (I8 0 20)) 0 53 (I8 0 21)) 0 54 ((I8 0 54) + (I8 0 22))) J9 (fun r11 I12 J13 => m_run_j83 Q (fun b0 I J => m_run_l9 Q n b0 I J) r11 I12 J13))))
theorem w_run_l9 {X : hh_CX} {Q : Int32 → mI → mJ → Prop} (hX : hh_C X cX14_run RX14 (hrm 6 134)) (hN : hh_nL X = 3) (hE : hh_E X (some .int) (mQi Q) 0 0) : ∀ (n : Nat) (a1 : Int32) (I : mI) (J : mJ), m_run_l9 Q  n a1 I J → hh_V X 9 [(0, .ref 0), (1, .int a1)] [] 0 0 (hm I J) := by
  intro n
  induction n with
  | zero => intro _ _ _ hf; exact hf.elim
  | succ n ih =>
    intro a1 I J hf
    unfold m_run_l9 at hf
    refine hv_iload_n hX dX14_run_9 rfl 1 rfl ?_
    refine hv_bipush (v := (-9)) hX bi_m9 dX14_run_10 ?_
    refine hv_icmp_eq (tgt := 87) hX dX14_run_12 (by decide) (fun c6 => ?_) (fun c6 => ?_)
    · replace hf := hf.1 c6
      refine hv_aload_n hX dX14_run_87 rfl 0 rfl ?_
      refine hm_getI (v := (I 0 54)) hX dX14_run_88 mfl405 (.inl rfl) rfl ?_
      refine hv_aload_n hX dX14_run_91 rfl 0 rfl ?_
      refine hm_getI (v := (I 0 1)) hX dX14_run_92 mfl172 (.inl rfl) rfl ?_
      refine hv_isub hX dX14_run_95 ?_
      exact hm_iret hX hE dX14_run_96 hf
    · replace hf := hf.2 c6
      refine hv_aload_n hX dX14_run_15 rfl 0 rfl ?_
      refine hv_aload_n hX dX14_run_16 rfl 0 rfl ?_
      refine hm_getI (v := (I 0 51)) hX dX14_run_17 mfl402 (.inl rfl) rfl ?_
      refine hv_aload_n hX dX14_run_20 rfl 0 rfl ?_
      refine hm_getI (v := (I 0 52)) hX dX14_run_21 mfl399 (.inl rfl) rfl ?_
      refine hv_aload_n hX dX14_run_24 rfl 0 rfl ?_
      refine hm_getI (v := (I 0 53)) hX dX14_run_25 mfl396 (.inl rfl) rfl ?_
      refine hv_iload_n hX dX14_run_28 rfl 1 rfl ?_
      refine hm_callVi hX dX14_run_29 (ct_leads (I 0 51) (I 0 52) (I 0 53) a1 I J _ hf) (gd_leads q1991) np_leads rfl rfl ⟨Nat.le_of_ble_eq_true rfl, Nat.le_of_ble_eq_true rfl⟩ ⟨Nat.le_refl _, Nat.le_refl _⟩ (Nat.le_of_ble_eq_true rfl) ?_
      intro r7 I8 J9 hf
      refine hv_istore_n (loc2 := [(2, .int r7), (0, .ref 0), (1, .int a1)]) hX dX14_run_32 rfl hN (Nat.le_of_ble_eq_true rfl) rfl ?_
      refine hv_aload_n hX dX14_run_33 rfl 1 rfl ?_
      refine hv_aload_n hX dX14_run_34 rfl 1 rfl ?_
      refine hm_getI (v := (I8 0 19)) hX dX14_run_35 mfl187 (.inl rfl) rfl ?_
      refine hm_putI hX dX14_run_38 mfl402 ?_
      refine hv_aload_n hX dX14_run_41 rfl 1 rfl ?_
      refine hv_aload_n hX dX14_run_42 rfl 1 rfl ?_
      refine hm_getI (v := (I8 0 20)) hX dX14_run_43 mfl181 (.inl rfl) ((u2_ne _ _ (.inr (by decide)))) ?_
      refine hm_putI hX dX14_run_46 mfl399 ?_
      refine hv_aload_n hX dX14_run_49 rfl 1 rfl ?_
      refine hv_aload_n hX dX14_run_50 rfl 1 rfl ?_
      refine hm_getI (v := (I8 0 21)) hX dX14_run_51 mfl178 (.inl rfl) ((u2_ne _ _ (.inr (by decide))) |>.trans (u2_ne _ _ (.inr (by decide)))) ?_
      refine hm_putI hX dX14_run_54 mfl396 ?_
      refine hv_aload_n hX dX14_run_57 rfl 1 rfl ?_
      refine hv_dup hX rfl dX14_run_58 ?_
      refine hm_getI (v := (I8 0 54)) hX dX14_run_59 mfl405 (.inl rfl) ((u2_ne _ _ (.inr (by decide))) |>.trans (u2_ne _ _ (.inr (by decide))) |>.trans (u2_ne _ _ (.inr (by decide)))) ?_
      refine hv_aload_n hX dX14_run_62 rfl 1 rfl ?_
      refine hm_getI (v := (I8 0 22)) hX dX14_run_63 mfl175 (.inl rfl) ((u2_ne _ _ (.inr (by decide))) |>.trans (u2_ne _ _ (.inr (by decide))) |>.trans (u2_ne _ _ (.inr (by decide)))) ?_
      refine hv_iadd hX dX14_run_66 ?_
      refine hm_putI hX dX14_run_67 mfl405 ?_
      refine hv_iload_n hX dX14_run_70 rfl 0 rfl ?_
      refine hv_if_eq (tgt := 81) hX dX14_run_71 (by decide) (fun c10 => ?_) (fun c10 => ?_)
      · replace hf := hf.1 c10
        refine hv_bipush (v := (-9)) hX bi_m9 dX14_run_81 ?_
        refine hv_fewer [1] (loc2 := [(0, .ref 0)]) rfl ?_
        exact w_run_j83 hX hN hE ih _ _ _ hf
      · replace hf := hf.2 c10
        refine hv_aload_n hX dX14_run_74 rfl 1 rfl ?_
        refine hm_callVi hX dX14_run_75 (ct_ruledThere  (u2 (u2 (u2 (u2 I8 0 51 (I8 0 19)) 0 52 (I8 0 20)) 0 53 (I8 0 21)) 0 54 ((I8 0 54) + (I8 0 22))) J9 _ hf) (gd_ruledThere q2231) np_ruledThere rfl rfl ⟨Nat.le_of_ble_eq_true rfl, Nat.le_of_ble_eq_true rfl⟩ ⟨Nat.le_refl _, Nat.le_refl _⟩ (Nat.le_of_ble_eq_true rfl) ?_
        intro r11 I12 J13 hf
        refine hv_goto (tgt := 83) hX dX14_run_78 (by decide) ?_
        refine hv_fewer [1] (loc2 := [(0, .ref 0)]) rfl ?_
        exact w_run_j83 hX hN hE ih _ _ _ hf
def m_run  (I : mI) (J : mJ) (Q : Int32 → mI → mJ → Prop) : Prop :=
  m_askHere  I J (fun  I1 J2 => m_ruledThere  I1 J2 (fun r3 I4 J5 => ∃ n0 : Nat, m_run_l9 Q  n0 r3 I4 J5))
theorem ct_run  (I : mI) (J : mJ) (Q : Int32 → mI → mJ → Prop) (hf : m_run  I J Q) : hh_Ct yX14_run cX14_run 3 (some .int) 6 134 [.ref 0] (hm I J) (mQi Q) 0 0 := by
  refine hh_Ct.of (own := RX14) rfl (by decide +kernel) (Nat.le_of_ble_eq_true rfl) ?_
  intro X hX hN hE
  show hh_V X 0 [(0, .ref 0)] [] 0 0 (hm I J)
  unfold m_run at hf
  refine hv_aload_n hX dX14_run_0 rfl 0 rfl ?_
  refine hm_callVv hX dX14_run_1 (ct_askHere  I J _ hf) (gd_askHere q2227) np_askHere rfl rfl ⟨Nat.le_of_ble_eq_true rfl, Nat.le_of_ble_eq_true rfl⟩ ⟨Nat.le_refl _, Nat.le_refl _⟩ (Nat.le_of_ble_eq_true rfl) ?_
  intro  I1 J2 hf
  refine hv_aload_n hX dX14_run_4 rfl 0 rfl ?_
  refine hm_callVi hX dX14_run_5 (ct_ruledThere  I1 J2 _ hf) (gd_ruledThere q2231) np_ruledThere rfl rfl ⟨Nat.le_of_ble_eq_true rfl, Nat.le_of_ble_eq_true rfl⟩ ⟨Nat.le_refl _, Nat.le_refl _⟩ (Nat.le_of_ble_eq_true rfl) ?_
  intro r3 I4 J5 hf
  refine hv_istore_n (loc2 := [(1, .int r3), (0, .ref 0)]) hX dX14_run_8 rfl hN (Nat.le_of_ble_eq_true rfl) rfl ?_
  refine hv_fewer [1, 0] (loc2 := [(0, .ref 0), (1, .int r3)]) rfl ?_
  obtain ⟨n0, hf⟩ := hf
  exact w_run_l9 hX hN hE  n0 _ _ _ hf
theorem np_run : yX14_run.cls = RX14 ∧ yX14_run.cls ≠ "java/lang/invoke/MethodHandle" ∧ yX14_run.cls ≠ "java/lang/invoke/VarHandle" ∧ (parseMethodDescriptor yX14_run.desc).map (fun d => d.parameters.length) = some 0 := by decide +kernel
theorem gd_run {idx : Nat} (h : Cond.methodLink RX14 idx yX14_run ∈ lw_all) : GoodIn lw_all (wsV RX14 idx RX14 yX14_run (ws_ yX14_run cX14_run 3 (some .int))) := lw_V h q2255 q2256 q123 q2257
/-! loss()I -/
def m_loss  (I : mI) (J : mJ) (Q : Int32 → mI → mJ → Prop) : Prop :=
  m_best  I J (fun r1 I2 J3 => m_run  I2 J3 (fun r4 I5 J6 => Q (r1 - r4) I5 J6))
theorem ct_loss  (I : mI) (J : mJ) (Q : Int32 → mI → mJ → Prop) (hf : m_loss  I J Q) : hh_Ct yX14_loss cX14_loss 1 (some .int) 7 156 [.ref 0] (hm I J) (mQi Q) 0 0 := by
  refine hh_Ct.of (own := RX14) rfl (by decide +kernel) (Nat.le_of_ble_eq_true rfl) ?_
  intro X hX hN hE
  show hh_V X 0 [(0, .ref 0)] [] 0 0 (hm I J)
  unfold m_loss at hf
  refine hv_aload_n hX dX14_loss_0 rfl 0 rfl ?_
  refine hm_callVi hX dX14_loss_1 (ct_best  I J _ hf) (gd_best q2262) np_best rfl rfl ⟨Nat.le_of_ble_eq_true rfl, Nat.le_of_ble_eq_true rfl⟩ ⟨Nat.le_refl _, Nat.le_refl _⟩ (Nat.le_of_ble_eq_true rfl) ?_
  intro r1 I2 J3 hf
  refine hv_aload_n hX dX14_loss_4 rfl 0 rfl ?_
  refine hm_callVi hX dX14_loss_5 (ct_run  I2 J3 _ hf) (gd_run q2263) np_run rfl rfl ⟨Nat.le_of_ble_eq_true rfl, Nat.le_of_ble_eq_true rfl⟩ ⟨Nat.le_refl _, Nat.le_refl _⟩ (Nat.le_of_ble_eq_true rfl) ?_
  intro r4 I5 J6 hf
  refine hv_isub hX dX14_loss_8 ?_
  exact hm_iret hX hE dX14_loss_9 hf
theorem np_loss : yX14_loss.cls = RX14 ∧ yX14_loss.cls ≠ "java/lang/invoke/MethodHandle" ∧ yX14_loss.cls ≠ "java/lang/invoke/VarHandle" ∧ (parseMethodDescriptor yX14_loss.desc).map (fun d => d.parameters.length) = some 0 := by decide +kernel
theorem gd_loss {idx : Nat} (h : Cond.methodLink RX14 idx yX14_loss ∈ lw_all) : GoodIn lw_all (wsV RX14 idx RX14 yX14_loss (ws_ yX14_loss cX14_loss 1 (some .int))) := lw_V h q2259 q2260 q123 q2261
/-! prove()I -/
def m_prove_j106 (Q : Int32 → mI → mJ → Prop) (k29 : Int32 → Int32 → Int32 → Int32 → mI → mJ → Prop) (s0 : Int32) (I : mI) (J : mJ) : Prop :=
  m_firstOf s0 (I 0 20) (I 0 21) I J (fun r10 I11 J12 => k29 s0 (I 0 20) (I 0 21) r10 I11 J12)
theorem w_prove_j106 {X : hh_CX} {Q : Int32 → mI → mJ → Prop} (hX : hh_C X cX14_prove RX14 (hrm 7 170)) (hN : hh_nL X = 6) (hE : hh_E X (some .int) (mQi Q) 0 0) {k29 : Int32 → Int32 → Int32 → Int32 → mI → mJ → Prop} (hk29 : ∀ (b0 : Int32) (b1 : Int32) (b2 : Int32) (b3 : Int32) (I : mI) (J : mJ), k29 b0 b1 b2 b3 I J → hh_V X 29 [(0, .ref 0), (1, .int b0), (2, .int b1), (3, .int b2), (4, .int b3)] [] 0 0 (hm I J)) : ∀ (s0 : Int32) (I : mI) (J : mJ), m_prove_j106 Q k29 s0 I J → hh_V X 106 [(0, .ref 0)] [.int s0] 0 0 (hm I J) := by
  intro s0 I J hf
  unfold m_prove_j106 at hf
  refine hv_istore_n (loc2 := [(1, .int s0), (0, .ref 0)]) hX dX14_prove_106 rfl hN (Nat.le_of_ble_eq_true rfl) rfl ?_
  refine hv_aload_n hX dX14_prove_107 rfl 1 rfl ?_
  refine hm_getI (v := (I 0 20)) hX dX14_prove_108 mfl181 (.inl rfl) rfl ?_
  refine hv_istore_n (loc2 := [(2, .int (I 0 20)), (1, .int s0), (0, .ref 0)]) hX dX14_prove_111 rfl hN (Nat.le_of_ble_eq_true rfl) rfl ?_
  refine hv_aload_n hX dX14_prove_112 rfl 2 rfl ?_
  refine hm_getI (v := (I 0 21)) hX dX14_prove_113 mfl178 (.inl rfl) rfl ?_
  refine hv_istore_n (loc2 := [(3, .int (I 0 21)), (2, .int (I 0 20)), (1, .int s0), (0, .ref 0)]) hX dX14_prove_116 rfl hN (Nat.le_of_ble_eq_true rfl) rfl ?_
  refine hv_aload_n hX dX14_prove_117 rfl 3 rfl ?_
  refine hv_iload_n hX dX14_prove_118 rfl 2 rfl ?_
  refine hv_iload_n hX dX14_prove_119 rfl 1 rfl ?_
  refine hv_iload_n hX dX14_prove_120 rfl 0 rfl ?_
  refine hm_callVi hX dX14_prove_121 (ct_firstOf s0 (I 0 20) (I 0 21) I J _ hf) (gd_firstOf q2026) np_firstOf rfl rfl ⟨Nat.le_of_ble_eq_true rfl, Nat.le_of_ble_eq_true rfl⟩ ⟨Nat.le_refl _, Nat.le_refl _⟩ (Nat.le_of_ble_eq_true rfl) ?_
  intro r10 I11 J12 hf
  refine hv_istore (loc2 := [(4, .int r10), (3, .int (I 0 21)), (2, .int (I 0 20)), (1, .int s0), (0, .ref 0)]) hX dX14_prove_124 hN (Nat.le_of_ble_eq_true rfl) rfl ?_
  refine hv_goto (tgt := 29) hX dX14_prove_126 (by decide) ?_
  refine hv_fewer [4, 3, 2, 1, 0] (loc2 := [(0, .ref 0), (1, .int s0), (2, .int (I 0 20)), (3, .int (I 0 21)), (4, .int r10)]) rfl ?_
  exact hk29 _ _ _ _ _ _ hf
def m_prove_l29 (Q : Int32 → mI → mJ → Prop) : Nat → Int32 → Int32 → Int32 → Int32 → mI → mJ → Prop
  | 0, _, _, _, _, _, _ => False
  | n + 1, a1, a2, a3, a4, I, J =>
    (a4 = (-9) →
      Q (I 0 57) I J) ∧ (¬ a4 = (-9) →
      ((20 : Int32) ≤ (I 0 57) →
        Q (I 0 57) I J) ∧ (¬ (20 : Int32) ≤ (I 0 57) →
        vp_in (2 * (I 0 57)) 40 ∧ (vp_in ((2 * (I 0 57)) + 1) 40 ∧ (m_leads a1 a2 a3 a4 (u2 (u2 (u2 I 25 (2 * (I 0 57)).toNatClampNeg a1) 25 ((2 * (I 0 57)) + 1).toNatClampNeg a4) 0 57 ((I 0 57) + 1)) J (fun r6 I7 J8 => (r6 = 0 →
          m_prove_j106 Q (fun b0 b1 b2 b3 I J => m_prove_l29 Q n b0 b1 b2 b3 I J) a1 I7 J8) ∧ (¬ r6 = 0 →
          m_prove_j106 Q (fun b0 b1 b2 b3 I J => m_prove_l29 Q n b0 b1 b2 b3 I J) (I7 0 19) I7 J8))))))
theorem w_prove_l29 {X : hh_CX} {Q : Int32 → mI → mJ → Prop} (hX : hh_C X cX14_prove RX14 (hrm 7 170)) (hN : hh_nL X = 6) (hE : hh_E X (some .int) (mQi Q) 0 0) : ∀ (n : Nat) (a1 : Int32) (a2 : Int32) (a3 : Int32) (a4 : Int32) (I : mI) (J : mJ), m_prove_l29 Q  n a1 a2 a3 a4 I J → hh_V X 29 [(0, .ref 0), (1, .int a1), (2, .int a2), (3, .int a3), (4, .int a4)] [] 0 0 (hm I J) := by
  intro n
  induction n with
  | zero => intro _ _ _ _ _ _ hf; exact hf.elim
  | succ n ih =>
    intro a1 a2 a3 a4 I J hf
    unfold m_prove_l29 at hf
    refine hv_iload hX dX14_prove_29 4 rfl ?_
    refine hv_bipush (v := (-9)) hX bi_m9 dX14_prove_31 ?_
    refine hv_icmp_eq (tgt := 129) hX dX14_prove_33 (by decide) (fun c4 => ?_) (fun c4 => ?_)
    · replace hf := hf.1 c4
      refine hv_aload_n hX dX14_prove_129 rfl 0 rfl ?_
      refine hm_getI (v := (I 0 57)) hX dX14_prove_130 mfl432 (.inl rfl) rfl ?_
      exact hm_iret hX hE dX14_prove_133 hf
    · replace hf := hf.2 c4
      refine hv_aload_n hX dX14_prove_36 rfl 0 rfl ?_
      refine hm_getI (v := (I 0 57)) hX dX14_prove_37 mfl432 (.inl rfl) rfl ?_
      refine hv_bipush (v := 20) hX bi_20 dX14_prove_40 ?_
      refine hv_icmp_ge (tgt := 129) hX dX14_prove_42 (by decide) (fun c5 => ?_) (fun c5 => ?_)
      · replace hf := hf.1 c5
        refine hv_aload_n hX dX14_prove_129 rfl 0 rfl ?_
        refine hm_getI (v := (I 0 57)) hX dX14_prove_130 mfl432 (.inl rfl) rfl ?_
        exact hm_iret hX hE dX14_prove_133 hf
      · replace hf := hf.2 c5
        refine hv_aload_n hX dX14_prove_45 rfl 0 rfl ?_
        refine hm_getR hX dX14_prove_46 mfl100 25 rfl ?_
        refine hv_iconst (v := 2) hX ic_2 dX14_prove_49 ?_
        refine hv_aload_n hX dX14_prove_50 rfl 0 rfl ?_
        refine hm_getI (v := (I 0 57)) hX dX14_prove_51 mfl432 (.inl rfl) rfl ?_
        refine hv_imul hX dX14_prove_54 ?_
        refine hv_iload_n hX dX14_prove_55 rfl 1 rfl ?_
        obtain ⟨g, hf⟩ := hf
        refine hm_iast hX dX14_prove_56 (by decide) rfl rfl g ?_
        refine hv_aload_n hX dX14_prove_57 rfl 0 rfl ?_
        refine hm_getR hX dX14_prove_58 mfl100 25 rfl ?_
        refine hv_iconst (v := 2) hX ic_2 dX14_prove_61 ?_
        refine hv_aload_n hX dX14_prove_62 rfl 0 rfl ?_
        refine hm_getI (v := (I 0 57)) hX dX14_prove_63 mfl432 (.inl rfl) ((u2_ne _ _ (.inl (by decide)))) ?_
        refine hv_imul hX dX14_prove_66 ?_
        refine hv_iconst (v := 1) hX ic_1 dX14_prove_67 ?_
        refine hv_iadd hX dX14_prove_68 ?_
        refine hv_iload hX dX14_prove_69 4 rfl ?_
        obtain ⟨g, hf⟩ := hf
        refine hm_iast hX dX14_prove_71 (by decide) rfl rfl g ?_
        refine hv_aload_n hX dX14_prove_72 rfl 0 rfl ?_
        refine hv_dup hX rfl dX14_prove_73 ?_
        refine hm_getI (v := (I 0 57)) hX dX14_prove_74 mfl432 (.inl rfl) ((u2_ne _ _ (.inl (by decide))) |>.trans (u2_ne _ _ (.inl (by decide)))) ?_
        refine hv_iconst (v := 1) hX ic_1 dX14_prove_77 ?_
        refine hv_iadd hX dX14_prove_78 ?_
        refine hm_putI hX dX14_prove_79 mfl432 ?_
        refine hv_aload_n hX dX14_prove_82 rfl 0 rfl ?_
        refine hv_iload_n hX dX14_prove_83 rfl 1 rfl ?_
        refine hv_iload_n hX dX14_prove_84 rfl 2 rfl ?_
        refine hv_iload_n hX dX14_prove_85 rfl 3 rfl ?_
        refine hv_iload hX dX14_prove_86 4 rfl ?_
        refine hm_callVi hX dX14_prove_88 (ct_leads a1 a2 a3 a4 (u2 (u2 (u2 I 25 (2 * (I 0 57)).toNatClampNeg a1) 25 ((2 * (I 0 57)) + 1).toNatClampNeg a4) 0 57 ((I 0 57) + 1)) J _ hf) (gd_leads q1991) np_leads rfl rfl ⟨Nat.le_of_ble_eq_true rfl, Nat.le_of_ble_eq_true rfl⟩ ⟨Nat.le_refl _, Nat.le_refl _⟩ (Nat.le_of_ble_eq_true rfl) ?_
        intro r6 I7 J8 hf
        refine hv_istore (loc2 := [(5, .int r6), (0, .ref 0), (1, .int a1), (2, .int a2), (3, .int a3), (4, .int a4)]) hX dX14_prove_91 hN (Nat.le_of_ble_eq_true rfl) rfl ?_
        refine hv_iload hX dX14_prove_93 0 rfl ?_
        refine hv_if_eq (tgt := 105) hX dX14_prove_95 (by decide) (fun c9 => ?_) (fun c9 => ?_)
        · replace hf := hf.1 c9
          refine hv_iload_n hX dX14_prove_105 rfl 2 rfl ?_
          refine hv_fewer [1] (loc2 := [(0, .ref 0)]) rfl ?_
          exact w_prove_j106 hX hN hE ih _ _ _ hf
        · replace hf := hf.2 c9
          refine hv_aload_n hX dX14_prove_98 rfl 1 rfl ?_
          refine hm_getI (v := (I7 0 19)) hX dX14_prove_99 mfl187 (.inl rfl) rfl ?_
          refine hv_goto (tgt := 106) hX dX14_prove_102 (by decide) ?_
          refine hv_fewer [1] (loc2 := [(0, .ref 0)]) rfl ?_
          exact w_prove_j106 hX hN hE ih _ _ _ hf
def m_prove  (I : mI) (J : mJ) (Q : Int32 → mI → mJ → Prop) : Prop :=
  m_firstOf (I 0 0) (I 0 3) (I 0 12) (u2 I 0 57 0) J (fun r1 I2 J3 => ∃ n0 : Nat, m_prove_l29 Q  n0 (I 0 0) (I 0 3) (I 0 12) r1 I2 J3)
theorem ct_prove  (I : mI) (J : mJ) (Q : Int32 → mI → mJ → Prop) (hf : m_prove  I J Q) : hh_Ct yX14_prove cX14_prove 6 (some .int) 7 170 [.ref 0] (hm I J) (mQi Q) 0 0 := by
  refine hh_Ct.of (own := RX14) rfl (by decide +kernel) (Nat.le_of_ble_eq_true rfl) ?_
  intro X hX hN hE
  show hh_V X 0 [(0, .ref 0)] [] 0 0 (hm I J)
  unfold m_prove at hf
  refine hv_aload_n hX dX14_prove_0 rfl 0 rfl ?_
  refine hv_iconst (v := 0) hX ic_0 dX14_prove_1 ?_
  refine hm_putI hX dX14_prove_2 mfl432 ?_
  refine hv_aload_n hX dX14_prove_5 rfl 0 rfl ?_
  refine hm_getI (v := (I 0 0)) hX dX14_prove_6 mfl166 (.inl rfl) ((u2_ne _ _ (.inr (by decide)))) ?_
  refine hv_istore_n (loc2 := [(1, .int (I 0 0)), (0, .ref 0)]) hX dX14_prove_9 rfl hN (Nat.le_of_ble_eq_true rfl) rfl ?_
  refine hv_aload_n hX dX14_prove_10 rfl 1 rfl ?_
  refine hm_getI (v := (I 0 3)) hX dX14_prove_11 mfl169 (.inl rfl) ((u2_ne _ _ (.inr (by decide)))) ?_
  refine hv_istore_n (loc2 := [(2, .int (I 0 3)), (1, .int (I 0 0)), (0, .ref 0)]) hX dX14_prove_14 rfl hN (Nat.le_of_ble_eq_true rfl) rfl ?_
  refine hv_aload_n hX dX14_prove_15 rfl 2 rfl ?_
  refine hm_getI (v := (I 0 12)) hX dX14_prove_16 mfl141 (.inl rfl) ((u2_ne _ _ (.inr (by decide)))) ?_
  refine hv_istore_n (loc2 := [(3, .int (I 0 12)), (2, .int (I 0 3)), (1, .int (I 0 0)), (0, .ref 0)]) hX dX14_prove_19 rfl hN (Nat.le_of_ble_eq_true rfl) rfl ?_
  refine hv_aload_n hX dX14_prove_20 rfl 3 rfl ?_
  refine hv_iload_n hX dX14_prove_21 rfl 2 rfl ?_
  refine hv_iload_n hX dX14_prove_22 rfl 1 rfl ?_
  refine hv_iload_n hX dX14_prove_23 rfl 0 rfl ?_
  refine hm_callVi hX dX14_prove_24 (ct_firstOf (I 0 0) (I 0 3) (I 0 12) (u2 I 0 57 0) J _ hf) (gd_firstOf q2026) np_firstOf rfl rfl ⟨Nat.le_of_ble_eq_true rfl, Nat.le_of_ble_eq_true rfl⟩ ⟨Nat.le_refl _, Nat.le_refl _⟩ (Nat.le_of_ble_eq_true rfl) ?_
  intro r1 I2 J3 hf
  refine hv_istore (loc2 := [(4, .int r1), (3, .int (I 0 12)), (2, .int (I 0 3)), (1, .int (I 0 0)), (0, .ref 0)]) hX dX14_prove_27 hN (Nat.le_of_ble_eq_true rfl) rfl ?_
  refine hv_fewer [4, 3, 2, 1, 0] (loc2 := [(0, .ref 0), (1, .int (I 0 0)), (2, .int (I 0 3)), (3, .int (I 0 12)), (4, .int r1)]) rfl ?_
  obtain ⟨n0, hf⟩ := hf
  exact w_prove_l29 hX hN hE  n0 _ _ _ _ _ _ hf
theorem np_prove : yX14_prove.cls = RX14 ∧ yX14_prove.cls ≠ "java/lang/invoke/MethodHandle" ∧ yX14_prove.cls ≠ "java/lang/invoke/VarHandle" ∧ (parseMethodDescriptor yX14_prove.desc).map (fun d => d.parameters.length) = some 0 := by decide +kernel
theorem gd_prove {idx : Nat} (h : Cond.methodLink RX14 idx yX14_prove ∈ lw_all) : GoodIn lw_all (wsV RX14 idx RX14 yX14_prove (ws_ yX14_prove cX14_prove 6 (some .int))) := lw_V h q2265 q2266 q123 q2267
/-! isRow(II)Z -/
def m_isRow (a1 : Int32) (a2 : Int32) (I : mI) (J : mJ) (Q : Int32 → mI → mJ → Prop) : Prop :=
  m_in a1 0 ((I 0 57) - 1) I J (fun r1 I2 J3 => (r1 = 0 →
    Q 0 I2 J3) ∧ (¬ r1 = 0 →
    m_in a2 0 1 I2 J3 (fun r5 I6 J7 => (r5 = 0 →
      Q 0 I6 J7) ∧ (¬ r5 = 0 →
      Q 1 I6 J7))))
theorem ct_isRow (a1 : Int32) (a2 : Int32) (I : mI) (J : mJ) (Q : Int32 → mI → mJ → Prop) (hf : m_isRow a1 a2 I J Q) : hh_Ct yX14_isRow cX14_isRow 3 (some .boolean) 1 22 [.ref 0, .int a1, .int a2] (hm I J) (mQi Q) 0 0 := by
  refine hh_Ct.of (own := RX14) rfl (by decide +kernel) (Nat.le_of_ble_eq_true rfl) ?_
  intro X hX hN hE
  show hh_V X 0 [(0, .ref 0), (1, .int a1), (2, .int a2)] [] 0 0 (hm I J)
  unfold m_isRow at hf
  refine hv_iload_n hX dX14_isRow_0 rfl 1 rfl ?_
  refine hv_iconst (v := 0) hX ic_0 dX14_isRow_1 ?_
  refine hv_aload_n hX dX14_isRow_2 rfl 0 rfl ?_
  refine hm_getI (v := (I 0 57)) hX dX14_isRow_3 mfl432 (.inl rfl) rfl ?_
  refine hv_iconst (v := 1) hX ic_1 dX14_isRow_6 ?_
  refine hv_isub hX dX14_isRow_7 ?_
  refine hm_callSi hX dX14_isRow_8 (ct_in a1 0 ((I 0 57) - 1) I J _ hf) (gd_in q1923) np_in rfl rfl ⟨Nat.le_of_ble_eq_true rfl, Nat.le_of_ble_eq_true rfl⟩ ⟨Nat.le_refl _, Nat.le_refl _⟩ (Nat.le_of_ble_eq_true rfl) ?_
  intro r1 I2 J3 hf
  refine hv_if_eq (tgt := 27) hX dX14_isRow_11 (by decide) (fun c4 => ?_) (fun c4 => ?_)
  · replace hf := hf.1 c4
    refine hv_iconst (v := 0) hX ic_0 dX14_isRow_27 ?_
    exact hm_zret hX hE dX14_isRow_28 (by decide) hf
  · replace hf := hf.2 c4
    refine hv_iload_n hX dX14_isRow_14 rfl 2 rfl ?_
    refine hv_iconst (v := 0) hX ic_0 dX14_isRow_15 ?_
    refine hv_iconst (v := 1) hX ic_1 dX14_isRow_16 ?_
    refine hm_callSi hX dX14_isRow_17 (ct_in a2 0 1 I2 J3 _ hf) (gd_in q1923) np_in rfl rfl ⟨Nat.le_of_ble_eq_true rfl, Nat.le_of_ble_eq_true rfl⟩ ⟨Nat.le_refl _, Nat.le_refl _⟩ (Nat.le_of_ble_eq_true rfl) ?_
    intro r5 I6 J7 hf
    refine hv_if_eq (tgt := 27) hX dX14_isRow_20 (by decide) (fun c8 => ?_) (fun c8 => ?_)
    · replace hf := hf.1 c8
      refine hv_iconst (v := 0) hX ic_0 dX14_isRow_27 ?_
      exact hm_zret hX hE dX14_isRow_28 (by decide) hf
    · replace hf := hf.2 c8
      refine hv_iconst (v := 1) hX ic_1 dX14_isRow_23 ?_
      refine hv_goto (tgt := 28) hX dX14_isRow_24 (by decide) ?_
      exact hm_zret hX hE dX14_isRow_28 (by decide) hf
theorem np_isRow : yX14_isRow.cls = RX14 ∧ yX14_isRow.cls ≠ "java/lang/invoke/MethodHandle" ∧ yX14_isRow.cls ≠ "java/lang/invoke/VarHandle" ∧ (parseMethodDescriptor yX14_isRow.desc).map (fun d => d.parameters.length) = some 2 := by decide +kernel
theorem gd_isRow {idx : Nat} (h : Cond.methodLink RX14 idx yX14_isRow ∈ lw_all) : GoodIn lw_all (wsV RX14 idx RX14 yX14_isRow (ws_ yX14_isRow cX14_isRow 3 (some .boolean))) := lw_V h q2274 qs90 q123 q2275
/-! row(II)I -/
def m_row (a1 : Int32) (a2 : Int32) (I : mI) (J : mJ) (Q : Int32 → mI → mJ → Prop) : Prop :=
  m_isRow a1 a2 I J (fun r1 I2 J3 => (r1 = 0 →
    Q (-9) I2 J3) ∧ (¬ r1 = 0 →
    vp_in ((2 * a1) + a2) 40 ∧ (Q (I2 25 ((2 * a1) + a2).toNatClampNeg) I2 J3)))
theorem ct_row (a1 : Int32) (a2 : Int32) (I : mI) (J : mJ) (Q : Int32 → mI → mJ → Prop) (hf : m_row a1 a2 I J Q) : hh_Ct yX14_row cX14_row 3 (some .int) 2 44 [.ref 0, .int a1, .int a2] (hm I J) (mQi Q) 0 0 := by
  refine hh_Ct.of (own := RX14) rfl (by decide +kernel) (Nat.le_of_ble_eq_true rfl) ?_
  intro X hX hN hE
  show hh_V X 0 [(0, .ref 0), (1, .int a1), (2, .int a2)] [] 0 0 (hm I J)
  unfold m_row at hf
  refine hv_aload_n hX dX14_row_0 rfl 0 rfl ?_
  refine hv_iload_n hX dX14_row_1 rfl 1 rfl ?_
  refine hv_iload_n hX dX14_row_2 rfl 2 rfl ?_
  refine hm_callVi hX dX14_row_3 (ct_isRow a1 a2 I J _ hf) (gd_isRow q2272) np_isRow rfl rfl ⟨Nat.le_of_ble_eq_true rfl, Nat.le_of_ble_eq_true rfl⟩ ⟨Nat.le_refl _, Nat.le_refl _⟩ (Nat.le_of_ble_eq_true rfl) ?_
  intro r1 I2 J3 hf
  refine hv_if_eq (tgt := 22) hX dX14_row_6 (by decide) (fun c4 => ?_) (fun c4 => ?_)
  · replace hf := hf.1 c4
    refine hv_bipush (v := (-9)) hX bi_m9 dX14_row_22 ?_
    exact hm_iret hX hE dX14_row_24 hf
  · replace hf := hf.2 c4
    refine hv_aload_n hX dX14_row_9 rfl 0 rfl ?_
    refine hm_getR hX dX14_row_10 mfl100 25 rfl ?_
    refine hv_iconst (v := 2) hX ic_2 dX14_row_13 ?_
    refine hv_iload_n hX dX14_row_14 rfl 1 rfl ?_
    refine hv_imul hX dX14_row_15 ?_
    refine hv_iload_n hX dX14_row_16 rfl 2 rfl ?_
    refine hv_iadd hX dX14_row_17 ?_
    obtain ⟨g, hf⟩ := hf
    refine hm_iald (v := (I2 25 ((2 * a1) + a2).toNatClampNeg)) hX dX14_row_18 (by decide) rfl rfl g rfl ?_
    refine hv_goto (tgt := 24) hX dX14_row_19 (by decide) ?_
    exact hm_iret hX hE dX14_row_24 hf
theorem np_row : yX14_row.cls = RX14 ∧ yX14_row.cls ≠ "java/lang/invoke/MethodHandle" ∧ yX14_row.cls ≠ "java/lang/invoke/VarHandle" ∧ (parseMethodDescriptor yX14_row.desc).map (fun d => d.parameters.length) = some 2 := by decide +kernel
theorem gd_row {idx : Nat} (h : Cond.methodLink RX14 idx yX14_row ∈ lw_all) : GoodIn lw_all (wsV RX14 idx RX14 yX14_row (ws_ yX14_row cX14_row 3 (some .int))) := lw_V h q2269 q2270 q123 q2271
/-! alterRow(III)I -/
def m_alterRow (a1 : Int32) (a2 : Int32) (a3 : Int32) (I : mI) (J : mJ) (Q : Int32 → mI → mJ → Prop) : Prop :=
  m_isRow a1 a2 I J (fun r1 I2 J3 => (r1 = 0 →
    Q (-9) I2 J3) ∧ (¬ r1 = 0 →
    vp_in ((2 * a1) + a2) 40 ∧ (∀ v5 : Int32, v5 = (I2 25 ((2 * a1) + a2).toNatClampNeg) → (vp_in ((2 * a1) + a2) 40 ∧ (Q v5 (u2 I2 25 ((2 * a1) + a2).toNatClampNeg a3) J3)))))
theorem ct_alterRow (a1 : Int32) (a2 : Int32) (a3 : Int32) (I : mI) (J : mJ) (Q : Int32 → mI → mJ → Prop) (hf : m_alterRow a1 a2 a3 I J Q) : hh_Ct yX14_alterRow cX14_alterRow 5 (some .int) 2 44 [.ref 0, .int a1, .int a2, .int a3] (hm I J) (mQi Q) 0 0 := by
  refine hh_Ct.of (own := RX14) rfl (by decide +kernel) (Nat.le_of_ble_eq_true rfl) ?_
  intro X hX hN hE
  show hh_V X 0 [(0, .ref 0), (1, .int a1), (2, .int a2), (3, .int a3)] [] 0 0 (hm I J)
  unfold m_alterRow at hf
  refine hv_aload_n hX dX14_alterRow_0 rfl 0 rfl ?_
  refine hv_iload_n hX dX14_alterRow_1 rfl 1 rfl ?_
  refine hv_iload_n hX dX14_alterRow_2 rfl 2 rfl ?_
  refine hm_callVi hX dX14_alterRow_3 (ct_isRow a1 a2 I J _ hf) (gd_isRow q2272) np_isRow rfl rfl ⟨Nat.le_of_ble_eq_true rfl, Nat.le_of_ble_eq_true rfl⟩ ⟨Nat.le_refl _, Nat.le_refl _⟩ (Nat.le_of_ble_eq_true rfl) ?_
  intro r1 I2 J3 hf
  refine hv_if_ne (tgt := 12) hX dX14_alterRow_6 (by decide) (fun c4 => ?_) (fun c4 => ?_)
  · replace hf := hf.2 c4
    refine hv_aload_n hX dX14_alterRow_12 rfl 0 rfl ?_
    refine hm_getR hX dX14_alterRow_13 mfl100 25 rfl ?_
    refine hv_iconst (v := 2) hX ic_2 dX14_alterRow_16 ?_
    refine hv_iload_n hX dX14_alterRow_17 rfl 1 rfl ?_
    refine hv_imul hX dX14_alterRow_18 ?_
    refine hv_iload_n hX dX14_alterRow_19 rfl 2 rfl ?_
    refine hv_iadd hX dX14_alterRow_20 ?_
    obtain ⟨g, hf⟩ := hf
    refine hm_iald (v := (I2 25 ((2 * a1) + a2).toNatClampNeg)) hX dX14_alterRow_21 (by decide) rfl rfl g rfl ?_
    refine hv_topi (fun v5 ev5 => ?_)
    replace hf := hf v5 ev5
    refine hv_istore (loc2 := [(4, .int v5), (0, .ref 0), (1, .int a1), (2, .int a2), (3, .int a3)]) hX dX14_alterRow_22 hN (Nat.le_of_ble_eq_true rfl) rfl ?_
    refine hv_aload_n hX dX14_alterRow_24 rfl 1 rfl ?_
    refine hm_getR hX dX14_alterRow_25 mfl100 25 rfl ?_
    refine hv_iconst (v := 2) hX ic_2 dX14_alterRow_28 ?_
    refine hv_iload_n hX dX14_alterRow_29 rfl 2 rfl ?_
    refine hv_imul hX dX14_alterRow_30 ?_
    refine hv_iload_n hX dX14_alterRow_31 rfl 3 rfl ?_
    refine hv_iadd hX dX14_alterRow_32 ?_
    refine hv_iload_n hX dX14_alterRow_33 rfl 4 rfl ?_
    obtain ⟨g, hf⟩ := hf
    refine hm_iast hX dX14_alterRow_34 (by decide) rfl rfl g ?_
    refine hv_iload hX dX14_alterRow_35 0 rfl ?_
    exact hm_iret hX hE dX14_alterRow_37 hf
  · replace hf := hf.1 c4
    refine hv_bipush (v := (-9)) hX bi_m9 dX14_alterRow_9 ?_
    exact hm_iret hX hE dX14_alterRow_11 hf
theorem np_alterRow : yX14_alterRow.cls = RX14 ∧ yX14_alterRow.cls ≠ "java/lang/invoke/MethodHandle" ∧ yX14_alterRow.cls ≠ "java/lang/invoke/VarHandle" ∧ (parseMethodDescriptor yX14_alterRow.desc).map (fun d => d.parameters.length) = some 3 := by decide +kernel
theorem gd_alterRow {idx : Nat} (h : Cond.methodLink RX14 idx yX14_alterRow ∈ lw_all) : GoodIn lw_all (wsV RX14 idx RX14 yX14_alterRow (ws_ yX14_alterRow cX14_alterRow 5 (some .int))) := lw_V h q2277 q2278 q123 q2279
/-! judge()I -/
def m_judge_l21 (Q : Int32 → mI → mJ → Prop) : Nat → Int32 → Int32 → Int32 → Int32 → Int32 → mI → mJ → Prop
  | 0, _, _, _, _, _, _, _ => False
  | n + 1, a1, a2, a3, a4, a5, I, J =>
    ((I 0 57) ≤ a5 →
      m_leads a1 a2 a3 (-1) I J (fun r2 I3 J4 => (r2 = 0 →
        m_best  I3 J4 (fun r6 I7 J8 => (a4 = r6 →
          Q 0 I7 J8) ∧ (¬ a4 = r6 →
          Q 32 I7 J8))) ∧ (¬ r2 = 0 →
        Q 31 I3 J4))) ∧ (¬ (I 0 57) ≤ a5 →
      vp_in ((2 * a5) + 1) 40 ∧ (∀ v10 : Int32, v10 = (I 25 ((2 * a5) + 1).toNatClampNeg) → (vp_in (2 * a5) 40 ∧ (((I 25 (2 * a5).toNatClampNeg) = a1 →
        m_isAct v10 I J (fun r12 I13 J14 => (r12 = 0 →
          Q (a5 + 1) I13 J14) ∧ (¬ r12 = 0 →
          m_leads a1 a2 a3 v10 I13 J14 (fun r16 I17 J18 => (r16 = 0 →
            Q (a5 + 1) I17 J18) ∧ (¬ r16 = 0 →
            m_judge_l21 Q n (I17 0 19) (I17 0 20) (I17 0 21) (a4 + (I17 0 22)) (a5 + 1) I17 J18))))) ∧ (¬ (I 25 (2 * a5).toNatClampNeg) = a1 →
        Q (a5 + 1) I J)))))
theorem w_judge_l21 {X : hh_CX} {Q : Int32 → mI → mJ → Prop} (hX : hh_C X cX14_judge RX14 (hrm 6 140)) (hN : hh_nL X = 7) (hE : hh_E X (some .int) (mQi Q) 0 0) : ∀ (n : Nat) (a1 : Int32) (a2 : Int32) (a3 : Int32) (a4 : Int32) (a5 : Int32) (I : mI) (J : mJ), m_judge_l21 Q  n a1 a2 a3 a4 a5 I J → hh_V X 21 [(0, .ref 0), (1, .int a1), (2, .int a2), (3, .int a3), (4, .int a4), (5, .int a5)] [] 0 0 (hm I J) := by
  intro n
  induction n with
  | zero => intro _ _ _ _ _ _ _ hf; exact hf.elim
  | succ n ih =>
    intro a1 a2 a3 a4 a5 I J hf
    unfold m_judge_l21 at hf
    refine hv_iload hX dX14_judge_21 5 rfl ?_
    refine hv_aload_n hX dX14_judge_23 rfl 0 rfl ?_
    refine hm_getI (v := (I 0 57)) hX dX14_judge_24 mfl432 (.inl rfl) rfl ?_
    refine hv_icmp_ge (tgt := 111) hX dX14_judge_27 (by decide) (fun c1 => ?_) (fun c1 => ?_)
    · replace hf := hf.1 c1
      refine hv_aload_n hX dX14_judge_111 rfl 0 rfl ?_
      refine hv_iload_n hX dX14_judge_112 rfl 1 rfl ?_
      refine hv_iload_n hX dX14_judge_113 rfl 2 rfl ?_
      refine hv_iload_n hX dX14_judge_114 rfl 3 rfl ?_
      refine hv_iconst (v := (-1)) hX ic_m1 dX14_judge_115 ?_
      refine hm_callVi hX dX14_judge_116 (ct_leads a1 a2 a3 (-1) I J _ hf) (gd_leads q1991) np_leads rfl rfl ⟨Nat.le_of_ble_eq_true rfl, Nat.le_of_ble_eq_true rfl⟩ ⟨Nat.le_refl _, Nat.le_refl _⟩ (Nat.le_of_ble_eq_true rfl) ?_
      intro r2 I3 J4 hf
      refine hv_if_eq (tgt := 125) hX dX14_judge_119 (by decide) (fun c5 => ?_) (fun c5 => ?_)
      · replace hf := hf.1 c5
        refine hv_iload hX dX14_judge_125 4 rfl ?_
        refine hv_aload_n hX dX14_judge_127 rfl 0 rfl ?_
        refine hm_callVi hX dX14_judge_128 (ct_best  I3 J4 _ hf) (gd_best q2262) np_best rfl rfl ⟨Nat.le_of_ble_eq_true rfl, Nat.le_of_ble_eq_true rfl⟩ ⟨Nat.le_refl _, Nat.le_refl _⟩ (Nat.le_of_ble_eq_true rfl) ?_
        intro r6 I7 J8 hf
        refine hv_icmp_ne (tgt := 138) hX dX14_judge_131 (by decide) (fun c9 => ?_) (fun c9 => ?_)
        · replace hf := hf.2 c9
          refine hv_bipush (v := 32) hX bi_32 dX14_judge_138 ?_
          exact hm_iret hX hE dX14_judge_140 hf
        · replace hf := hf.1 c9
          refine hv_iconst (v := 0) hX ic_0 dX14_judge_134 ?_
          refine hv_goto (tgt := 140) hX dX14_judge_135 (by decide) ?_
          exact hm_iret hX hE dX14_judge_140 hf
      · replace hf := hf.2 c5
        refine hv_bipush (v := 31) hX bi_31 dX14_judge_122 ?_
        exact hm_iret hX hE dX14_judge_124 hf
    · replace hf := hf.2 c1
      refine hv_aload_n hX dX14_judge_30 rfl 0 rfl ?_
      refine hm_getR hX dX14_judge_31 mfl100 25 rfl ?_
      refine hv_iconst (v := 2) hX ic_2 dX14_judge_34 ?_
      refine hv_iload hX dX14_judge_35 5 rfl ?_
      refine hv_imul hX dX14_judge_37 ?_
      refine hv_iconst (v := 1) hX ic_1 dX14_judge_38 ?_
      refine hv_iadd hX dX14_judge_39 ?_
      obtain ⟨g, hf⟩ := hf
      refine hm_iald (v := (I 25 ((2 * a5) + 1).toNatClampNeg)) hX dX14_judge_40 (by decide) rfl rfl g rfl ?_
      refine hv_topi (fun v10 ev10 => ?_)
      replace hf := hf v10 ev10
      refine hv_istore (loc2 := [(6, .int v10), (0, .ref 0), (1, .int a1), (2, .int a2), (3, .int a3), (4, .int a4), (5, .int a5)]) hX dX14_judge_41 hN (Nat.le_of_ble_eq_true rfl) rfl ?_
      refine hv_aload_n hX dX14_judge_43 rfl 1 rfl ?_
      refine hm_getR hX dX14_judge_44 mfl100 25 rfl ?_
      refine hv_iconst (v := 2) hX ic_2 dX14_judge_47 ?_
      refine hv_iload hX dX14_judge_48 6 rfl ?_
      refine hv_imul hX dX14_judge_50 ?_
      obtain ⟨g, hf⟩ := hf
      refine hm_iald (v := (I 25 (2 * a5).toNatClampNeg)) hX dX14_judge_51 (by decide) rfl rfl g rfl ?_
      refine hv_iload_n hX dX14_judge_52 rfl 2 rfl ?_
      refine hv_icmp_ne (tgt := 76) hX dX14_judge_53 (by decide) (fun c11 => ?_) (fun c11 => ?_)
      · replace hf := hf.2 c11
        refine hv_iload hX dX14_judge_76 6 rfl ?_
        refine hv_iconst (v := 1) hX ic_1 dX14_judge_78 ?_
        refine hv_iadd hX dX14_judge_79 ?_
        exact hm_iret hX hE dX14_judge_80 hf
      · replace hf := hf.1 c11
        refine hv_iload hX dX14_judge_56 0 rfl ?_
        refine hm_callSi hX dX14_judge_58 (ct_isAct v10 I J _ hf) (gd_isAct q1988) np_isAct rfl rfl ⟨Nat.le_of_ble_eq_true rfl, Nat.le_of_ble_eq_true rfl⟩ ⟨Nat.le_refl _, Nat.le_refl _⟩ (Nat.le_of_ble_eq_true rfl) ?_
        intro r12 I13 J14 hf
        refine hv_if_eq (tgt := 76) hX dX14_judge_61 (by decide) (fun c15 => ?_) (fun c15 => ?_)
        · replace hf := hf.1 c15
          refine hv_iload hX dX14_judge_76 6 rfl ?_
          refine hv_iconst (v := 1) hX ic_1 dX14_judge_78 ?_
          refine hv_iadd hX dX14_judge_79 ?_
          exact hm_iret hX hE dX14_judge_80 hf
        · replace hf := hf.2 c15
          refine hv_aload_n hX dX14_judge_64 rfl 1 rfl ?_
          refine hv_iload_n hX dX14_judge_65 rfl 2 rfl ?_
          refine hv_iload_n hX dX14_judge_66 rfl 3 rfl ?_
          refine hv_iload_n hX dX14_judge_67 rfl 4 rfl ?_
          refine hv_iload hX dX14_judge_68 0 rfl ?_
          refine hm_callVi hX dX14_judge_70 (ct_leads a1 a2 a3 v10 I13 J14 _ hf) (gd_leads q1991) np_leads rfl rfl ⟨Nat.le_of_ble_eq_true rfl, Nat.le_of_ble_eq_true rfl⟩ ⟨Nat.le_refl _, Nat.le_refl _⟩ (Nat.le_of_ble_eq_true rfl) ?_
          intro r16 I17 J18 hf
          refine hv_if_ne (tgt := 81) hX dX14_judge_73 (by decide) (fun c19 => ?_) (fun c19 => ?_)
          · replace hf := hf.2 c19
            refine hv_aload_n hX dX14_judge_81 rfl 1 rfl ?_
            refine hm_getI (v := (I17 0 19)) hX dX14_judge_82 mfl187 (.inl rfl) rfl ?_
            refine hv_istore_n (loc2 := [(1, .int (I17 0 19)), (6, .int v10), (0, .ref 0), (2, .int a2), (3, .int a3), (4, .int a4), (5, .int a5)]) hX dX14_judge_85 rfl hN (Nat.le_of_ble_eq_true rfl) rfl ?_
            refine hv_aload_n hX dX14_judge_86 rfl 2 rfl ?_
            refine hm_getI (v := (I17 0 20)) hX dX14_judge_87 mfl181 (.inl rfl) rfl ?_
            refine hv_istore_n (loc2 := [(2, .int (I17 0 20)), (1, .int (I17 0 19)), (6, .int v10), (0, .ref 0), (3, .int a3), (4, .int a4), (5, .int a5)]) hX dX14_judge_90 rfl hN (Nat.le_of_ble_eq_true rfl) rfl ?_
            refine hv_aload_n hX dX14_judge_91 rfl 3 rfl ?_
            refine hm_getI (v := (I17 0 21)) hX dX14_judge_92 mfl178 (.inl rfl) rfl ?_
            refine hv_istore_n (loc2 := [(3, .int (I17 0 21)), (2, .int (I17 0 20)), (1, .int (I17 0 19)), (6, .int v10), (0, .ref 0), (4, .int a4), (5, .int a5)]) hX dX14_judge_95 rfl hN (Nat.le_of_ble_eq_true rfl) rfl ?_
            refine hv_iload hX dX14_judge_96 5 rfl ?_
            refine hv_aload_n hX dX14_judge_98 rfl 4 rfl ?_
            refine hm_getI (v := (I17 0 22)) hX dX14_judge_99 mfl175 (.inl rfl) rfl ?_
            refine hv_iadd hX dX14_judge_102 ?_
            refine hv_istore (loc2 := [(4, .int (a4 + (I17 0 22))), (3, .int (I17 0 21)), (2, .int (I17 0 20)), (1, .int (I17 0 19)), (6, .int v10), (0, .ref 0), (5, .int a5)]) hX dX14_judge_103 hN (Nat.le_of_ble_eq_true rfl) rfl ?_
            refine hv_iinc (v := (a5 + 1)) (loc2 := [(5, .int (a5 + 1)), (4, .int (a4 + (I17 0 22))), (3, .int (I17 0 21)), (2, .int (I17 0 20)), (1, .int (I17 0 19)), (6, .int v10), (0, .ref 0)]) hX dX14_judge_105 6 rfl (congrArg (fun y => a5 + y) ic_1) hN (Nat.le_of_ble_eq_true rfl) rfl ?_
            refine hv_goto (tgt := 21) hX dX14_judge_108 (by decide) ?_
            refine hv_fewer [6, 4, 3, 2, 1, 0] (loc2 := [(0, .ref 0), (1, .int (I17 0 19)), (2, .int (I17 0 20)), (3, .int (I17 0 21)), (4, .int (a4 + (I17 0 22))), (5, .int (a5 + 1))]) rfl ?_
            exact ih _ _ _ _ _ _ _ hf
          · replace hf := hf.1 c19
            refine hv_iload hX dX14_judge_76 6 rfl ?_
            refine hv_iconst (v := 1) hX ic_1 dX14_judge_78 ?_
            refine hv_iadd hX dX14_judge_79 ?_
            exact hm_iret hX hE dX14_judge_80 hf
def m_judge  (I : mI) (J : mJ) (Q : Int32 → mI → mJ → Prop) : Prop :=
  ∃ n0 : Nat, m_judge_l21 Q  n0 (I 0 0) (I 0 3) (I 0 12) 0 0 I J
theorem ct_judge  (I : mI) (J : mJ) (Q : Int32 → mI → mJ → Prop) (hf : m_judge  I J Q) : hh_Ct yX14_judge cX14_judge 7 (some .int) 6 140 [.ref 0] (hm I J) (mQi Q) 0 0 := by
  refine hh_Ct.of (own := RX14) rfl (by decide +kernel) (Nat.le_of_ble_eq_true rfl) ?_
  intro X hX hN hE
  show hh_V X 0 [(0, .ref 0)] [] 0 0 (hm I J)
  unfold m_judge at hf
  refine hv_aload_n hX dX14_judge_0 rfl 0 rfl ?_
  refine hm_getI (v := (I 0 0)) hX dX14_judge_1 mfl166 (.inl rfl) rfl ?_
  refine hv_istore_n (loc2 := [(1, .int (I 0 0)), (0, .ref 0)]) hX dX14_judge_4 rfl hN (Nat.le_of_ble_eq_true rfl) rfl ?_
  refine hv_aload_n hX dX14_judge_5 rfl 1 rfl ?_
  refine hm_getI (v := (I 0 3)) hX dX14_judge_6 mfl169 (.inl rfl) rfl ?_
  refine hv_istore_n (loc2 := [(2, .int (I 0 3)), (1, .int (I 0 0)), (0, .ref 0)]) hX dX14_judge_9 rfl hN (Nat.le_of_ble_eq_true rfl) rfl ?_
  refine hv_aload_n hX dX14_judge_10 rfl 2 rfl ?_
  refine hm_getI (v := (I 0 12)) hX dX14_judge_11 mfl141 (.inl rfl) rfl ?_
  refine hv_istore_n (loc2 := [(3, .int (I 0 12)), (2, .int (I 0 3)), (1, .int (I 0 0)), (0, .ref 0)]) hX dX14_judge_14 rfl hN (Nat.le_of_ble_eq_true rfl) rfl ?_
  refine hv_iconst (v := 0) hX ic_0 dX14_judge_15 ?_
  refine hv_istore (loc2 := [(4, .int 0), (3, .int (I 0 12)), (2, .int (I 0 3)), (1, .int (I 0 0)), (0, .ref 0)]) hX dX14_judge_16 hN (Nat.le_of_ble_eq_true rfl) rfl ?_
  refine hv_iconst (v := 0) hX ic_0 dX14_judge_18 ?_
  refine hv_istore (loc2 := [(5, .int 0), (4, .int 0), (3, .int (I 0 12)), (2, .int (I 0 3)), (1, .int (I 0 0)), (0, .ref 0)]) hX dX14_judge_19 hN (Nat.le_of_ble_eq_true rfl) rfl ?_
  refine hv_fewer [5, 4, 3, 2, 1, 0] (loc2 := [(0, .ref 0), (1, .int (I 0 0)), (2, .int (I 0 3)), (3, .int (I 0 12)), (4, .int 0), (5, .int 0)]) rfl ?_
  obtain ⟨n0, hf⟩ := hf
  exact w_judge_l21 hX hN hE  n0 _ _ _ _ _ _ _ hf
theorem np_judge : yX14_judge.cls = RX14 ∧ yX14_judge.cls ≠ "java/lang/invoke/MethodHandle" ∧ yX14_judge.cls ≠ "java/lang/invoke/VarHandle" ∧ (parseMethodDescriptor yX14_judge.desc).map (fun d => d.parameters.length) = some 0 := by decide +kernel
theorem gd_judge {idx : Nat} (h : Cond.methodLink RX14 idx yX14_judge ∈ lw_all) : GoodIn lw_all (wsV RX14 idx RX14 yX14_judge (ws_ yX14_judge cX14_judge 7 (some .int))) := lw_V h q2281 q2282 q123 q2283
/-! sheet(III)I -/
def m_sheet_l64 (Q : Int32 → mI → mJ → Prop) : Nat → Int32 → Int32 → mI → mJ → Prop
  | 0, _, _, _, _ => False
  | n + 1, a1, a4, I, J =>
    ((40 : Int32) ≤ a4 →
      Q 1 I J) ∧ (¬ (40 : Int32) ≤ a4 →
      vp_in ((40 * a1) + a4) 160 ∧ (m_sheet_l64 Q n a1 (a4 + 1) I (u2 J 28 ((40 * a1) + a4).toNatClampNeg 0)))
theorem w_sheet_l64 {X : hh_CX} {Q : Int32 → mI → mJ → Prop} (hX : hh_C X cX14_sheet RX14 (hrm 2 42)) (hN : hh_nL X = 5) (hE : hh_E X (some .int) (mQi Q) 0 0) : ∀ (n : Nat) (a1 : Int32) (a4 : Int32) (I : mI) (J : mJ), m_sheet_l64 Q  n a1 a4 I J → hh_V X 64 [(0, .ref 0), (1, .int a1), (4, .int a4)] [] 0 0 (hm I J) := by
  intro n
  induction n with
  | zero => intro _ _ _ _ hf; exact hf.elim
  | succ n ih =>
    intro a1 a4 I J hf
    unfold m_sheet_l64 at hf
    refine hv_iload hX dX14_sheet_64 2 rfl ?_
    refine hv_bipush (v := 40) hX bi_40 dX14_sheet_66 ?_
    refine hv_icmp_ge (tgt := 90) hX dX14_sheet_68 (by decide) (fun c12 => ?_) (fun c12 => ?_)
    · replace hf := hf.1 c12
      refine hv_iconst (v := 1) hX ic_1 dX14_sheet_90 ?_
      exact hm_iret hX hE dX14_sheet_91 hf
    · replace hf := hf.2 c12
      refine hv_aload_n hX dX14_sheet_71 rfl 0 rfl ?_
      refine hm_getR hX dX14_sheet_72 mfl109 28 rfl ?_
      refine hv_bipush (v := 40) hX bi_40 dX14_sheet_75 ?_
      refine hv_iload_n hX dX14_sheet_77 rfl 1 rfl ?_
      refine hv_imul hX dX14_sheet_78 ?_
      refine hv_iload hX dX14_sheet_79 2 rfl ?_
      refine hv_iadd hX dX14_sheet_81 ?_
      refine hv_lconst (v := 0) hX rfl dX14_sheet_82 ?_
      obtain ⟨g, hf⟩ := hf
      refine hm_last hX dX14_sheet_83 (by decide) rfl rfl g ?_
      refine hv_iinc (v := (a4 + 1)) (loc2 := [(4, .int (a4 + 1)), (0, .ref 0), (1, .int a1)]) hX dX14_sheet_84 2 rfl (congrArg (fun y => a4 + y) ic_1) hN (Nat.le_of_ble_eq_true rfl) rfl ?_
      refine hv_goto (tgt := 64) hX dX14_sheet_87 (by decide) ?_
      refine hv_fewer [1, 2, 0] (loc2 := [(0, .ref 0), (1, .int a1), (4, .int (a4 + 1))]) rfl ?_
      exact ih _ _ _ _ hf
def m_sheet_j60 (Q : Int32 → mI → mJ → Prop) (a1 : Int32) (s1 : Int32) (s2 : Int32) (I : mI) (J : mJ) : Prop :=
  vp_in s1 4 ∧ (∃ n0 : Nat, m_sheet_l64 Q  n0 a1 0 (u2 I 27 s1.toNatClampNeg s2) J)
theorem w_sheet_j60 {X : hh_CX} {Q : Int32 → mI → mJ → Prop} (hX : hh_C X cX14_sheet RX14 (hrm 2 42)) (hN : hh_nL X = 5) (hE : hh_E X (some .int) (mQi Q) 0 0) : ∀ (a1 : Int32) (s1 : Int32) (s2 : Int32) (I : mI) (J : mJ), m_sheet_j60 Q  a1 s1 s2 I J → hh_V X 60 [(0, .ref 0), (1, .int a1)] [.int s2, .int s1, .ref 27] 0 0 (hm I J) := by
  intro a1 s1 s2 I J hf
  unfold m_sheet_j60 at hf
  obtain ⟨g, hf⟩ := hf
  refine hm_iast hX dX14_sheet_60 (by decide) rfl rfl g ?_
  refine hv_iconst (v := 0) hX ic_0 dX14_sheet_61 ?_
  refine hv_istore (loc2 := [(4, .int 0), (0, .ref 0), (1, .int a1)]) hX dX14_sheet_62 hN (Nat.le_of_ble_eq_true rfl) rfl ?_
  refine hv_fewer [1, 2, 0] (loc2 := [(0, .ref 0), (1, .int a1), (4, .int 0)]) rfl ?_
  obtain ⟨n0, hf⟩ := hf
  exact w_sheet_l64 hX hN hE  n0 _ _ _ _ hf
def m_sheet_j39 (Q : Int32 → mI → mJ → Prop) (a1 : Int32) (a2 : Int32) (a3 : Int32) (I : mI) (J : mJ) : Prop :=
  vp_in a1 4 ∧ (((0 : Int32) ≤ a2 →
    m_sheet_j60 Q  a1 a1 a3 (u2 I 26 a1.toNatClampNeg a2) J) ∧ (¬ (0 : Int32) ≤ a2 →
    m_sheet_j60 Q  a1 a1 0 (u2 I 26 a1.toNatClampNeg a2) J))
theorem w_sheet_j39 {X : hh_CX} {Q : Int32 → mI → mJ → Prop} (hX : hh_C X cX14_sheet RX14 (hrm 2 42)) (hN : hh_nL X = 5) (hE : hh_E X (some .int) (mQi Q) 0 0) : ∀ (a1 : Int32) (a2 : Int32) (a3 : Int32) (I : mI) (J : mJ), m_sheet_j39 Q  a1 a2 a3 I J → hh_V X 39 [(0, .ref 0), (1, .int a1), (2, .int a2), (3, .int a3)] [] 0 0 (hm I J) := by
  intro a1 a2 a3 I J hf
  unfold m_sheet_j39 at hf
  refine hv_aload_n hX dX14_sheet_39 rfl 0 rfl ?_
  refine hm_getR hX dX14_sheet_40 mfl103 26 rfl ?_
  refine hv_iload_n hX dX14_sheet_43 rfl 1 rfl ?_
  refine hv_iload_n hX dX14_sheet_44 rfl 2 rfl ?_
  obtain ⟨g, hf⟩ := hf
  refine hm_iast hX dX14_sheet_45 (by decide) rfl rfl g ?_
  refine hv_aload_n hX dX14_sheet_46 rfl 0 rfl ?_
  refine hm_getR hX dX14_sheet_47 mfl106 27 rfl ?_
  refine hv_iload_n hX dX14_sheet_50 rfl 1 rfl ?_
  refine hv_iload_n hX dX14_sheet_51 rfl 2 rfl ?_
  refine hv_if_ge (tgt := 59) hX dX14_sheet_52 (by decide) (fun c11 => ?_) (fun c11 => ?_)
  · replace hf := hf.1 c11
    refine hv_iload_n hX dX14_sheet_59 rfl 3 rfl ?_
    refine hv_fewer [0, 1] (loc2 := [(0, .ref 0), (1, .int a1)]) rfl ?_
    exact w_sheet_j60 hX hN hE  _ _ _ _ _ hf
  · replace hf := hf.2 c11
    refine hv_iconst (v := 0) hX ic_0 dX14_sheet_55 ?_
    refine hv_goto (tgt := 60) hX dX14_sheet_56 (by decide) ?_
    refine hv_fewer [0, 1] (loc2 := [(0, .ref 0), (1, .int a1)]) rfl ?_
    exact w_sheet_j60 hX hN hE  _ _ _ _ _ hf
def m_sheet_j28 (Q : Int32 → mI → mJ → Prop) (a1 : Int32) (a2 : Int32) (a3 : Int32) (I : mI) (J : mJ) : Prop :=
  (a2 < 0 →
    m_sheet_j39 Q  a1 a2 a3 I J) ∧ (¬ a2 < 0 →
    ((0 : Int32) ≤ a3 →
      m_sheet_j39 Q  a1 a2 a3 I J) ∧ (¬ (0 : Int32) ≤ a3 →
      Q (-14) I J))
theorem w_sheet_j28 {X : hh_CX} {Q : Int32 → mI → mJ → Prop} (hX : hh_C X cX14_sheet RX14 (hrm 2 42)) (hN : hh_nL X = 5) (hE : hh_E X (some .int) (mQi Q) 0 0) : ∀ (a1 : Int32) (a2 : Int32) (a3 : Int32) (I : mI) (J : mJ), m_sheet_j28 Q  a1 a2 a3 I J → hh_V X 28 [(0, .ref 0), (1, .int a1), (2, .int a2), (3, .int a3)] [] 0 0 (hm I J) := by
  intro a1 a2 a3 I J hf
  unfold m_sheet_j28 at hf
  refine hv_iload_n hX dX14_sheet_28 rfl 2 rfl ?_
  refine hv_if_lt (tgt := 39) hX dX14_sheet_29 (by decide) (fun c10 => ?_) (fun c10 => ?_)
  · replace hf := hf.1 c10
    exact w_sheet_j39 hX hN hE  _ _ _ _ _ hf
  · replace hf := hf.2 c10
    refine hv_iload_n hX dX14_sheet_32 rfl 3 rfl ?_
    refine hv_if_ge (tgt := 39) hX dX14_sheet_33 (by decide) (fun c13 => ?_) (fun c13 => ?_)
    · replace hf := hf.1 c13
      exact w_sheet_j39 hX hN hE  _ _ _ _ _ hf
    · replace hf := hf.2 c13
      refine hv_bipush (v := (-14)) hX bi_m14 dX14_sheet_36 ?_
      exact hm_iret hX hE dX14_sheet_38 hf
def m_sheet (a1 : Int32) (a2 : Int32) (a3 : Int32) (I : mI) (J : mJ) (Q : Int32 → mI → mJ → Prop) : Prop :=
  m_isShelf a1 I J (fun r1 I2 J3 => (r1 = 0 →
    Q (-1) I2 J3) ∧ (¬ r1 = 0 →
    m_in a2 (-1) 3 I2 J3 (fun r5 I6 J7 => (r5 = 0 →
      Q (-1) I6 J7) ∧ (¬ r5 = 0 →
      (a2 < 0 →
        m_sheet_j28 Q  a1 a2 a3 I6 J7) ∧ (¬ a2 < 0 →
        (a3 ≤ 40 →
          m_sheet_j28 Q  a1 a2 a3 I6 J7) ∧ (¬ a3 ≤ 40 →
          Q (-1) I6 J7))))))
theorem ct_sheet (a1 : Int32) (a2 : Int32) (a3 : Int32) (I : mI) (J : mJ) (Q : Int32 → mI → mJ → Prop) (hf : m_sheet a1 a2 a3 I J Q) : hh_Ct yX14_sheet cX14_sheet 5 (some .int) 2 42 [.ref 0, .int a1, .int a2, .int a3] (hm I J) (mQi Q) 0 0 := by
  refine hh_Ct.of (own := RX14) rfl (by decide +kernel) (Nat.le_of_ble_eq_true rfl) ?_
  intro X hX hN hE
  show hh_V X 0 [(0, .ref 0), (1, .int a1), (2, .int a2), (3, .int a3)] [] 0 0 (hm I J)
  unfold m_sheet at hf
  refine hv_iload_n hX dX14_sheet_0 rfl 1 rfl ?_
  refine hm_callSi hX dX14_sheet_1 (ct_isShelf a1 I J _ hf) (gd_isShelf q1944) np_isShelf rfl rfl ⟨Nat.le_of_ble_eq_true rfl, Nat.le_of_ble_eq_true rfl⟩ ⟨Nat.le_refl _, Nat.le_refl _⟩ (Nat.le_of_ble_eq_true rfl) ?_
  intro r1 I2 J3 hf
  refine hv_if_eq (tgt := 26) hX dX14_sheet_4 (by decide) (fun c4 => ?_) (fun c4 => ?_)
  · replace hf := hf.1 c4
    refine hv_iconst (v := (-1)) hX ic_m1 dX14_sheet_26 ?_
    exact hm_iret hX hE dX14_sheet_27 hf
  · replace hf := hf.2 c4
    refine hv_iload_n hX dX14_sheet_7 rfl 2 rfl ?_
    refine hv_iconst (v := (-1)) hX ic_m1 dX14_sheet_8 ?_
    refine hv_iconst (v := 3) hX ic_3 dX14_sheet_9 ?_
    refine hm_callSi hX dX14_sheet_10 (ct_in a2 (-1) 3 I2 J3 _ hf) (gd_in q1923) np_in rfl rfl ⟨Nat.le_of_ble_eq_true rfl, Nat.le_of_ble_eq_true rfl⟩ ⟨Nat.le_refl _, Nat.le_refl _⟩ (Nat.le_of_ble_eq_true rfl) ?_
    intro r5 I6 J7 hf
    refine hv_if_eq (tgt := 26) hX dX14_sheet_13 (by decide) (fun c8 => ?_) (fun c8 => ?_)
    · replace hf := hf.1 c8
      refine hv_iconst (v := (-1)) hX ic_m1 dX14_sheet_26 ?_
      exact hm_iret hX hE dX14_sheet_27 hf
    · replace hf := hf.2 c8
      refine hv_iload_n hX dX14_sheet_16 rfl 2 rfl ?_
      refine hv_if_lt (tgt := 28) hX dX14_sheet_17 (by decide) (fun c9 => ?_) (fun c9 => ?_)
      · replace hf := hf.1 c9
        exact w_sheet_j28 hX hN hE  _ _ _ _ _ hf
      · replace hf := hf.2 c9
        refine hv_iload_n hX dX14_sheet_20 rfl 3 rfl ?_
        refine hv_bipush (v := 40) hX bi_40 dX14_sheet_21 ?_
        refine hv_icmp_le (tgt := 28) hX dX14_sheet_23 (by decide) (fun c14 => ?_) (fun c14 => ?_)
        · replace hf := hf.1 c14
          exact w_sheet_j28 hX hN hE  _ _ _ _ _ hf
        · replace hf := hf.2 c14
          refine hv_iconst (v := (-1)) hX ic_m1 dX14_sheet_26 ?_
          exact hm_iret hX hE dX14_sheet_27 hf
theorem np_sheet : yX14_sheet.cls = RX14 ∧ yX14_sheet.cls ≠ "java/lang/invoke/MethodHandle" ∧ yX14_sheet.cls ≠ "java/lang/invoke/VarHandle" ∧ (parseMethodDescriptor yX14_sheet.desc).map (fun d => d.parameters.length) = some 3 := by decide +kernel
theorem gd_sheet {idx : Nat} (h : Cond.methodLink RX14 idx yX14_sheet ∈ lw_all) : GoodIn lw_all (wsV RX14 idx RX14 yX14_sheet (ws_ yX14_sheet cX14_sheet 5 (some .int))) := lw_V h q2285 q2286 q123 q2287
/-! put(III)I -/
def m_put (a1 : Int32) (a2 : Int32) (a3 : Int32) (I : mI) (J : mJ) (Q : Int32 → mI → mJ → Prop) : Prop :=
  m_isShelf a1 I J (fun r1 I2 J3 => (r1 = 0 →
    Q (-1) I2 J3) ∧ (¬ r1 = 0 →
    vp_in a1 4 ∧ (((0 : Int32) ≤ (I2 26 a1.toNatClampNeg) →
      vp_in a1 4 ∧ (m_in a2 0 ((I2 27 a1.toNatClampNeg) - 1) I2 J3 (fun r6 I7 J8 => (r6 = 0 →
        Q (-12) I7 J8) ∧ (¬ r6 = 0 →
        vp_in a1 4 ∧ (((I7 26 a1.toNatClampNeg) = 0 →
          vp_in ((40 * a1) + a2) 160 ∧ (Q 1 I7 (u2 J8 28 ((40 * a1) + a2).toNatClampNeg ((a3.toInt8.toInt32).toInt64)))) ∧ (¬ (I7 26 a1.toNatClampNeg) = 0 →
          vp_in a1 4 ∧ (((I7 26 a1.toNatClampNeg) = 1 →
            vp_in ((40 * a1) + a2) 160 ∧ (Q 1 I7 (u2 J8 28 ((40 * a1) + a2).toNatClampNeg ((a3.toInt16.toInt32).toInt64)))) ∧ (¬ (I7 26 a1.toNatClampNeg) = 1 →
            vp_in ((40 * a1) + a2) 160 ∧ (Q 1 I7 (u2 J8 28 ((40 * a1) + a2).toNatClampNeg (a3.toInt64))))))))))) ∧ (¬ (0 : Int32) ≤ (I2 26 a1.toNatClampNeg) →
      Q (-11) I2 J3))))
theorem ct_put (a1 : Int32) (a2 : Int32) (a3 : Int32) (I : mI) (J : mJ) (Q : Int32 → mI → mJ → Prop) (hf : m_put a1 a2 a3 I J Q) : hh_Ct yX14_put cX14_put 4 (some .int) 2 42 [.ref 0, .int a1, .int a2, .int a3] (hm I J) (mQi Q) 0 0 := by
  refine hh_Ct.of (own := RX14) rfl (by decide +kernel) (Nat.le_of_ble_eq_true rfl) ?_
  intro X hX hN hE
  show hh_V X 0 [(0, .ref 0), (1, .int a1), (2, .int a2), (3, .int a3)] [] 0 0 (hm I J)
  unfold m_put at hf
  refine hv_iload_n hX dX14_put_0 rfl 1 rfl ?_
  refine hm_callSi hX dX14_put_1 (ct_isShelf a1 I J _ hf) (gd_isShelf q1944) np_isShelf rfl rfl ⟨Nat.le_of_ble_eq_true rfl, Nat.le_of_ble_eq_true rfl⟩ ⟨Nat.le_refl _, Nat.le_refl _⟩ (Nat.le_of_ble_eq_true rfl) ?_
  intro r1 I2 J3 hf
  refine hv_if_ne (tgt := 9) hX dX14_put_4 (by decide) (fun c4 => ?_) (fun c4 => ?_)
  · replace hf := hf.2 c4
    refine hv_aload_n hX dX14_put_9 rfl 0 rfl ?_
    refine hm_getR hX dX14_put_10 mfl103 26 rfl ?_
    refine hv_iload_n hX dX14_put_13 rfl 1 rfl ?_
    obtain ⟨g, hf⟩ := hf
    refine hm_iald (v := (I2 26 a1.toNatClampNeg)) hX dX14_put_14 (by decide) rfl rfl g rfl ?_
    refine hv_if_ge (tgt := 21) hX dX14_put_15 (by decide) (fun c5 => ?_) (fun c5 => ?_)
    · replace hf := hf.1 c5
      refine hv_iload_n hX dX14_put_21 rfl 2 rfl ?_
      refine hv_iconst (v := 0) hX ic_0 dX14_put_22 ?_
      refine hv_aload_n hX dX14_put_23 rfl 0 rfl ?_
      refine hm_getR hX dX14_put_24 mfl106 27 rfl ?_
      refine hv_iload_n hX dX14_put_27 rfl 1 rfl ?_
      obtain ⟨g, hf⟩ := hf
      refine hm_iald (v := (I2 27 a1.toNatClampNeg)) hX dX14_put_28 (by decide) rfl rfl g rfl ?_
      refine hv_iconst (v := 1) hX ic_1 dX14_put_29 ?_
      refine hv_isub hX dX14_put_30 ?_
      refine hm_callSi hX dX14_put_31 (ct_in a2 0 ((I2 27 a1.toNatClampNeg) - 1) I2 J3 _ hf) (gd_in q1923) np_in rfl rfl ⟨Nat.le_of_ble_eq_true rfl, Nat.le_of_ble_eq_true rfl⟩ ⟨Nat.le_refl _, Nat.le_refl _⟩ (Nat.le_of_ble_eq_true rfl) ?_
      intro r6 I7 J8 hf
      refine hv_if_ne (tgt := 40) hX dX14_put_34 (by decide) (fun c9 => ?_) (fun c9 => ?_)
      · replace hf := hf.2 c9
        refine hv_aload_n hX dX14_put_40 rfl 0 rfl ?_
        refine hm_getR hX dX14_put_41 mfl109 28 rfl ?_
        refine hv_bipush (v := 40) hX bi_40 dX14_put_44 ?_
        refine hv_iload_n hX dX14_put_46 rfl 1 rfl ?_
        refine hv_imul hX dX14_put_47 ?_
        refine hv_iload_n hX dX14_put_48 rfl 2 rfl ?_
        refine hv_iadd hX dX14_put_49 ?_
        refine hv_aload_n hX dX14_put_50 rfl 0 rfl ?_
        refine hm_getR hX dX14_put_51 mfl103 26 rfl ?_
        refine hv_iload_n hX dX14_put_54 rfl 1 rfl ?_
        obtain ⟨g, hf⟩ := hf
        refine hm_iald (v := (I7 26 a1.toNatClampNeg)) hX dX14_put_55 (by decide) rfl rfl g rfl ?_
        refine hv_if_ne (tgt := 65) hX dX14_put_56 (by decide) (fun c10 => ?_) (fun c10 => ?_)
        · replace hf := hf.2 c10
          refine hv_aload_n hX dX14_put_65 rfl 0 rfl ?_
          refine hm_getR hX dX14_put_66 mfl103 26 rfl ?_
          refine hv_iload_n hX dX14_put_69 rfl 1 rfl ?_
          obtain ⟨g, hf⟩ := hf
          refine hm_iald (v := (I7 26 a1.toNatClampNeg)) hX dX14_put_70 (by decide) rfl rfl g rfl ?_
          refine hv_iconst (v := 1) hX ic_1 dX14_put_71 ?_
          refine hv_icmp_ne (tgt := 81) hX dX14_put_72 (by decide) (fun c11 => ?_) (fun c11 => ?_)
          · replace hf := hf.2 c11
            refine hv_iload_n hX dX14_put_81 rfl 3 rfl ?_
            refine hv_i2l hX dX14_put_82 ?_
            obtain ⟨g, hf⟩ := hf
            refine hm_last hX dX14_put_83 (by decide) rfl rfl g ?_
            refine hv_iconst (v := 1) hX ic_1 dX14_put_84 ?_
            exact hm_iret hX hE dX14_put_85 hf
          · replace hf := hf.1 c11
            refine hv_iload_n hX dX14_put_75 rfl 3 rfl ?_
            refine hv_i2s hX dX14_put_76 ?_
            refine hv_i2l hX dX14_put_77 ?_
            refine hv_goto (tgt := 83) hX dX14_put_78 (by decide) ?_
            obtain ⟨g, hf⟩ := hf
            refine hm_last hX dX14_put_83 (by decide) rfl rfl g ?_
            refine hv_iconst (v := 1) hX ic_1 dX14_put_84 ?_
            exact hm_iret hX hE dX14_put_85 hf
        · replace hf := hf.1 c10
          refine hv_iload_n hX dX14_put_59 rfl 3 rfl ?_
          refine hv_i2b hX dX14_put_60 ?_
          refine hv_i2l hX dX14_put_61 ?_
          refine hv_goto (tgt := 83) hX dX14_put_62 (by decide) ?_
          obtain ⟨g, hf⟩ := hf
          refine hm_last hX dX14_put_83 (by decide) rfl rfl g ?_
          refine hv_iconst (v := 1) hX ic_1 dX14_put_84 ?_
          exact hm_iret hX hE dX14_put_85 hf
      · replace hf := hf.1 c9
        refine hv_bipush (v := (-12)) hX bi_m12 dX14_put_37 ?_
        exact hm_iret hX hE dX14_put_39 hf
    · replace hf := hf.2 c5
      refine hv_bipush (v := (-11)) hX bi_m11 dX14_put_18 ?_
      exact hm_iret hX hE dX14_put_20 hf
  · replace hf := hf.1 c4
    refine hv_iconst (v := (-1)) hX ic_m1 dX14_put_7 ?_
    exact hm_iret hX hE dX14_put_8 hf
theorem np_put : yX14_put.cls = RX14 ∧ yX14_put.cls ≠ "java/lang/invoke/MethodHandle" ∧ yX14_put.cls ≠ "java/lang/invoke/VarHandle" ∧ (parseMethodDescriptor yX14_put.desc).map (fun d => d.parameters.length) = some 3 := by decide +kernel
theorem gd_put {idx : Nat} (h : Cond.methodLink RX14 idx yX14_put ∈ lw_all) : GoodIn lw_all (wsV RX14 idx RX14 yX14_put (ws_ yX14_put cX14_put 4 (some .int))) := lw_V h q2289 q2290 q123 q2291
/-! item(III)I -/
def m_item (a1 : Int32) (a2 : Int32) (a3 : Int32) (I : mI) (J : mJ) (Q : Int32 → mI → mJ → Prop) : Prop :=
  m_isShelf a1 I J (fun r1 I2 J3 => (r1 = 0 →
    Q (-1) I2 J3) ∧ (¬ r1 = 0 →
    m_in a2 0 3 I2 J3 (fun r5 I6 J7 => (r5 = 0 →
      Q (-1) I6 J7) ∧ (¬ r5 = 0 →
      m_lacksSort a1 a2 I6 J7 (fun r9 I10 J11 => (r9 = 0 →
        vp_in a1 4 ∧ (m_in a3 0 ((I10 27 a1.toNatClampNeg) - 1) I10 J11 (fun r13 I14 J15 => (r13 = 0 →
          Q (-12) I14 J15) ∧ (¬ r13 = 0 →
          vp_in ((40 * a1) + a3) 160 ∧ (Q ((J15 28 ((40 * a1) + a3).toNatClampNeg).toInt32) I14 J15))))) ∧ (¬ r9 = 0 →
        Q r9 I10 J11))))))
theorem ct_item (a1 : Int32) (a2 : Int32) (a3 : Int32) (I : mI) (J : mJ) (Q : Int32 → mI → mJ → Prop) (hf : m_item a1 a2 a3 I J Q) : hh_Ct yX14_item cX14_item 5 (some .int) 2 42 [.ref 0, .int a1, .int a2, .int a3] (hm I J) (mQi Q) 0 0 := by
  refine hh_Ct.of (own := RX14) rfl (by decide +kernel) (Nat.le_of_ble_eq_true rfl) ?_
  intro X hX hN hE
  show hh_V X 0 [(0, .ref 0), (1, .int a1), (2, .int a2), (3, .int a3)] [] 0 0 (hm I J)
  unfold m_item at hf
  refine hv_iload_n hX dX14_item_0 rfl 1 rfl ?_
  refine hm_callSi hX dX14_item_1 (ct_isShelf a1 I J _ hf) (gd_isShelf q1944) np_isShelf rfl rfl ⟨Nat.le_of_ble_eq_true rfl, Nat.le_of_ble_eq_true rfl⟩ ⟨Nat.le_refl _, Nat.le_refl _⟩ (Nat.le_of_ble_eq_true rfl) ?_
  intro r1 I2 J3 hf
  refine hv_if_eq (tgt := 16) hX dX14_item_4 (by decide) (fun c4 => ?_) (fun c4 => ?_)
  · replace hf := hf.1 c4
    refine hv_iconst (v := (-1)) hX ic_m1 dX14_item_16 ?_
    exact hm_iret hX hE dX14_item_17 hf
  · replace hf := hf.2 c4
    refine hv_iload_n hX dX14_item_7 rfl 2 rfl ?_
    refine hv_iconst (v := 0) hX ic_0 dX14_item_8 ?_
    refine hv_iconst (v := 3) hX ic_3 dX14_item_9 ?_
    refine hm_callSi hX dX14_item_10 (ct_in a2 0 3 I2 J3 _ hf) (gd_in q1923) np_in rfl rfl ⟨Nat.le_of_ble_eq_true rfl, Nat.le_of_ble_eq_true rfl⟩ ⟨Nat.le_refl _, Nat.le_refl _⟩ (Nat.le_of_ble_eq_true rfl) ?_
    intro r5 I6 J7 hf
    refine hv_if_ne (tgt := 18) hX dX14_item_13 (by decide) (fun c8 => ?_) (fun c8 => ?_)
    · replace hf := hf.2 c8
      refine hv_aload_n hX dX14_item_18 rfl 0 rfl ?_
      refine hv_iload_n hX dX14_item_19 rfl 1 rfl ?_
      refine hv_iload_n hX dX14_item_20 rfl 2 rfl ?_
      refine hm_callVi hX dX14_item_21 (ct_lacksSort a1 a2 I6 J7 _ hf) (gd_lacksSort q1947) np_lacksSort rfl rfl ⟨Nat.le_of_ble_eq_true rfl, Nat.le_of_ble_eq_true rfl⟩ ⟨Nat.le_refl _, Nat.le_refl _⟩ (Nat.le_of_ble_eq_true rfl) ?_
      intro r9 I10 J11 hf
      refine hv_istore (loc2 := [(4, .int r9), (0, .ref 0), (1, .int a1), (2, .int a2), (3, .int a3)]) hX dX14_item_24 hN (Nat.le_of_ble_eq_true rfl) rfl ?_
      refine hv_iload hX dX14_item_26 0 rfl ?_
      refine hv_if_eq (tgt := 34) hX dX14_item_28 (by decide) (fun c12 => ?_) (fun c12 => ?_)
      · replace hf := hf.1 c12
        refine hv_iload_n hX dX14_item_34 rfl 4 rfl ?_
        refine hv_iconst (v := 0) hX ic_0 dX14_item_35 ?_
        refine hv_aload_n hX dX14_item_36 rfl 1 rfl ?_
        refine hm_getR hX dX14_item_37 mfl106 27 rfl ?_
        refine hv_iload_n hX dX14_item_40 rfl 2 rfl ?_
        obtain ⟨g, hf⟩ := hf
        refine hm_iald (v := (I10 27 a1.toNatClampNeg)) hX dX14_item_41 (by decide) rfl rfl g rfl ?_
        refine hv_iconst (v := 1) hX ic_1 dX14_item_42 ?_
        refine hv_isub hX dX14_item_43 ?_
        refine hm_callSi hX dX14_item_44 (ct_in a3 0 ((I10 27 a1.toNatClampNeg) - 1) I10 J11 _ hf) (gd_in q1923) np_in rfl rfl ⟨Nat.le_of_ble_eq_true rfl, Nat.le_of_ble_eq_true rfl⟩ ⟨Nat.le_refl _, Nat.le_refl _⟩ (Nat.le_of_ble_eq_true rfl) ?_
        intro r13 I14 J15 hf
        refine hv_if_eq (tgt := 65) hX dX14_item_47 (by decide) (fun c16 => ?_) (fun c16 => ?_)
        · replace hf := hf.1 c16
          refine hv_bipush (v := (-12)) hX bi_m12 dX14_item_65 ?_
          exact hm_iret hX hE dX14_item_67 hf
        · replace hf := hf.2 c16
          refine hv_aload_n hX dX14_item_50 rfl 1 rfl ?_
          refine hm_getR hX dX14_item_51 mfl109 28 rfl ?_
          refine hv_bipush (v := 40) hX bi_40 dX14_item_54 ?_
          refine hv_iload_n hX dX14_item_56 rfl 2 rfl ?_
          refine hv_imul hX dX14_item_57 ?_
          refine hv_iload_n hX dX14_item_58 rfl 4 rfl ?_
          refine hv_iadd hX dX14_item_59 ?_
          obtain ⟨g, hf⟩ := hf
          refine hm_lald (v := (J15 28 ((40 * a1) + a3).toNatClampNeg)) hX dX14_item_60 (by decide) rfl rfl g rfl ?_
          refine hv_l2i hX dX14_item_61 ?_
          refine hv_goto (tgt := 67) hX dX14_item_62 (by decide) ?_
          exact hm_iret hX hE dX14_item_67 hf
      · replace hf := hf.2 c12
        refine hv_iload hX dX14_item_31 0 rfl ?_
        exact hm_iret hX hE dX14_item_33 hf
    · replace hf := hf.1 c8
      refine hv_iconst (v := (-1)) hX ic_m1 dX14_item_16 ?_
      exact hm_iret hX hE dX14_item_17 hf
theorem np_item : yX14_item.cls = RX14 ∧ yX14_item.cls ≠ "java/lang/invoke/MethodHandle" ∧ yX14_item.cls ≠ "java/lang/invoke/VarHandle" ∧ (parseMethodDescriptor yX14_item.desc).map (fun d => d.parameters.length) = some 3 := by decide +kernel
theorem gd_item {idx : Nat} (h : Cond.methodLink RX14 idx yX14_item ∈ lw_all) : GoodIn lw_all (wsV RX14 idx RX14 yX14_item (ws_ yX14_item cX14_item 5 (some .int))) := lw_V h q2293 q2294 q123 q2295
/-! acts(III)I -/
def m_acts_j98 (Q : Int32 → mI → mJ → Prop) (k41 : Int32 → Int32 → Int32 → Int32 → Int32 → mI → mJ → Prop) (a1 : Int32) (a2 : Int32) (a3 : Int32) (a6 : Int32) (s0 : Int32) (s1 : Int32) (I : mI) (J : mJ) : Prop :=
  k41 a1 a2 a3 (s0 + s1) (a6 + 1) I J
theorem w_acts_j98 {X : hh_CX} {Q : Int32 → mI → mJ → Prop} (hX : hh_C X cX14_acts RX14 (hrm 5 113)) (hN : hh_nL X = 7) (hE : hh_E X (some .int) (mQi Q) 0 0) {k41 : Int32 → Int32 → Int32 → Int32 → Int32 → mI → mJ → Prop} (hk41 : ∀ (b0 : Int32) (b1 : Int32) (b2 : Int32) (b3 : Int32) (b4 : Int32) (I : mI) (J : mJ), k41 b0 b1 b2 b3 b4 I J → hh_V X 41 [(0, .ref 0), (1, .int b0), (2, .int b1), (3, .int b2), (5, .int b3), (6, .int b4)] [] 0 0 (hm I J)) : ∀ (a1 : Int32) (a2 : Int32) (a3 : Int32) (a6 : Int32) (s0 : Int32) (s1 : Int32) (I : mI) (J : mJ), m_acts_j98 Q k41 a1 a2 a3 a6 s0 s1 I J → hh_V X 98 [(0, .ref 0), (1, .int a1), (2, .int a2), (3, .int a3), (6, .int a6)] [.int s1, .int s0] 0 0 (hm I J) := by
  intro a1 a2 a3 a6 s0 s1 I J hf
  unfold m_acts_j98 at hf
  refine hv_iadd hX dX14_acts_98 ?_
  refine hv_istore (loc2 := [(5, .int (s0 + s1)), (0, .ref 0), (1, .int a1), (2, .int a2), (3, .int a3), (6, .int a6)]) hX dX14_acts_99 hN (Nat.le_of_ble_eq_true rfl) rfl ?_
  refine hv_iinc (v := (a6 + 1)) (loc2 := [(6, .int (a6 + 1)), (5, .int (s0 + s1)), (0, .ref 0), (1, .int a1), (2, .int a2), (3, .int a3)]) hX dX14_acts_101 5 rfl (congrArg (fun y => a6 + y) ic_1) hN (Nat.le_of_ble_eq_true rfl) rfl ?_
  refine hv_goto (tgt := 41) hX dX14_acts_104 (by decide) ?_
  refine hv_fewer [2, 3, 4, 5, 1, 0] (loc2 := [(0, .ref 0), (1, .int a1), (2, .int a2), (3, .int a3), (5, .int (s0 + s1)), (6, .int (a6 + 1))]) rfl ?_
  exact hk41 _ _ _ _ _ _ _ hf
def m_acts_l41 (Q : Int32 → mI → mJ → Prop) : Nat → Int32 → Int32 → Int32 → Int32 → Int32 → mI → mJ → Prop
  | 0, _, _, _, _, _, _, _ => False
  | n + 1, a1, a2, a3, a5, a6, I, J =>
    (a3 ≤ a6 →
      Q a5 I J) ∧ (¬ a3 ≤ a6 →
      (a2 < 0 →
        Q (-12) I J) ∧ (¬ a2 < 0 →
        vp_in a1 4 ∧ ((a2 ≤ (((I 27 a1.toNatClampNeg) - 1) - a6) →
          vp_in (((40 * a1) + a2) + a6) 160 ∧ (m_does ((J 28 (((40 * a1) + a2) + a6).toNatClampNeg).toInt32) I J (fun r16 I17 J18 => (r16 < 0 →
            m_acts_j98 Q (fun b0 b1 b2 b3 b4 I J => m_acts_l41 Q n b0 b1 b2 b3 b4 I J) a1 a2 a3 a6 a5 0 I17 J18) ∧ (¬ r16 < 0 →
            m_acts_j98 Q (fun b0 b1 b2 b3 b4 I J => m_acts_l41 Q n b0 b1 b2 b3 b4 I J) a1 a2 a3 a6 a5 1 I17 J18)))) ∧ (¬ a2 ≤ (((I 27 a1.toNatClampNeg) - 1) - a6) →
          Q (-12) I J))))
theorem w_acts_l41 {X : hh_CX} {Q : Int32 → mI → mJ → Prop} (hX : hh_C X cX14_acts RX14 (hrm 5 113)) (hN : hh_nL X = 7) (hE : hh_E X (some .int) (mQi Q) 0 0) : ∀ (n : Nat) (a1 : Int32) (a2 : Int32) (a3 : Int32) (a5 : Int32) (a6 : Int32) (I : mI) (J : mJ), m_acts_l41 Q  n a1 a2 a3 a5 a6 I J → hh_V X 41 [(0, .ref 0), (1, .int a1), (2, .int a2), (3, .int a3), (5, .int a5), (6, .int a6)] [] 0 0 (hm I J) := by
  intro n
  induction n with
  | zero => intro _ _ _ _ _ _ _ hf; exact hf.elim
  | succ n ih =>
    intro a1 a2 a3 a5 a6 I J hf
    unfold m_acts_l41 at hf
    refine hv_iload hX dX14_acts_41 5 rfl ?_
    refine hv_iload_n hX dX14_acts_43 rfl 3 rfl ?_
    refine hv_icmp_ge (tgt := 107) hX dX14_acts_44 (by decide) (fun c13 => ?_) (fun c13 => ?_)
    · replace hf := hf.1 c13
      refine hv_iload hX dX14_acts_107 4 rfl ?_
      exact hm_iret hX hE dX14_acts_109 hf
    · replace hf := hf.2 c13
      refine hv_iload_n hX dX14_acts_47 rfl 2 rfl ?_
      refine hv_if_lt (tgt := 66) hX dX14_acts_48 (by decide) (fun c14 => ?_) (fun c14 => ?_)
      · replace hf := hf.1 c14
        refine hv_bipush (v := (-12)) hX bi_m12 dX14_acts_66 ?_
        exact hm_iret hX hE dX14_acts_68 hf
      · replace hf := hf.2 c14
        refine hv_iload_n hX dX14_acts_51 rfl 2 rfl ?_
        refine hv_aload_n hX dX14_acts_52 rfl 0 rfl ?_
        refine hm_getR hX dX14_acts_53 mfl106 27 rfl ?_
        refine hv_iload_n hX dX14_acts_56 rfl 1 rfl ?_
        obtain ⟨g, hf⟩ := hf
        refine hm_iald (v := (I 27 a1.toNatClampNeg)) hX dX14_acts_57 (by decide) rfl rfl g rfl ?_
        refine hv_iconst (v := 1) hX ic_1 dX14_acts_58 ?_
        refine hv_isub hX dX14_acts_59 ?_
        refine hv_iload hX dX14_acts_60 5 rfl ?_
        refine hv_isub hX dX14_acts_62 ?_
        refine hv_icmp_le (tgt := 69) hX dX14_acts_63 (by decide) (fun c15 => ?_) (fun c15 => ?_)
        · replace hf := hf.1 c15
          refine hv_iload hX dX14_acts_69 4 rfl ?_
          refine hv_aload_n hX dX14_acts_71 rfl 0 rfl ?_
          refine hv_aload_n hX dX14_acts_72 rfl 0 rfl ?_
          refine hm_getR hX dX14_acts_73 mfl109 28 rfl ?_
          refine hv_bipush (v := 40) hX bi_40 dX14_acts_76 ?_
          refine hv_iload_n hX dX14_acts_78 rfl 1 rfl ?_
          refine hv_imul hX dX14_acts_79 ?_
          refine hv_iload_n hX dX14_acts_80 rfl 2 rfl ?_
          refine hv_iadd hX dX14_acts_81 ?_
          refine hv_iload hX dX14_acts_82 5 rfl ?_
          refine hv_iadd hX dX14_acts_84 ?_
          obtain ⟨g, hf⟩ := hf
          refine hm_lald (v := (J 28 (((40 * a1) + a2) + a6).toNatClampNeg)) hX dX14_acts_85 (by decide) rfl rfl g rfl ?_
          refine hv_l2i hX dX14_acts_86 ?_
          refine hm_callVi hX dX14_acts_87 (ct_does ((J 28 (((40 * a1) + a2) + a6).toNatClampNeg).toInt32) I J _ hf) (gd_does q2300) np_does rfl rfl ⟨Nat.le_of_ble_eq_true rfl, Nat.le_of_ble_eq_true rfl⟩ ⟨Nat.le_refl _, Nat.le_refl _⟩ (Nat.le_of_ble_eq_true rfl) ?_
          intro r16 I17 J18 hf
          refine hv_if_lt (tgt := 97) hX dX14_acts_90 (by decide) (fun c19 => ?_) (fun c19 => ?_)
          · replace hf := hf.1 c19
            refine hv_iconst (v := 0) hX ic_0 dX14_acts_97 ?_
            refine hv_fewer [0, 1, 2, 3, 5] (loc2 := [(0, .ref 0), (1, .int a1), (2, .int a2), (3, .int a3), (6, .int a6)]) rfl ?_
            exact w_acts_j98 hX hN hE ih _ _ _ _ _ _ _ _ hf
          · replace hf := hf.2 c19
            refine hv_iconst (v := 1) hX ic_1 dX14_acts_93 ?_
            refine hv_goto (tgt := 98) hX dX14_acts_94 (by decide) ?_
            refine hv_fewer [0, 1, 2, 3, 5] (loc2 := [(0, .ref 0), (1, .int a1), (2, .int a2), (3, .int a3), (6, .int a6)]) rfl ?_
            exact w_acts_j98 hX hN hE ih _ _ _ _ _ _ _ _ hf
        · replace hf := hf.2 c15
          refine hv_bipush (v := (-12)) hX bi_m12 dX14_acts_66 ?_
          exact hm_iret hX hE dX14_acts_68 hf
def m_acts (a1 : Int32) (a2 : Int32) (a3 : Int32) (I : mI) (J : mJ) (Q : Int32 → mI → mJ → Prop) : Prop :=
  m_isShelf a1 I J (fun r1 I2 J3 => (r1 = 0 →
    Q (-1) I2 J3) ∧ (¬ r1 = 0 →
    m_in a3 0 20 I2 J3 (fun r5 I6 J7 => (r5 = 0 →
      Q (-1) I6 J7) ∧ (¬ r5 = 0 →
      m_lacksSort a1 2 I6 J7 (fun r9 I10 J11 => (r9 = 0 →
        ∃ n0 : Nat, m_acts_l41 Q  n0 a1 a2 a3 0 0 I10 J11) ∧ (¬ r9 = 0 →
        Q r9 I10 J11))))))
theorem ct_acts (a1 : Int32) (a2 : Int32) (a3 : Int32) (I : mI) (J : mJ) (Q : Int32 → mI → mJ → Prop) (hf : m_acts a1 a2 a3 I J Q) : hh_Ct yX14_acts cX14_acts 7 (some .int) 5 113 [.ref 0, .int a1, .int a2, .int a3] (hm I J) (mQi Q) 0 0 := by
  refine hh_Ct.of (own := RX14) rfl (by decide +kernel) (Nat.le_of_ble_eq_true rfl) ?_
  intro X hX hN hE
  show hh_V X 0 [(0, .ref 0), (1, .int a1), (2, .int a2), (3, .int a3)] [] 0 0 (hm I J)
  unfold m_acts at hf
  refine hv_iload_n hX dX14_acts_0 rfl 1 rfl ?_
  refine hm_callSi hX dX14_acts_1 (ct_isShelf a1 I J _ hf) (gd_isShelf q1944) np_isShelf rfl rfl ⟨Nat.le_of_ble_eq_true rfl, Nat.le_of_ble_eq_true rfl⟩ ⟨Nat.le_refl _, Nat.le_refl _⟩ (Nat.le_of_ble_eq_true rfl) ?_
  intro r1 I2 J3 hf
  refine hv_if_eq (tgt := 17) hX dX14_acts_4 (by decide) (fun c4 => ?_) (fun c4 => ?_)
  · replace hf := hf.1 c4
    refine hv_iconst (v := (-1)) hX ic_m1 dX14_acts_17 ?_
    exact hm_iret hX hE dX14_acts_18 hf
  · replace hf := hf.2 c4
    refine hv_iload_n hX dX14_acts_7 rfl 3 rfl ?_
    refine hv_iconst (v := 0) hX ic_0 dX14_acts_8 ?_
    refine hv_bipush (v := 20) hX bi_20 dX14_acts_9 ?_
    refine hm_callSi hX dX14_acts_11 (ct_in a3 0 20 I2 J3 _ hf) (gd_in q1923) np_in rfl rfl ⟨Nat.le_of_ble_eq_true rfl, Nat.le_of_ble_eq_true rfl⟩ ⟨Nat.le_refl _, Nat.le_refl _⟩ (Nat.le_of_ble_eq_true rfl) ?_
    intro r5 I6 J7 hf
    refine hv_if_ne (tgt := 19) hX dX14_acts_14 (by decide) (fun c8 => ?_) (fun c8 => ?_)
    · replace hf := hf.2 c8
      refine hv_aload_n hX dX14_acts_19 rfl 0 rfl ?_
      refine hv_iload_n hX dX14_acts_20 rfl 1 rfl ?_
      refine hv_iconst (v := 2) hX ic_2 dX14_acts_21 ?_
      refine hm_callVi hX dX14_acts_22 (ct_lacksSort a1 2 I6 J7 _ hf) (gd_lacksSort q1947) np_lacksSort rfl rfl ⟨Nat.le_of_ble_eq_true rfl, Nat.le_of_ble_eq_true rfl⟩ ⟨Nat.le_refl _, Nat.le_refl _⟩ (Nat.le_of_ble_eq_true rfl) ?_
      intro r9 I10 J11 hf
      refine hv_istore (loc2 := [(4, .int r9), (0, .ref 0), (1, .int a1), (2, .int a2), (3, .int a3)]) hX dX14_acts_25 hN (Nat.le_of_ble_eq_true rfl) rfl ?_
      refine hv_iload hX dX14_acts_27 0 rfl ?_
      refine hv_if_eq (tgt := 35) hX dX14_acts_29 (by decide) (fun c12 => ?_) (fun c12 => ?_)
      · replace hf := hf.1 c12
        refine hv_iconst (v := 0) hX ic_0 dX14_acts_35 ?_
        refine hv_istore (loc2 := [(5, .int 0), (4, .int r9), (0, .ref 0), (1, .int a1), (2, .int a2), (3, .int a3)]) hX dX14_acts_36 hN (Nat.le_of_ble_eq_true rfl) rfl ?_
        refine hv_iconst (v := 0) hX ic_0 dX14_acts_38 ?_
        refine hv_istore (loc2 := [(6, .int 0), (5, .int 0), (4, .int r9), (0, .ref 0), (1, .int a1), (2, .int a2), (3, .int a3)]) hX dX14_acts_39 hN (Nat.le_of_ble_eq_true rfl) rfl ?_
        refine hv_fewer [3, 4, 5, 6, 1, 0] (loc2 := [(0, .ref 0), (1, .int a1), (2, .int a2), (3, .int a3), (5, .int 0), (6, .int 0)]) rfl ?_
        obtain ⟨n0, hf⟩ := hf
        exact w_acts_l41 hX hN hE  n0 _ _ _ _ _ _ _ hf
      · replace hf := hf.2 c12
        refine hv_iload hX dX14_acts_32 0 rfl ?_
        exact hm_iret hX hE dX14_acts_34 hf
    · replace hf := hf.1 c8
      refine hv_iconst (v := (-1)) hX ic_m1 dX14_acts_17 ?_
      exact hm_iret hX hE dX14_acts_18 hf
theorem np_acts : yX14_acts.cls = RX14 ∧ yX14_acts.cls ≠ "java/lang/invoke/MethodHandle" ∧ yX14_acts.cls ≠ "java/lang/invoke/VarHandle" ∧ (parseMethodDescriptor yX14_acts.desc).map (fun d => d.parameters.length) = some 3 := by decide +kernel
theorem gd_acts {idx : Nat} (h : Cond.methodLink RX14 idx yX14_acts ∈ lw_all) : GoodIn lw_all (wsV RX14 idx RX14 yX14_acts (ws_ yX14_acts cX14_acts 7 (some .int))) := lw_V h q2297 q2298 q123 q2299
/-! isThing(II)Z -/
def m_isThing (a1 : Int32) (a2 : Int32) (I : mI) (J : mJ) (Q : Int32 → mI → mJ → Prop) : Prop :=
  (a1 = 0 →
    m_isPatch a2 I J (fun r13 I14 J15 => (r13 = 0 ∨ r13 = 1) ∧ (Q r13 I14 J15))) ∧ (¬ a1 = 0 →
    (a1 = 1 →
      m_in a2 0 ((I 0 9) - 1) I J (fun r10 I11 J12 => (r10 = 0 ∨ r10 = 1) ∧ (Q r10 I11 J12))) ∧ (¬ a1 = 1 →
      (a1 = 3 →
        m_isShelf a2 I J (fun r7 I8 J9 => (r7 = 0 ∨ r7 = 1) ∧ (Q r7 I8 J9))) ∧ (¬ a1 = 3 →
        (a1 = 2 →
          ((I 0 8) ≤ 0 →
            Q 0 I J) ∧ (¬ (I 0 8) ≤ 0 →
            Q 1 I J)) ∧ (¬ a1 = 2 →
          (a1 = 4 →
            Q 1 I J) ∧ (¬ a1 = 4 →
            Q 0 I J)))))
theorem ct_isThing (a1 : Int32) (a2 : Int32) (I : mI) (J : mJ) (Q : Int32 → mI → mJ → Prop) (hf : m_isThing a1 a2 I J Q) : hh_Ct yX14_isThing cX14_isThing 3 (some .boolean) 2 43 [.ref 0, .int a1, .int a2] (hm I J) (mQi Q) 0 0 := by
  refine hh_Ct.of (own := RX14) rfl (by decide +kernel) (Nat.le_of_ble_eq_true rfl) ?_
  intro X hX hN hE
  show hh_V X 0 [(0, .ref 0), (1, .int a1), (2, .int a2)] [] 0 0 (hm I J)
  unfold m_isThing at hf
  refine hv_iload_n hX dX14_isThing_0 rfl 1 rfl ?_
  refine hv_if_ne (tgt := 12) hX dX14_isThing_1 (by decide) (fun c1 => ?_) (fun c1 => ?_)
  · replace hf := hf.2 c1
    refine hv_iload_n hX dX14_isThing_12 rfl 1 rfl ?_
    refine hv_iconst (v := 1) hX ic_1 dX14_isThing_13 ?_
    refine hv_icmp_ne (tgt := 31) hX dX14_isThing_14 (by decide) (fun c2 => ?_) (fun c2 => ?_)
    · replace hf := hf.2 c2
      refine hv_iload_n hX dX14_isThing_31 rfl 1 rfl ?_
      refine hv_iconst (v := 3) hX ic_3 dX14_isThing_32 ?_
      refine hv_icmp_ne (tgt := 43) hX dX14_isThing_33 (by decide) (fun c3 => ?_) (fun c3 => ?_)
      · replace hf := hf.2 c3
        refine hv_iload_n hX dX14_isThing_43 rfl 1 rfl ?_
        refine hv_iconst (v := 2) hX ic_2 dX14_isThing_44 ?_
        refine hv_icmp_ne (tgt := 63) hX dX14_isThing_45 (by decide) (fun c4 => ?_) (fun c4 => ?_)
        · replace hf := hf.2 c4
          refine hv_iload_n hX dX14_isThing_63 rfl 1 rfl ?_
          refine hv_iconst (v := 4) hX ic_4 dX14_isThing_64 ?_
          refine hv_icmp_ne (tgt := 72) hX dX14_isThing_65 (by decide) (fun c5 => ?_) (fun c5 => ?_)
          · replace hf := hf.2 c5
            refine hv_iconst (v := 0) hX ic_0 dX14_isThing_72 ?_
            exact hm_zret hX hE dX14_isThing_73 (by decide) hf
          · replace hf := hf.1 c5
            refine hv_iconst (v := 1) hX ic_1 dX14_isThing_68 ?_
            refine hv_goto (tgt := 73) hX dX14_isThing_69 (by decide) ?_
            exact hm_zret hX hE dX14_isThing_73 (by decide) hf
        · replace hf := hf.1 c4
          refine hv_aload_n hX dX14_isThing_48 rfl 0 rfl ?_
          refine hm_getI (v := (I 0 8)) hX dX14_isThing_49 mfl130 (.inl rfl) rfl ?_
          refine hv_if_le (tgt := 59) hX dX14_isThing_52 (by decide) (fun c6 => ?_) (fun c6 => ?_)
          · replace hf := hf.1 c6
            refine hv_iconst (v := 0) hX ic_0 dX14_isThing_59 ?_
            refine hv_goto (tgt := 73) hX dX14_isThing_60 (by decide) ?_
            exact hm_zret hX hE dX14_isThing_73 (by decide) hf
          · replace hf := hf.2 c6
            refine hv_iconst (v := 1) hX ic_1 dX14_isThing_55 ?_
            refine hv_goto (tgt := 73) hX dX14_isThing_56 (by decide) ?_
            exact hm_zret hX hE dX14_isThing_73 (by decide) hf
      · replace hf := hf.1 c3
        refine hv_iload_n hX dX14_isThing_36 rfl 2 rfl ?_
        refine hm_callSi hX dX14_isThing_37 (ct_isShelf a2 I J _ hf) (gd_isShelf q1944) np_isShelf rfl rfl ⟨Nat.le_of_ble_eq_true rfl, Nat.le_of_ble_eq_true rfl⟩ ⟨Nat.le_refl _, Nat.le_refl _⟩ (Nat.le_of_ble_eq_true rfl) ?_
        intro r7 I8 J9 hf
        refine hv_goto (tgt := 73) hX dX14_isThing_40 (by decide) ?_
        obtain ⟨g, hf⟩ := hf
        exact hm_zret hX hE dX14_isThing_73 g hf
    · replace hf := hf.1 c2
      refine hv_iload_n hX dX14_isThing_17 rfl 2 rfl ?_
      refine hv_iconst (v := 0) hX ic_0 dX14_isThing_18 ?_
      refine hv_aload_n hX dX14_isThing_19 rfl 0 rfl ?_
      refine hm_getI (v := (I 0 9)) hX dX14_isThing_20 mfl242 (.inl rfl) rfl ?_
      refine hv_iconst (v := 1) hX ic_1 dX14_isThing_23 ?_
      refine hv_isub hX dX14_isThing_24 ?_
      refine hm_callSi hX dX14_isThing_25 (ct_in a2 0 ((I 0 9) - 1) I J _ hf) (gd_in q1923) np_in rfl rfl ⟨Nat.le_of_ble_eq_true rfl, Nat.le_of_ble_eq_true rfl⟩ ⟨Nat.le_refl _, Nat.le_refl _⟩ (Nat.le_of_ble_eq_true rfl) ?_
      intro r10 I11 J12 hf
      refine hv_goto (tgt := 73) hX dX14_isThing_28 (by decide) ?_
      obtain ⟨g, hf⟩ := hf
      exact hm_zret hX hE dX14_isThing_73 g hf
  · replace hf := hf.1 c1
    refine hv_aload_n hX dX14_isThing_4 rfl 0 rfl ?_
    refine hv_iload_n hX dX14_isThing_5 rfl 2 rfl ?_
    refine hm_callVi hX dX14_isThing_6 (ct_isPatch a2 I J _ hf) (gd_isPatch q1936) np_isPatch rfl rfl ⟨Nat.le_of_ble_eq_true rfl, Nat.le_of_ble_eq_true rfl⟩ ⟨Nat.le_refl _, Nat.le_refl _⟩ (Nat.le_of_ble_eq_true rfl) ?_
    intro r13 I14 J15 hf
    refine hv_goto (tgt := 73) hX dX14_isThing_9 (by decide) ?_
    obtain ⟨g, hf⟩ := hf
    exact hm_zret hX hE dX14_isThing_73 g hf
theorem np_isThing : yX14_isThing.cls = RX14 ∧ yX14_isThing.cls ≠ "java/lang/invoke/MethodHandle" ∧ yX14_isThing.cls ≠ "java/lang/invoke/VarHandle" ∧ (parseMethodDescriptor yX14_isThing.desc).map (fun d => d.parameters.length) = some 2 := by decide +kernel
theorem gd_isThing {idx : Nat} (h : Cond.methodLink RX14 idx yX14_isThing ∈ lw_all) : GoodIn lw_all (wsV RX14 idx RX14 yX14_isThing (ws_ yX14_isThing cX14_isThing 3 (some .boolean))) := lw_V h q2307 qs91 q123 q2308
/-! shelf(III)I -/
def m_shelf_j68 (Q : Int32 → mI → mJ → Prop) (a1 : Int32) (a2 : Int32) (a3 : Int32) (s1 : Int32) (s2 : Int32) (I : mI) (J : mJ) : Prop :=
  vp_in s1 4 ∧ ((a2 = 3 →
    vp_in a3 4 ∧ (vp_in a1 4 ∧ (Q 1 (u2 (u2 I 30 s1.toNatClampNeg s2) 31 a1.toNatClampNeg (I 27 a3.toNatClampNeg)) J))) ∧ (¬ a2 = 3 →
    vp_in a1 4 ∧ (Q 1 (u2 (u2 I 30 s1.toNatClampNeg s2) 31 a1.toNatClampNeg 0) J)))
theorem w_shelf_j68 {X : hh_CX} {Q : Int32 → mI → mJ → Prop} (hX : hh_C X cX14_shelf RX14 (hrm 3 65)) (hN : hh_nL X = 4) (hE : hh_E X (some .int) (mQi Q) 0 0) : ∀ (a1 : Int32) (a2 : Int32) (a3 : Int32) (s1 : Int32) (s2 : Int32) (I : mI) (J : mJ), m_shelf_j68 Q  a1 a2 a3 s1 s2 I J → hh_V X 68 [(0, .ref 0), (1, .int a1), (2, .int a2), (3, .int a3)] [.int s2, .int s1, .ref 30] 0 0 (hm I J) := by
  intro a1 a2 a3 s1 s2 I J hf
  unfold m_shelf_j68 at hf
  obtain ⟨g, hf⟩ := hf
  refine hm_iast hX dX14_shelf_68 (by decide) rfl rfl g ?_
  refine hv_aload_n hX dX14_shelf_69 rfl 0 rfl ?_
  refine hm_getR hX dX14_shelf_70 mfl118 31 rfl ?_
  refine hv_iload_n hX dX14_shelf_73 rfl 1 rfl ?_
  refine hv_iload_n hX dX14_shelf_74 rfl 2 rfl ?_
  refine hv_iconst (v := 3) hX ic_3 dX14_shelf_75 ?_
  refine hv_icmp_ne (tgt := 88) hX dX14_shelf_76 (by decide) (fun c11 => ?_) (fun c11 => ?_)
  · replace hf := hf.2 c11
    refine hv_iconst (v := 0) hX ic_0 dX14_shelf_88 ?_
    obtain ⟨g, hf⟩ := hf
    refine hm_iast hX dX14_shelf_89 (by decide) rfl rfl g ?_
    refine hv_iconst (v := 1) hX ic_1 dX14_shelf_90 ?_
    exact hm_iret hX hE dX14_shelf_91 hf
  · replace hf := hf.1 c11
    refine hv_aload_n hX dX14_shelf_79 rfl 0 rfl ?_
    refine hm_getR hX dX14_shelf_80 mfl106 27 rfl ?_
    refine hv_iload_n hX dX14_shelf_83 rfl 3 rfl ?_
    obtain ⟨g, hf⟩ := hf
    refine hm_iald (v := (I 27 a3.toNatClampNeg)) hX dX14_shelf_84 (by decide) rfl rfl g ((u2_ne _ _ (.inl (by decide)))) ?_
    refine hv_goto (tgt := 89) hX dX14_shelf_85 (by decide) ?_
    obtain ⟨g, hf⟩ := hf
    refine hm_iast hX dX14_shelf_89 (by decide) rfl rfl g ?_
    refine hv_iconst (v := 1) hX ic_1 dX14_shelf_90 ?_
    exact hm_iret hX hE dX14_shelf_91 hf
def m_shelf_j47 (Q : Int32 → mI → mJ → Prop) (a1 : Int32) (a2 : Int32) (a3 : Int32) (s1 : Int32) (s2 : Int32) (I : mI) (J : mJ) : Prop :=
  vp_in s1 4 ∧ ((a2 = 3 →
    vp_in a3 4 ∧ (m_shelf_j68 Q  a1 a2 a3 a1 (I 26 a3.toNatClampNeg) (u2 I 29 s1.toNatClampNeg s2) J)) ∧ (¬ a2 = 3 →
    m_shelf_j68 Q  a1 a2 a3 a1 a3 (u2 I 29 s1.toNatClampNeg s2) J))
theorem w_shelf_j47 {X : hh_CX} {Q : Int32 → mI → mJ → Prop} (hX : hh_C X cX14_shelf RX14 (hrm 3 65)) (hN : hh_nL X = 4) (hE : hh_E X (some .int) (mQi Q) 0 0) : ∀ (a1 : Int32) (a2 : Int32) (a3 : Int32) (s1 : Int32) (s2 : Int32) (I : mI) (J : mJ), m_shelf_j47 Q  a1 a2 a3 s1 s2 I J → hh_V X 47 [(0, .ref 0), (1, .int a1), (2, .int a2), (3, .int a3)] [.int s2, .int s1, .ref 29] 0 0 (hm I J) := by
  intro a1 a2 a3 s1 s2 I J hf
  unfold m_shelf_j47 at hf
  obtain ⟨g, hf⟩ := hf
  refine hm_iast hX dX14_shelf_47 (by decide) rfl rfl g ?_
  refine hv_aload_n hX dX14_shelf_48 rfl 0 rfl ?_
  refine hm_getR hX dX14_shelf_49 mfl115 30 rfl ?_
  refine hv_iload_n hX dX14_shelf_52 rfl 1 rfl ?_
  refine hv_iload_n hX dX14_shelf_53 rfl 2 rfl ?_
  refine hv_iconst (v := 3) hX ic_3 dX14_shelf_54 ?_
  refine hv_icmp_ne (tgt := 67) hX dX14_shelf_55 (by decide) (fun c10 => ?_) (fun c10 => ?_)
  · replace hf := hf.2 c10
    refine hv_iload_n hX dX14_shelf_67 rfl 3 rfl ?_
    exact w_shelf_j68 hX hN hE  _ _ _ _ _ _ _ hf
  · replace hf := hf.1 c10
    refine hv_aload_n hX dX14_shelf_58 rfl 0 rfl ?_
    refine hm_getR hX dX14_shelf_59 mfl103 26 rfl ?_
    refine hv_iload_n hX dX14_shelf_62 rfl 3 rfl ?_
    obtain ⟨g, hf⟩ := hf
    refine hm_iald (v := (I 26 a3.toNatClampNeg)) hX dX14_shelf_63 (by decide) rfl rfl g ((u2_ne _ _ (.inl (by decide)))) ?_
    refine hv_goto (tgt := 68) hX dX14_shelf_64 (by decide) ?_
    exact w_shelf_j68 hX hN hE  _ _ _ _ _ _ _ hf
def m_shelf_j42 (Q : Int32 → mI → mJ → Prop) (a1 : Int32) (a2 : Int32) (a3 : Int32) (s1 : Int32) (I : mI) (J : mJ) : Prop :=
  m_shelf_j47 Q  a1 a2 a3 s1 (-1) I J
theorem w_shelf_j42 {X : hh_CX} {Q : Int32 → mI → mJ → Prop} (hX : hh_C X cX14_shelf RX14 (hrm 3 65)) (hN : hh_nL X = 4) (hE : hh_E X (some .int) (mQi Q) 0 0) : ∀ (a1 : Int32) (a2 : Int32) (a3 : Int32) (s1 : Int32) (I : mI) (J : mJ), m_shelf_j42 Q  a1 a2 a3 s1 I J → hh_V X 42 [(0, .ref 0), (1, .int a1), (2, .int a2), (3, .int a3)] [.int s1, .ref 29] 0 0 (hm I J) := by
  intro a1 a2 a3 s1 I J hf
  unfold m_shelf_j42 at hf
  refine hv_iconst (v := (-1)) hX ic_m1 dX14_shelf_42 ?_
  refine hv_goto (tgt := 47) hX dX14_shelf_43 (by decide) ?_
  exact w_shelf_j47 hX hN hE  _ _ _ _ _ _ _ hf
def m_shelf_j46 (Q : Int32 → mI → mJ → Prop) (a1 : Int32) (a2 : Int32) (a3 : Int32) (s1 : Int32) (I : mI) (J : mJ) : Prop :=
  m_shelf_j47 Q  a1 a2 a3 s1 a2 I J
theorem w_shelf_j46 {X : hh_CX} {Q : Int32 → mI → mJ → Prop} (hX : hh_C X cX14_shelf RX14 (hrm 3 65)) (hN : hh_nL X = 4) (hE : hh_E X (some .int) (mQi Q) 0 0) : ∀ (a1 : Int32) (a2 : Int32) (a3 : Int32) (s1 : Int32) (I : mI) (J : mJ), m_shelf_j46 Q  a1 a2 a3 s1 I J → hh_V X 46 [(0, .ref 0), (1, .int a1), (2, .int a2), (3, .int a3)] [.int s1, .ref 29] 0 0 (hm I J) := by
  intro a1 a2 a3 s1 I J hf
  unfold m_shelf_j46 at hf
  refine hv_iload_n hX dX14_shelf_46 rfl 2 rfl ?_
  exact w_shelf_j47 hX hN hE  _ _ _ _ _ _ _ hf
def m_shelf (a1 : Int32) (a2 : Int32) (a3 : Int32) (I : mI) (J : mJ) (Q : Int32 → mI → mJ → Prop) : Prop :=
  m_isShelf a1 I J (fun r1 I2 J3 => (r1 = 0 →
    Q (-1) I2 J3) ∧ (¬ r1 = 0 →
    m_isThing a2 a3 I2 J3 (fun r5 I6 J7 => (r5 = 0 →
      Q (-1) I6 J7) ∧ (¬ r5 = 0 →
      (a2 = 4 →
        m_shelf_j42 Q  a1 a2 a3 a1 I6 J7) ∧ (¬ a2 = 4 →
        (a2 = 3 →
          vp_in a3 4 ∧ (((0 : Int32) ≤ (I6 26 a3.toNatClampNeg) →
            m_shelf_j46 Q  a1 a2 a3 a1 I6 J7) ∧ (¬ (0 : Int32) ≤ (I6 26 a3.toNatClampNeg) →
            m_shelf_j42 Q  a1 a2 a3 a1 I6 J7))) ∧ (¬ a2 = 3 →
          m_shelf_j46 Q  a1 a2 a3 a1 I6 J7))))))
theorem ct_shelf (a1 : Int32) (a2 : Int32) (a3 : Int32) (I : mI) (J : mJ) (Q : Int32 → mI → mJ → Prop) (hf : m_shelf a1 a2 a3 I J Q) : hh_Ct yX14_shelf cX14_shelf 4 (some .int) 3 65 [.ref 0, .int a1, .int a2, .int a3] (hm I J) (mQi Q) 0 0 := by
  refine hh_Ct.of (own := RX14) rfl (by decide +kernel) (Nat.le_of_ble_eq_true rfl) ?_
  intro X hX hN hE
  show hh_V X 0 [(0, .ref 0), (1, .int a1), (2, .int a2), (3, .int a3)] [] 0 0 (hm I J)
  unfold m_shelf at hf
  refine hv_iload_n hX dX14_shelf_0 rfl 1 rfl ?_
  refine hm_callSi hX dX14_shelf_1 (ct_isShelf a1 I J _ hf) (gd_isShelf q1944) np_isShelf rfl rfl ⟨Nat.le_of_ble_eq_true rfl, Nat.le_of_ble_eq_true rfl⟩ ⟨Nat.le_refl _, Nat.le_refl _⟩ (Nat.le_of_ble_eq_true rfl) ?_
  intro r1 I2 J3 hf
  refine hv_if_eq (tgt := 16) hX dX14_shelf_4 (by decide) (fun c4 => ?_) (fun c4 => ?_)
  · replace hf := hf.1 c4
    refine hv_iconst (v := (-1)) hX ic_m1 dX14_shelf_16 ?_
    exact hm_iret hX hE dX14_shelf_17 hf
  · replace hf := hf.2 c4
    refine hv_aload_n hX dX14_shelf_7 rfl 0 rfl ?_
    refine hv_iload_n hX dX14_shelf_8 rfl 2 rfl ?_
    refine hv_iload_n hX dX14_shelf_9 rfl 3 rfl ?_
    refine hm_callVi hX dX14_shelf_10 (ct_isThing a2 a3 I2 J3 _ hf) (gd_isThing q2305) np_isThing rfl rfl ⟨Nat.le_of_ble_eq_true rfl, Nat.le_of_ble_eq_true rfl⟩ ⟨Nat.le_refl _, Nat.le_refl _⟩ (Nat.le_of_ble_eq_true rfl) ?_
    intro r5 I6 J7 hf
    refine hv_if_ne (tgt := 18) hX dX14_shelf_13 (by decide) (fun c8 => ?_) (fun c8 => ?_)
    · replace hf := hf.2 c8
      refine hv_aload_n hX dX14_shelf_18 rfl 0 rfl ?_
      refine hm_getR hX dX14_shelf_19 mfl112 29 rfl ?_
      refine hv_iload_n hX dX14_shelf_22 rfl 1 rfl ?_
      refine hv_iload_n hX dX14_shelf_23 rfl 2 rfl ?_
      refine hv_iconst (v := 4) hX ic_4 dX14_shelf_24 ?_
      refine hv_icmp_eq (tgt := 42) hX dX14_shelf_25 (by decide) (fun c9 => ?_) (fun c9 => ?_)
      · replace hf := hf.1 c9
        exact w_shelf_j42 hX hN hE  _ _ _ _ _ _ hf
      · replace hf := hf.2 c9
        refine hv_iload_n hX dX14_shelf_28 rfl 2 rfl ?_
        refine hv_iconst (v := 3) hX ic_3 dX14_shelf_29 ?_
        refine hv_icmp_ne (tgt := 46) hX dX14_shelf_30 (by decide) (fun c12 => ?_) (fun c12 => ?_)
        · replace hf := hf.2 c12
          exact w_shelf_j46 hX hN hE  _ _ _ _ _ _ hf
        · replace hf := hf.1 c12
          refine hv_aload_n hX dX14_shelf_33 rfl 0 rfl ?_
          refine hm_getR hX dX14_shelf_34 mfl103 26 rfl ?_
          refine hv_iload_n hX dX14_shelf_37 rfl 3 rfl ?_
          obtain ⟨g, hf⟩ := hf
          refine hm_iald (v := (I6 26 a3.toNatClampNeg)) hX dX14_shelf_38 (by decide) rfl rfl g rfl ?_
          refine hv_if_ge (tgt := 46) hX dX14_shelf_39 (by decide) (fun c13 => ?_) (fun c13 => ?_)
          · replace hf := hf.1 c13
            exact w_shelf_j46 hX hN hE  _ _ _ _ _ _ hf
          · replace hf := hf.2 c13
            exact w_shelf_j42 hX hN hE  _ _ _ _ _ _ hf
    · replace hf := hf.1 c8
      refine hv_iconst (v := (-1)) hX ic_m1 dX14_shelf_16 ?_
      exact hm_iret hX hE dX14_shelf_17 hf
theorem np_shelf : yX14_shelf.cls = RX14 ∧ yX14_shelf.cls ≠ "java/lang/invoke/MethodHandle" ∧ yX14_shelf.cls ≠ "java/lang/invoke/VarHandle" ∧ (parseMethodDescriptor yX14_shelf.desc).map (fun d => d.parameters.length) = some 3 := by decide +kernel
theorem gd_shelf {idx : Nat} (h : Cond.methodLink RX14 idx yX14_shelf ∈ lw_all) : GoodIn lw_all (wsV RX14 idx RX14 yX14_shelf (ws_ yX14_shelf cX14_shelf 4 (some .int))) := lw_V h q2302 q2303 q123 q2304
/-! kindOf(I)I -/
def m_kindOf (a1 : Int32) (I : mI) (J : mJ) (Q : Int32 → mI → mJ → Prop) : Prop :=
  vp_in (11 * a1) 44 ∧ (Q (I 1 (11 * a1).toNatClampNeg) I J)
theorem ct_kindOf (a1 : Int32) (I : mI) (J : mJ) (Q : Int32 → mI → mJ → Prop) (hf : m_kindOf a1 I J Q) : hh_Ct yX14_kindOf cX14_kindOf 2 (some .int) 0 0 [.ref 0, .int a1] (hm I J) (mQi Q) 0 0 := by
  refine hh_Ct.of (own := RX14) rfl (by decide +kernel) (Nat.le_of_ble_eq_true rfl) ?_
  intro X hX hN hE
  show hh_V X 0 [(0, .ref 0), (1, .int a1)] [] 0 0 (hm I J)
  unfold m_kindOf at hf
  refine hv_aload_n hX dX14_kindOf_0 rfl 0 rfl ?_
  refine hm_getR hX dX14_kindOf_1 mfl19 1 rfl ?_
  refine hv_bipush (v := 11) hX bi_11 dX14_kindOf_4 ?_
  refine hv_iload_n hX dX14_kindOf_6 rfl 1 rfl ?_
  refine hv_imul hX dX14_kindOf_7 ?_
  obtain ⟨g, hf⟩ := hf
  refine hm_iald (v := (I 1 (11 * a1).toNatClampNeg)) hX dX14_kindOf_8 (by decide) rfl rfl g rfl ?_
  exact hm_iret hX hE dX14_kindOf_9 hf
theorem np_kindOf : yX14_kindOf.cls = RX14 ∧ yX14_kindOf.cls ≠ "java/lang/invoke/MethodHandle" ∧ yX14_kindOf.cls ≠ "java/lang/invoke/VarHandle" ∧ (parseMethodDescriptor yX14_kindOf.desc).map (fun d => d.parameters.length) = some 1 := by decide +kernel
theorem gd_kindOf {idx : Nat} (h : Cond.methodLink RX14 idx yX14_kindOf ∈ lw_all) : GoodIn lw_all (wsV RX14 idx RX14 yX14_kindOf (ws_ yX14_kindOf cX14_kindOf 2 (some .int))) := lw_V h q2319 qs93 q123 q2320
/-! kindOn(I)I -/
def m_kindOn (a1 : Int32) (I : mI) (J : mJ) (Q : Int32 → mI → mJ → Prop) : Prop :=
  vp_in a1 4 ∧ (vp_in a1 4 ∧ (((I 29 a1.toNatClampNeg) = 0 →
    m_isPatch (I 30 a1.toNatClampNeg) I J (fun r2 I3 J4 => (r2 = 0 →
      Q (-1) I3 J4) ∧ (¬ r2 = 0 →
      m_kindOf (I 30 a1.toNatClampNeg) I3 J4 (fun r6 I7 J8 => Q r6 I7 J8)))) ∧ (¬ (I 29 a1.toNatClampNeg) = 0 →
    ((I 29 a1.toNatClampNeg) = 1 →
    ((I 0 9) ≤ (I 30 a1.toNatClampNeg) →
        Q (-1) I J) ∧ (¬ (I 0 9) ≤ (I 30 a1.toNatClampNeg) →
        Q 5 I J)) ∧ (¬ (I 29 a1.toNatClampNeg) = 1 →
    ((I 29 a1.toNatClampNeg) = 2 →
    ((I 0 8) ≤ 0 →
          Q (-1) I J) ∧ (¬ (I 0 8) ≤ 0 →
          Q 6 I J)) ∧ (¬ (I 29 a1.toNatClampNeg) = 2 →
    ((0 : Int32) ≤ (I 29 a1.toNatClampNeg) →
          Q 9 I J) ∧ (¬ (0 : Int32) ≤ (I 29 a1.toNatClampNeg) →
          Q (-1) I J))))))
theorem ct_kindOn (a1 : Int32) (I : mI) (J : mJ) (Q : Int32 → mI → mJ → Prop) (hf : m_kindOn a1 I J Q) : hh_Ct yX14_kindOn cX14_kindOn 4 (some .int) 2 43 [.ref 0, .int a1] (hm I J) (mQi Q) 0 0 := by
  refine hh_Ct.of (own := RX14) rfl (by decide +kernel) (Nat.le_of_ble_eq_true rfl) ?_
  intro X hX hN hE
  show hh_V X 0 [(0, .ref 0), (1, .int a1)] [] 0 0 (hm I J)
  unfold m_kindOn at hf
  refine hv_aload_n hX dX14_kindOn_0 rfl 0 rfl ?_
  refine hm_getR hX dX14_kindOn_1 mfl112 29 rfl ?_
  refine hv_iload_n hX dX14_kindOn_4 rfl 1 rfl ?_
  obtain ⟨g, hf⟩ := hf
  refine hm_iald (v := (I 29 a1.toNatClampNeg)) hX dX14_kindOn_5 (by decide) rfl rfl g rfl ?_
  refine hv_istore_n (loc2 := [(2, .int (I 29 a1.toNatClampNeg)), (0, .ref 0), (1, .int a1)]) hX dX14_kindOn_6 rfl hN (Nat.le_of_ble_eq_true rfl) rfl ?_
  refine hv_aload_n hX dX14_kindOn_7 rfl 1 rfl ?_
  refine hm_getR hX dX14_kindOn_8 mfl115 30 rfl ?_
  refine hv_iload_n hX dX14_kindOn_11 rfl 2 rfl ?_
  obtain ⟨g, hf⟩ := hf
  refine hm_iald (v := (I 30 a1.toNatClampNeg)) hX dX14_kindOn_12 (by decide) rfl rfl g rfl ?_
  refine hv_istore_n (loc2 := [(3, .int (I 30 a1.toNatClampNeg)), (2, .int (I 29 a1.toNatClampNeg)), (0, .ref 0), (1, .int a1)]) hX dX14_kindOn_13 rfl hN (Nat.le_of_ble_eq_true rfl) rfl ?_
  refine hv_iload_n hX dX14_kindOn_14 rfl 1 rfl ?_
  by_cases c1 : (I 29 a1.toNatClampNeg) = 0
  · replace hf := hf.1 c1
    refine hv_tswA (v := 0) (tgt := 40) (off := 25) hX dX14_kindOn_15 c1 ⟨by decide, by decide, by decide⟩ (by decide) ?_
    refine hv_aload_n hX dX14_kindOn_40 rfl 2 rfl ?_
    refine hv_iload_n hX dX14_kindOn_41 rfl 0 rfl ?_
    refine hm_callVi hX dX14_kindOn_42 (ct_isPatch (I 30 a1.toNatClampNeg) I J _ hf) (gd_isPatch q1936) np_isPatch rfl rfl ⟨Nat.le_of_ble_eq_true rfl, Nat.le_of_ble_eq_true rfl⟩ ⟨Nat.le_refl _, Nat.le_refl _⟩ (Nat.le_of_ble_eq_true rfl) ?_
    intro r2 I3 J4 hf
    refine hv_if_eq (tgt := 56) hX dX14_kindOn_45 (by decide) (fun c5 => ?_) (fun c5 => ?_)
    · replace hf := hf.1 c5
      refine hv_iconst (v := (-1)) hX ic_m1 dX14_kindOn_56 ?_
      exact hm_iret hX hE dX14_kindOn_57 hf
    · replace hf := hf.2 c5
      refine hv_aload_n hX dX14_kindOn_48 rfl 2 rfl ?_
      refine hv_iload_n hX dX14_kindOn_49 rfl 0 rfl ?_
      refine hm_callVi hX dX14_kindOn_50 (ct_kindOf (I 30 a1.toNatClampNeg) I3 J4 _ hf) (gd_kindOf q2317) np_kindOf rfl rfl ⟨Nat.le_of_ble_eq_true rfl, Nat.le_of_ble_eq_true rfl⟩ ⟨Nat.le_refl _, Nat.le_refl _⟩ (Nat.le_of_ble_eq_true rfl) ?_
      intro r6 I7 J8 hf
      refine hv_goto (tgt := 57) hX dX14_kindOn_53 (by decide) ?_
      exact hm_iret hX hE dX14_kindOn_57 hf
  · replace hf := hf.2 c1
    by_cases c9 : (I 29 a1.toNatClampNeg) = 1
    · replace hf := hf.1 c9
      refine hv_tswA (v := 1) (tgt := 58) (off := 43) hX dX14_kindOn_15 c9 ⟨by decide, by decide, by decide⟩ (by decide) ?_
      refine hv_iload_n hX dX14_kindOn_58 rfl 0 rfl ?_
      refine hv_aload_n hX dX14_kindOn_59 rfl 2 rfl ?_
      refine hm_getI (v := (I 0 9)) hX dX14_kindOn_60 mfl242 (.inl rfl) rfl ?_
      refine hv_icmp_ge (tgt := 70) hX dX14_kindOn_63 (by decide) (fun c10 => ?_) (fun c10 => ?_)
      · replace hf := hf.1 c10
        refine hv_iconst (v := (-1)) hX ic_m1 dX14_kindOn_70 ?_
        exact hm_iret hX hE dX14_kindOn_71 hf
      · replace hf := hf.2 c10
        refine hv_iconst (v := 5) hX ic_5 dX14_kindOn_66 ?_
        refine hv_goto (tgt := 71) hX dX14_kindOn_67 (by decide) ?_
        exact hm_iret hX hE dX14_kindOn_71 hf
    · replace hf := hf.2 c9
      by_cases c11 : (I 29 a1.toNatClampNeg) = 2
      · replace hf := hf.1 c11
        refine hv_tswA (v := 2) (tgt := 72) (off := 57) hX dX14_kindOn_15 c11 ⟨by decide, by decide, by decide⟩ (by decide) ?_
        refine hv_aload_n hX dX14_kindOn_72 rfl 2 rfl ?_
        refine hm_getI (v := (I 0 8)) hX dX14_kindOn_73 mfl130 (.inl rfl) rfl ?_
        refine hv_if_le (tgt := 84) hX dX14_kindOn_76 (by decide) (fun c12 => ?_) (fun c12 => ?_)
        · replace hf := hf.1 c12
          refine hv_iconst (v := (-1)) hX ic_m1 dX14_kindOn_84 ?_
          exact hm_iret hX hE dX14_kindOn_85 hf
        · replace hf := hf.2 c12
          refine hv_bipush (v := 6) hX bi_6 dX14_kindOn_79 ?_
          refine hv_goto (tgt := 85) hX dX14_kindOn_81 (by decide) ?_
          exact hm_iret hX hE dX14_kindOn_85 hf
      · replace hf := hf.2 c11
        refine hv_tswO (tgt := 86) hX dX14_kindOn_15 (by have z0 := lv_neT c1 (a := 0) (by decide); have z1 := lv_neT c9 (a := 1) (by decide); have z2 := lv_neT c11 (a := 2) (by decide); omega) (by decide) ?_
        refine hv_iload_n hX dX14_kindOn_86 rfl 1 rfl ?_
        refine hv_if_ge (tgt := 94) hX dX14_kindOn_87 (by decide) (fun c13 => ?_) (fun c13 => ?_)
        · replace hf := hf.1 c13
          refine hv_bipush (v := 9) hX bi_9 dX14_kindOn_94 ?_
          exact hm_iret hX hE dX14_kindOn_96 hf
        · replace hf := hf.2 c13
          refine hv_iconst (v := (-1)) hX ic_m1 dX14_kindOn_90 ?_
          refine hv_goto (tgt := 96) hX dX14_kindOn_91 (by decide) ?_
          exact hm_iret hX hE dX14_kindOn_96 hf
theorem np_kindOn : yX14_kindOn.cls = RX14 ∧ yX14_kindOn.cls ≠ "java/lang/invoke/MethodHandle" ∧ yX14_kindOn.cls ≠ "java/lang/invoke/VarHandle" ∧ (parseMethodDescriptor yX14_kindOn.desc).map (fun d => d.parameters.length) = some 1 := by decide +kernel
theorem gd_kindOn {idx : Nat} (h : Cond.methodLink RX14 idx yX14_kindOn ∈ lw_all) : GoodIn lw_all (wsV RX14 idx RX14 yX14_kindOn (ws_ yX14_kindOn cX14_kindOn 4 (some .int))) := lw_V h q2315 qs92 q123 q2316
/-! isUnder(II)Z -/
def m_isUnder (a0 : Int32) (a1 : Int32) (I : mI) (J : mJ) (Q : Int32 → mI → mJ → Prop) : Prop :=
  (a1 = 0 →
    ((5 : Int32) ≤ a0 →
      Q 0 I J) ∧ (¬ (5 : Int32) ≤ a0 →
      Q 1 I J)) ∧ (¬ a1 = 0 →
    (a1 = 1 →
    ((4 : Int32) ≤ a0 →
        Q 0 I J) ∧ (¬ (4 : Int32) ≤ a0 →
        Q 1 I J)) ∧ (¬ a1 = 1 →
    (a1 = 2 →
    (a0 = 2 →
          Q 1 I J) ∧ (¬ a0 = 2 →
          (a0 = 3 →
            Q 1 I J) ∧ (¬ a0 = 3 →
            Q 0 I J))) ∧ (¬ a1 = 2 →
    (a0 = a1 →
          Q 1 I J) ∧ (¬ a0 = a1 →
          Q 0 I J))))
theorem ct_isUnder (a0 : Int32) (a1 : Int32) (I : mI) (J : mJ) (Q : Int32 → mI → mJ → Prop) (hf : m_isUnder a0 a1 I J Q) : hh_Ct yX14_isUnder cX14_isUnder 2 (some .boolean) 0 0 [.int a0, .int a1] (hm I J) (mQi Q) 0 0 := by
  refine hh_Ct.of (own := RX14) rfl (by decide +kernel) (Nat.le_of_ble_eq_true rfl) ?_
  intro X hX hN hE
  show hh_V X 0 [(0, .int a0), (1, .int a1)] [] 0 0 (hm I J)
  unfold m_isUnder at hf
  refine hv_iload_n hX dX14_isUnder_0 rfl 1 rfl ?_
  by_cases c1 : a1 = 0
  · replace hf := hf.1 c1
    refine hv_tswA (v := 0) (tgt := 28) (off := 27) hX dX14_isUnder_1 c1 ⟨by decide, by decide, by decide⟩ (by decide) ?_
    refine hv_iload_n hX dX14_isUnder_28 rfl 0 rfl ?_
    refine hv_iconst (v := 5) hX ic_5 dX14_isUnder_29 ?_
    refine hv_icmp_ge (tgt := 37) hX dX14_isUnder_30 (by decide) (fun c2 => ?_) (fun c2 => ?_)
    · replace hf := hf.1 c2
      refine hv_iconst (v := 0) hX ic_0 dX14_isUnder_37 ?_
      exact hm_zret hX hE dX14_isUnder_38 (by decide) hf
    · replace hf := hf.2 c2
      refine hv_iconst (v := 1) hX ic_1 dX14_isUnder_33 ?_
      refine hv_goto (tgt := 38) hX dX14_isUnder_34 (by decide) ?_
      exact hm_zret hX hE dX14_isUnder_38 (by decide) hf
  · replace hf := hf.2 c1
    by_cases c3 : a1 = 1
    · replace hf := hf.1 c3
      refine hv_tswA (v := 1) (tgt := 39) (off := 38) hX dX14_isUnder_1 c3 ⟨by decide, by decide, by decide⟩ (by decide) ?_
      refine hv_iload_n hX dX14_isUnder_39 rfl 0 rfl ?_
      refine hv_iconst (v := 4) hX ic_4 dX14_isUnder_40 ?_
      refine hv_icmp_ge (tgt := 48) hX dX14_isUnder_41 (by decide) (fun c4 => ?_) (fun c4 => ?_)
      · replace hf := hf.1 c4
        refine hv_iconst (v := 0) hX ic_0 dX14_isUnder_48 ?_
        exact hm_zret hX hE dX14_isUnder_49 (by decide) hf
      · replace hf := hf.2 c4
        refine hv_iconst (v := 1) hX ic_1 dX14_isUnder_44 ?_
        refine hv_goto (tgt := 49) hX dX14_isUnder_45 (by decide) ?_
        exact hm_zret hX hE dX14_isUnder_49 (by decide) hf
    · replace hf := hf.2 c3
      by_cases c5 : a1 = 2
      · replace hf := hf.1 c5
        refine hv_tswA (v := 2) (tgt := 50) (off := 49) hX dX14_isUnder_1 c5 ⟨by decide, by decide, by decide⟩ (by decide) ?_
        refine hv_iload_n hX dX14_isUnder_50 rfl 0 rfl ?_
        refine hv_iconst (v := 2) hX ic_2 dX14_isUnder_51 ?_
        refine hv_icmp_eq (tgt := 60) hX dX14_isUnder_52 (by decide) (fun c6 => ?_) (fun c6 => ?_)
        · replace hf := hf.1 c6
          refine hv_iconst (v := 1) hX ic_1 dX14_isUnder_60 ?_
          refine hv_goto (tgt := 65) hX dX14_isUnder_61 (by decide) ?_
          exact hm_zret hX hE dX14_isUnder_65 (by decide) hf
        · replace hf := hf.2 c6
          refine hv_iload_n hX dX14_isUnder_55 rfl 0 rfl ?_
          refine hv_iconst (v := 3) hX ic_3 dX14_isUnder_56 ?_
          refine hv_icmp_ne (tgt := 64) hX dX14_isUnder_57 (by decide) (fun c7 => ?_) (fun c7 => ?_)
          · replace hf := hf.2 c7
            refine hv_iconst (v := 0) hX ic_0 dX14_isUnder_64 ?_
            exact hm_zret hX hE dX14_isUnder_65 (by decide) hf
          · replace hf := hf.1 c7
            refine hv_iconst (v := 1) hX ic_1 dX14_isUnder_60 ?_
            refine hv_goto (tgt := 65) hX dX14_isUnder_61 (by decide) ?_
            exact hm_zret hX hE dX14_isUnder_65 (by decide) hf
      · replace hf := hf.2 c5
        refine hv_tswO (tgt := 66) hX dX14_isUnder_1 (by have z0 := lv_neT c1 (a := 0) (by decide); have z1 := lv_neT c3 (a := 1) (by decide); have z2 := lv_neT c5 (a := 2) (by decide); omega) (by decide) ?_
        refine hv_iload_n hX dX14_isUnder_66 rfl 0 rfl ?_
        refine hv_iload_n hX dX14_isUnder_67 rfl 1 rfl ?_
        refine hv_icmp_ne (tgt := 75) hX dX14_isUnder_68 (by decide) (fun c8 => ?_) (fun c8 => ?_)
        · replace hf := hf.2 c8
          refine hv_iconst (v := 0) hX ic_0 dX14_isUnder_75 ?_
          exact hm_zret hX hE dX14_isUnder_76 (by decide) hf
        · replace hf := hf.1 c8
          refine hv_iconst (v := 1) hX ic_1 dX14_isUnder_71 ?_
          refine hv_goto (tgt := 76) hX dX14_isUnder_72 (by decide) ?_
          exact hm_zret hX hE dX14_isUnder_76 (by decide) hf
theorem np_isUnder : yX14_isUnder.cls ≠ "java/lang/invoke/MethodHandle" ∧ yX14_isUnder.cls ≠ "java/lang/invoke/VarHandle" ∧ (parseMethodDescriptor yX14_isUnder.desc).map (fun d => d.parameters.length) = some 2 := by decide +kernel
theorem gd_isUnder {idx : Nat} (h : Cond.methodLink RX14 idx yX14_isUnder ∈ lw_all) : GoodIn lw_all (va_wsS RX14 idx yX14_isUnder (ws_ yX14_isUnder cX14_isUnder 2 (some .boolean))) := lw_S h q2322 q123 q2323
/-! numberOn(I)I -/
def m_numberOn (a1 : Int32) (I : mI) (J : mJ) (Q : Int32 → mI → mJ → Prop) : Prop :=
  vp_in a1 4 ∧ (((I 29 a1.toNatClampNeg) = 2 →
    Q (I 0 3) I J) ∧ (¬ (I 29 a1.toNatClampNeg) = 2 →
    vp_in a1 4 ∧ (Q (I 30 a1.toNatClampNeg) I J)))
theorem ct_numberOn (a1 : Int32) (I : mI) (J : mJ) (Q : Int32 → mI → mJ → Prop) (hf : m_numberOn a1 I J Q) : hh_Ct yX14_numberOn cX14_numberOn 2 (some .int) 0 0 [.ref 0, .int a1] (hm I J) (mQi Q) 0 0 := by
  refine hh_Ct.of (own := RX14) rfl (by decide +kernel) (Nat.le_of_ble_eq_true rfl) ?_
  intro X hX hN hE
  show hh_V X 0 [(0, .ref 0), (1, .int a1)] [] 0 0 (hm I J)
  unfold m_numberOn at hf
  refine hv_aload_n hX dX14_numberOn_0 rfl 0 rfl ?_
  refine hm_getR hX dX14_numberOn_1 mfl112 29 rfl ?_
  refine hv_iload_n hX dX14_numberOn_4 rfl 1 rfl ?_
  obtain ⟨g, hf⟩ := hf
  refine hm_iald (v := (I 29 a1.toNatClampNeg)) hX dX14_numberOn_5 (by decide) rfl rfl g rfl ?_
  refine hv_iconst (v := 2) hX ic_2 dX14_numberOn_6 ?_
  refine hv_icmp_ne (tgt := 17) hX dX14_numberOn_7 (by decide) (fun c1 => ?_) (fun c1 => ?_)
  · replace hf := hf.2 c1
    refine hv_aload_n hX dX14_numberOn_17 rfl 0 rfl ?_
    refine hm_getR hX dX14_numberOn_18 mfl115 30 rfl ?_
    refine hv_iload_n hX dX14_numberOn_21 rfl 1 rfl ?_
    obtain ⟨g, hf⟩ := hf
    refine hm_iald (v := (I 30 a1.toNatClampNeg)) hX dX14_numberOn_22 (by decide) rfl rfl g rfl ?_
    exact hm_iret hX hE dX14_numberOn_23 hf
  · replace hf := hf.1 c1
    refine hv_aload_n hX dX14_numberOn_10 rfl 0 rfl ?_
    refine hm_getI (v := (I 0 3)) hX dX14_numberOn_11 mfl169 (.inl rfl) rfl ?_
    refine hv_goto (tgt := 23) hX dX14_numberOn_14 (by decide) ?_
    exact hm_iret hX hE dX14_numberOn_23 hf
theorem np_numberOn : yX14_numberOn.cls = RX14 ∧ yX14_numberOn.cls ≠ "java/lang/invoke/MethodHandle" ∧ yX14_numberOn.cls ≠ "java/lang/invoke/VarHandle" ∧ (parseMethodDescriptor yX14_numberOn.desc).map (fun d => d.parameters.length) = some 1 := by decide +kernel
theorem gd_numberOn {idx : Nat} (h : Cond.methodLink RX14 idx yX14_numberOn ∈ lw_all) : GoodIn lw_all (wsV RX14 idx RX14 yX14_numberOn (ws_ yX14_numberOn cX14_numberOn 2 (some .int))) := lw_V h q2326 qs94 q123 q2327
/-! taken(II)I -/
def m_taken_j30 (Q : Int32 → mI → mJ → Prop) (a1 : Int32) (a2 : Int32) (I : mI) (J : mJ) : Prop :=
  m_kindOn a1 I J (fun r9 I10 J11 => ((0 : Int32) ≤ r9 →
    (r9 = 9 →
      vp_in a1 4 ∧ ((a2 = (10 + (I10 30 a1.toNatClampNeg)) →
        vp_in a1 4 ∧ (Q (I10 31 a1.toNatClampNeg) I10 J11)) ∧ (¬ a2 = (10 + (I10 30 a1.toNatClampNeg)) →
        Q (-13) I10 J11))) ∧ (¬ r9 = 9 →
      ((10 : Int32) ≤ a2 →
        Q (-13) I10 J11) ∧ (¬ (10 : Int32) ≤ a2 →
        m_isUnder r9 a2 I10 J11 (fun r15 I16 J17 => (r15 = 0 →
          Q (-13) I16 J17) ∧ (¬ r15 = 0 →
          m_numberOn a1 I16 J17 (fun r19 I20 J21 => Q r19 I20 J21)))))) ∧ (¬ (0 : Int32) ≤ r9 →
    Q (-11) I10 J11))
theorem w_taken_j30 {X : hh_CX} {Q : Int32 → mI → mJ → Prop} (hX : hh_C X cX14_taken RX14 (hrm 3 66)) (hN : hh_nL X = 4) (hE : hh_E X (some .int) (mQi Q) 0 0) : ∀ (a1 : Int32) (a2 : Int32) (I : mI) (J : mJ), m_taken_j30 Q  a1 a2 I J → hh_V X 30 [(0, .ref 0), (1, .int a1), (2, .int a2)] [] 0 0 (hm I J) := by
  intro a1 a2 I J hf
  unfold m_taken_j30 at hf
  refine hv_aload_n hX dX14_taken_30 rfl 0 rfl ?_
  refine hv_iload_n hX dX14_taken_31 rfl 1 rfl ?_
  refine hm_callVi hX dX14_taken_32 (ct_kindOn a1 I J _ hf) (gd_kindOn q2313) np_kindOn rfl rfl ⟨Nat.le_of_ble_eq_true rfl, Nat.le_of_ble_eq_true rfl⟩ ⟨Nat.le_refl _, Nat.le_refl _⟩ (Nat.le_of_ble_eq_true rfl) ?_
  intro r9 I10 J11 hf
  refine hv_istore_n (loc2 := [(3, .int r9), (0, .ref 0), (1, .int a1), (2, .int a2)]) hX dX14_taken_35 rfl hN (Nat.le_of_ble_eq_true rfl) rfl ?_
  refine hv_iload_n hX dX14_taken_36 rfl 0 rfl ?_
  refine hv_if_ge (tgt := 43) hX dX14_taken_37 (by decide) (fun c12 => ?_) (fun c12 => ?_)
  · replace hf := hf.1 c12
    refine hv_iload_n hX dX14_taken_43 rfl 0 rfl ?_
    refine hv_bipush (v := 9) hX bi_9 dX14_taken_44 ?_
    refine hv_icmp_ne (tgt := 74) hX dX14_taken_46 (by decide) (fun c13 => ?_) (fun c13 => ?_)
    · replace hf := hf.2 c13
      refine hv_iload_n hX dX14_taken_74 rfl 3 rfl ?_
      refine hv_bipush (v := 10) hX bi_10 dX14_taken_75 ?_
      refine hv_icmp_ge (tgt := 96) hX dX14_taken_77 (by decide) (fun c14 => ?_) (fun c14 => ?_)
      · replace hf := hf.1 c14
        refine hv_bipush (v := (-13)) hX bi_m13 dX14_taken_96 ?_
        exact hm_iret hX hE dX14_taken_98 hf
      · replace hf := hf.2 c14
        refine hv_iload_n hX dX14_taken_80 rfl 0 rfl ?_
        refine hv_iload_n hX dX14_taken_81 rfl 3 rfl ?_
        refine hm_callSi hX dX14_taken_82 (ct_isUnder r9 a2 I10 J11 _ hf) (gd_isUnder q2321) np_isUnder rfl rfl ⟨Nat.le_of_ble_eq_true rfl, Nat.le_of_ble_eq_true rfl⟩ ⟨Nat.le_refl _, Nat.le_refl _⟩ (Nat.le_of_ble_eq_true rfl) ?_
        intro r15 I16 J17 hf
        refine hv_if_eq (tgt := 96) hX dX14_taken_85 (by decide) (fun c18 => ?_) (fun c18 => ?_)
        · replace hf := hf.1 c18
          refine hv_bipush (v := (-13)) hX bi_m13 dX14_taken_96 ?_
          exact hm_iret hX hE dX14_taken_98 hf
        · replace hf := hf.2 c18
          refine hv_aload_n hX dX14_taken_88 rfl 1 rfl ?_
          refine hv_iload_n hX dX14_taken_89 rfl 2 rfl ?_
          refine hm_callVi hX dX14_taken_90 (ct_numberOn a1 I16 J17 _ hf) (gd_numberOn q2324) np_numberOn rfl rfl ⟨Nat.le_of_ble_eq_true rfl, Nat.le_of_ble_eq_true rfl⟩ ⟨Nat.le_refl _, Nat.le_refl _⟩ (Nat.le_of_ble_eq_true rfl) ?_
          intro r19 I20 J21 hf
          refine hv_goto (tgt := 98) hX dX14_taken_93 (by decide) ?_
          exact hm_iret hX hE dX14_taken_98 hf
    · replace hf := hf.1 c13
      refine hv_iload_n hX dX14_taken_49 rfl 3 rfl ?_
      refine hv_bipush (v := 10) hX bi_10 dX14_taken_50 ?_
      refine hv_aload_n hX dX14_taken_52 rfl 1 rfl ?_
      refine hm_getR hX dX14_taken_53 mfl115 30 rfl ?_
      refine hv_iload_n hX dX14_taken_56 rfl 2 rfl ?_
      obtain ⟨g, hf⟩ := hf
      refine hm_iald (v := (I10 30 a1.toNatClampNeg)) hX dX14_taken_57 (by decide) rfl rfl g rfl ?_
      refine hv_iadd hX dX14_taken_58 ?_
      refine hv_icmp_ne (tgt := 71) hX dX14_taken_59 (by decide) (fun c22 => ?_) (fun c22 => ?_)
      · replace hf := hf.2 c22
        refine hv_bipush (v := (-13)) hX bi_m13 dX14_taken_71 ?_
        exact hm_iret hX hE dX14_taken_73 hf
      · replace hf := hf.1 c22
        refine hv_aload_n hX dX14_taken_62 rfl 1 rfl ?_
        refine hm_getR hX dX14_taken_63 mfl118 31 rfl ?_
        refine hv_iload_n hX dX14_taken_66 rfl 2 rfl ?_
        obtain ⟨g, hf⟩ := hf
        refine hm_iald (v := (I10 31 a1.toNatClampNeg)) hX dX14_taken_67 (by decide) rfl rfl g rfl ?_
        refine hv_goto (tgt := 73) hX dX14_taken_68 (by decide) ?_
        exact hm_iret hX hE dX14_taken_73 hf
  · replace hf := hf.2 c12
    refine hv_bipush (v := (-11)) hX bi_m11 dX14_taken_40 ?_
    exact hm_iret hX hE dX14_taken_42 hf
def m_taken (a1 : Int32) (a2 : Int32) (I : mI) (J : mJ) (Q : Int32 → mI → mJ → Prop) : Prop :=
  m_isShelf a1 I J (fun r1 I2 J3 => (r1 = 0 →
    Q (-1) I2 J3) ∧ (¬ r1 = 0 →
    m_in a2 0 6 I2 J3 (fun r5 I6 J7 => (r5 = 0 →
      m_in a2 10 13 I6 J7 (fun r23 I24 J25 => (r23 = 0 →
        Q (-1) I24 J25) ∧ (¬ r23 = 0 →
        m_taken_j30 Q  a1 a2 I24 J25))) ∧ (¬ r5 = 0 →
      m_taken_j30 Q  a1 a2 I6 J7))))
theorem ct_taken (a1 : Int32) (a2 : Int32) (I : mI) (J : mJ) (Q : Int32 → mI → mJ → Prop) (hf : m_taken a1 a2 I J Q) : hh_Ct yX14_taken cX14_taken 4 (some .int) 3 66 [.ref 0, .int a1, .int a2] (hm I J) (mQi Q) 0 0 := by
  refine hh_Ct.of (own := RX14) rfl (by decide +kernel) (Nat.le_of_ble_eq_true rfl) ?_
  intro X hX hN hE
  show hh_V X 0 [(0, .ref 0), (1, .int a1), (2, .int a2)] [] 0 0 (hm I J)
  unfold m_taken at hf
  refine hv_iload_n hX dX14_taken_0 rfl 1 rfl ?_
  refine hm_callSi hX dX14_taken_1 (ct_isShelf a1 I J _ hf) (gd_isShelf q1944) np_isShelf rfl rfl ⟨Nat.le_of_ble_eq_true rfl, Nat.le_of_ble_eq_true rfl⟩ ⟨Nat.le_refl _, Nat.le_refl _⟩ (Nat.le_of_ble_eq_true rfl) ?_
  intro r1 I2 J3 hf
  refine hv_if_eq (tgt := 28) hX dX14_taken_4 (by decide) (fun c4 => ?_) (fun c4 => ?_)
  · replace hf := hf.1 c4
    refine hv_iconst (v := (-1)) hX ic_m1 dX14_taken_28 ?_
    exact hm_iret hX hE dX14_taken_29 hf
  · replace hf := hf.2 c4
    refine hv_iload_n hX dX14_taken_7 rfl 2 rfl ?_
    refine hv_iconst (v := 0) hX ic_0 dX14_taken_8 ?_
    refine hv_bipush (v := 6) hX bi_6 dX14_taken_9 ?_
    refine hm_callSi hX dX14_taken_11 (ct_in a2 0 6 I2 J3 _ hf) (gd_in q1923) np_in rfl rfl ⟨Nat.le_of_ble_eq_true rfl, Nat.le_of_ble_eq_true rfl⟩ ⟨Nat.le_refl _, Nat.le_refl _⟩ (Nat.le_of_ble_eq_true rfl) ?_
    intro r5 I6 J7 hf
    refine hv_if_ne (tgt := 30) hX dX14_taken_14 (by decide) (fun c8 => ?_) (fun c8 => ?_)
    · replace hf := hf.2 c8
      exact w_taken_j30 hX hN hE  _ _ _ _ hf
    · replace hf := hf.1 c8
      refine hv_iload_n hX dX14_taken_17 rfl 2 rfl ?_
      refine hv_bipush (v := 10) hX bi_10 dX14_taken_18 ?_
      refine hv_bipush (v := 13) hX bi_13 dX14_taken_20 ?_
      refine hm_callSi hX dX14_taken_22 (ct_in a2 10 13 I6 J7 _ hf) (gd_in q1923) np_in rfl rfl ⟨Nat.le_of_ble_eq_true rfl, Nat.le_of_ble_eq_true rfl⟩ ⟨Nat.le_refl _, Nat.le_refl _⟩ (Nat.le_of_ble_eq_true rfl) ?_
      intro r23 I24 J25 hf
      refine hv_if_ne (tgt := 30) hX dX14_taken_25 (by decide) (fun c26 => ?_) (fun c26 => ?_)
      · replace hf := hf.2 c26
        exact w_taken_j30 hX hN hE  _ _ _ _ hf
      · replace hf := hf.1 c26
        refine hv_iconst (v := (-1)) hX ic_m1 dX14_taken_28 ?_
        exact hm_iret hX hE dX14_taken_29 hf
theorem np_taken : yX14_taken.cls = RX14 ∧ yX14_taken.cls ≠ "java/lang/invoke/MethodHandle" ∧ yX14_taken.cls ≠ "java/lang/invoke/VarHandle" ∧ (parseMethodDescriptor yX14_taken.desc).map (fun d => d.parameters.length) = some 2 := by decide +kernel
theorem gd_taken {idx : Nat} (h : Cond.methodLink RX14 idx yX14_taken ∈ lw_all) : GoodIn lw_all (wsV RX14 idx RX14 yX14_taken (ws_ yX14_taken cX14_taken 4 (some .int))) := lw_V h q2310 q2311 q123 q2312
/-! greatestOf(I)I -/
def m_greatestOf_j40 (Q : Int32 → mI → mJ → Prop) (k4 : Int32 → Int32 → Int32 → mI → mJ → Prop) (a1 : Int32) (a3 : Int32) (s0 : Int32) (I : mI) (J : mJ) : Prop :=
  k4 a1 s0 (a3 + 1) I J
theorem w_greatestOf_j40 {X : hh_CX} {Q : Int32 → mI → mJ → Prop} (hX : hh_C X cX14_greatestOf RX14 (hrm 0 0)) (hN : hh_nL X = 4) (hE : hh_E X (some .int) (mQi Q) 0 0) {k4 : Int32 → Int32 → Int32 → mI → mJ → Prop} (hk4 : ∀ (b0 : Int32) (b1 : Int32) (b2 : Int32) (I : mI) (J : mJ), k4 b0 b1 b2 I J → hh_V X 4 [(0, .ref 0), (1, .int b0), (2, .int b1), (3, .int b2)] [] 0 0 (hm I J)) : ∀ (a1 : Int32) (a3 : Int32) (s0 : Int32) (I : mI) (J : mJ), m_greatestOf_j40 Q k4 a1 a3 s0 I J → hh_V X 40 [(0, .ref 0), (1, .int a1), (3, .int a3)] [.int s0] 0 0 (hm I J) := by
  intro a1 a3 s0 I J hf
  unfold m_greatestOf_j40 at hf
  refine hv_istore_n (loc2 := [(2, .int s0), (0, .ref 0), (1, .int a1), (3, .int a3)]) hX dX14_greatestOf_40 rfl hN (Nat.le_of_ble_eq_true rfl) rfl ?_
  refine hv_iinc (v := (a3 + 1)) (loc2 := [(3, .int (a3 + 1)), (2, .int s0), (0, .ref 0), (1, .int a1)]) hX dX14_greatestOf_41 3 rfl (congrArg (fun y => a3 + y) ic_1) hN (Nat.le_of_ble_eq_true rfl) rfl ?_
  refine hv_goto (tgt := 4) hX dX14_greatestOf_44 (by decide) ?_
  refine hv_fewer [2, 3, 1, 0] (loc2 := [(0, .ref 0), (1, .int a1), (2, .int s0), (3, .int (a3 + 1))]) rfl ?_
  exact hk4 _ _ _ _ _ hf
def m_greatestOf_l4 (Q : Int32 → mI → mJ → Prop) : Nat → Int32 → Int32 → Int32 → mI → mJ → Prop
  | 0, _, _, _, _, _ => False
  | n + 1, a1, a2, a3, I, J =>
    ((10 : Int32) ≤ a3 →
      Q a2 I J) ∧ (¬ (10 : Int32) ≤ a3 →
      vp_in ((10 * a1) + a3) 40 ∧ (((I 3 ((10 * a1) + a3).toNatClampNeg) ≤ a2 →
        m_greatestOf_j40 Q (fun b0 b1 b2 I J => m_greatestOf_l4 Q n b0 b1 b2 I J) a1 a3 a2 I J) ∧ (¬ (I 3 ((10 * a1) + a3).toNatClampNeg) ≤ a2 →
        vp_in ((10 * a1) + a3) 40 ∧ (m_greatestOf_j40 Q (fun b0 b1 b2 I J => m_greatestOf_l4 Q n b0 b1 b2 I J) a1 a3 (I 3 ((10 * a1) + a3).toNatClampNeg) I J))))
theorem w_greatestOf_l4 {X : hh_CX} {Q : Int32 → mI → mJ → Prop} (hX : hh_C X cX14_greatestOf RX14 (hrm 0 0)) (hN : hh_nL X = 4) (hE : hh_E X (some .int) (mQi Q) 0 0) : ∀ (n : Nat) (a1 : Int32) (a2 : Int32) (a3 : Int32) (I : mI) (J : mJ), m_greatestOf_l4 Q  n a1 a2 a3 I J → hh_V X 4 [(0, .ref 0), (1, .int a1), (2, .int a2), (3, .int a3)] [] 0 0 (hm I J) := by
  intro n
  induction n with
  | zero => intro _ _ _ _ _ hf; exact hf.elim
  | succ n ih =>
    intro a1 a2 a3 I J hf
    unfold m_greatestOf_l4 at hf
    refine hv_iload_n hX dX14_greatestOf_4 rfl 3 rfl ?_
    refine hv_bipush (v := 10) hX bi_10 dX14_greatestOf_5 ?_
    refine hv_icmp_ge (tgt := 47) hX dX14_greatestOf_7 (by decide) (fun c1 => ?_) (fun c1 => ?_)
    · replace hf := hf.1 c1
      refine hv_iload_n hX dX14_greatestOf_47 rfl 2 rfl ?_
      exact hm_iret hX hE dX14_greatestOf_48 hf
    · replace hf := hf.2 c1
      refine hv_aload_n hX dX14_greatestOf_10 rfl 0 rfl ?_
      refine hm_getR hX dX14_greatestOf_11 mfl26 3 rfl ?_
      refine hv_bipush (v := 10) hX bi_10 dX14_greatestOf_14 ?_
      refine hv_iload_n hX dX14_greatestOf_16 rfl 1 rfl ?_
      refine hv_imul hX dX14_greatestOf_17 ?_
      refine hv_iload_n hX dX14_greatestOf_18 rfl 3 rfl ?_
      refine hv_iadd hX dX14_greatestOf_19 ?_
      obtain ⟨g, hf⟩ := hf
      refine hm_iald (v := (I 3 ((10 * a1) + a3).toNatClampNeg)) hX dX14_greatestOf_20 (by decide) rfl rfl g rfl ?_
      refine hv_iload_n hX dX14_greatestOf_21 rfl 2 rfl ?_
      refine hv_icmp_le (tgt := 39) hX dX14_greatestOf_22 (by decide) (fun c2 => ?_) (fun c2 => ?_)
      · replace hf := hf.1 c2
        refine hv_iload_n hX dX14_greatestOf_39 rfl 2 rfl ?_
        refine hv_fewer [0, 1, 3] (loc2 := [(0, .ref 0), (1, .int a1), (3, .int a3)]) rfl ?_
        exact w_greatestOf_j40 hX hN hE ih _ _ _ _ _ hf
      · replace hf := hf.2 c2
        refine hv_aload_n hX dX14_greatestOf_25 rfl 0 rfl ?_
        refine hm_getR hX dX14_greatestOf_26 mfl26 3 rfl ?_
        refine hv_bipush (v := 10) hX bi_10 dX14_greatestOf_29 ?_
        refine hv_iload_n hX dX14_greatestOf_31 rfl 1 rfl ?_
        refine hv_imul hX dX14_greatestOf_32 ?_
        refine hv_iload_n hX dX14_greatestOf_33 rfl 3 rfl ?_
        refine hv_iadd hX dX14_greatestOf_34 ?_
        obtain ⟨g, hf⟩ := hf
        refine hm_iald (v := (I 3 ((10 * a1) + a3).toNatClampNeg)) hX dX14_greatestOf_35 (by decide) rfl rfl g rfl ?_
        refine hv_goto (tgt := 40) hX dX14_greatestOf_36 (by decide) ?_
        refine hv_fewer [0, 1, 3] (loc2 := [(0, .ref 0), (1, .int a1), (3, .int a3)]) rfl ?_
        exact w_greatestOf_j40 hX hN hE ih _ _ _ _ _ hf
def m_greatestOf (a1 : Int32) (I : mI) (J : mJ) (Q : Int32 → mI → mJ → Prop) : Prop :=
  ∃ n0 : Nat, m_greatestOf_l4 Q  n0 a1 0 0 I J
theorem ct_greatestOf (a1 : Int32) (I : mI) (J : mJ) (Q : Int32 → mI → mJ → Prop) (hf : m_greatestOf a1 I J Q) : hh_Ct yX14_greatestOf cX14_greatestOf 4 (some .int) 0 0 [.ref 0, .int a1] (hm I J) (mQi Q) 0 0 := by
  refine hh_Ct.of (own := RX14) rfl (by decide +kernel) (Nat.le_of_ble_eq_true rfl) ?_
  intro X hX hN hE
  show hh_V X 0 [(0, .ref 0), (1, .int a1)] [] 0 0 (hm I J)
  unfold m_greatestOf at hf
  refine hv_iconst (v := 0) hX ic_0 dX14_greatestOf_0 ?_
  refine hv_istore_n (loc2 := [(2, .int 0), (0, .ref 0), (1, .int a1)]) hX dX14_greatestOf_1 rfl hN (Nat.le_of_ble_eq_true rfl) rfl ?_
  refine hv_iconst (v := 0) hX ic_0 dX14_greatestOf_2 ?_
  refine hv_istore_n (loc2 := [(3, .int 0), (2, .int 0), (0, .ref 0), (1, .int a1)]) hX dX14_greatestOf_3 rfl hN (Nat.le_of_ble_eq_true rfl) rfl ?_
  refine hv_fewer [2, 3, 1, 0] (loc2 := [(0, .ref 0), (1, .int a1), (2, .int 0), (3, .int 0)]) rfl ?_
  obtain ⟨n0, hf⟩ := hf
  exact w_greatestOf_l4 hX hN hE  n0 _ _ _ _ _ hf
theorem np_greatestOf : yX14_greatestOf.cls = RX14 ∧ yX14_greatestOf.cls ≠ "java/lang/invoke/MethodHandle" ∧ yX14_greatestOf.cls ≠ "java/lang/invoke/VarHandle" ∧ (parseMethodDescriptor yX14_greatestOf.desc).map (fun d => d.parameters.length) = some 1 := by decide +kernel
theorem gd_greatestOf {idx : Nat} (h : Cond.methodLink RX14 idx yX14_greatestOf ∈ lw_all) : GoodIn lw_all (wsV RX14 idx RX14 yX14_greatestOf (ws_ yX14_greatestOf cX14_greatestOf 4 (some .int))) := lw_V h q2334 qs95 q123 q2335
/-! ran(I)V -/
def m_ran (a1 : Int32) (I : mI) (J : mJ) (Q : mI → mJ → Prop) : Prop :=
  ((30 : Int32) ≤ (I 0 68) →
    Q I J) ∧ (¬ (30 : Int32) ≤ (I 0 68) →
    vp_in (I 0 68) 30 ∧ (Q (u2 (u2 I 32 (I 0 68).toNatClampNeg a1) 0 68 ((I 0 68) + 1)) J))
theorem ct_ran (a1 : Int32) (I : mI) (J : mJ) (Q : mI → mJ → Prop) (hf : m_ran a1 I J Q) : hh_Ct yX14_ran cX14_ran 2 none 0 0 [.ref 0, .int a1] (hm I J) (mQv Q) 0 0 := by
  refine hh_Ct.of (own := RX14) rfl (by decide +kernel) (Nat.le_of_ble_eq_true rfl) ?_
  intro X hX hN hE
  show hh_V X 0 [(0, .ref 0), (1, .int a1)] [] 0 0 (hm I J)
  unfold m_ran at hf
  refine hv_aload_n hX dX14_ran_0 rfl 0 rfl ?_
  refine hm_getI (v := (I 0 68)) hX dX14_ran_1 mfl456 (.inl rfl) rfl ?_
  refine hv_bipush (v := 30) hX bi_30 dX14_ran_4 ?_
  refine hv_icmp_ge (tgt := 29) hX dX14_ran_6 (by decide) (fun c1 => ?_) (fun c1 => ?_)
  · replace hf := hf.1 c1
    exact hm_vret hX hE dX14_ran_29 hf
  · replace hf := hf.2 c1
    refine hv_aload_n hX dX14_ran_9 rfl 0 rfl ?_
    refine hm_getR hX dX14_ran_10 mfl121 32 rfl ?_
    refine hv_aload_n hX dX14_ran_13 rfl 0 rfl ?_
    refine hm_getI (v := (I 0 68)) hX dX14_ran_14 mfl456 (.inl rfl) rfl ?_
    refine hv_iload_n hX dX14_ran_17 rfl 1 rfl ?_
    obtain ⟨g, hf⟩ := hf
    refine hm_iast hX dX14_ran_18 (by decide) rfl rfl g ?_
    refine hv_aload_n hX dX14_ran_19 rfl 0 rfl ?_
    refine hv_dup hX rfl dX14_ran_20 ?_
    refine hm_getI (v := (I 0 68)) hX dX14_ran_21 mfl456 (.inl rfl) ((u2_ne _ _ (.inl (by decide)))) ?_
    refine hv_iconst (v := 1) hX ic_1 dX14_ran_24 ?_
    refine hv_iadd hX dX14_ran_25 ?_
    refine hm_putI hX dX14_ran_26 mfl456 ?_
    exact hm_vret hX hE dX14_ran_29 hf
theorem np_ran : yX14_ran.cls = RX14 ∧ yX14_ran.cls ≠ "java/lang/invoke/MethodHandle" ∧ yX14_ran.cls ≠ "java/lang/invoke/VarHandle" ∧ (parseMethodDescriptor yX14_ran.desc).map (fun d => d.parameters.length) = some 1 := by decide +kernel
theorem gd_ran {idx : Nat} (h : Cond.methodLink RX14 idx yX14_ran ∈ lw_all) : GoodIn lw_all (wsV RX14 idx RX14 yX14_ran (ws_ yX14_ran cX14_ran 2 none)) := lw_V h q2342 qs97 q123 q2343
/-! eatsIt(I)I -/
def m_eatsIt_j110 (Q : Int32 → mI → mJ → Prop) (s0 : Int32) (s1 : Int32) (I : mI) (J : mJ) : Prop :=
  ((I 0 64) = 3 →
    Q ((s0 * s1) ^^^ (I 0 66)) I J) ∧ (¬ (I 0 64) = 3 →
    Q (s0 * s1) I J)
theorem w_eatsIt_j110 {X : hh_CX} {Q : Int32 → mI → mJ → Prop} (hX : hh_C X cX14_eatsIt RX14 (hrm 1 21)) (hN : hh_nL X = 4) (hE : hh_E X (some .int) (mQi Q) 0 0) : ∀ (s0 : Int32) (s1 : Int32) (I : mI) (J : mJ), m_eatsIt_j110 Q  s0 s1 I J → hh_V X 110 [(0, .ref 0)] [.int s1, .int s0] 0 0 (hm I J) := by
  intro s0 s1 I J hf
  unfold m_eatsIt_j110 at hf
  refine hv_imul hX dX14_eatsIt_110 ?_
  refine hv_istore_n (loc2 := [(3, .int (s0 * s1)), (0, .ref 0)]) hX dX14_eatsIt_111 rfl hN (Nat.le_of_ble_eq_true rfl) rfl ?_
  refine hv_aload_n hX dX14_eatsIt_112 rfl 1 rfl ?_
  refine hm_getI (v := (I 0 64)) hX dX14_eatsIt_113 mfl459 (.inl rfl) rfl ?_
  refine hv_iconst (v := 3) hX ic_3 dX14_eatsIt_116 ?_
  refine hv_icmp_ne (tgt := 129) hX dX14_eatsIt_117 (by decide) (fun c9 => ?_) (fun c9 => ?_)
  · replace hf := hf.2 c9
    refine hv_iload_n hX dX14_eatsIt_129 rfl 0 rfl ?_
    exact hm_iret hX hE dX14_eatsIt_130 hf
  · replace hf := hf.1 c9
    refine hv_iload_n hX dX14_eatsIt_120 rfl 0 rfl ?_
    refine hv_aload_n hX dX14_eatsIt_121 rfl 1 rfl ?_
    refine hm_getI (v := (I 0 66)) hX dX14_eatsIt_122 mfl465 (.inl rfl) rfl ?_
    refine hv_ixor hX dX14_eatsIt_125 ?_
    refine hv_goto (tgt := 130) hX dX14_eatsIt_126 (by decide) ?_
    exact hm_iret hX hE dX14_eatsIt_130 hf
def m_eatsIt_j89 (Q : Int32 → mI → mJ → Prop) (a1 : Int32) (a2 : Int32) (I : mI) (J : mJ) : Prop :=
  m_ran 10 I J (fun  I6 J7 => (a2 = 0 →
    m_eatsIt_j110 Q  (a1 + (I6 0 66)) 1 I6 J7) ∧ (¬ a2 = 0 →
    m_eatsIt_j110 Q  (a1 + (I6 0 66)) 3 I6 J7))
theorem w_eatsIt_j89 {X : hh_CX} {Q : Int32 → mI → mJ → Prop} (hX : hh_C X cX14_eatsIt RX14 (hrm 1 21)) (hN : hh_nL X = 4) (hE : hh_E X (some .int) (mQi Q) 0 0) : ∀ (a1 : Int32) (a2 : Int32) (I : mI) (J : mJ), m_eatsIt_j89 Q  a1 a2 I J → hh_V X 89 [(0, .ref 0), (1, .int a1), (2, .int a2)] [] 0 0 (hm I J) := by
  intro a1 a2 I J hf
  unfold m_eatsIt_j89 at hf
  refine hv_aload_n hX dX14_eatsIt_89 rfl 0 rfl ?_
  refine hv_bipush (v := 10) hX bi_10 dX14_eatsIt_90 ?_
  refine hm_callVv hX dX14_eatsIt_92 (ct_ran 10 I J _ hf) (gd_ran q2340) np_ran rfl rfl ⟨Nat.le_of_ble_eq_true rfl, Nat.le_of_ble_eq_true rfl⟩ ⟨Nat.le_refl _, Nat.le_refl _⟩ (Nat.le_of_ble_eq_true rfl) ?_
  intro  I6 J7 hf
  refine hv_iload_n hX dX14_eatsIt_95 rfl 1 rfl ?_
  refine hv_aload_n hX dX14_eatsIt_96 rfl 0 rfl ?_
  refine hm_getI (v := (I6 0 66)) hX dX14_eatsIt_97 mfl465 (.inl rfl) rfl ?_
  refine hv_iadd hX dX14_eatsIt_100 ?_
  refine hv_iload_n hX dX14_eatsIt_101 rfl 2 rfl ?_
  refine hv_if_eq (tgt := 109) hX dX14_eatsIt_102 (by decide) (fun c8 => ?_) (fun c8 => ?_)
  · replace hf := hf.1 c8
    refine hv_iconst (v := 1) hX ic_1 dX14_eatsIt_109 ?_
    refine hv_fewer [0] (loc2 := [(0, .ref 0)]) rfl ?_
    exact w_eatsIt_j110 hX hN hE  _ _ _ _ hf
  · replace hf := hf.2 c8
    refine hv_iconst (v := 3) hX ic_3 dX14_eatsIt_105 ?_
    refine hv_goto (tgt := 110) hX dX14_eatsIt_106 (by decide) ?_
    refine hv_fewer [0] (loc2 := [(0, .ref 0)]) rfl ?_
    exact w_eatsIt_j110 hX hN hE  _ _ _ _ hf
def m_eatsIt_j78 (Q : Int32 → mI → mJ → Prop) (a1 : Int32) (s0 : Int32) (I : mI) (J : mJ) : Prop :=
  (s0 = 0 →
    m_eatsIt_j89 Q  a1 s0 I J) ∧ (¬ s0 = 0 →
    m_ran 30 I J (fun  I10 J11 => m_eatsIt_j89 Q  a1 s0 I10 J11))
theorem w_eatsIt_j78 {X : hh_CX} {Q : Int32 → mI → mJ → Prop} (hX : hh_C X cX14_eatsIt RX14 (hrm 1 21)) (hN : hh_nL X = 4) (hE : hh_E X (some .int) (mQi Q) 0 0) : ∀ (a1 : Int32) (s0 : Int32) (I : mI) (J : mJ), m_eatsIt_j78 Q  a1 s0 I J → hh_V X 78 [(0, .ref 0), (1, .int a1)] [.int s0] 0 0 (hm I J) := by
  intro a1 s0 I J hf
  unfold m_eatsIt_j78 at hf
  refine hv_istore_n (loc2 := [(2, .int s0), (0, .ref 0), (1, .int a1)]) hX dX14_eatsIt_78 rfl hN (Nat.le_of_ble_eq_true rfl) rfl ?_
  refine hv_iload_n hX dX14_eatsIt_79 rfl 0 rfl ?_
  refine hv_if_eq (tgt := 89) hX dX14_eatsIt_80 (by decide) (fun c5 => ?_) (fun c5 => ?_)
  · replace hf := hf.1 c5
    refine hv_fewer [1, 2, 0] (loc2 := [(0, .ref 0), (1, .int a1), (2, .int s0)]) rfl ?_
    exact w_eatsIt_j89 hX hN hE  _ _ _ _ hf
  · replace hf := hf.2 c5
    refine hv_aload_n hX dX14_eatsIt_83 rfl 1 rfl ?_
    refine hv_bipush (v := 30) hX bi_30 dX14_eatsIt_84 ?_
    refine hm_callVv hX dX14_eatsIt_86 (ct_ran 30 I J _ hf) (gd_ran q2340) np_ran rfl rfl ⟨Nat.le_of_ble_eq_true rfl, Nat.le_of_ble_eq_true rfl⟩ ⟨Nat.le_refl _, Nat.le_refl _⟩ (Nat.le_of_ble_eq_true rfl) ?_
    intro  I10 J11 hf
    refine hv_fewer [1, 2, 0] (loc2 := [(0, .ref 0), (1, .int a1), (2, .int s0)]) rfl ?_
    exact w_eatsIt_j89 hX hN hE  _ _ _ _ hf
def m_eatsIt_j73 (Q : Int32 → mI → mJ → Prop) (a1 : Int32) (I : mI) (J : mJ) : Prop :=
  m_eatsIt_j78 Q  a1 1 I J
theorem w_eatsIt_j73 {X : hh_CX} {Q : Int32 → mI → mJ → Prop} (hX : hh_C X cX14_eatsIt RX14 (hrm 1 21)) (hN : hh_nL X = 4) (hE : hh_E X (some .int) (mQi Q) 0 0) : ∀ (a1 : Int32) (I : mI) (J : mJ), m_eatsIt_j73 Q  a1 I J → hh_V X 73 [(0, .ref 0), (1, .int a1)] [] 0 0 (hm I J) := by
  intro a1 I J hf
  unfold m_eatsIt_j73 at hf
  refine hv_iconst (v := 1) hX ic_1 dX14_eatsIt_73 ?_
  refine hv_goto (tgt := 78) hX dX14_eatsIt_74 (by decide) ?_
  exact w_eatsIt_j78 hX hN hE  _ _ _ _ hf
def m_eatsIt_j57 (Q : Int32 → mI → mJ → Prop) (a1 : Int32) (I : mI) (J : mJ) : Prop :=
  ((I 0 64) = 2 →
    m_eatsIt_j73 Q  a1 I J) ∧ (¬ (I 0 64) = 2 →
    ((I 0 64) = 3 →
      m_eatsIt_j73 Q  a1 I J) ∧ (¬ (I 0 64) = 3 →
      m_eatsIt_j78 Q  a1 0 I J))
theorem w_eatsIt_j57 {X : hh_CX} {Q : Int32 → mI → mJ → Prop} (hX : hh_C X cX14_eatsIt RX14 (hrm 1 21)) (hN : hh_nL X = 4) (hE : hh_E X (some .int) (mQi Q) 0 0) : ∀ (a1 : Int32) (I : mI) (J : mJ), m_eatsIt_j57 Q  a1 I J → hh_V X 57 [(0, .ref 0), (1, .int a1)] [] 0 0 (hm I J) := by
  intro a1 I J hf
  unfold m_eatsIt_j57 at hf
  refine hv_aload_n hX dX14_eatsIt_57 rfl 0 rfl ?_
  refine hm_getI (v := (I 0 64)) hX dX14_eatsIt_58 mfl459 (.inl rfl) rfl ?_
  refine hv_iconst (v := 2) hX ic_2 dX14_eatsIt_61 ?_
  refine hv_icmp_eq (tgt := 73) hX dX14_eatsIt_62 (by decide) (fun c4 => ?_) (fun c4 => ?_)
  · replace hf := hf.1 c4
    exact w_eatsIt_j73 hX hN hE  _ _ _ hf
  · replace hf := hf.2 c4
    refine hv_aload_n hX dX14_eatsIt_65 rfl 0 rfl ?_
    refine hm_getI (v := (I 0 64)) hX dX14_eatsIt_66 mfl459 (.inl rfl) rfl ?_
    refine hv_iconst (v := 3) hX ic_3 dX14_eatsIt_69 ?_
    refine hv_icmp_ne (tgt := 77) hX dX14_eatsIt_70 (by decide) (fun c12 => ?_) (fun c12 => ?_)
    · replace hf := hf.2 c12
      refine hv_iconst (v := 0) hX ic_0 dX14_eatsIt_77 ?_
      exact w_eatsIt_j78 hX hN hE  _ _ _ _ hf
    · replace hf := hf.1 c12
      exact w_eatsIt_j73 hX hN hE  _ _ _ hf
def m_eatsIt (a1 : Int32) (I : mI) (J : mJ) (Q : Int32 → mI → mJ → Prop) : Prop :=
  ((I 0 64) = 5 →
    m_ran 60 I J (fun  I17 J18 => Q ((I17 0 66) - a1) I17 J18)) ∧ (¬ (I 0 64) = 5 →
    ((I 0 64) = 6 →
      m_ran 70 I J (fun  I15 J16 => Q (a1 - (I15 0 66)) I15 J16)) ∧ (¬ (I 0 64) = 6 →
      ((I 0 64) = 3 →
        m_ran 40 I J (fun  I13 J14 => m_eatsIt_j57 Q  a1 I13 J14)) ∧ (¬ (I 0 64) = 3 →
        m_eatsIt_j57 Q  a1 I J)))
theorem ct_eatsIt (a1 : Int32) (I : mI) (J : mJ) (Q : Int32 → mI → mJ → Prop) (hf : m_eatsIt a1 I J Q) : hh_Ct yX14_eatsIt cX14_eatsIt 4 (some .int) 1 21 [.ref 0, .int a1] (hm I J) (mQi Q) 0 0 := by
  refine hh_Ct.of (own := RX14) rfl (by decide +kernel) (Nat.le_of_ble_eq_true rfl) ?_
  intro X hX hN hE
  show hh_V X 0 [(0, .ref 0), (1, .int a1)] [] 0 0 (hm I J)
  unfold m_eatsIt at hf
  refine hv_aload_n hX dX14_eatsIt_0 rfl 0 rfl ?_
  refine hm_getI (v := (I 0 64)) hX dX14_eatsIt_1 mfl459 (.inl rfl) rfl ?_
  refine hv_iconst (v := 5) hX ic_5 dX14_eatsIt_4 ?_
  refine hv_icmp_ne (tgt := 21) hX dX14_eatsIt_5 (by decide) (fun c1 => ?_) (fun c1 => ?_)
  · replace hf := hf.2 c1
    refine hv_aload_n hX dX14_eatsIt_21 rfl 0 rfl ?_
    refine hm_getI (v := (I 0 64)) hX dX14_eatsIt_22 mfl459 (.inl rfl) rfl ?_
    refine hv_bipush (v := 6) hX bi_6 dX14_eatsIt_25 ?_
    refine hv_icmp_ne (tgt := 43) hX dX14_eatsIt_27 (by decide) (fun c2 => ?_) (fun c2 => ?_)
    · replace hf := hf.2 c2
      refine hv_aload_n hX dX14_eatsIt_43 rfl 0 rfl ?_
      refine hm_getI (v := (I 0 64)) hX dX14_eatsIt_44 mfl459 (.inl rfl) rfl ?_
      refine hv_iconst (v := 3) hX ic_3 dX14_eatsIt_47 ?_
      refine hv_icmp_ne (tgt := 57) hX dX14_eatsIt_48 (by decide) (fun c3 => ?_) (fun c3 => ?_)
      · replace hf := hf.2 c3
        exact w_eatsIt_j57 hX hN hE  _ _ _ hf
      · replace hf := hf.1 c3
        refine hv_aload_n hX dX14_eatsIt_51 rfl 0 rfl ?_
        refine hv_bipush (v := 40) hX bi_40 dX14_eatsIt_52 ?_
        refine hm_callVv hX dX14_eatsIt_54 (ct_ran 40 I J _ hf) (gd_ran q2340) np_ran rfl rfl ⟨Nat.le_of_ble_eq_true rfl, Nat.le_of_ble_eq_true rfl⟩ ⟨Nat.le_refl _, Nat.le_refl _⟩ (Nat.le_of_ble_eq_true rfl) ?_
        intro  I13 J14 hf
        exact w_eatsIt_j57 hX hN hE  _ _ _ hf
    · replace hf := hf.1 c2
      refine hv_aload_n hX dX14_eatsIt_30 rfl 0 rfl ?_
      refine hv_bipush (v := 70) hX bi_70 dX14_eatsIt_31 ?_
      refine hm_callVv hX dX14_eatsIt_33 (ct_ran 70 I J _ hf) (gd_ran q2340) np_ran rfl rfl ⟨Nat.le_of_ble_eq_true rfl, Nat.le_of_ble_eq_true rfl⟩ ⟨Nat.le_refl _, Nat.le_refl _⟩ (Nat.le_of_ble_eq_true rfl) ?_
      intro  I15 J16 hf
      refine hv_iload_n hX dX14_eatsIt_36 rfl 1 rfl ?_
      refine hv_aload_n hX dX14_eatsIt_37 rfl 0 rfl ?_
      refine hm_getI (v := (I15 0 66)) hX dX14_eatsIt_38 mfl465 (.inl rfl) rfl ?_
      refine hv_isub hX dX14_eatsIt_41 ?_
      exact hm_iret hX hE dX14_eatsIt_42 hf
  · replace hf := hf.1 c1
    refine hv_aload_n hX dX14_eatsIt_8 rfl 0 rfl ?_
    refine hv_bipush (v := 60) hX bi_60 dX14_eatsIt_9 ?_
    refine hm_callVv hX dX14_eatsIt_11 (ct_ran 60 I J _ hf) (gd_ran q2340) np_ran rfl rfl ⟨Nat.le_of_ble_eq_true rfl, Nat.le_of_ble_eq_true rfl⟩ ⟨Nat.le_refl _, Nat.le_refl _⟩ (Nat.le_of_ble_eq_true rfl) ?_
    intro  I17 J18 hf
    refine hv_aload_n hX dX14_eatsIt_14 rfl 0 rfl ?_
    refine hm_getI (v := (I17 0 66)) hX dX14_eatsIt_15 mfl465 (.inl rfl) rfl ?_
    refine hv_iload_n hX dX14_eatsIt_18 rfl 1 rfl ?_
    refine hv_isub hX dX14_eatsIt_19 ?_
    exact hm_iret hX hE dX14_eatsIt_20 hf
theorem np_eatsIt : yX14_eatsIt.cls = RX14 ∧ yX14_eatsIt.cls ≠ "java/lang/invoke/MethodHandle" ∧ yX14_eatsIt.cls ≠ "java/lang/invoke/VarHandle" ∧ (parseMethodDescriptor yX14_eatsIt.desc).map (fun d => d.parameters.length) = some 1 := by decide +kernel
theorem gd_eatsIt {idx : Nat} (h : Cond.methodLink RX14 idx yX14_eatsIt ∈ lw_all) : GoodIn lw_all (wsV RX14 idx RX14 yX14_eatsIt (ws_ yX14_eatsIt cX14_eatsIt 4 (some .int))) := lw_V h q2338 qs96 q123 q2339
/-! patchStays(I)I -/
def m_patchStays (a1 : Int32) (I : mI) (J : mJ) (Q : Int32 → mI → mJ → Prop) : Prop :=
  m_ran 11 I J (fun  I1 J2 => m_eatsIt a1 I1 J2 (fun r3 I4 J5 => Q (r3 * 2) I4 J5))
theorem ct_patchStays (a1 : Int32) (I : mI) (J : mJ) (Q : Int32 → mI → mJ → Prop) (hf : m_patchStays a1 I J Q) : hh_Ct yX14_patchStays cX14_patchStays 2 (some .int) 2 44 [.ref 0, .int a1] (hm I J) (mQi Q) 0 0 := by
  refine hh_Ct.of (own := RX14) rfl (by decide +kernel) (Nat.le_of_ble_eq_true rfl) ?_
  intro X hX hN hE
  show hh_V X 0 [(0, .ref 0), (1, .int a1)] [] 0 0 (hm I J)
  unfold m_patchStays at hf
  refine hv_aload_n hX dX14_patchStays_0 rfl 0 rfl ?_
  refine hv_bipush (v := 11) hX bi_11 dX14_patchStays_1 ?_
  refine hm_callVv hX dX14_patchStays_3 (ct_ran 11 I J _ hf) (gd_ran q2340) np_ran rfl rfl ⟨Nat.le_of_ble_eq_true rfl, Nat.le_of_ble_eq_true rfl⟩ ⟨Nat.le_refl _, Nat.le_refl _⟩ (Nat.le_of_ble_eq_true rfl) ?_
  intro  I1 J2 hf
  refine hv_aload_n hX dX14_patchStays_6 rfl 0 rfl ?_
  refine hv_iload_n hX dX14_patchStays_7 rfl 1 rfl ?_
  refine hm_callVi hX dX14_patchStays_8 (ct_eatsIt a1 I1 J2 _ hf) (gd_eatsIt q2336) np_eatsIt rfl rfl ⟨Nat.le_of_ble_eq_true rfl, Nat.le_of_ble_eq_true rfl⟩ ⟨Nat.le_refl _, Nat.le_refl _⟩ (Nat.le_of_ble_eq_true rfl) ?_
  intro r3 I4 J5 hf
  refine hv_iconst (v := 2) hX ic_2 dX14_patchStays_11 ?_
  refine hv_imul hX dX14_patchStays_12 ?_
  exact hm_iret hX hE dX14_patchStays_13 hf
theorem np_patchStays : yX14_patchStays.cls = RX14 ∧ yX14_patchStays.cls ≠ "java/lang/invoke/MethodHandle" ∧ yX14_patchStays.cls ≠ "java/lang/invoke/VarHandle" ∧ (parseMethodDescriptor yX14_patchStays.desc).map (fun d => d.parameters.length) = some 1 := by decide +kernel
theorem gd_patchStays {idx : Nat} (h : Cond.methodLink RX14 idx yX14_patchStays ∈ lw_all) : GoodIn lw_all (wsV RX14 idx RX14 yX14_patchStays (ws_ yX14_patchStays cX14_patchStays 2 (some .int))) := lw_V h q2350 qs99 q123 q2351
/-! staysIt(I)I -/
def m_staysIt (a1 : Int32) (I : mI) (J : mJ) (Q : Int32 → mI → mJ → Prop) : Prop :=
  ((I 0 64) = 4 →
    m_ran 50 I J (fun  I2 J3 => m_patchStays a1 I2 J3 (fun r4 I5 J6 => Q (0 - r4) I5 J6))) ∧ (¬ (I 0 64) = 4 →
    ((I 0 64) = 5 →
    m_ran 61 I J (fun  I8 J9 => m_eatsIt a1 I8 J9 (fun r10 I11 J12 => Q (r10 + (I11 0 65)) I11 J12))) ∧ (¬ (I 0 64) = 5 →
    ((I 0 64) = 6 →
    m_ran 71 I J (fun  I14 J15 => Q (a1 * (I14 0 65)) I14 J15)) ∧ (¬ (I 0 64) = 6 →
    m_ran 20 I J (fun  I16 J17 => m_patchStays a1 I16 J17 (fun r18 I19 J20 => Q (r18 - 4) I19 J20)))))
theorem ct_staysIt (a1 : Int32) (I : mI) (J : mJ) (Q : Int32 → mI → mJ → Prop) (hf : m_staysIt a1 I J Q) : hh_Ct yX14_staysIt cX14_staysIt 2 (some .int) 3 65 [.ref 0, .int a1] (hm I J) (mQi Q) 0 0 := by
  refine hh_Ct.of (own := RX14) rfl (by decide +kernel) (Nat.le_of_ble_eq_true rfl) ?_
  intro X hX hN hE
  show hh_V X 0 [(0, .ref 0), (1, .int a1)] [] 0 0 (hm I J)
  unfold m_staysIt at hf
  refine hv_aload_n hX dX14_staysIt_0 rfl 0 rfl ?_
  refine hm_getI (v := (I 0 64)) hX dX14_staysIt_1 mfl459 (.inl rfl) rfl ?_
  by_cases c1 : (I 0 64) = 4
  · replace hf := hf.1 c1
    refine hv_tswA (v := 4) (tgt := 32) (off := 28) hX dX14_staysIt_4 c1 ⟨by decide, by decide, by decide⟩ (by decide) ?_
    refine hv_aload_n hX dX14_staysIt_32 rfl 0 rfl ?_
    refine hv_bipush (v := 50) hX bi_50 dX14_staysIt_33 ?_
    refine hm_callVv hX dX14_staysIt_35 (ct_ran 50 I J _ hf) (gd_ran q2340) np_ran rfl rfl ⟨Nat.le_of_ble_eq_true rfl, Nat.le_of_ble_eq_true rfl⟩ ⟨Nat.le_refl _, Nat.le_refl _⟩ (Nat.le_of_ble_eq_true rfl) ?_
    intro  I2 J3 hf
    refine hv_iconst (v := 0) hX ic_0 dX14_staysIt_38 ?_
    refine hv_aload_n hX dX14_staysIt_39 rfl 0 rfl ?_
    refine hv_iload_n hX dX14_staysIt_40 rfl 1 rfl ?_
    refine hm_callVi hX dX14_staysIt_41 (ct_patchStays a1 I2 J3 _ hf) (gd_patchStays q2348) np_patchStays rfl rfl ⟨Nat.le_of_ble_eq_true rfl, Nat.le_of_ble_eq_true rfl⟩ ⟨Nat.le_refl _, Nat.le_refl _⟩ (Nat.le_of_ble_eq_true rfl) ?_
    intro r4 I5 J6 hf
    refine hv_isub hX dX14_staysIt_44 ?_
    exact hm_iret hX hE dX14_staysIt_45 hf
  · replace hf := hf.2 c1
    by_cases c7 : (I 0 64) = 5
    · replace hf := hf.1 c7
      refine hv_tswA (v := 5) (tgt := 46) (off := 42) hX dX14_staysIt_4 c7 ⟨by decide, by decide, by decide⟩ (by decide) ?_
      refine hv_aload_n hX dX14_staysIt_46 rfl 0 rfl ?_
      refine hv_bipush (v := 61) hX bi_61 dX14_staysIt_47 ?_
      refine hm_callVv hX dX14_staysIt_49 (ct_ran 61 I J _ hf) (gd_ran q2340) np_ran rfl rfl ⟨Nat.le_of_ble_eq_true rfl, Nat.le_of_ble_eq_true rfl⟩ ⟨Nat.le_refl _, Nat.le_refl _⟩ (Nat.le_of_ble_eq_true rfl) ?_
      intro  I8 J9 hf
      refine hv_aload_n hX dX14_staysIt_52 rfl 0 rfl ?_
      refine hv_iload_n hX dX14_staysIt_53 rfl 1 rfl ?_
      refine hm_callVi hX dX14_staysIt_54 (ct_eatsIt a1 I8 J9 _ hf) (gd_eatsIt q2336) np_eatsIt rfl rfl ⟨Nat.le_of_ble_eq_true rfl, Nat.le_of_ble_eq_true rfl⟩ ⟨Nat.le_refl _, Nat.le_refl _⟩ (Nat.le_of_ble_eq_true rfl) ?_
      intro r10 I11 J12 hf
      refine hv_aload_n hX dX14_staysIt_57 rfl 0 rfl ?_
      refine hm_getI (v := (I11 0 65)) hX dX14_staysIt_58 mfl474 (.inl rfl) rfl ?_
      refine hv_iadd hX dX14_staysIt_61 ?_
      exact hm_iret hX hE dX14_staysIt_62 hf
    · replace hf := hf.2 c7
      by_cases c13 : (I 0 64) = 6
      · replace hf := hf.1 c13
        refine hv_tswA (v := 6) (tgt := 63) (off := 59) hX dX14_staysIt_4 c13 ⟨by decide, by decide, by decide⟩ (by decide) ?_
        refine hv_aload_n hX dX14_staysIt_63 rfl 0 rfl ?_
        refine hv_bipush (v := 71) hX bi_71 dX14_staysIt_64 ?_
        refine hm_callVv hX dX14_staysIt_66 (ct_ran 71 I J _ hf) (gd_ran q2340) np_ran rfl rfl ⟨Nat.le_of_ble_eq_true rfl, Nat.le_of_ble_eq_true rfl⟩ ⟨Nat.le_refl _, Nat.le_refl _⟩ (Nat.le_of_ble_eq_true rfl) ?_
        intro  I14 J15 hf
        refine hv_iload_n hX dX14_staysIt_69 rfl 1 rfl ?_
        refine hv_aload_n hX dX14_staysIt_70 rfl 0 rfl ?_
        refine hm_getI (v := (I14 0 65)) hX dX14_staysIt_71 mfl474 (.inl rfl) rfl ?_
        refine hv_imul hX dX14_staysIt_74 ?_
        exact hm_iret hX hE dX14_staysIt_75 hf
      · replace hf := hf.2 c13
        refine hv_tswO (tgt := 76) hX dX14_staysIt_4 (by have z0 := lv_neT c1 (a := 4) (by decide); have z1 := lv_neT c7 (a := 5) (by decide); have z2 := lv_neT c13 (a := 6) (by decide); omega) (by decide) ?_
        refine hv_aload_n hX dX14_staysIt_76 rfl 0 rfl ?_
        refine hv_bipush (v := 20) hX bi_20 dX14_staysIt_77 ?_
        refine hm_callVv hX dX14_staysIt_79 (ct_ran 20 I J _ hf) (gd_ran q2340) np_ran rfl rfl ⟨Nat.le_of_ble_eq_true rfl, Nat.le_of_ble_eq_true rfl⟩ ⟨Nat.le_refl _, Nat.le_refl _⟩ (Nat.le_of_ble_eq_true rfl) ?_
        intro  I16 J17 hf
        refine hv_aload_n hX dX14_staysIt_82 rfl 0 rfl ?_
        refine hv_iload_n hX dX14_staysIt_83 rfl 1 rfl ?_
        refine hm_callVi hX dX14_staysIt_84 (ct_patchStays a1 I16 J17 _ hf) (gd_patchStays q2348) np_patchStays rfl rfl ⟨Nat.le_of_ble_eq_true rfl, Nat.le_of_ble_eq_true rfl⟩ ⟨Nat.le_refl _, Nat.le_refl _⟩ (Nat.le_of_ble_eq_true rfl) ?_
        intro r18 I19 J20 hf
        refine hv_iconst (v := 4) hX ic_4 dX14_staysIt_87 ?_
        refine hv_isub hX dX14_staysIt_88 ?_
        exact hm_iret hX hE dX14_staysIt_89 hf
theorem np_staysIt : yX14_staysIt.cls = RX14 ∧ yX14_staysIt.cls ≠ "java/lang/invoke/MethodHandle" ∧ yX14_staysIt.cls ≠ "java/lang/invoke/VarHandle" ∧ (parseMethodDescriptor yX14_staysIt.desc).map (fun d => d.parameters.length) = some 1 := by decide +kernel
theorem gd_staysIt {idx : Nat} (h : Cond.methodLink RX14 idx yX14_staysIt ∈ lw_all) : GoodIn lw_all (wsV RX14 idx RX14 yX14_staysIt (ws_ yX14_staysIt cX14_staysIt 2 (some .int))) := lw_V h q2346 qs98 q123 q2347
/-! fliesIt(I)I -/
def m_fliesIt_j70 (Q : Int32 → mI → mJ → Prop) (a2 : Int32) (I : mI) (J : mJ) : Prop :=
  m_ran 12 I J (fun  I4 J5 => ((I4 0 66) = (I4 0 65) →
    Q 0 (u2 I4 0 69 1) J5) ∧ (¬ (I4 0 66) = (I4 0 65) →
    ¬ ((I4 0 66) - (I4 0 65)) = 0 ∧ (Q (a2 / ((I4 0 66) - (I4 0 65))) I4 J5)))
theorem w_fliesIt_j70 {X : hh_CX} {Q : Int32 → mI → mJ → Prop} (hX : hh_C X cX14_fliesIt RX14 (hrm 4 86)) (hN : hh_nL X = 3) (hE : hh_E X (some .int) (mQi Q) 0 0) : ∀ (a2 : Int32) (I : mI) (J : mJ), m_fliesIt_j70 Q  a2 I J → hh_V X 70 [(0, .ref 0), (2, .int a2)] [] 0 0 (hm I J) := by
  intro a2 I J hf
  unfold m_fliesIt_j70 at hf
  refine hv_aload_n hX dX14_fliesIt_70 rfl 0 rfl ?_
  refine hv_bipush (v := 12) hX bi_12 dX14_fliesIt_71 ?_
  refine hm_callVv hX dX14_fliesIt_73 (ct_ran 12 I J _ hf) (gd_ran q2340) np_ran rfl rfl ⟨Nat.le_of_ble_eq_true rfl, Nat.le_of_ble_eq_true rfl⟩ ⟨Nat.le_refl _, Nat.le_refl _⟩ (Nat.le_of_ble_eq_true rfl) ?_
  intro  I4 J5 hf
  refine hv_aload_n hX dX14_fliesIt_76 rfl 0 rfl ?_
  refine hm_getI (v := (I4 0 66)) hX dX14_fliesIt_77 mfl465 (.inl rfl) rfl ?_
  refine hv_aload_n hX dX14_fliesIt_80 rfl 0 rfl ?_
  refine hm_getI (v := (I4 0 65)) hX dX14_fliesIt_81 mfl474 (.inl rfl) rfl ?_
  refine hv_icmp_ne (tgt := 94) hX dX14_fliesIt_84 (by decide) (fun c6 => ?_) (fun c6 => ?_)
  · replace hf := hf.2 c6
    refine hv_iload_n hX dX14_fliesIt_94 rfl 1 rfl ?_
    refine hv_aload_n hX dX14_fliesIt_95 rfl 0 rfl ?_
    refine hm_getI (v := (I4 0 66)) hX dX14_fliesIt_96 mfl465 (.inl rfl) rfl ?_
    refine hv_aload_n hX dX14_fliesIt_99 rfl 0 rfl ?_
    refine hm_getI (v := (I4 0 65)) hX dX14_fliesIt_100 mfl474 (.inl rfl) rfl ?_
    refine hv_isub hX dX14_fliesIt_103 ?_
    obtain ⟨g, hf⟩ := hf
    refine hv_idiv hX g dX14_fliesIt_104 ?_
    exact hm_iret hX hE dX14_fliesIt_105 hf
  · replace hf := hf.1 c6
    refine hv_aload_n hX dX14_fliesIt_87 rfl 0 rfl ?_
    refine hv_iconst (v := 1) hX ic_1 dX14_fliesIt_88 ?_
    refine hm_putZ hX dX14_fliesIt_89 mfl480 (by decide) ?_
    refine hv_iconst (v := 0) hX ic_0 dX14_fliesIt_92 ?_
    exact hm_iret hX hE dX14_fliesIt_93 hf
def m_fliesIt (a1 : Int32) (I : mI) (J : mJ) (Q : Int32 → mI → mJ → Prop) : Prop :=
  ((I 0 64) = 5 →
    m_ran 62 I J (fun  I17 J18 => Q (a1 &&& (I17 0 66)) I17 J18)) ∧ (¬ (I 0 64) = 5 →
    ((I 0 64) = 6 →
      m_ran 72 I J (fun  I9 J10 => m_eatsIt a1 I9 J10 (fun r11 I12 J13 => m_staysIt a1 I12 J13 (fun r14 I15 J16 => Q (r11 + r14) I15 J16)))) ∧ (¬ (I 0 64) = 6 →
      ((I 0 64) = 3 →
        m_ran 41 I J (fun  I7 J8 => m_fliesIt_j70 Q  (a1 - 1) I7 J8)) ∧ (¬ (I 0 64) = 3 →
        m_fliesIt_j70 Q  a1 I J)))
theorem ct_fliesIt (a1 : Int32) (I : mI) (J : mJ) (Q : Int32 → mI → mJ → Prop) (hf : m_fliesIt a1 I J Q) : hh_Ct yX14_fliesIt cX14_fliesIt 3 (some .int) 4 86 [.ref 0, .int a1] (hm I J) (mQi Q) 0 0 := by
  refine hh_Ct.of (own := RX14) rfl (by decide +kernel) (Nat.le_of_ble_eq_true rfl) ?_
  intro X hX hN hE
  show hh_V X 0 [(0, .ref 0), (1, .int a1)] [] 0 0 (hm I J)
  unfold m_fliesIt at hf
  refine hv_aload_n hX dX14_fliesIt_0 rfl 0 rfl ?_
  refine hm_getI (v := (I 0 64)) hX dX14_fliesIt_1 mfl459 (.inl rfl) rfl ?_
  refine hv_iconst (v := 5) hX ic_5 dX14_fliesIt_4 ?_
  refine hv_icmp_ne (tgt := 21) hX dX14_fliesIt_5 (by decide) (fun c1 => ?_) (fun c1 => ?_)
  · replace hf := hf.2 c1
    refine hv_aload_n hX dX14_fliesIt_21 rfl 0 rfl ?_
    refine hm_getI (v := (I 0 64)) hX dX14_fliesIt_22 mfl459 (.inl rfl) rfl ?_
    refine hv_bipush (v := 6) hX bi_6 dX14_fliesIt_25 ?_
    refine hv_icmp_ne (tgt := 50) hX dX14_fliesIt_27 (by decide) (fun c2 => ?_) (fun c2 => ?_)
    · replace hf := hf.2 c2
      refine hv_iload_n hX dX14_fliesIt_50 rfl 1 rfl ?_
      refine hv_istore_n (loc2 := [(2, .int a1), (0, .ref 0), (1, .int a1)]) hX dX14_fliesIt_51 rfl hN (Nat.le_of_ble_eq_true rfl) rfl ?_
      refine hv_aload_n hX dX14_fliesIt_52 rfl 1 rfl ?_
      refine hm_getI (v := (I 0 64)) hX dX14_fliesIt_53 mfl459 (.inl rfl) rfl ?_
      refine hv_iconst (v := 3) hX ic_3 dX14_fliesIt_56 ?_
      refine hv_icmp_ne (tgt := 70) hX dX14_fliesIt_57 (by decide) (fun c3 => ?_) (fun c3 => ?_)
      · replace hf := hf.2 c3
        refine hv_fewer [1, 0] (loc2 := [(0, .ref 0), (2, .int a1)]) rfl ?_
        exact w_fliesIt_j70 hX hN hE  _ _ _ hf
      · replace hf := hf.1 c3
        refine hv_aload_n hX dX14_fliesIt_60 rfl 1 rfl ?_
        refine hv_bipush (v := 41) hX bi_41 dX14_fliesIt_61 ?_
        refine hm_callVv hX dX14_fliesIt_63 (ct_ran 41 I J _ hf) (gd_ran q2340) np_ran rfl rfl ⟨Nat.le_of_ble_eq_true rfl, Nat.le_of_ble_eq_true rfl⟩ ⟨Nat.le_refl _, Nat.le_refl _⟩ (Nat.le_of_ble_eq_true rfl) ?_
        intro  I7 J8 hf
        refine hv_iload_n hX dX14_fliesIt_66 rfl 2 rfl ?_
        refine hv_iconst (v := 1) hX ic_1 dX14_fliesIt_67 ?_
        refine hv_isub hX dX14_fliesIt_68 ?_
        refine hv_istore_n (loc2 := [(2, .int (a1 - 1)), (0, .ref 0), (1, .int a1)]) hX dX14_fliesIt_69 rfl hN (Nat.le_of_ble_eq_true rfl) rfl ?_
        refine hv_fewer [1, 0] (loc2 := [(0, .ref 0), (2, .int (a1 - 1))]) rfl ?_
        exact w_fliesIt_j70 hX hN hE  _ _ _ hf
    · replace hf := hf.1 c2
      refine hv_aload_n hX dX14_fliesIt_30 rfl 0 rfl ?_
      refine hv_bipush (v := 72) hX bi_72 dX14_fliesIt_31 ?_
      refine hm_callVv hX dX14_fliesIt_33 (ct_ran 72 I J _ hf) (gd_ran q2340) np_ran rfl rfl ⟨Nat.le_of_ble_eq_true rfl, Nat.le_of_ble_eq_true rfl⟩ ⟨Nat.le_refl _, Nat.le_refl _⟩ (Nat.le_of_ble_eq_true rfl) ?_
      intro  I9 J10 hf
      refine hv_aload_n hX dX14_fliesIt_36 rfl 0 rfl ?_
      refine hv_iload_n hX dX14_fliesIt_37 rfl 1 rfl ?_
      refine hm_callVi hX dX14_fliesIt_38 (ct_eatsIt a1 I9 J10 _ hf) (gd_eatsIt q2336) np_eatsIt rfl rfl ⟨Nat.le_of_ble_eq_true rfl, Nat.le_of_ble_eq_true rfl⟩ ⟨Nat.le_refl _, Nat.le_refl _⟩ (Nat.le_of_ble_eq_true rfl) ?_
      intro r11 I12 J13 hf
      refine hv_istore_n (loc2 := [(2, .int r11), (0, .ref 0), (1, .int a1)]) hX dX14_fliesIt_41 rfl hN (Nat.le_of_ble_eq_true rfl) rfl ?_
      refine hv_iload_n hX dX14_fliesIt_42 rfl 0 rfl ?_
      refine hv_aload_n hX dX14_fliesIt_43 rfl 1 rfl ?_
      refine hv_iload_n hX dX14_fliesIt_44 rfl 2 rfl ?_
      refine hm_callVi hX dX14_fliesIt_45 (ct_staysIt a1 I12 J13 _ hf) (gd_staysIt q2344) np_staysIt rfl rfl ⟨Nat.le_of_ble_eq_true rfl, Nat.le_of_ble_eq_true rfl⟩ ⟨Nat.le_refl _, Nat.le_refl _⟩ (Nat.le_of_ble_eq_true rfl) ?_
      intro r14 I15 J16 hf
      refine hv_iadd hX dX14_fliesIt_48 ?_
      exact hm_iret hX hE dX14_fliesIt_49 hf
  · replace hf := hf.1 c1
    refine hv_aload_n hX dX14_fliesIt_8 rfl 0 rfl ?_
    refine hv_bipush (v := 62) hX bi_62 dX14_fliesIt_9 ?_
    refine hm_callVv hX dX14_fliesIt_11 (ct_ran 62 I J _ hf) (gd_ran q2340) np_ran rfl rfl ⟨Nat.le_of_ble_eq_true rfl, Nat.le_of_ble_eq_true rfl⟩ ⟨Nat.le_refl _, Nat.le_refl _⟩ (Nat.le_of_ble_eq_true rfl) ?_
    intro  I17 J18 hf
    refine hv_iload_n hX dX14_fliesIt_14 rfl 1 rfl ?_
    refine hv_aload_n hX dX14_fliesIt_15 rfl 0 rfl ?_
    refine hm_getI (v := (I17 0 66)) hX dX14_fliesIt_16 mfl465 (.inl rfl) rfl ?_
    refine hv_iand hX dX14_fliesIt_19 ?_
    exact hm_iret hX hE dX14_fliesIt_20 hf
theorem np_fliesIt : yX14_fliesIt.cls = RX14 ∧ yX14_fliesIt.cls ≠ "java/lang/invoke/MethodHandle" ∧ yX14_fliesIt.cls ≠ "java/lang/invoke/VarHandle" ∧ (parseMethodDescriptor yX14_fliesIt.desc).map (fun d => d.parameters.length) = some 1 := by decide +kernel
theorem gd_fliesIt {idx : Nat} (h : Cond.methodLink RX14 idx yX14_fliesIt ∈ lw_all) : GoodIn lw_all (wsV RX14 idx RX14 yX14_fliesIt (ws_ yX14_fliesIt cX14_fliesIt 3 (some .int))) := lw_V h q2354 qs100 q123 q2355
/-! patchTells(I)I -/
def m_patchTells (a1 : Int32) (I : mI) (J : mJ) (Q : Int32 → mI → mJ → Prop) : Prop :=
  m_ran 13 I J (fun  I1 J2 => m_staysIt a1 I1 J2 (fun r3 I4 J5 => Q (r3 ^^^ (I4 0 65)) I4 J5))
theorem ct_patchTells (a1 : Int32) (I : mI) (J : mJ) (Q : Int32 → mI → mJ → Prop) (hf : m_patchTells a1 I J Q) : hh_Ct yX14_patchTells cX14_patchTells 2 (some .int) 4 86 [.ref 0, .int a1] (hm I J) (mQi Q) 0 0 := by
  refine hh_Ct.of (own := RX14) rfl (by decide +kernel) (Nat.le_of_ble_eq_true rfl) ?_
  intro X hX hN hE
  show hh_V X 0 [(0, .ref 0), (1, .int a1)] [] 0 0 (hm I J)
  unfold m_patchTells at hf
  refine hv_aload_n hX dX14_patchTells_0 rfl 0 rfl ?_
  refine hv_bipush (v := 13) hX bi_13 dX14_patchTells_1 ?_
  refine hm_callVv hX dX14_patchTells_3 (ct_ran 13 I J _ hf) (gd_ran q2340) np_ran rfl rfl ⟨Nat.le_of_ble_eq_true rfl, Nat.le_of_ble_eq_true rfl⟩ ⟨Nat.le_refl _, Nat.le_refl _⟩ (Nat.le_of_ble_eq_true rfl) ?_
  intro  I1 J2 hf
  refine hv_aload_n hX dX14_patchTells_6 rfl 0 rfl ?_
  refine hv_iload_n hX dX14_patchTells_7 rfl 1 rfl ?_
  refine hm_callVi hX dX14_patchTells_8 (ct_staysIt a1 I1 J2 _ hf) (gd_staysIt q2344) np_staysIt rfl rfl ⟨Nat.le_of_ble_eq_true rfl, Nat.le_of_ble_eq_true rfl⟩ ⟨Nat.le_refl _, Nat.le_refl _⟩ (Nat.le_of_ble_eq_true rfl) ?_
  intro r3 I4 J5 hf
  refine hv_aload_n hX dX14_patchTells_11 rfl 0 rfl ?_
  refine hm_getI (v := (I4 0 65)) hX dX14_patchTells_12 mfl474 (.inl rfl) rfl ?_
  refine hv_ixor hX dX14_patchTells_15 ?_
  exact hm_iret hX hE dX14_patchTells_16 hf
theorem np_patchTells : yX14_patchTells.cls = RX14 ∧ yX14_patchTells.cls ≠ "java/lang/invoke/MethodHandle" ∧ yX14_patchTells.cls ≠ "java/lang/invoke/VarHandle" ∧ (parseMethodDescriptor yX14_patchTells.desc).map (fun d => d.parameters.length) = some 1 := by decide +kernel
theorem gd_patchTells {idx : Nat} (h : Cond.methodLink RX14 idx yX14_patchTells ∈ lw_all) : GoodIn lw_all (wsV RX14 idx RX14 yX14_patchTells (ws_ yX14_patchTells cX14_patchTells 2 (some .int))) := lw_V h q2362 qs102 q123 q2363
/-! tellsIt(I)I -/
def m_tellsIt_j65 (Q : Int32 → mI → mJ → Prop) (a1 : Int32) (I : mI) (J : mJ) : Prop :=
  m_ran 31 I J (fun  I4 J5 => m_patchTells a1 I4 J5 (fun r6 I7 J8 => m_fliesIt ((I7 0 65) + 1) I7 J8 (fun r9 I10 J11 => Q (r6 + r9) I10 J11)))
theorem w_tellsIt_j65 {X : hh_CX} {Q : Int32 → mI → mJ → Prop} (hX : hh_C X cX14_tellsIt RX14 (hrm 5 108)) (hN : hh_nL X = 3) (hE : hh_E X (some .int) (mQi Q) 0 0) : ∀ (a1 : Int32) (I : mI) (J : mJ), m_tellsIt_j65 Q  a1 I J → hh_V X 65 [(0, .ref 0), (1, .int a1)] [] 0 0 (hm I J) := by
  intro a1 I J hf
  unfold m_tellsIt_j65 at hf
  refine hv_aload_n hX dX14_tellsIt_65 rfl 0 rfl ?_
  refine hv_bipush (v := 31) hX bi_31 dX14_tellsIt_66 ?_
  refine hm_callVv hX dX14_tellsIt_68 (ct_ran 31 I J _ hf) (gd_ran q2340) np_ran rfl rfl ⟨Nat.le_of_ble_eq_true rfl, Nat.le_of_ble_eq_true rfl⟩ ⟨Nat.le_refl _, Nat.le_refl _⟩ (Nat.le_of_ble_eq_true rfl) ?_
  intro  I4 J5 hf
  refine hv_aload_n hX dX14_tellsIt_71 rfl 0 rfl ?_
  refine hv_iload_n hX dX14_tellsIt_72 rfl 1 rfl ?_
  refine hm_callVi hX dX14_tellsIt_73 (ct_patchTells a1 I4 J5 _ hf) (gd_patchTells q2360) np_patchTells rfl rfl ⟨Nat.le_of_ble_eq_true rfl, Nat.le_of_ble_eq_true rfl⟩ ⟨Nat.le_refl _, Nat.le_refl _⟩ (Nat.le_of_ble_eq_true rfl) ?_
  intro r6 I7 J8 hf
  refine hv_istore_n (loc2 := [(2, .int r6), (0, .ref 0), (1, .int a1)]) hX dX14_tellsIt_76 rfl hN (Nat.le_of_ble_eq_true rfl) rfl ?_
  refine hv_iload_n hX dX14_tellsIt_77 rfl 0 rfl ?_
  refine hv_aload_n hX dX14_tellsIt_78 rfl 1 rfl ?_
  refine hv_aload_n hX dX14_tellsIt_79 rfl 1 rfl ?_
  refine hm_getI (v := (I7 0 65)) hX dX14_tellsIt_80 mfl474 (.inl rfl) rfl ?_
  refine hv_iconst (v := 1) hX ic_1 dX14_tellsIt_83 ?_
  refine hv_iadd hX dX14_tellsIt_84 ?_
  refine hm_callVi hX dX14_tellsIt_85 (ct_fliesIt ((I7 0 65) + 1) I7 J8 _ hf) (gd_fliesIt q2352) np_fliesIt rfl rfl ⟨Nat.le_of_ble_eq_true rfl, Nat.le_of_ble_eq_true rfl⟩ ⟨Nat.le_refl _, Nat.le_refl _⟩ (Nat.le_of_ble_eq_true rfl) ?_
  intro r9 I10 J11 hf
  refine hv_iadd hX dX14_tellsIt_88 ?_
  exact hm_iret hX hE dX14_tellsIt_89 hf
def m_tellsIt (a1 : Int32) (I : mI) (J : mJ) (Q : Int32 → mI → mJ → Prop) : Prop :=
  ((I 0 64) = 5 →
    m_ran 63 I J (fun  I21 J22 => m_staysIt a1 I21 J22 (fun r23 I24 J25 => Q (r23 * 7) I24 J25))) ∧ (¬ (I 0 64) = 5 →
    ((I 0 64) = 6 →
      m_ran 73 I J (fun  I16 J17 => m_fliesIt a1 I16 J17 (fun r18 I19 J20 => Q (r18 ^^^ (I19 0 66)) I19 J20))) ∧ (¬ (I 0 64) = 6 →
      ((I 0 64) = 2 →
        m_tellsIt_j65 Q  a1 I J) ∧ (¬ (I 0 64) = 2 →
        ((I 0 64) = 3 →
          m_tellsIt_j65 Q  a1 I J) ∧ (¬ (I 0 64) = 3 →
          m_patchTells a1 I J (fun r13 I14 J15 => Q r13 I14 J15)))))
theorem ct_tellsIt (a1 : Int32) (I : mI) (J : mJ) (Q : Int32 → mI → mJ → Prop) (hf : m_tellsIt a1 I J Q) : hh_Ct yX14_tellsIt cX14_tellsIt 3 (some .int) 5 108 [.ref 0, .int a1] (hm I J) (mQi Q) 0 0 := by
  refine hh_Ct.of (own := RX14) rfl (by decide +kernel) (Nat.le_of_ble_eq_true rfl) ?_
  intro X hX hN hE
  show hh_V X 0 [(0, .ref 0), (1, .int a1)] [] 0 0 (hm I J)
  unfold m_tellsIt at hf
  refine hv_aload_n hX dX14_tellsIt_0 rfl 0 rfl ?_
  refine hm_getI (v := (I 0 64)) hX dX14_tellsIt_1 mfl459 (.inl rfl) rfl ?_
  refine hv_iconst (v := 5) hX ic_5 dX14_tellsIt_4 ?_
  refine hv_icmp_ne (tgt := 23) hX dX14_tellsIt_5 (by decide) (fun c1 => ?_) (fun c1 => ?_)
  · replace hf := hf.2 c1
    refine hv_aload_n hX dX14_tellsIt_23 rfl 0 rfl ?_
    refine hm_getI (v := (I 0 64)) hX dX14_tellsIt_24 mfl459 (.inl rfl) rfl ?_
    refine hv_bipush (v := 6) hX bi_6 dX14_tellsIt_27 ?_
    refine hv_icmp_ne (tgt := 49) hX dX14_tellsIt_29 (by decide) (fun c2 => ?_) (fun c2 => ?_)
    · replace hf := hf.2 c2
      refine hv_aload_n hX dX14_tellsIt_49 rfl 0 rfl ?_
      refine hm_getI (v := (I 0 64)) hX dX14_tellsIt_50 mfl459 (.inl rfl) rfl ?_
      refine hv_iconst (v := 2) hX ic_2 dX14_tellsIt_53 ?_
      refine hv_icmp_eq (tgt := 65) hX dX14_tellsIt_54 (by decide) (fun c3 => ?_) (fun c3 => ?_)
      · replace hf := hf.1 c3
        exact w_tellsIt_j65 hX hN hE  _ _ _ hf
      · replace hf := hf.2 c3
        refine hv_aload_n hX dX14_tellsIt_57 rfl 0 rfl ?_
        refine hm_getI (v := (I 0 64)) hX dX14_tellsIt_58 mfl459 (.inl rfl) rfl ?_
        refine hv_iconst (v := 3) hX ic_3 dX14_tellsIt_61 ?_
        refine hv_icmp_ne (tgt := 90) hX dX14_tellsIt_62 (by decide) (fun c12 => ?_) (fun c12 => ?_)
        · replace hf := hf.2 c12
          refine hv_aload_n hX dX14_tellsIt_90 rfl 0 rfl ?_
          refine hv_iload_n hX dX14_tellsIt_91 rfl 1 rfl ?_
          refine hm_callVi hX dX14_tellsIt_92 (ct_patchTells a1 I J _ hf) (gd_patchTells q2360) np_patchTells rfl rfl ⟨Nat.le_of_ble_eq_true rfl, Nat.le_of_ble_eq_true rfl⟩ ⟨Nat.le_refl _, Nat.le_refl _⟩ (Nat.le_of_ble_eq_true rfl) ?_
          intro r13 I14 J15 hf
          exact hm_iret hX hE dX14_tellsIt_95 hf
        · replace hf := hf.1 c12
          exact w_tellsIt_j65 hX hN hE  _ _ _ hf
    · replace hf := hf.1 c2
      refine hv_aload_n hX dX14_tellsIt_32 rfl 0 rfl ?_
      refine hv_bipush (v := 73) hX bi_73 dX14_tellsIt_33 ?_
      refine hm_callVv hX dX14_tellsIt_35 (ct_ran 73 I J _ hf) (gd_ran q2340) np_ran rfl rfl ⟨Nat.le_of_ble_eq_true rfl, Nat.le_of_ble_eq_true rfl⟩ ⟨Nat.le_refl _, Nat.le_refl _⟩ (Nat.le_of_ble_eq_true rfl) ?_
      intro  I16 J17 hf
      refine hv_aload_n hX dX14_tellsIt_38 rfl 0 rfl ?_
      refine hv_iload_n hX dX14_tellsIt_39 rfl 1 rfl ?_
      refine hm_callVi hX dX14_tellsIt_40 (ct_fliesIt a1 I16 J17 _ hf) (gd_fliesIt q2352) np_fliesIt rfl rfl ⟨Nat.le_of_ble_eq_true rfl, Nat.le_of_ble_eq_true rfl⟩ ⟨Nat.le_refl _, Nat.le_refl _⟩ (Nat.le_of_ble_eq_true rfl) ?_
      intro r18 I19 J20 hf
      refine hv_aload_n hX dX14_tellsIt_43 rfl 0 rfl ?_
      refine hm_getI (v := (I19 0 66)) hX dX14_tellsIt_44 mfl465 (.inl rfl) rfl ?_
      refine hv_ixor hX dX14_tellsIt_47 ?_
      exact hm_iret hX hE dX14_tellsIt_48 hf
  · replace hf := hf.1 c1
    refine hv_aload_n hX dX14_tellsIt_8 rfl 0 rfl ?_
    refine hv_bipush (v := 63) hX bi_63 dX14_tellsIt_9 ?_
    refine hm_callVv hX dX14_tellsIt_11 (ct_ran 63 I J _ hf) (gd_ran q2340) np_ran rfl rfl ⟨Nat.le_of_ble_eq_true rfl, Nat.le_of_ble_eq_true rfl⟩ ⟨Nat.le_refl _, Nat.le_refl _⟩ (Nat.le_of_ble_eq_true rfl) ?_
    intro  I21 J22 hf
    refine hv_aload_n hX dX14_tellsIt_14 rfl 0 rfl ?_
    refine hv_iload_n hX dX14_tellsIt_15 rfl 1 rfl ?_
    refine hm_callVi hX dX14_tellsIt_16 (ct_staysIt a1 I21 J22 _ hf) (gd_staysIt q2344) np_staysIt rfl rfl ⟨Nat.le_of_ble_eq_true rfl, Nat.le_of_ble_eq_true rfl⟩ ⟨Nat.le_refl _, Nat.le_refl _⟩ (Nat.le_of_ble_eq_true rfl) ?_
    intro r23 I24 J25 hf
    refine hv_bipush (v := 7) hX bi_7 dX14_tellsIt_19 ?_
    refine hv_imul hX dX14_tellsIt_21 ?_
    exact hm_iret hX hE dX14_tellsIt_22 hf
theorem np_tellsIt : yX14_tellsIt.cls = RX14 ∧ yX14_tellsIt.cls ≠ "java/lang/invoke/MethodHandle" ∧ yX14_tellsIt.cls ≠ "java/lang/invoke/VarHandle" ∧ (parseMethodDescriptor yX14_tellsIt.desc).map (fun d => d.parameters.length) = some 1 := by decide +kernel
theorem gd_tellsIt {idx : Nat} (h : Cond.methodLink RX14 idx yX14_tellsIt ∈ lw_all) : GoodIn lw_all (wsV RX14 idx RX14 yX14_tellsIt (ws_ yX14_tellsIt cX14_tellsIt 3 (some .int))) := lw_V h q2358 qs101 q123 q2359
/-! act(III)I -/
def m_act_j153 (Q : Int32 → mI → mJ → Prop) (s0 : Int32) (I : mI) (J : mJ) : Prop :=
  ((I 0 69) = 0 →
    Q s0 I J) ∧ (¬ (I 0 69) = 0 →
    Q (-15) I J)
theorem w_act_j153 {X : hh_CX} {Q : Int32 → mI → mJ → Prop} (hX : hh_C X cX14_act RX14 (hrm 6 130)) (hN : hh_nL X = 5) (hE : hh_E X (some .int) (mQi Q) 0 0) : ∀ (s0 : Int32) (I : mI) (J : mJ), m_act_j153 Q  s0 I J → hh_V X 153 [(0, .ref 0)] [.int s0] 0 0 (hm I J) := by
  intro s0 I J hf
  unfold m_act_j153 at hf
  refine hv_istore (loc2 := [(4, .int s0), (0, .ref 0)]) hX dX14_act_153 hN (Nat.le_of_ble_eq_true rfl) rfl ?_
  refine hv_aload_n hX dX14_act_155 rfl 1 rfl ?_
  refine hm_getI (v := (I 0 69)) hX dX14_act_156 mfl480 (.inr rfl) rfl ?_
  refine hv_if_eq (tgt := 167) hX dX14_act_159 (by decide) (fun c33 => ?_) (fun c33 => ?_)
  · replace hf := hf.1 c33
    refine hv_iload hX dX14_act_167 0 rfl ?_
    exact hm_iret hX hE dX14_act_169 hf
  · replace hf := hf.2 c33
    refine hv_bipush (v := (-15)) hX bi_m15 dX14_act_162 ?_
    refine hv_goto (tgt := 169) hX dX14_act_164 (by decide) ?_
    exact hm_iret hX hE dX14_act_169 hf
def m_act_j102 (Q : Int32 → mI → mJ → Prop) (a2 : Int32) (a3 : Int32) (s1 : Int32) (I : mI) (J : mJ) : Prop :=
  (a2 = 0 →
    m_eatsIt a3 (u2 (u2 I 0 66 s1) 0 69 0) J (fun r40 I41 J42 => m_act_j153 Q  r40 I41 J42)) ∧ (¬ a2 = 0 →
    (a2 = 1 →
      m_staysIt a3 (u2 (u2 I 0 66 s1) 0 69 0) J (fun r37 I38 J39 => m_act_j153 Q  r37 I38 J39)) ∧ (¬ a2 = 1 →
      (a2 = 2 →
        m_fliesIt a3 (u2 (u2 I 0 66 s1) 0 69 0) J (fun r34 I35 J36 => m_act_j153 Q  r34 I35 J36)) ∧ (¬ a2 = 2 →
        m_tellsIt a3 (u2 (u2 I 0 66 s1) 0 69 0) J (fun r30 I31 J32 => m_act_j153 Q  r30 I31 J32))))
theorem w_act_j102 {X : hh_CX} {Q : Int32 → mI → mJ → Prop} (hX : hh_C X cX14_act RX14 (hrm 6 130)) (hN : hh_nL X = 5) (hE : hh_E X (some .int) (mQi Q) 0 0) : ∀ (a2 : Int32) (a3 : Int32) (s1 : Int32) (I : mI) (J : mJ), m_act_j102 Q  a2 a3 s1 I J → hh_V X 102 [(0, .ref 0), (2, .int a2), (3, .int a3)] [.int s1, .ref 0] 0 0 (hm I J) := by
  intro a2 a3 s1 I J hf
  unfold m_act_j102 at hf
  refine hm_putI hX dX14_act_102 mfl465 ?_
  refine hv_aload_n hX dX14_act_105 rfl 0 rfl ?_
  refine hv_iconst (v := 0) hX ic_0 dX14_act_106 ?_
  refine hm_putZ hX dX14_act_107 mfl480 (by decide) ?_
  refine hv_iload_n hX dX14_act_110 rfl 1 rfl ?_
  refine hv_if_ne (tgt := 122) hX dX14_act_111 (by decide) (fun c27 => ?_) (fun c27 => ?_)
  · replace hf := hf.2 c27
    refine hv_iload_n hX dX14_act_122 rfl 1 rfl ?_
    refine hv_iconst (v := 1) hX ic_1 dX14_act_123 ?_
    refine hv_icmp_ne (tgt := 135) hX dX14_act_124 (by decide) (fun c28 => ?_) (fun c28 => ?_)
    · replace hf := hf.2 c28
      refine hv_iload_n hX dX14_act_135 rfl 1 rfl ?_
      refine hv_iconst (v := 2) hX ic_2 dX14_act_136 ?_
      refine hv_icmp_ne (tgt := 148) hX dX14_act_137 (by decide) (fun c29 => ?_) (fun c29 => ?_)
      · replace hf := hf.2 c29
        refine hv_aload_n hX dX14_act_148 rfl 0 rfl ?_
        refine hv_iload_n hX dX14_act_149 rfl 2 rfl ?_
        refine hm_callVi hX dX14_act_150 (ct_tellsIt a3 (u2 (u2 I 0 66 s1) 0 69 0) J _ hf) (gd_tellsIt q2356) np_tellsIt rfl rfl ⟨Nat.le_of_ble_eq_true rfl, Nat.le_of_ble_eq_true rfl⟩ ⟨Nat.le_refl _, Nat.le_refl _⟩ (Nat.le_of_ble_eq_true rfl) ?_
        intro r30 I31 J32 hf
        refine hv_fewer [0] (loc2 := [(0, .ref 0)]) rfl ?_
        exact w_act_j153 hX hN hE  _ _ _ hf
      · replace hf := hf.1 c29
        refine hv_aload_n hX dX14_act_140 rfl 0 rfl ?_
        refine hv_iload_n hX dX14_act_141 rfl 2 rfl ?_
        refine hm_callVi hX dX14_act_142 (ct_fliesIt a3 (u2 (u2 I 0 66 s1) 0 69 0) J _ hf) (gd_fliesIt q2352) np_fliesIt rfl rfl ⟨Nat.le_of_ble_eq_true rfl, Nat.le_of_ble_eq_true rfl⟩ ⟨Nat.le_refl _, Nat.le_refl _⟩ (Nat.le_of_ble_eq_true rfl) ?_
        intro r34 I35 J36 hf
        refine hv_goto (tgt := 153) hX dX14_act_145 (by decide) ?_
        refine hv_fewer [0] (loc2 := [(0, .ref 0)]) rfl ?_
        exact w_act_j153 hX hN hE  _ _ _ hf
    · replace hf := hf.1 c28
      refine hv_aload_n hX dX14_act_127 rfl 0 rfl ?_
      refine hv_iload_n hX dX14_act_128 rfl 2 rfl ?_
      refine hm_callVi hX dX14_act_129 (ct_staysIt a3 (u2 (u2 I 0 66 s1) 0 69 0) J _ hf) (gd_staysIt q2344) np_staysIt rfl rfl ⟨Nat.le_of_ble_eq_true rfl, Nat.le_of_ble_eq_true rfl⟩ ⟨Nat.le_refl _, Nat.le_refl _⟩ (Nat.le_of_ble_eq_true rfl) ?_
      intro r37 I38 J39 hf
      refine hv_goto (tgt := 153) hX dX14_act_132 (by decide) ?_
      refine hv_fewer [0] (loc2 := [(0, .ref 0)]) rfl ?_
      exact w_act_j153 hX hN hE  _ _ _ hf
  · replace hf := hf.1 c27
    refine hv_aload_n hX dX14_act_114 rfl 0 rfl ?_
    refine hv_iload_n hX dX14_act_115 rfl 2 rfl ?_
    refine hm_callVi hX dX14_act_116 (ct_eatsIt a3 (u2 (u2 I 0 66 s1) 0 69 0) J _ hf) (gd_eatsIt q2336) np_eatsIt rfl rfl ⟨Nat.le_of_ble_eq_true rfl, Nat.le_of_ble_eq_true rfl⟩ ⟨Nat.le_refl _, Nat.le_refl _⟩ (Nat.le_of_ble_eq_true rfl) ?_
    intro r40 I41 J42 hf
    refine hv_goto (tgt := 153) hX dX14_act_119 (by decide) ?_
    refine hv_fewer [0] (loc2 := [(0, .ref 0)]) rfl ?_
    exact w_act_j153 hX hN hE  _ _ _ hf
def m_act (a1 : Int32) (a2 : Int32) (a3 : Int32) (I : mI) (J : mJ) (Q : Int32 → mI → mJ → Prop) : Prop :=
  m_isShelf a1 (u2 I 0 68 0) J (fun r1 I2 J3 => (r1 = 0 →
    Q 0 I2 J3) ∧ (¬ r1 = 0 →
    m_in a2 0 3 I2 J3 (fun r5 I6 J7 => (r5 = 0 →
      Q 0 I6 J7) ∧ (¬ r5 = 0 →
      m_kindOn a1 I6 J7 (fun r9 I10 J11 => m_in r9 1 6 I10 J11 (fun r12 I13 J14 => (r12 = 0 →
        Q 0 I13 J14) ∧ (¬ r12 = 0 →
        m_kindOn a1 I13 J14 (fun r16 I17 J18 => m_numberOn a1 (u2 I17 0 64 r16) J18 (fun r19 I20 J21 => ((I20 0 64) = 5 →
          m_greatestOf r19 (u2 I20 0 65 r19) J21 (fun r43 I44 J45 => m_act_j102 Q  a2 a3 r43 I44 J45)) ∧ (¬ (I20 0 64) = 5 →
          ((I20 0 64) = 6 →
            m_act_j102 Q  a2 a3 (I20 0 1) (u2 I20 0 65 r19) J21) ∧ (¬ (I20 0 64) = 6 →
            m_foodIn (I20 0 12) r19 (u2 I20 0 65 r19) J21 (fun r24 I25 J26 => m_act_j102 Q  a2 a3 r24 I25 J26))))))))))))
theorem ct_act (a1 : Int32) (a2 : Int32) (a3 : Int32) (I : mI) (J : mJ) (Q : Int32 → mI → mJ → Prop) (hf : m_act a1 a2 a3 I J Q) : hh_Ct yX14_act cX14_act 5 (some .int) 6 130 [.ref 0, .int a1, .int a2, .int a3] (hm I J) (mQi Q) 0 0 := by
  refine hh_Ct.of (own := RX14) rfl (by decide +kernel) (Nat.le_of_ble_eq_true rfl) ?_
  intro X hX hN hE
  show hh_V X 0 [(0, .ref 0), (1, .int a1), (2, .int a2), (3, .int a3)] [] 0 0 (hm I J)
  unfold m_act at hf
  refine hv_aload_n hX dX14_act_0 rfl 0 rfl ?_
  refine hv_iconst (v := 0) hX ic_0 dX14_act_1 ?_
  refine hm_putI hX dX14_act_2 mfl456 ?_
  refine hv_iload_n hX dX14_act_5 rfl 1 rfl ?_
  refine hm_callSi hX dX14_act_6 (ct_isShelf a1 (u2 I 0 68 0) J _ hf) (gd_isShelf q1944) np_isShelf rfl rfl ⟨Nat.le_of_ble_eq_true rfl, Nat.le_of_ble_eq_true rfl⟩ ⟨Nat.le_refl _, Nat.le_refl _⟩ (Nat.le_of_ble_eq_true rfl) ?_
  intro r1 I2 J3 hf
  refine hv_if_eq (tgt := 35) hX dX14_act_9 (by decide) (fun c4 => ?_) (fun c4 => ?_)
  · replace hf := hf.1 c4
    refine hv_iconst (v := 0) hX ic_0 dX14_act_35 ?_
    exact hm_iret hX hE dX14_act_36 hf
  · replace hf := hf.2 c4
    refine hv_iload_n hX dX14_act_12 rfl 2 rfl ?_
    refine hv_iconst (v := 0) hX ic_0 dX14_act_13 ?_
    refine hv_iconst (v := 3) hX ic_3 dX14_act_14 ?_
    refine hm_callSi hX dX14_act_15 (ct_in a2 0 3 I2 J3 _ hf) (gd_in q1923) np_in rfl rfl ⟨Nat.le_of_ble_eq_true rfl, Nat.le_of_ble_eq_true rfl⟩ ⟨Nat.le_refl _, Nat.le_refl _⟩ (Nat.le_of_ble_eq_true rfl) ?_
    intro r5 I6 J7 hf
    refine hv_if_eq (tgt := 35) hX dX14_act_18 (by decide) (fun c8 => ?_) (fun c8 => ?_)
    · replace hf := hf.1 c8
      refine hv_iconst (v := 0) hX ic_0 dX14_act_35 ?_
      exact hm_iret hX hE dX14_act_36 hf
    · replace hf := hf.2 c8
      refine hv_aload_n hX dX14_act_21 rfl 0 rfl ?_
      refine hv_iload_n hX dX14_act_22 rfl 1 rfl ?_
      refine hm_callVi hX dX14_act_23 (ct_kindOn a1 I6 J7 _ hf) (gd_kindOn q2313) np_kindOn rfl rfl ⟨Nat.le_of_ble_eq_true rfl, Nat.le_of_ble_eq_true rfl⟩ ⟨Nat.le_refl _, Nat.le_refl _⟩ (Nat.le_of_ble_eq_true rfl) ?_
      intro r9 I10 J11 hf
      refine hv_iconst (v := 1) hX ic_1 dX14_act_26 ?_
      refine hv_bipush (v := 6) hX bi_6 dX14_act_27 ?_
      refine hm_callSi hX dX14_act_29 (ct_in r9 1 6 I10 J11 _ hf) (gd_in q1923) np_in rfl rfl ⟨Nat.le_of_ble_eq_true rfl, Nat.le_of_ble_eq_true rfl⟩ ⟨Nat.le_refl _, Nat.le_refl _⟩ (Nat.le_of_ble_eq_true rfl) ?_
      intro r12 I13 J14 hf
      refine hv_if_ne (tgt := 37) hX dX14_act_32 (by decide) (fun c15 => ?_) (fun c15 => ?_)
      · replace hf := hf.2 c15
        refine hv_aload_n hX dX14_act_37 rfl 0 rfl ?_
        refine hv_aload_n hX dX14_act_38 rfl 0 rfl ?_
        refine hv_iload_n hX dX14_act_39 rfl 1 rfl ?_
        refine hm_callVi hX dX14_act_40 (ct_kindOn a1 I13 J14 _ hf) (gd_kindOn q2313) np_kindOn rfl rfl ⟨Nat.le_of_ble_eq_true rfl, Nat.le_of_ble_eq_true rfl⟩ ⟨Nat.le_refl _, Nat.le_refl _⟩ (Nat.le_of_ble_eq_true rfl) ?_
        intro r16 I17 J18 hf
        refine hm_putI hX dX14_act_43 mfl459 ?_
        refine hv_aload_n hX dX14_act_46 rfl 0 rfl ?_
        refine hv_aload_n hX dX14_act_47 rfl 0 rfl ?_
        refine hv_iload_n hX dX14_act_48 rfl 1 rfl ?_
        refine hm_callVi hX dX14_act_49 (ct_numberOn a1 (u2 I17 0 64 r16) J18 _ hf) (gd_numberOn q2324) np_numberOn rfl rfl ⟨Nat.le_of_ble_eq_true rfl, Nat.le_of_ble_eq_true rfl⟩ ⟨Nat.le_refl _, Nat.le_refl _⟩ (Nat.le_of_ble_eq_true rfl) ?_
        intro r19 I20 J21 hf
        refine hm_putI hX dX14_act_52 mfl474 ?_
        refine hv_aload_n hX dX14_act_55 rfl 0 rfl ?_
        refine hv_aload_n hX dX14_act_56 rfl 0 rfl ?_
        refine hm_getI (v := (I20 0 64)) hX dX14_act_57 mfl459 (.inl rfl) ((u2_ne _ _ (.inr (by decide)))) ?_
        refine hv_iconst (v := 5) hX ic_5 dX14_act_60 ?_
        refine hv_icmp_ne (tgt := 75) hX dX14_act_61 (by decide) (fun c22 => ?_) (fun c22 => ?_)
        · replace hf := hf.2 c22
          refine hv_aload_n hX dX14_act_75 rfl 0 rfl ?_
          refine hm_getI (v := (I20 0 64)) hX dX14_act_76 mfl459 (.inl rfl) ((u2_ne _ _ (.inr (by decide)))) ?_
          refine hv_bipush (v := 6) hX bi_6 dX14_act_79 ?_
          refine hv_icmp_ne (tgt := 91) hX dX14_act_81 (by decide) (fun c23 => ?_) (fun c23 => ?_)
          · replace hf := hf.2 c23
            refine hv_aload_n hX dX14_act_91 rfl 0 rfl ?_
            refine hm_getI (v := (I20 0 12)) hX dX14_act_92 mfl141 (.inl rfl) ((u2_ne _ _ (.inr (by decide)))) ?_
            refine hv_aload_n hX dX14_act_95 rfl 0 rfl ?_
            refine hm_getI (v := r19) hX dX14_act_96 mfl474 (.inl rfl) (u2_self _ _ _ _) ?_
            refine hm_callSi hX dX14_act_99 (ct_foodIn (I20 0 12) r19 (u2 I20 0 65 r19) J21 _ hf) (gd_foodIn q1926) np_foodIn rfl rfl ⟨Nat.le_of_ble_eq_true rfl, Nat.le_of_ble_eq_true rfl⟩ ⟨Nat.le_refl _, Nat.le_refl _⟩ (Nat.le_of_ble_eq_true rfl) ?_
            intro r24 I25 J26 hf
            refine hv_fewer [0, 2, 3] (loc2 := [(0, .ref 0), (2, .int a2), (3, .int a3)]) rfl ?_
            exact w_act_j102 hX hN hE  _ _ _ _ _ hf
          · replace hf := hf.1 c23
            refine hv_aload_n hX dX14_act_84 rfl 0 rfl ?_
            refine hm_getI (v := (I20 0 1)) hX dX14_act_85 mfl172 (.inl rfl) ((u2_ne _ _ (.inr (by decide)))) ?_
            refine hv_goto (tgt := 102) hX dX14_act_88 (by decide) ?_
            refine hv_fewer [0, 2, 3] (loc2 := [(0, .ref 0), (2, .int a2), (3, .int a3)]) rfl ?_
            exact w_act_j102 hX hN hE  _ _ _ _ _ hf
        · replace hf := hf.1 c22
          refine hv_aload_n hX dX14_act_64 rfl 0 rfl ?_
          refine hv_aload_n hX dX14_act_65 rfl 0 rfl ?_
          refine hm_getI (v := r19) hX dX14_act_66 mfl474 (.inl rfl) (u2_self _ _ _ _) ?_
          refine hm_callVi hX dX14_act_69 (ct_greatestOf r19 (u2 I20 0 65 r19) J21 _ hf) (gd_greatestOf q2332) np_greatestOf rfl rfl ⟨Nat.le_of_ble_eq_true rfl, Nat.le_of_ble_eq_true rfl⟩ ⟨Nat.le_refl _, Nat.le_refl _⟩ (Nat.le_of_ble_eq_true rfl) ?_
          intro r43 I44 J45 hf
          refine hv_goto (tgt := 102) hX dX14_act_72 (by decide) ?_
          refine hv_fewer [0, 2, 3] (loc2 := [(0, .ref 0), (2, .int a2), (3, .int a3)]) rfl ?_
          exact w_act_j102 hX hN hE  _ _ _ _ _ hf
      · replace hf := hf.1 c15
        refine hv_iconst (v := 0) hX ic_0 dX14_act_35 ?_
        exact hm_iret hX hE dX14_act_36 hf
theorem np_act : yX14_act.cls = RX14 ∧ yX14_act.cls ≠ "java/lang/invoke/MethodHandle" ∧ yX14_act.cls ≠ "java/lang/invoke/VarHandle" ∧ (parseMethodDescriptor yX14_act.desc).map (fun d => d.parameters.length) = some 3 := by decide +kernel
theorem gd_act {idx : Nat} (h : Cond.methodLink RX14 idx yX14_act ∈ lw_all) : GoodIn lw_all (wsV RX14 idx RX14 yX14_act (ws_ yX14_act cX14_act 5 (some .int))) := lw_V h q2329 q2330 q123 q2331
/-! trace(I)I -/
def m_trace (a1 : Int32) (I : mI) (J : mJ) (Q : Int32 → mI → mJ → Prop) : Prop :=
  m_in a1 0 ((I 0 68) - 1) I J (fun r1 I2 J3 => (r1 = 0 →
    Q (-3) I2 J3) ∧ (¬ r1 = 0 →
    vp_in a1 30 ∧ (Q (I2 32 a1.toNatClampNeg) I2 J3)))
theorem ct_trace (a1 : Int32) (I : mI) (J : mJ) (Q : Int32 → mI → mJ → Prop) (hf : m_trace a1 I J Q) : hh_Ct yX14_trace cX14_trace 2 (some .int) 1 22 [.ref 0, .int a1] (hm I J) (mQi Q) 0 0 := by
  refine hh_Ct.of (own := RX14) rfl (by decide +kernel) (Nat.le_of_ble_eq_true rfl) ?_
  intro X hX hN hE
  show hh_V X 0 [(0, .ref 0), (1, .int a1)] [] 0 0 (hm I J)
  unfold m_trace at hf
  refine hv_iload_n hX dX14_trace_0 rfl 1 rfl ?_
  refine hv_iconst (v := 0) hX ic_0 dX14_trace_1 ?_
  refine hv_aload_n hX dX14_trace_2 rfl 0 rfl ?_
  refine hm_getI (v := (I 0 68)) hX dX14_trace_3 mfl456 (.inl rfl) rfl ?_
  refine hv_iconst (v := 1) hX ic_1 dX14_trace_6 ?_
  refine hv_isub hX dX14_trace_7 ?_
  refine hm_callSi hX dX14_trace_8 (ct_in a1 0 ((I 0 68) - 1) I J _ hf) (gd_in q1923) np_in rfl rfl ⟨Nat.le_of_ble_eq_true rfl, Nat.le_of_ble_eq_true rfl⟩ ⟨Nat.le_refl _, Nat.le_refl _⟩ (Nat.le_of_ble_eq_true rfl) ?_
  intro r1 I2 J3 hf
  refine hv_if_eq (tgt := 23) hX dX14_trace_11 (by decide) (fun c4 => ?_) (fun c4 => ?_)
  · replace hf := hf.1 c4
    refine hv_bipush (v := (-3)) hX bi_m3 dX14_trace_23 ?_
    exact hm_iret hX hE dX14_trace_25 hf
  · replace hf := hf.2 c4
    refine hv_aload_n hX dX14_trace_14 rfl 0 rfl ?_
    refine hm_getR hX dX14_trace_15 mfl121 32 rfl ?_
    refine hv_iload_n hX dX14_trace_18 rfl 1 rfl ?_
    obtain ⟨g, hf⟩ := hf
    refine hm_iald (v := (I2 32 a1.toNatClampNeg)) hX dX14_trace_19 (by decide) rfl rfl g rfl ?_
    refine hv_goto (tgt := 25) hX dX14_trace_20 (by decide) ?_
    exact hm_iret hX hE dX14_trace_25 hf
theorem np_trace : yX14_trace.cls = RX14 ∧ yX14_trace.cls ≠ "java/lang/invoke/MethodHandle" ∧ yX14_trace.cls ≠ "java/lang/invoke/VarHandle" ∧ (parseMethodDescriptor yX14_trace.desc).map (fun d => d.parameters.length) = some 1 := by decide +kernel
theorem gd_trace {idx : Nat} (h : Cond.methodLink RX14 idx yX14_trace ∈ lw_all) : GoodIn lw_all (wsV RX14 idx RX14 yX14_trace (ws_ yX14_trace cX14_trace 2 (some .int))) := lw_V h q2365 q2366 q123 q2367
/-! many(I)I -/
def m_many (a1 : Int32) (I : mI) (J : mJ) (Q : Int32 → mI → mJ → Prop) : Prop :=
  (a1 = 0 →
    Q (I 0 8) I J) ∧ (¬ a1 = 0 →
    (a1 = 1 →
    Q (I 0 9) I J) ∧ (¬ a1 = 1 →
    (a1 = 2 →
    Q (I 0 10) I J) ∧ (¬ a1 = 2 →
    (a1 = 3 →
    Q (I 0 57) I J) ∧ (¬ a1 = 3 →
    (a1 = 4 →
    Q (I 0 39) I J) ∧ (¬ a1 = 4 →
    (a1 = 5 →
    Q (I 0 68) I J) ∧ (¬ a1 = 5 →
    (a1 = 6 →
    Q (I 0 0) I J) ∧ (¬ a1 = 6 →
    (a1 = 7 →
    Q (I 0 1) I J) ∧ (¬ a1 = 7 →
    (a1 = 8 →
    Q (I 0 2) I J) ∧ (¬ a1 = 8 →
    (a1 = 9 →
    Q (I 0 3) I J) ∧ (¬ a1 = 9 →
    Q (-1) I J))))))))))
theorem ct_many (a1 : Int32) (I : mI) (J : mJ) (Q : Int32 → mI → mJ → Prop) (hf : m_many a1 I J Q) : hh_Ct yX14_many cX14_many 2 (some .int) 0 0 [.ref 0, .int a1] (hm I J) (mQi Q) 0 0 := by
  refine hh_Ct.of (own := RX14) rfl (by decide +kernel) (Nat.le_of_ble_eq_true rfl) ?_
  intro X hX hN hE
  show hh_V X 0 [(0, .ref 0), (1, .int a1)] [] 0 0 (hm I J)
  unfold m_many at hf
  refine hv_iload_n hX dX14_many_0 rfl 1 rfl ?_
  by_cases c1 : a1 = 0
  · replace hf := hf.1 c1
    refine hv_tswA (v := 0) (tgt := 56) (off := 55) hX dX14_many_1 c1 ⟨by decide, by decide, by decide⟩ (by decide) ?_
    refine hv_aload_n hX dX14_many_56 rfl 0 rfl ?_
    refine hm_getI (v := (I 0 8)) hX dX14_many_57 mfl130 (.inl rfl) rfl ?_
    exact hm_iret hX hE dX14_many_60 hf
  · replace hf := hf.2 c1
    by_cases c2 : a1 = 1
    · replace hf := hf.1 c2
      refine hv_tswA (v := 1) (tgt := 61) (off := 60) hX dX14_many_1 c2 ⟨by decide, by decide, by decide⟩ (by decide) ?_
      refine hv_aload_n hX dX14_many_61 rfl 0 rfl ?_
      refine hm_getI (v := (I 0 9)) hX dX14_many_62 mfl242 (.inl rfl) rfl ?_
      exact hm_iret hX hE dX14_many_65 hf
    · replace hf := hf.2 c2
      by_cases c3 : a1 = 2
      · replace hf := hf.1 c3
        refine hv_tswA (v := 2) (tgt := 66) (off := 65) hX dX14_many_1 c3 ⟨by decide, by decide, by decide⟩ (by decide) ?_
        refine hv_aload_n hX dX14_many_66 rfl 0 rfl ?_
        refine hm_getI (v := (I 0 10)) hX dX14_many_67 mfl393 (.inl rfl) rfl ?_
        exact hm_iret hX hE dX14_many_70 hf
      · replace hf := hf.2 c3
        by_cases c4 : a1 = 3
        · replace hf := hf.1 c4
          refine hv_tswA (v := 3) (tgt := 71) (off := 70) hX dX14_many_1 c4 ⟨by decide, by decide, by decide⟩ (by decide) ?_
          refine hv_aload_n hX dX14_many_71 rfl 0 rfl ?_
          refine hm_getI (v := (I 0 57)) hX dX14_many_72 mfl432 (.inl rfl) rfl ?_
          exact hm_iret hX hE dX14_many_75 hf
        · replace hf := hf.2 c4
          by_cases c5 : a1 = 4
          · replace hf := hf.1 c5
            refine hv_tswA (v := 4) (tgt := 76) (off := 75) hX dX14_many_1 c5 ⟨by decide, by decide, by decide⟩ (by decide) ?_
            refine hv_aload_n hX dX14_many_76 rfl 0 rfl ?_
            refine hm_getI (v := (I 0 39)) hX dX14_many_77 mfl287 (.inl rfl) rfl ?_
            exact hm_iret hX hE dX14_many_80 hf
          · replace hf := hf.2 c5
            by_cases c6 : a1 = 5
            · replace hf := hf.1 c6
              refine hv_tswA (v := 5) (tgt := 81) (off := 80) hX dX14_many_1 c6 ⟨by decide, by decide, by decide⟩ (by decide) ?_
              refine hv_aload_n hX dX14_many_81 rfl 0 rfl ?_
              refine hm_getI (v := (I 0 68)) hX dX14_many_82 mfl456 (.inl rfl) rfl ?_
              exact hm_iret hX hE dX14_many_85 hf
            · replace hf := hf.2 c6
              by_cases c7 : a1 = 6
              · replace hf := hf.1 c7
                refine hv_tswA (v := 6) (tgt := 86) (off := 85) hX dX14_many_1 c7 ⟨by decide, by decide, by decide⟩ (by decide) ?_
                refine hv_aload_n hX dX14_many_86 rfl 0 rfl ?_
                refine hm_getI (v := (I 0 0)) hX dX14_many_87 mfl166 (.inl rfl) rfl ?_
                exact hm_iret hX hE dX14_many_90 hf
              · replace hf := hf.2 c7
                by_cases c8 : a1 = 7
                · replace hf := hf.1 c8
                  refine hv_tswA (v := 7) (tgt := 91) (off := 90) hX dX14_many_1 c8 ⟨by decide, by decide, by decide⟩ (by decide) ?_
                  refine hv_aload_n hX dX14_many_91 rfl 0 rfl ?_
                  refine hm_getI (v := (I 0 1)) hX dX14_many_92 mfl172 (.inl rfl) rfl ?_
                  exact hm_iret hX hE dX14_many_95 hf
                · replace hf := hf.2 c8
                  by_cases c9 : a1 = 8
                  · replace hf := hf.1 c9
                    refine hv_tswA (v := 8) (tgt := 96) (off := 95) hX dX14_many_1 c9 ⟨by decide, by decide, by decide⟩ (by decide) ?_
                    refine hv_aload_n hX dX14_many_96 rfl 0 rfl ?_
                    refine hm_getI (v := (I 0 2)) hX dX14_many_97 mfl7 (.inl rfl) rfl ?_
                    exact hm_iret hX hE dX14_many_100 hf
                  · replace hf := hf.2 c9
                    by_cases c10 : a1 = 9
                    · replace hf := hf.1 c10
                      refine hv_tswA (v := 9) (tgt := 101) (off := 100) hX dX14_many_1 c10 ⟨by decide, by decide, by decide⟩ (by decide) ?_
                      refine hv_aload_n hX dX14_many_101 rfl 0 rfl ?_
                      refine hm_getI (v := (I 0 3)) hX dX14_many_102 mfl169 (.inl rfl) rfl ?_
                      exact hm_iret hX hE dX14_many_105 hf
                    · replace hf := hf.2 c10
                      refine hv_tswO (tgt := 106) hX dX14_many_1 (by have z0 := lv_neT c1 (a := 0) (by decide); have z1 := lv_neT c2 (a := 1) (by decide); have z2 := lv_neT c3 (a := 2) (by decide); have z3 := lv_neT c4 (a := 3) (by decide); have z4 := lv_neT c5 (a := 4) (by decide); have z5 := lv_neT c6 (a := 5) (by decide); have z6 := lv_neT c7 (a := 6) (by decide); have z7 := lv_neT c8 (a := 7) (by decide); have z8 := lv_neT c9 (a := 8) (by decide); have z9 := lv_neT c10 (a := 9) (by decide); omega) (by decide) ?_
                      refine hv_iconst (v := (-1)) hX ic_m1 dX14_many_106 ?_
                      exact hm_iret hX hE dX14_many_107 hf
theorem np_many : yX14_many.cls = RX14 ∧ yX14_many.cls ≠ "java/lang/invoke/MethodHandle" ∧ yX14_many.cls ≠ "java/lang/invoke/VarHandle" ∧ (parseMethodDescriptor yX14_many.desc).map (fun d => d.parameters.length) = some 1 := by decide +kernel
theorem gd_many {idx : Nat} (h : Cond.methodLink RX14 idx yX14_many ∈ lw_all) : GoodIn lw_all (wsV RX14 idx RX14 yX14_many (ws_ yX14_many cX14_many 2 (some .int))) := lw_V h q2369 q2370 q123 q2371
/-! move([IIZ)V -/
def m_move_j42 (Q : mI → mJ → Prop) (k3 : Nat → Int32 → Int32 → Int32 → mI → mJ → Prop) (a1 : Nat) (a2 : Int32) (a3 : Int32) (a4 : Int32) (I : mI) (J : mJ) : Prop :=
  k3 a1 a2 a3 (a4 + 1) (u2 I 0 72 ((I 0 72) + 1)) J
theorem w_move_j42 {X : hh_CX} {Q : mI → mJ → Prop} (hX : hh_C X cX14_move RX14 (hrm 0 0)) (hN : hh_nL X = 5) (hE : hh_E X none (mQv Q) 0 0) {k3 : Nat → Int32 → Int32 → Int32 → mI → mJ → Prop} (hk3 : ∀ (b0 : Nat) (b1 : Int32) (b2 : Int32) (b3 : Int32) (I : mI) (J : mJ), k3 b0 b1 b2 b3 I J → hh_V X 3 [(0, .ref 0), (1, .ref b0), (2, .int b1), (3, .int b2), (4, .int b3)] [] 0 0 (hm I J)) : ∀ (a1 : Nat) (a2 : Int32) (a3 : Int32) (a4 : Int32) (I : mI) (J : mJ), m_move_j42 Q k3 a1 a2 a3 a4 I J → hh_V X 42 [(0, .ref 0), (1, .ref a1), (2, .int a2), (3, .int a3), (4, .int a4)] [] 0 0 (hm I J) := by
  intro a1 a2 a3 a4 I J hf
  unfold m_move_j42 at hf
  refine hv_aload_n hX dX14_move_42 rfl 0 rfl ?_
  refine hv_dup hX rfl dX14_move_43 ?_
  refine hm_getI (v := (I 0 72)) hX dX14_move_44 mfl496 (.inl rfl) rfl ?_
  refine hv_iconst (v := 1) hX ic_1 dX14_move_47 ?_
  refine hv_iadd hX dX14_move_48 ?_
  refine hm_putI hX dX14_move_49 mfl496 ?_
  refine hv_iinc (v := (a4 + 1)) (loc2 := [(4, .int (a4 + 1)), (0, .ref 0), (1, .ref a1), (2, .int a2), (3, .int a3)]) hX dX14_move_52 4 rfl (congrArg (fun y => a4 + y) ic_1) hN (Nat.le_of_ble_eq_true rfl) rfl ?_
  refine hv_goto (tgt := 3) hX dX14_move_55 (by decide) ?_
  refine hv_fewer [1, 2, 3, 4, 0] (loc2 := [(0, .ref 0), (1, .ref a1), (2, .int a2), (3, .int a3), (4, .int (a4 + 1))]) rfl ?_
  exact hk3 _ _ _ _ _ _ hf
def m_move_l3 (Q : mI → mJ → Prop) : Nat → Nat → Int32 → Int32 → Int32 → mI → mJ → Prop
  | 0, _, _, _, _, _, _ => False
  | n + 1, a1, a2, a3, a4, I, J =>
    (a2 ≤ a4 →
      Q I J) ∧ (¬ a2 ≤ a4 →
      (a3 = 0 →
        vp_in (I 0 72) 400 ∧ ((a1 < 35 ∧ mK a1 = 100) ∧ (vp_in a4 (mL a1) ∧ (m_move_j42 Q (fun b0 b1 b2 b3 I J => m_move_l3 Q n b0 b1 b2 b3 I J) a1 a2 a3 a4 (u2 I a1 a4.toNatClampNeg (I 33 (I 0 72).toNatClampNeg)) J)))) ∧ (¬ a3 = 0 →
        (a1 < 35 ∧ mK a1 = 100) ∧ (vp_in a4 (mL a1) ∧ (vp_in (I 0 72) 400 ∧ (m_move_j42 Q (fun b0 b1 b2 b3 I J => m_move_l3 Q n b0 b1 b2 b3 I J) a1 a2 a3 a4 (u2 I 33 (I 0 72).toNatClampNeg (I a1 a4.toNatClampNeg)) J)))))
theorem w_move_l3 {X : hh_CX} {Q : mI → mJ → Prop} (hX : hh_C X cX14_move RX14 (hrm 0 0)) (hN : hh_nL X = 5) (hE : hh_E X none (mQv Q) 0 0) : ∀ (n : Nat) (a1 : Nat) (a2 : Int32) (a3 : Int32) (a4 : Int32) (I : mI) (J : mJ), m_move_l3 Q  n a1 a2 a3 a4 I J → hh_V X 3 [(0, .ref 0), (1, .ref a1), (2, .int a2), (3, .int a3), (4, .int a4)] [] 0 0 (hm I J) := by
  intro n
  induction n with
  | zero => intro _ _ _ _ _ _ hf; exact hf.elim
  | succ n ih =>
    intro a1 a2 a3 a4 I J hf
    unfold m_move_l3 at hf
    refine hv_iload hX dX14_move_3 4 rfl ?_
    refine hv_iload_n hX dX14_move_5 rfl 2 rfl ?_
    refine hv_icmp_ge (tgt := 58) hX dX14_move_6 (by decide) (fun c1 => ?_) (fun c1 => ?_)
    · replace hf := hf.1 c1
      exact hm_vret hX hE dX14_move_58 hf
    · replace hf := hf.2 c1
      refine hv_iload_n hX dX14_move_9 rfl 3 rfl ?_
      refine hv_if_eq (tgt := 29) hX dX14_move_10 (by decide) (fun c2 => ?_) (fun c2 => ?_)
      · replace hf := hf.1 c2
        refine hv_aload_n hX dX14_move_29 rfl 1 rfl ?_
        refine hv_iload hX dX14_move_30 4 rfl ?_
        refine hv_aload_n hX dX14_move_32 rfl 0 rfl ?_
        refine hm_getR hX dX14_move_33 mfl124 33 rfl ?_
        refine hv_aload_n hX dX14_move_36 rfl 0 rfl ?_
        refine hm_getI (v := (I 0 72)) hX dX14_move_37 mfl496 (.inl rfl) rfl ?_
        obtain ⟨g, hf⟩ := hf
        refine hm_iald (v := (I 33 (I 0 72).toNatClampNeg)) hX dX14_move_40 (by decide) rfl rfl g rfl ?_
        obtain ⟨g0, hf⟩ := hf
        obtain ⟨g, hf⟩ := hf
        refine hm_iast hX dX14_move_41 g0.1 g0.2 rfl g ?_
        exact w_move_j42 hX hN hE ih _ _ _ _ _ _ hf
      · replace hf := hf.2 c2
        refine hv_aload_n hX dX14_move_13 rfl 0 rfl ?_
        refine hm_getR hX dX14_move_14 mfl124 33 rfl ?_
        refine hv_aload_n hX dX14_move_17 rfl 0 rfl ?_
        refine hm_getI (v := (I 0 72)) hX dX14_move_18 mfl496 (.inl rfl) rfl ?_
        refine hv_aload_n hX dX14_move_21 rfl 1 rfl ?_
        refine hv_iload hX dX14_move_22 4 rfl ?_
        obtain ⟨g0, hf⟩ := hf
        obtain ⟨g, hf⟩ := hf
        refine hm_iald (v := (I a1 a4.toNatClampNeg)) hX dX14_move_24 g0.1 g0.2 rfl g rfl ?_
        obtain ⟨g, hf⟩ := hf
        refine hm_iast hX dX14_move_25 (by decide) rfl rfl g ?_
        refine hv_goto (tgt := 42) hX dX14_move_26 (by decide) ?_
        exact w_move_j42 hX hN hE ih _ _ _ _ _ _ hf
def m_move (a1 : Nat) (a2 : Int32) (a3 : Int32) (I : mI) (J : mJ) (Q : mI → mJ → Prop) : Prop :=
  ∃ n0 : Nat, m_move_l3 Q  n0 a1 a2 a3 0 I J
theorem ct_move (a1 : Nat) (a2 : Int32) (a3 : Int32) (I : mI) (J : mJ) (Q : mI → mJ → Prop) (hf : m_move a1 a2 a3 I J Q) : hh_Ct yX14_move cX14_move 5 none 0 0 [.ref 0, .ref a1, .int a2, .int a3] (hm I J) (mQv Q) 0 0 := by
  refine hh_Ct.of (own := RX14) rfl (by decide +kernel) (Nat.le_of_ble_eq_true rfl) ?_
  intro X hX hN hE
  show hh_V X 0 [(0, .ref 0), (1, .ref a1), (2, .int a2), (3, .int a3)] [] 0 0 (hm I J)
  unfold m_move at hf
  refine hv_iconst (v := 0) hX ic_0 dX14_move_0 ?_
  refine hv_istore (loc2 := [(4, .int 0), (0, .ref 0), (1, .ref a1), (2, .int a2), (3, .int a3)]) hX dX14_move_1 hN (Nat.le_of_ble_eq_true rfl) rfl ?_
  refine hv_fewer [1, 2, 3, 4, 0] (loc2 := [(0, .ref 0), (1, .ref a1), (2, .int a2), (3, .int a3), (4, .int 0)]) rfl ?_
  obtain ⟨n0, hf⟩ := hf
  exact w_move_l3 hX hN hE  n0 _ _ _ _ _ _ hf
theorem np_move : yX14_move.cls = RX14 ∧ yX14_move.cls ≠ "java/lang/invoke/MethodHandle" ∧ yX14_move.cls ≠ "java/lang/invoke/VarHandle" ∧ (parseMethodDescriptor yX14_move.desc).map (fun d => d.parameters.length) = some 3 := by decide +kernel
theorem gd_move {idx : Nat} (h : Cond.methodLink RX14 idx yX14_move ∈ lw_all) : GoodIn lw_all (wsV RX14 idx RX14 yX14_move (ws_ yX14_move cX14_move 5 none)) := lw_V h q2382 qs104 q123 q2383
/-! moveAll(Z)V -/
def m_moveAll (a1 : Int32) (I : mI) (J : mJ) (Q : mI → mJ → Prop) : Prop :=
  ∀ I1 : mI, I1 = (u2 (u2 (u2 (u2 (u2 I 0 72 0) 34 (0 : Int32).toNatClampNeg (I 0 0)) 34 (1 : Int32).toNatClampNeg (I 0 1)) 34 (2 : Int32).toNatClampNeg (I 0 2)) 34 (3 : Int32).toNatClampNeg (I 0 3)) → (∀ I2 : mI, I2 = (u2 (u2 (u2 (u2 I1 34 (4 : Int32).toNatClampNeg (I1 0 4)) 34 (5 : Int32).toNatClampNeg (I1 0 5)) 34 (6 : Int32).toNatClampNeg (I1 0 6)) 34 (7 : Int32).toNatClampNeg (I1 0 7)) → (∀ I3 : mI, I3 = (u2 (u2 (u2 (u2 I2 34 (8 : Int32).toNatClampNeg (I2 0 8)) 34 (9 : Int32).toNatClampNeg (I2 0 9)) 34 (10 : Int32).toNatClampNeg (I2 0 10)) 34 (11 : Int32).toNatClampNeg (I2 0 12)) → (m_move 34 12 a1 I3 J (fun  I4 J5 => m_move 1 44 a1 I4 J5 (fun  I6 J7 => m_move 2 16 a1 I6 J7 (fun  I8 J9 => m_move 3 40 a1 I8 J9 (fun  I10 J11 => m_move 4 6 a1 I10 J11 (fun  I12 J13 => m_move 5 6 a1 I12 J13 (fun  I14 J15 => m_move 6 210 a1 I14 J15 (fun  I16 J17 => Q I16 J17))))))))))
theorem ct_moveAll (a1 : Int32) (I : mI) (J : mJ) (Q : mI → mJ → Prop) (hf : m_moveAll a1 I J Q) : hh_Ct yX14_moveAll cX14_moveAll 2 none 1 24 [.ref 0, .int a1] (hm I J) (mQv Q) 0 0 := by
  refine hh_Ct.of (own := RX14) rfl (by decide +kernel) (Nat.le_of_ble_eq_true rfl) ?_
  intro X hX hN hE
  show hh_V X 0 [(0, .ref 0), (1, .int a1)] [] 0 0 (hm I J)
  unfold m_moveAll at hf
  refine hv_aload_n hX dX14_moveAll_0 rfl 0 rfl ?_
  refine hv_iconst (v := 0) hX ic_0 dX14_moveAll_1 ?_
  refine hm_putI hX dX14_moveAll_2 mfl496 ?_
  refine hv_aload_n hX dX14_moveAll_5 rfl 0 rfl ?_
  refine hm_getR hX dX14_moveAll_6 mfl127 34 rfl ?_
  refine hv_iconst (v := 0) hX ic_0 dX14_moveAll_9 ?_
  refine hv_aload_n hX dX14_moveAll_10 rfl 0 rfl ?_
  refine hm_getI (v := (I 0 0)) hX dX14_moveAll_11 mfl166 (.inl rfl) ((u2_ne _ _ (.inr (by decide)))) ?_
  refine hm_iast hX dX14_moveAll_14 (by decide) rfl rfl (vp_in_iff.mpr (by decide)) ?_
  refine hv_aload_n hX dX14_moveAll_15 rfl 0 rfl ?_
  refine hm_getR hX dX14_moveAll_16 mfl127 34 rfl ?_
  refine hv_iconst (v := 1) hX ic_1 dX14_moveAll_19 ?_
  refine hv_aload_n hX dX14_moveAll_20 rfl 0 rfl ?_
  refine hm_getI (v := (I 0 1)) hX dX14_moveAll_21 mfl172 (.inl rfl) ((u2_ne _ _ (.inl (by decide))) |>.trans (u2_ne _ _ (.inr (by decide)))) ?_
  refine hm_iast hX dX14_moveAll_24 (by decide) rfl rfl (vp_in_iff.mpr (by decide)) ?_
  refine hv_aload_n hX dX14_moveAll_25 rfl 0 rfl ?_
  refine hm_getR hX dX14_moveAll_26 mfl127 34 rfl ?_
  refine hv_iconst (v := 2) hX ic_2 dX14_moveAll_29 ?_
  refine hv_aload_n hX dX14_moveAll_30 rfl 0 rfl ?_
  refine hm_getI (v := (I 0 2)) hX dX14_moveAll_31 mfl7 (.inl rfl) ((u2_ne _ _ (.inl (by decide))) |>.trans (u2_ne _ _ (.inl (by decide))) |>.trans (u2_ne _ _ (.inr (by decide)))) ?_
  refine hm_iast hX dX14_moveAll_34 (by decide) rfl rfl (vp_in_iff.mpr (by decide)) ?_
  refine hv_aload_n hX dX14_moveAll_35 rfl 0 rfl ?_
  refine hm_getR hX dX14_moveAll_36 mfl127 34 rfl ?_
  refine hv_iconst (v := 3) hX ic_3 dX14_moveAll_39 ?_
  refine hv_aload_n hX dX14_moveAll_40 rfl 0 rfl ?_
  refine hm_getI (v := (I 0 3)) hX dX14_moveAll_41 mfl169 (.inl rfl) ((u2_ne _ _ (.inl (by decide))) |>.trans (u2_ne _ _ (.inl (by decide))) |>.trans (u2_ne _ _ (.inl (by decide))) |>.trans (u2_ne _ _ (.inr (by decide)))) ?_
  refine hm_iast hX dX14_moveAll_44 (by decide) rfl rfl (vp_in_iff.mpr (by decide)) ?_
  refine hm_nmI (fun I1 eI1 => ?_)
  replace hf := hf I1 eI1
  refine hv_aload_n hX dX14_moveAll_45 rfl 0 rfl ?_
  refine hm_getR hX dX14_moveAll_46 mfl127 34 rfl ?_
  refine hv_iconst (v := 4) hX ic_4 dX14_moveAll_49 ?_
  refine hv_aload_n hX dX14_moveAll_50 rfl 0 rfl ?_
  refine hm_getI (v := (I1 0 4)) hX dX14_moveAll_51 mfl13 (.inl rfl) rfl ?_
  refine hm_iast hX dX14_moveAll_54 (by decide) rfl rfl (vp_in_iff.mpr (by decide)) ?_
  refine hv_aload_n hX dX14_moveAll_55 rfl 0 rfl ?_
  refine hm_getR hX dX14_moveAll_56 mfl127 34 rfl ?_
  refine hv_iconst (v := 5) hX ic_5 dX14_moveAll_59 ?_
  refine hv_aload_n hX dX14_moveAll_60 rfl 0 rfl ?_
  refine hm_getI (v := (I1 0 5)) hX dX14_moveAll_61 mfl16 (.inl rfl) ((u2_ne _ _ (.inl (by decide)))) ?_
  refine hm_iast hX dX14_moveAll_64 (by decide) rfl rfl (vp_in_iff.mpr (by decide)) ?_
  refine hv_aload_n hX dX14_moveAll_65 rfl 0 rfl ?_
  refine hm_getR hX dX14_moveAll_66 mfl127 34 rfl ?_
  refine hv_bipush (v := 6) hX bi_6 dX14_moveAll_69 ?_
  refine hv_aload_n hX dX14_moveAll_71 rfl 0 rfl ?_
  refine hm_getI (v := (I1 0 6)) hX dX14_moveAll_72 mfl265 (.inl rfl) ((u2_ne _ _ (.inl (by decide))) |>.trans (u2_ne _ _ (.inl (by decide)))) ?_
  refine hm_iast hX dX14_moveAll_75 (by decide) rfl rfl (vp_in_iff.mpr (by decide)) ?_
  refine hv_aload_n hX dX14_moveAll_76 rfl 0 rfl ?_
  refine hm_getR hX dX14_moveAll_77 mfl127 34 rfl ?_
  refine hv_bipush (v := 7) hX bi_7 dX14_moveAll_80 ?_
  refine hv_aload_n hX dX14_moveAll_82 rfl 0 rfl ?_
  refine hm_getI (v := (I1 0 7)) hX dX14_moveAll_83 mfl268 (.inl rfl) ((u2_ne _ _ (.inl (by decide))) |>.trans (u2_ne _ _ (.inl (by decide))) |>.trans (u2_ne _ _ (.inl (by decide)))) ?_
  refine hm_iast hX dX14_moveAll_86 (by decide) rfl rfl (vp_in_iff.mpr (by decide)) ?_
  refine hm_nmI (fun I2 eI2 => ?_)
  replace hf := hf I2 eI2
  refine hv_aload_n hX dX14_moveAll_87 rfl 0 rfl ?_
  refine hm_getR hX dX14_moveAll_88 mfl127 34 rfl ?_
  refine hv_bipush (v := 8) hX bi_8 dX14_moveAll_91 ?_
  refine hv_aload_n hX dX14_moveAll_93 rfl 0 rfl ?_
  refine hm_getI (v := (I2 0 8)) hX dX14_moveAll_94 mfl130 (.inl rfl) rfl ?_
  refine hm_iast hX dX14_moveAll_97 (by decide) rfl rfl (vp_in_iff.mpr (by decide)) ?_
  refine hv_aload_n hX dX14_moveAll_98 rfl 0 rfl ?_
  refine hm_getR hX dX14_moveAll_99 mfl127 34 rfl ?_
  refine hv_bipush (v := 9) hX bi_9 dX14_moveAll_102 ?_
  refine hv_aload_n hX dX14_moveAll_104 rfl 0 rfl ?_
  refine hm_getI (v := (I2 0 9)) hX dX14_moveAll_105 mfl242 (.inl rfl) ((u2_ne _ _ (.inl (by decide)))) ?_
  refine hm_iast hX dX14_moveAll_108 (by decide) rfl rfl (vp_in_iff.mpr (by decide)) ?_
  refine hv_aload_n hX dX14_moveAll_109 rfl 0 rfl ?_
  refine hm_getR hX dX14_moveAll_110 mfl127 34 rfl ?_
  refine hv_bipush (v := 10) hX bi_10 dX14_moveAll_113 ?_
  refine hv_aload_n hX dX14_moveAll_115 rfl 0 rfl ?_
  refine hm_getI (v := (I2 0 10)) hX dX14_moveAll_116 mfl393 (.inl rfl) ((u2_ne _ _ (.inl (by decide))) |>.trans (u2_ne _ _ (.inl (by decide)))) ?_
  refine hm_iast hX dX14_moveAll_119 (by decide) rfl rfl (vp_in_iff.mpr (by decide)) ?_
  refine hv_aload_n hX dX14_moveAll_120 rfl 0 rfl ?_
  refine hm_getR hX dX14_moveAll_121 mfl127 34 rfl ?_
  refine hv_bipush (v := 11) hX bi_11 dX14_moveAll_124 ?_
  refine hv_aload_n hX dX14_moveAll_126 rfl 0 rfl ?_
  refine hm_getI (v := (I2 0 12)) hX dX14_moveAll_127 mfl141 (.inl rfl) ((u2_ne _ _ (.inl (by decide))) |>.trans (u2_ne _ _ (.inl (by decide))) |>.trans (u2_ne _ _ (.inl (by decide)))) ?_
  refine hm_iast hX dX14_moveAll_130 (by decide) rfl rfl (vp_in_iff.mpr (by decide)) ?_
  refine hm_nmI (fun I3 eI3 => ?_)
  replace hf := hf I3 eI3
  refine hv_aload_n hX dX14_moveAll_131 rfl 0 rfl ?_
  refine hv_aload_n hX dX14_moveAll_132 rfl 0 rfl ?_
  refine hm_getR hX dX14_moveAll_133 mfl127 34 rfl ?_
  refine hv_bipush (v := 12) hX bi_12 dX14_moveAll_136 ?_
  refine hv_iload_n hX dX14_moveAll_138 rfl 1 rfl ?_
  refine hm_callVv hX dX14_moveAll_139 (ct_move 34 12 a1 I3 J _ hf) (gd_move q2380) np_move rfl rfl ⟨Nat.le_of_ble_eq_true rfl, Nat.le_of_ble_eq_true rfl⟩ ⟨Nat.le_refl _, Nat.le_refl _⟩ (Nat.le_of_ble_eq_true rfl) ?_
  intro  I4 J5 hf
  refine hv_aload_n hX dX14_moveAll_142 rfl 0 rfl ?_
  refine hv_aload_n hX dX14_moveAll_143 rfl 0 rfl ?_
  refine hm_getR hX dX14_moveAll_144 mfl19 1 rfl ?_
  refine hv_bipush (v := 44) hX bi_44 dX14_moveAll_147 ?_
  refine hv_iload_n hX dX14_moveAll_149 rfl 1 rfl ?_
  refine hm_callVv hX dX14_moveAll_150 (ct_move 1 44 a1 I4 J5 _ hf) (gd_move q2380) np_move rfl rfl ⟨Nat.le_of_ble_eq_true rfl, Nat.le_of_ble_eq_true rfl⟩ ⟨Nat.le_refl _, Nat.le_refl _⟩ (Nat.le_of_ble_eq_true rfl) ?_
  intro  I6 J7 hf
  refine hv_aload_n hX dX14_moveAll_153 rfl 0 rfl ?_
  refine hv_aload_n hX dX14_moveAll_154 rfl 0 rfl ?_
  refine hm_getR hX dX14_moveAll_155 mfl23 2 rfl ?_
  refine hv_bipush (v := 16) hX bi_16 dX14_moveAll_158 ?_
  refine hv_iload_n hX dX14_moveAll_160 rfl 1 rfl ?_
  refine hm_callVv hX dX14_moveAll_161 (ct_move 2 16 a1 I6 J7 _ hf) (gd_move q2380) np_move rfl rfl ⟨Nat.le_of_ble_eq_true rfl, Nat.le_of_ble_eq_true rfl⟩ ⟨Nat.le_refl _, Nat.le_refl _⟩ (Nat.le_of_ble_eq_true rfl) ?_
  intro  I8 J9 hf
  refine hv_aload_n hX dX14_moveAll_164 rfl 0 rfl ?_
  refine hv_aload_n hX dX14_moveAll_165 rfl 0 rfl ?_
  refine hm_getR hX dX14_moveAll_166 mfl26 3 rfl ?_
  refine hv_bipush (v := 40) hX bi_40 dX14_moveAll_169 ?_
  refine hv_iload_n hX dX14_moveAll_171 rfl 1 rfl ?_
  refine hm_callVv hX dX14_moveAll_172 (ct_move 3 40 a1 I8 J9 _ hf) (gd_move q2380) np_move rfl rfl ⟨Nat.le_of_ble_eq_true rfl, Nat.le_of_ble_eq_true rfl⟩ ⟨Nat.le_refl _, Nat.le_refl _⟩ (Nat.le_of_ble_eq_true rfl) ?_
  intro  I10 J11 hf
  refine hv_aload_n hX dX14_moveAll_175 rfl 0 rfl ?_
  refine hv_aload_n hX dX14_moveAll_176 rfl 0 rfl ?_
  refine hm_getR hX dX14_moveAll_177 mfl29 4 rfl ?_
  refine hv_bipush (v := 6) hX bi_6 dX14_moveAll_180 ?_
  refine hv_iload_n hX dX14_moveAll_182 rfl 1 rfl ?_
  refine hm_callVv hX dX14_moveAll_183 (ct_move 4 6 a1 I10 J11 _ hf) (gd_move q2380) np_move rfl rfl ⟨Nat.le_of_ble_eq_true rfl, Nat.le_of_ble_eq_true rfl⟩ ⟨Nat.le_refl _, Nat.le_refl _⟩ (Nat.le_of_ble_eq_true rfl) ?_
  intro  I12 J13 hf
  refine hv_aload_n hX dX14_moveAll_186 rfl 0 rfl ?_
  refine hv_aload_n hX dX14_moveAll_187 rfl 0 rfl ?_
  refine hm_getR hX dX14_moveAll_188 mfl32 5 rfl ?_
  refine hv_bipush (v := 6) hX bi_6 dX14_moveAll_191 ?_
  refine hv_iload_n hX dX14_moveAll_193 rfl 1 rfl ?_
  refine hm_callVv hX dX14_moveAll_194 (ct_move 5 6 a1 I12 J13 _ hf) (gd_move q2380) np_move rfl rfl ⟨Nat.le_of_ble_eq_true rfl, Nat.le_of_ble_eq_true rfl⟩ ⟨Nat.le_refl _, Nat.le_refl _⟩ (Nat.le_of_ble_eq_true rfl) ?_
  intro  I14 J15 hf
  refine hv_aload_n hX dX14_moveAll_197 rfl 0 rfl ?_
  refine hv_aload_n hX dX14_moveAll_198 rfl 0 rfl ?_
  refine hm_getR hX dX14_moveAll_199 mfl35 6 rfl ?_
  refine hv_sipush (v := 210) hX si_210 dX14_moveAll_202 ?_
  refine hv_iload_n hX dX14_moveAll_205 rfl 1 rfl ?_
  refine hm_callVv hX dX14_moveAll_206 (ct_move 6 210 a1 I14 J15 _ hf) (gd_move q2380) np_move rfl rfl ⟨Nat.le_of_ble_eq_true rfl, Nat.le_of_ble_eq_true rfl⟩ ⟨Nat.le_refl _, Nat.le_refl _⟩ (Nat.le_of_ble_eq_true rfl) ?_
  intro  I16 J17 hf
  exact hm_vret hX hE dX14_moveAll_209 hf
theorem np_moveAll : yX14_moveAll.cls = RX14 ∧ yX14_moveAll.cls ≠ "java/lang/invoke/MethodHandle" ∧ yX14_moveAll.cls ≠ "java/lang/invoke/VarHandle" ∧ (parseMethodDescriptor yX14_moveAll.desc).map (fun d => d.parameters.length) = some 1 := by decide +kernel
theorem gd_moveAll {idx : Nat} (h : Cond.methodLink RX14 idx yX14_moveAll ∈ lw_all) : GoodIn lw_all (wsV RX14 idx RX14 yX14_moveAll (ws_ yX14_moveAll cX14_moveAll 2 none)) := lw_V h q2378 qs103 q123 q2379
/-! keep()I -/
def m_keep  (I : mI) (J : mJ) (Q : Int32 → mI → mJ → Prop) : Prop :=
  m_moveAll 1 I J (fun  I1 J2 => Q 1 (u2 I1 0 70 1) J2)
theorem ct_keep  (I : mI) (J : mJ) (Q : Int32 → mI → mJ → Prop) (hf : m_keep  I J Q) : hh_Ct yX14_keep cX14_keep 1 (some .int) 2 45 [.ref 0] (hm I J) (mQi Q) 0 0 := by
  refine hh_Ct.of (own := RX14) rfl (by decide +kernel) (Nat.le_of_ble_eq_true rfl) ?_
  intro X hX hN hE
  show hh_V X 0 [(0, .ref 0)] [] 0 0 (hm I J)
  unfold m_keep at hf
  refine hv_aload_n hX dX14_keep_0 rfl 0 rfl ?_
  refine hv_iconst (v := 1) hX ic_1 dX14_keep_1 ?_
  refine hm_callVv hX dX14_keep_2 (ct_moveAll 1 I J _ hf) (gd_moveAll q2376) np_moveAll rfl rfl ⟨Nat.le_of_ble_eq_true rfl, Nat.le_of_ble_eq_true rfl⟩ ⟨Nat.le_refl _, Nat.le_refl _⟩ (Nat.le_of_ble_eq_true rfl) ?_
  intro  I1 J2 hf
  refine hv_aload_n hX dX14_keep_5 rfl 0 rfl ?_
  refine hv_iconst (v := 1) hX ic_1 dX14_keep_6 ?_
  refine hm_putZ hX dX14_keep_7 mfl506 (by decide) ?_
  refine hv_iconst (v := 1) hX ic_1 dX14_keep_10 ?_
  exact hm_iret hX hE dX14_keep_11 hf
theorem np_keep : yX14_keep.cls = RX14 ∧ yX14_keep.cls ≠ "java/lang/invoke/MethodHandle" ∧ yX14_keep.cls ≠ "java/lang/invoke/VarHandle" ∧ (parseMethodDescriptor yX14_keep.desc).map (fun d => d.parameters.length) = some 0 := by decide +kernel
theorem gd_keep {idx : Nat} (h : Cond.methodLink RX14 idx yX14_keep ∈ lw_all) : GoodIn lw_all (wsV RX14 idx RX14 yX14_keep (ws_ yX14_keep cX14_keep 1 (some .int))) := lw_V h q2373 q2374 q123 q2375
/-! again()I -/
def m_again  (I : mI) (J : mJ) (Q : Int32 → mI → mJ → Prop) : Prop :=
  ((I 0 70) = 0 →
    Q (-3) I J) ∧ (¬ (I 0 70) = 0 →
    m_moveAll 0 I J (fun  I2 J3 => ∀ I4 : mI, I4 = (u2 (u2 (u2 (u2 I2 0 0 (I2 34 (0 : Int32).toNatClampNeg)) 0 1 (I2 34 (1 : Int32).toNatClampNeg)) 0 2 (I2 34 (2 : Int32).toNatClampNeg)) 0 3 (I2 34 (3 : Int32).toNatClampNeg)) → (∀ I5 : mI, I5 = (u2 (u2 (u2 (u2 I4 0 4 (I4 34 (4 : Int32).toNatClampNeg)) 0 5 (I4 34 (5 : Int32).toNatClampNeg)) 0 6 (I4 34 (6 : Int32).toNatClampNeg)) 0 7 (I4 34 (7 : Int32).toNatClampNeg)) → (∀ I6 : mI, I6 = (u2 (u2 (u2 (u2 I5 0 8 (I5 34 (8 : Int32).toNatClampNeg)) 0 9 (I5 34 (9 : Int32).toNatClampNeg)) 0 10 (I5 34 (10 : Int32).toNatClampNeg)) 0 12 (I5 34 (11 : Int32).toNatClampNeg)) → (Q 1 (u2 (u2 I6 0 34 (-1)) 0 18 ((I6 0 18) + 1)) J3)))))
theorem ct_again  (I : mI) (J : mJ) (Q : Int32 → mI → mJ → Prop) (hf : m_again  I J Q) : hh_Ct yX14_again cX14_again 1 (some .int) 2 45 [.ref 0] (hm I J) (mQi Q) 0 0 := by
  refine hh_Ct.of (own := RX14) rfl (by decide +kernel) (Nat.le_of_ble_eq_true rfl) ?_
  intro X hX hN hE
  show hh_V X 0 [(0, .ref 0)] [] 0 0 (hm I J)
  unfold m_again at hf
  refine hv_aload_n hX dX14_again_0 rfl 0 rfl ?_
  refine hm_getI (v := (I 0 70)) hX dX14_again_1 mfl506 (.inr rfl) rfl ?_
  refine hv_if_ne (tgt := 10) hX dX14_again_4 (by decide) (fun c1 => ?_) (fun c1 => ?_)
  · replace hf := hf.2 c1
    refine hv_aload_n hX dX14_again_10 rfl 0 rfl ?_
    refine hv_iconst (v := 0) hX ic_0 dX14_again_11 ?_
    refine hm_callVv hX dX14_again_12 (ct_moveAll 0 I J _ hf) (gd_moveAll q2376) np_moveAll rfl rfl ⟨Nat.le_of_ble_eq_true rfl, Nat.le_of_ble_eq_true rfl⟩ ⟨Nat.le_refl _, Nat.le_refl _⟩ (Nat.le_of_ble_eq_true rfl) ?_
    intro  I2 J3 hf
    refine hv_aload_n hX dX14_again_15 rfl 0 rfl ?_
    refine hv_aload_n hX dX14_again_16 rfl 0 rfl ?_
    refine hm_getR hX dX14_again_17 mfl127 34 rfl ?_
    refine hv_iconst (v := 0) hX ic_0 dX14_again_20 ?_
    refine hm_iald (v := (I2 34 (0 : Int32).toNatClampNeg)) hX dX14_again_21 (by decide) rfl rfl (vp_in_iff.mpr (by decide)) rfl ?_
    refine hm_putI hX dX14_again_22 mfl166 ?_
    refine hv_aload_n hX dX14_again_25 rfl 0 rfl ?_
    refine hv_aload_n hX dX14_again_26 rfl 0 rfl ?_
    refine hm_getR hX dX14_again_27 mfl127 34 rfl ?_
    refine hv_iconst (v := 1) hX ic_1 dX14_again_30 ?_
    refine hm_iald (v := (I2 34 (1 : Int32).toNatClampNeg)) hX dX14_again_31 (by decide) rfl rfl (vp_in_iff.mpr (by decide)) ((u2_ne _ _ (.inl (by decide)))) ?_
    refine hm_putI hX dX14_again_32 mfl172 ?_
    refine hv_aload_n hX dX14_again_35 rfl 0 rfl ?_
    refine hv_aload_n hX dX14_again_36 rfl 0 rfl ?_
    refine hm_getR hX dX14_again_37 mfl127 34 rfl ?_
    refine hv_iconst (v := 2) hX ic_2 dX14_again_40 ?_
    refine hm_iald (v := (I2 34 (2 : Int32).toNatClampNeg)) hX dX14_again_41 (by decide) rfl rfl (vp_in_iff.mpr (by decide)) ((u2_ne _ _ (.inl (by decide))) |>.trans (u2_ne _ _ (.inl (by decide)))) ?_
    refine hm_putI hX dX14_again_42 mfl7 ?_
    refine hv_aload_n hX dX14_again_45 rfl 0 rfl ?_
    refine hv_aload_n hX dX14_again_46 rfl 0 rfl ?_
    refine hm_getR hX dX14_again_47 mfl127 34 rfl ?_
    refine hv_iconst (v := 3) hX ic_3 dX14_again_50 ?_
    refine hm_iald (v := (I2 34 (3 : Int32).toNatClampNeg)) hX dX14_again_51 (by decide) rfl rfl (vp_in_iff.mpr (by decide)) ((u2_ne _ _ (.inl (by decide))) |>.trans (u2_ne _ _ (.inl (by decide))) |>.trans (u2_ne _ _ (.inl (by decide)))) ?_
    refine hm_putI hX dX14_again_52 mfl169 ?_
    refine hm_nmI (fun I4 eI4 => ?_)
    replace hf := hf I4 eI4
    refine hv_aload_n hX dX14_again_55 rfl 0 rfl ?_
    refine hv_aload_n hX dX14_again_56 rfl 0 rfl ?_
    refine hm_getR hX dX14_again_57 mfl127 34 rfl ?_
    refine hv_iconst (v := 4) hX ic_4 dX14_again_60 ?_
    refine hm_iald (v := (I4 34 (4 : Int32).toNatClampNeg)) hX dX14_again_61 (by decide) rfl rfl (vp_in_iff.mpr (by decide)) rfl ?_
    refine hm_putI hX dX14_again_62 mfl13 ?_
    refine hv_aload_n hX dX14_again_65 rfl 0 rfl ?_
    refine hv_aload_n hX dX14_again_66 rfl 0 rfl ?_
    refine hm_getR hX dX14_again_67 mfl127 34 rfl ?_
    refine hv_iconst (v := 5) hX ic_5 dX14_again_70 ?_
    refine hm_iald (v := (I4 34 (5 : Int32).toNatClampNeg)) hX dX14_again_71 (by decide) rfl rfl (vp_in_iff.mpr (by decide)) ((u2_ne _ _ (.inl (by decide)))) ?_
    refine hm_putI hX dX14_again_72 mfl16 ?_
    refine hv_aload_n hX dX14_again_75 rfl 0 rfl ?_
    refine hv_aload_n hX dX14_again_76 rfl 0 rfl ?_
    refine hm_getR hX dX14_again_77 mfl127 34 rfl ?_
    refine hv_bipush (v := 6) hX bi_6 dX14_again_80 ?_
    refine hm_iald (v := (I4 34 (6 : Int32).toNatClampNeg)) hX dX14_again_82 (by decide) rfl rfl (vp_in_iff.mpr (by decide)) ((u2_ne _ _ (.inl (by decide))) |>.trans (u2_ne _ _ (.inl (by decide)))) ?_
    refine hm_putI hX dX14_again_83 mfl265 ?_
    refine hv_aload_n hX dX14_again_86 rfl 0 rfl ?_
    refine hv_aload_n hX dX14_again_87 rfl 0 rfl ?_
    refine hm_getR hX dX14_again_88 mfl127 34 rfl ?_
    refine hv_bipush (v := 7) hX bi_7 dX14_again_91 ?_
    refine hm_iald (v := (I4 34 (7 : Int32).toNatClampNeg)) hX dX14_again_93 (by decide) rfl rfl (vp_in_iff.mpr (by decide)) ((u2_ne _ _ (.inl (by decide))) |>.trans (u2_ne _ _ (.inl (by decide))) |>.trans (u2_ne _ _ (.inl (by decide)))) ?_
    refine hm_putI hX dX14_again_94 mfl268 ?_
    refine hm_nmI (fun I5 eI5 => ?_)
    replace hf := hf I5 eI5
    refine hv_aload_n hX dX14_again_97 rfl 0 rfl ?_
    refine hv_aload_n hX dX14_again_98 rfl 0 rfl ?_
    refine hm_getR hX dX14_again_99 mfl127 34 rfl ?_
    refine hv_bipush (v := 8) hX bi_8 dX14_again_102 ?_
    refine hm_iald (v := (I5 34 (8 : Int32).toNatClampNeg)) hX dX14_again_104 (by decide) rfl rfl (vp_in_iff.mpr (by decide)) rfl ?_
    refine hm_putI hX dX14_again_105 mfl130 ?_
    refine hv_aload_n hX dX14_again_108 rfl 0 rfl ?_
    refine hv_aload_n hX dX14_again_109 rfl 0 rfl ?_
    refine hm_getR hX dX14_again_110 mfl127 34 rfl ?_
    refine hv_bipush (v := 9) hX bi_9 dX14_again_113 ?_
    refine hm_iald (v := (I5 34 (9 : Int32).toNatClampNeg)) hX dX14_again_115 (by decide) rfl rfl (vp_in_iff.mpr (by decide)) ((u2_ne _ _ (.inl (by decide)))) ?_
    refine hm_putI hX dX14_again_116 mfl242 ?_
    refine hv_aload_n hX dX14_again_119 rfl 0 rfl ?_
    refine hv_aload_n hX dX14_again_120 rfl 0 rfl ?_
    refine hm_getR hX dX14_again_121 mfl127 34 rfl ?_
    refine hv_bipush (v := 10) hX bi_10 dX14_again_124 ?_
    refine hm_iald (v := (I5 34 (10 : Int32).toNatClampNeg)) hX dX14_again_126 (by decide) rfl rfl (vp_in_iff.mpr (by decide)) ((u2_ne _ _ (.inl (by decide))) |>.trans (u2_ne _ _ (.inl (by decide)))) ?_
    refine hm_putI hX dX14_again_127 mfl393 ?_
    refine hv_aload_n hX dX14_again_130 rfl 0 rfl ?_
    refine hv_aload_n hX dX14_again_131 rfl 0 rfl ?_
    refine hm_getR hX dX14_again_132 mfl127 34 rfl ?_
    refine hv_bipush (v := 11) hX bi_11 dX14_again_135 ?_
    refine hm_iald (v := (I5 34 (11 : Int32).toNatClampNeg)) hX dX14_again_137 (by decide) rfl rfl (vp_in_iff.mpr (by decide)) ((u2_ne _ _ (.inl (by decide))) |>.trans (u2_ne _ _ (.inl (by decide))) |>.trans (u2_ne _ _ (.inl (by decide)))) ?_
    refine hm_putI hX dX14_again_138 mfl141 ?_
    refine hm_nmI (fun I6 eI6 => ?_)
    replace hf := hf I6 eI6
    refine hv_aload_n hX dX14_again_141 rfl 0 rfl ?_
    refine hv_iconst (v := (-1)) hX ic_m1 dX14_again_142 ?_
    refine hm_putI hX dX14_again_143 mfl70 ?_
    refine hv_aload_n hX dX14_again_146 rfl 0 rfl ?_
    refine hv_dup hX rfl dX14_again_147 ?_
    refine hm_getI (v := (I6 0 18)) hX dX14_again_148 mfl38 (.inl rfl) ((u2_ne _ _ (.inr (by decide)))) ?_
    refine hv_iconst (v := 1) hX ic_1 dX14_again_151 ?_
    refine hv_iadd hX dX14_again_152 ?_
    refine hm_putI hX dX14_again_153 mfl38 ?_
    refine hv_iconst (v := 1) hX ic_1 dX14_again_156 ?_
    exact hm_iret hX hE dX14_again_157 hf
  · replace hf := hf.1 c1
    refine hv_bipush (v := (-3)) hX bi_m3 dX14_again_7 ?_
    exact hm_iret hX hE dX14_again_9 hf
theorem np_again : yX14_again.cls = RX14 ∧ yX14_again.cls ≠ "java/lang/invoke/MethodHandle" ∧ yX14_again.cls ≠ "java/lang/invoke/VarHandle" ∧ (parseMethodDescriptor yX14_again.desc).map (fun d => d.parameters.length) = some 0 := by decide +kernel
theorem gd_again {idx : Nat} (h : Cond.methodLink RX14 idx yX14_again ∈ lw_all) : GoodIn lw_all (wsV RX14 idx RX14 yX14_again (ws_ yX14_again cX14_again 1 (some .int))) := lw_V h q2385 q2386 q123 q2387
