set_option maxRecDepth 100000
/-! String.length, charAt on the constants, walked -/
theorem hv_nret {X : hh_CX} {cc : ByteArray} {own : String} {rm : Room} {pc : Nat} {loc : List (Nat × Value)} {z k : Nat} {h : hh_T} (hX : hh_C X cc own rm) {Qp : Option Value → hh_T → Prop} {v : Int32} {ty : FieldType} (hE : hh_E X (some ty) Qp z k) (hd : decode cc pc = .ok (.ireturn, 1)) (hn : narrow ty (.int v) = .int v) (hq : Qp (some (.int v)) h) : hh_V X pc loc [.int v] z k h := by
  obtain ⟨p, l, e, R, s, m, args, below, meth, c, G, A, φ0, n0, nL, Q⟩ := X
  intro φ H locs ls h1 h2 h3 h4 h5 h6 h7 h8
  obtain ⟨rfl, hr⟩ := hE
  exact W.zret hX.1 hX.2.1 hr hn (fun t ht hW => ⟨⟨some (.int v), h, φ, rfl, hq, h1, h2, by rw [ht]; exact h3, h4, fun x hx => by cases hx; trivial⟩, h5.F ht⟩) h5.2.2 hd (hlocks := hX.2.2.2.2.2.2.2.2.1)
theorem hv_i2c {X : hh_CX} {cc : ByteArray} {own : String} {rm : Room} {pc : Nat} {loc : List (Nat × Value)} {st : List Value} {z k : Nat} {h : hh_T} (hX : hh_C X cc own rm) {x : Int32} (hd : decode cc pc = .ok (.i2c, 1)) (kk : hh_V X (pc + 1) loc (.int (x.toUInt32 % 65536).toInt32 :: st) z k h) : hh_V X pc loc (.int x :: st) z k h := by
  obtain ⟨p, l, e, R, s, m, args, below, meth, c, G, A, φ0, n0, nL, Q⟩ := X
  intro φ H locs ls h1 h2 h3 h4 h5 h6 h7 h8
  exact lv_i2c hX.1 hX.2.1 hd rfl (kk φ H locs ls h1 h2 h3 h4 h5 h6 h7 ⟨trivial, h8.2⟩)
abbrev sQ (x : Int32) (h : hh_T) : Option Value → hh_T → Prop := fun v h' => v = some (.int x) ∧ h' = h
abbrev sQv (h : hh_T) : Option Value → hh_T → Prop := fun v h' => v = none ∧ h' = h
theorem s_len_sh : ∀ i, i < 13 → Int32.ofNat (hh_len.getD i 0) >>> ((0 : Int32) &&& 31) = Int32.ofNat (hh_len.getD i 0) := by decide +kernel
theorem s_byt : ∀ i, i < 13 → ∀ j, j < 8 → (((hh_byt.getD i []).getD j 0 &&& 255).toUInt32 % 65536).toInt32 = (hh_byt.getD i []).getD j 0 ∧ narrow .char (.int ((hh_byt.getD i []).getD j 0)) = .int ((hh_byt.getD i []).getD j 0) := by decide +kernel
theorem s_len8 : ∀ i, i < 13 → hh_len.getD i 0 < 8 := by decide +kernel
theorem np_sc : (parseMethodDescriptor yJ4_coder.desc).map (fun d => d.parameters.length) = some 0 := by decide +kernel
theorem np_pc : (parseMethodDescriptor yJ8_checkIndex.desc).map (fun d => d.parameters.length) = some 3 := by decide +kernel
theorem np_sk : (parseMethodDescriptor yJ4_checkIndex.desc).map (fun d => d.parameters.length) = some 2 := by decide +kernel
theorem np_lc : (parseMethodDescriptor yJ7_charAt.desc).map (fun d => d.parameters.length) = some 2 := by decide +kernel
theorem np_il : (parseMethodDescriptor yJ4_isLatin1.desc).map (fun d => d.parameters.length) = some 0 := by decide +kernel
theorem np_sl : (parseMethodDescriptor yJ4_length.desc).map (fun d => d.parameters.length) = some 0 := by decide +kernel
theorem np_ca : (parseMethodDescriptor yJ4_charAt.desc).map (fun d => d.parameters.length) = some 1 := by decide +kernel
theorem ct_coder {i : Nat} (hi : i < 13) (h : hh_T) : hh_Ct yJ4_coder cJ4_coder 1 (some .byte) 0 0 [.ref (1000000 + i)] h (sQ 0 h) 0 0 := by
  refine hh_Ct.of (own := "java/lang/String") rfl (by decide +kernel) (Nat.le_of_ble_eq_true rfl) ?_
  intro X hX hN hE
  show hh_V X 0 [(0, .ref (1000000 + i))] [] 0 0 h
  refine hv_getsC hX rfl q999 dJ4_coder_0 ?_
  refine hv_if_eq (tgt := 13) hX dJ4_coder_3 (by decide) (fun c => absurd c (by decide)) (fun _ => ?_)
  refine hv_aload_n hX dJ4_coder_6 rfl 0 rfl ?_
  refine hv_getKC hX rfl hi q2409 dJ4_coder_7 ?_
  refine hv_goto (tgt := 14) hX dJ4_coder_10 (by decide) ?_
  exact hv_nret hX hE dJ4_coder_14 rfl ⟨rfl, rfl⟩
theorem ct_isLatin1 {i : Nat} (hi : i < 13) (h : hh_T) : hh_Ct yJ4_isLatin1 cJ4_isLatin1 1 (some .boolean) 0 0 [.ref (1000000 + i)] h (sQ 1 h) 0 0 := by
  refine hh_Ct.of (own := "java/lang/String") rfl (by decide +kernel) (Nat.le_of_ble_eq_true rfl) ?_
  intro X hX hN hE
  show hh_V X 0 [(0, .ref (1000000 + i))] [] 0 0 h
  refine hv_getsC hX rfl q999 dJ4_isLatin1_0 ?_
  refine hv_if_eq (tgt := 17) hX dJ4_isLatin1_3 (by decide) (fun c => absurd c (by decide)) (fun _ => ?_)
  refine hv_aload_n hX dJ4_isLatin1_6 rfl 0 rfl ?_
  refine hv_getKC hX rfl hi q2409 dJ4_isLatin1_7 ?_
  refine hv_if_ne (tgt := 17) hX dJ4_isLatin1_10 (by decide) (fun c => absurd rfl c) (fun _ => ?_)
  refine hv_iconst (v := 1) hX (by decide) dJ4_isLatin1_13 ?_
  refine hv_goto (tgt := 18) hX dJ4_isLatin1_14 (by decide) ?_
  exact hv_nret hX hE dJ4_isLatin1_18 rfl ⟨rfl, rfl⟩
theorem ct_slength {i : Nat} (hi : i < 13) (h : hh_T) : hh_Ct yJ4_length cJ4_length 1 (some .int) 1 20 [.ref (1000000 + i)] h (sQ (Int32.ofNat (hh_len.getD i 0)) h) 0 0 := by
  refine hh_Ct.of (own := "java/lang/String") rfl (by decide +kernel) (Nat.le_of_ble_eq_true rfl) ?_
  intro X hX hN hE
  show hh_V X 0 [(0, .ref (1000000 + i))] [] 0 0 h
  refine hv_aload_n hX dJ4_length_0 rfl 0 rfl ?_
  refine hv_getKV hX rfl hi q2408 dJ4_length_1 ?_
  refine hv_alenK hX hi dJ4_length_4 ?_
  refine hv_aload_n hX dJ4_length_5 rfl 0 rfl ?_
  refine hv_callK (n := 0) hX hi dJ4_length_6 (ct_coder hi h) (lw_V q995 q996 q997 q125 q998) ⟨rfl, by decide, by decide, np_sc⟩ rfl ⟨Nat.le_of_ble_eq_true rfl, Nat.le_of_ble_eq_true rfl⟩ ⟨Nat.le_of_ble_eq_true rfl, Nat.le_of_ble_eq_true rfl⟩ (Nat.le_of_ble_eq_true rfl) ?_
  intro v h' hq
  obtain ⟨rfl, rfl⟩ := hq
  refine hv_ishr hX dJ4_length_9 ?_
  rw [s_len_sh i hi]
  exact hv_iret hX hE dJ4_length_10 ⟨rfl, rfl⟩
theorem ct_pcheck {a n : Int32} {v : Value} (hv : v = .null ∨ v = .ref 1000202) (h0 : ¬ a < 0) (h1 : a < n) (h : hh_T) : hh_Ct yJ8_checkIndex cJ8_checkIndex 3 (some .int) 0 0 [.int a, .int n, v] h (sQ a h) 0 0 := by
  refine hh_Ct.of (own := "jdk/internal/util/Preconditions") rfl (by decide +kernel) (by rcases hv with rfl | rfl <;> exact Nat.le_of_ble_eq_true rfl) ?_
  intro X hX hN hE
  show hh_V X 0 [(0, .int a), (1, .int n), (2, v)] [] 0 0 h
  refine hv_iload_n hX dJ8_checkIndex_0 rfl 0 rfl ?_
  refine hv_if_lt (tgt := 9) hX dJ8_checkIndex_1 (by decide) (fun c => absurd c h0) (fun _ => ?_)
  refine hv_iload_n hX dJ8_checkIndex_4 rfl 0 rfl ?_
  refine hv_iload_n hX dJ8_checkIndex_5 rfl 1 rfl ?_
  refine hv_icmp_lt (tgt := 16) hX dJ8_checkIndex_6 (by decide) (fun _ => ?_) (fun c => absurd h1 c)
  refine hv_iload_n hX dJ8_checkIndex_16 rfl 0 rfl ?_
  exact hv_iret hX hE dJ8_checkIndex_17 ⟨rfl, rfl⟩
theorem ct_scheck {a n : Int32} (h0 : ¬ a < 0) (h1 : a < n) (h : hh_T) : hh_Ct yJ4_checkIndex cJ4_checkIndex 2 none 1 22 [.int a, .int n] h (sQv h) 0 0 := by
  refine hh_Ct.of (own := "java/lang/String") rfl (by decide +kernel) (Nat.le_of_ble_eq_true rfl) ?_
  intro X hX hN hE
  show hh_V X 0 [(0, .int a), (1, .int n)] [] 0 0 h
  refine hv_iload_n hX dJ4_checkIndex_0 rfl 0 rfl ?_
  refine hv_iload_n hX dJ4_checkIndex_1 rfl 1 rfl ?_
  refine hv_getsF hX rfl q1015 dJ4_checkIndex_2 (fun v hv => ?_)
  refine hv_callS (al := [.int a, .int n, v]) hX dJ4_checkIndex_5 (ct_pcheck hv h0 h1 h) (lw_S q1017 q1018 q131 q1019) ⟨by decide, by decide, np_pc⟩ rfl ⟨Nat.le_of_ble_eq_true rfl, Nat.le_of_ble_eq_true rfl⟩ ⟨Nat.le_of_ble_eq_true rfl, Nat.le_of_ble_eq_true rfl⟩ (Nat.le_of_ble_eq_true rfl) ?_
  intro v' h' hq
  obtain ⟨rfl, rfl⟩ := hq
  refine hv_pop hX rfl dJ4_checkIndex_8 ?_
  exact hv_vret hX hE dJ4_checkIndex_9 ⟨rfl, rfl⟩
theorem s_in {x : Int32} {n : Nat} (hn : n < 8) (hin : vp_in x n) : ¬ x < 0 ∧ x < Int32.ofNat n ∧ x.toNatClampNeg < 8 := by
  obtain ⟨h0, h1⟩ := vp_in_iff.mp hin
  have h3 : (Int32.ofNat n).toInt = n := Int32.toInt_ofNat_of_lt (by omega)
  have h4 : (0 : Int32).toInt = 0 := by decide
  have h5 : x.toNatClampNeg = x.toInt.toNat := rfl
  refine ⟨?_, ?_, by omega⟩
  · rw [Int32.lt_iff_toInt_lt, h4]; omega
  · rw [Int32.lt_iff_toInt_lt, h3]; omega
theorem ct_lchar {i : Nat} {x : Int32} (hi : i < 13) (hin : vp_in x (hh_len.getD i 0)) (h : hh_T) : hh_Ct yJ7_charAt cJ7_charAt 2 (some .char) 2 43 [.ref (1000100 + i), .int x] h (sQ ((hh_byt.getD i []).getD x.toNatClampNeg 0) h) 0 0 := by
  obtain ⟨g0, g1, g2⟩ := s_in (s_len8 i hi) hin
  obtain ⟨b1, b2⟩ := s_byt i hi _ g2
  refine hh_Ct.of (own := "java/lang/StringLatin1") rfl (by decide +kernel) (Nat.le_of_ble_eq_true rfl) ?_
  intro X hX hN hE
  show hh_V X 0 [(0, .ref (1000100 + i)), (1, .int x)] [] 0 0 h
  refine hv_iload_n hX dJ7_charAt_0 rfl 1 rfl ?_
  refine hv_aload_n hX dJ7_charAt_1 rfl 0 rfl ?_
  refine hv_alenK hX hi dJ7_charAt_2 ?_
  refine hv_callS (al := [.int x, .int (Int32.ofNat (hh_len.getD i 0))]) hX dJ7_charAt_3 (ct_scheck g0 g1 h) (lw_S q1012 q1013 q125 q1014) ⟨by decide, by decide, np_sk⟩ rfl ⟨Nat.le_of_ble_eq_true rfl, Nat.le_of_ble_eq_true rfl⟩ ⟨Nat.le_of_ble_eq_true rfl, Nat.le_of_ble_eq_true rfl⟩ (Nat.le_of_ble_eq_true rfl) ?_
  intro v' h' hq
  obtain ⟨rfl, rfl⟩ := hq
  refine hv_aload_n hX dJ7_charAt_6 rfl 0 rfl ?_
  refine hv_iload_n hX dJ7_charAt_7 rfl 1 rfl ?_
  refine hv_baldK hX hi hin dJ7_charAt_8 ?_
  refine hv_sipush (v := 255) hX (by decide) dJ7_charAt_9 ?_
  refine hv_iand hX dJ7_charAt_12 ?_
  refine hv_i2c hX dJ7_charAt_13 ?_
  rw [b1]
  exact hv_nret hX hE dJ7_charAt_14 b2 ⟨rfl, rfl⟩
theorem ct_scharAt {i : Nat} {x : Int32} (hi : i < 13) (hin : vp_in x (hh_len.getD i 0)) (h : hh_T) : hh_Ct yJ4_charAt cJ4_charAt 2 (some .char) 3 64 [.ref (1000000 + i), .int x] h (sQ ((hh_byt.getD i []).getD x.toNatClampNeg 0) h) 0 0 := by
  obtain ⟨g0, g1, g2⟩ := s_in (s_len8 i hi) hin
  obtain ⟨b1, b2⟩ := s_byt i hi _ g2
  refine hh_Ct.of (own := "java/lang/String") rfl (by decide +kernel) (Nat.le_of_ble_eq_true rfl) ?_
  intro X hX hN hE
  show hh_V X 0 [(0, .ref (1000000 + i)), (1, .int x)] [] 0 0 h
  refine hv_aload_n hX dJ4_charAt_0 rfl 0 rfl ?_
  refine hv_callK (n := 0) hX hi dJ4_charAt_1 (ct_isLatin1 hi h) (lw_V q1005 q1006 q1007 q125 q1008) ⟨rfl, by decide, by decide, np_il⟩ rfl ⟨Nat.le_of_ble_eq_true rfl, Nat.le_of_ble_eq_true rfl⟩ ⟨Nat.le_of_ble_eq_true rfl, Nat.le_of_ble_eq_true rfl⟩ (Nat.le_of_ble_eq_true rfl) ?_
  intro v' h' hq
  obtain ⟨rfl, rfl⟩ := hq
  refine hv_if_eq (tgt := 16) hX dJ4_charAt_4 (by decide) (fun c => absurd c (by decide)) (fun _ => ?_)
  refine hv_aload_n hX dJ4_charAt_7 rfl 0 rfl ?_
  refine hv_getKV hX rfl hi q2408 dJ4_charAt_8 ?_
  refine hv_iload_n hX dJ4_charAt_11 rfl 1 rfl ?_
  refine hv_callS (al := [.ref (1000100 + i), .int x]) hX dJ4_charAt_12 (ct_lchar hi hin _) (lw_S q1009 q1010 q130 q1011) ⟨by decide, by decide, np_lc⟩ rfl ⟨Nat.le_of_ble_eq_true rfl, Nat.le_of_ble_eq_true rfl⟩ ⟨Nat.le_of_ble_eq_true rfl, Nat.le_of_ble_eq_true rfl⟩ (Nat.le_of_ble_eq_true rfl) ?_
  intro v' h' hq
  obtain ⟨rfl, rfl⟩ := hq
  exact hv_nret hX hE dJ4_charAt_15 b2 ⟨rfl, rfl⟩
theorem hx_slen {X : hh_CX} {cc : ByteArray} {own : String} {rm : Room} {pc : Nat} {loc : List (Nat × Value)} {st : List Value} {z k : Nat} {h : hh_T} (hX : hh_C X cc own rm) {index i : Nat} (hi : i < 13) (hd : decode cc pc = .ok (.invokevirtual index, 3)) (hg : GoodIn lw_all (wsV own index "java/lang/String" yJ4_length (ws_ yJ4_length cJ4_length 1 (some .int)))) (hr : 1 + 1 ≤ rm.frames ∧ 8 + (1 + 11) + 20 ≤ rm.locals) (hz : z + 0 ≤ rm.cells ∧ k + 0 ≤ rm.slots) (h8w : (st.map fun v => v.category).sum ≤ 8) (kk : hh_V X (pc + 3) loc (.int (nI (hh_len.getD i 0)) :: st) z k h) : hh_V X pc loc (.ref (1000000 + i) :: st) z k h :=
  hv_callK (n := 0) hX hi hd (ct_slength hi h) hg ⟨rfl, by decide, by decide, np_sl⟩ rfl hr hz h8w (fun v h' hq => by
    obtain ⟨rfl, rfl⟩ := hq
    exact kk)
theorem hx_schar {X : hh_CX} {cc : ByteArray} {own : String} {rm : Room} {pc : Nat} {loc : List (Nat × Value)} {st : List Value} {z k : Nat} {h : hh_T} (hX : hh_C X cc own rm) {index i : Nat} {x : Int32} (hi : i < 13) (hin : vp_in x (hh_len.getD i 0)) (hd : decode cc pc = .ok (.invokevirtual index, 3)) (hg : GoodIn lw_all (wsV own index "java/lang/String" yJ4_charAt (ws_ yJ4_charAt cJ4_charAt 2 (some .char)))) (hr : 3 + 1 ≤ rm.frames ∧ 8 + (2 + 11) + 64 ≤ rm.locals) (hz : z + 0 ≤ rm.cells ∧ k + 0 ≤ rm.slots) (h8w : (st.map fun v => v.category).sum ≤ 8) (kk : hh_V X (pc + 3) loc (.int ((hh_byt.getD i []).getD x.toNatClampNeg 0) :: st) z k h) : hh_V X pc loc (.int x :: .ref (1000000 + i) :: st) z k h :=
  hv_callK (n := 0) (al := [.int x]) hX hi hd (ct_scharAt hi hin h) hg ⟨rfl, by decide, by decide, np_ca⟩ rfl hr hz h8w (fun v h' hq => by
    obtain ⟨rfl, rfl⟩ := hq
    exact kk)
theorem hv_bud {X : hh_CX} {pc : Nat} {loc : List (Nat × Value)} {st : List Value} {h : hh_T} {b MC MS z0 k0 : Nat} (kk : ∀ z k : Nat, z + b ≤ MC → k + 5 * b ≤ MS → hh_V X pc loc st z k h) (h1 : z0 + b ≤ MC) (h2 : k0 + 5 * b ≤ MS) : hh_V X pc loc st z0 k0 h := kk z0 k0 h1 h2
