set_option maxRecDepth 100000
set_option maxHeartbeats 4000000
/-! THE WALKS OF THINGS -/
theorem tw_nm22 : tw_nm TX22 4 := by unfold tw_nm; decide +kernel
theorem tw_nm23 : tw_nm TX23 5 := by unfold tw_nm; decide +kernel
theorem tw_nm24 : tw_nm TX24 6 := by unfold tw_nm; decide +kernel
theorem tw_nm25 : tw_nm TX25 4 := by unfold tw_nm; decide +kernel
theorem hx_callZXi {X : hh_CX} {cc : ByteArray} {own : String} {rm : Room} {pc : Nat} {loc : List (Nat × Value)} {st : List Value} {z k : Nat} {s : xS} {rd : xRd} {J : mJ} {I : mI} (hX : hh_C X cc own rm) {y : MethodName} {cy : ByteArray} {nY fr lo mc ms r : Nat} {ret : Option FieldType} {al st0 : List Value} {Q : Int32 → xS → xRd → mJ → mI → Prop} {Qx : Nat → xS → xRd → mJ → mI → Prop} {op : Instr} (hd : decode cc pc = .ok (op, 3)) (hM : hh_CtX y cy nY ret fr lo (.ref r :: al) (hx s rd J I) (xQi Q) (xQX Qx) mc ms) (hcode : Cond.code y cy nY ret ∈ lw_all) (hini : Cond.initialized y.cls ∈ lw_all) (hst : st0 = al.reverse ++ .ref r :: st) (hS : tw_SV X pc st0 st z k (hx s rd J I) y (.ref r :: al)) (hr : fr + 1 ≤ rm.frames ∧ 8 + (nY + 11) + lo ≤ rm.locals) (hz : z + mc ≤ rm.cells ∧ k + ms ≤ rm.slots) (h8w : (st.map fun v => v.category).sum ≤ 8)
    (kx : ∀ (c : Nat) (s2 : xS) (rd2 : xRd) (J2 : mJ) (I2 : mI), Qx c s2 rd2 J2 I2 → hh_VT X pc loc (xE c).1 (xE c).2 (z + mc) (k + ms) (hx s2 rd2 J2 I2)) (kk : ∀ (v : Int32) (s2 : xS) (rd2 : xRd) (J2 : mJ) (I2 : mI), Q v s2 rd2 J2 I2 → hh_V X (pc + 3) loc (.int v :: st) (z + mc) (k + ms) (hx s2 rd2 J2 I2)) : hh_V X pc loc st0 z k (hx s rd J I) := hv_callZX hX hd hM hcode hini hS hst hr hz h8w (fun E r h' q => by obtain ⟨c, s2, rd2, J2, I2, rfl, rfl, rfl, hf⟩ := q; exact kx c s2 rd2 J2 I2 hf) (fun v h' q => by obtain ⟨r, s2, rd2, J2, I2, rfl, rfl, hf⟩ := q; exact kk r s2 rd2 J2 I2 hf)
theorem hx_callZX5i {X : hh_CX} {cc : ByteArray} {own : String} {rm : Room} {pc : Nat} {loc : List (Nat × Value)} {st : List Value} {z k : Nat} {s : xS} {rd : xRd} {J : mJ} {I : mI} (hX : hh_C X cc own rm) {y : MethodName} {cy : ByteArray} {nY fr lo mc ms r : Nat} {ret : Option FieldType} {al st0 : List Value} {Q : Int32 → xS → xRd → mJ → mI → Prop} {Qx : Nat → xS → xRd → mJ → mI → Prop} {op : Instr} (hd : decode cc pc = .ok (op, 5)) (hM : hh_CtX y cy nY ret fr lo (.ref r :: al) (hx s rd J I) (xQi Q) (xQX Qx) mc ms) (hcode : Cond.code y cy nY ret ∈ lw_all) (hini : Cond.initialized y.cls ∈ lw_all) (hst : st0 = al.reverse ++ .ref r :: st) (hS : tw_SV X pc st0 st z k (hx s rd J I) y (.ref r :: al)) (hr : fr + 1 ≤ rm.frames ∧ 8 + (nY + 11) + lo ≤ rm.locals) (hz : z + mc ≤ rm.cells ∧ k + ms ≤ rm.slots) (h8w : (st.map fun v => v.category).sum ≤ 8)
    (kx : ∀ (c : Nat) (s2 : xS) (rd2 : xRd) (J2 : mJ) (I2 : mI), Qx c s2 rd2 J2 I2 → hh_VT X pc loc (xE c).1 (xE c).2 (z + mc) (k + ms) (hx s2 rd2 J2 I2)) (kk : ∀ (v : Int32) (s2 : xS) (rd2 : xRd) (J2 : mJ) (I2 : mI), Q v s2 rd2 J2 I2 → hh_V X (pc + 5) loc (.int v :: st) (z + mc) (k + ms) (hx s2 rd2 J2 I2)) : hh_V X pc loc st0 z k (hx s rd J I) := hv_callZX5 hX hd hM hcode hini hS hst hr hz h8w (fun E r h' q => by obtain ⟨c, s2, rd2, J2, I2, rfl, rfl, rfl, hf⟩ := q; exact kx c s2 rd2 J2 I2 hf) (fun v h' q => by obtain ⟨r, s2, rd2, J2, I2, rfl, rfl, hf⟩ := q; exact kk r s2 rd2 J2 I2 hf)
theorem hx_callDXi {X : hh_CX} {cc : ByteArray} {own : String} {rm : Room} {pc : Nat} {loc : List (Nat × Value)} {st : List Value} {z k : Nat} {s : xS} {rd : xRd} {J : mJ} {I : mI} (hX : hh_C X cc own rm) {y : MethodName} {cy : ByteArray} {nY fr lo mc ms r : Nat} {ret : Option FieldType} {al st0 : List Value} {Q : Int32 → xS → xRd → mJ → mI → Prop} {Qx : Nat → xS → xRd → mJ → mI → Prop} {op : Instr} (hd : decode cc pc = .ok (op, 3)) (hM : tu_Ct y cy nY ret fr lo (.ref r :: al) (hx s rd J I) (xQi Q) (xQX Qx) mc ms) (hcode : Cond.code y cy nY ret ∈ lw_all) (hst : st0 = al.reverse ++ .ref r :: st) (hS : tw_SV X pc st0 st z k (hx s rd J I) y (.ref r :: al)) (hr : fr + 1 ≤ rm.frames ∧ 8 + (nY + 11) + lo ≤ rm.locals) (hz : z + mc ≤ rm.cells ∧ k + ms ≤ rm.slots) (h8w : (st.map fun v => v.category).sum ≤ 8)
    (kx : ∀ (c : Nat) (s2 : xS) (rd2 : xRd) (J2 : mJ) (I2 : mI), Qx c s2 rd2 J2 I2 → hh_VT X pc loc (xE c).1 (xE c).2 (z + mc) (k + ms) (hx s2 rd2 J2 I2)) (kk : ∀ (v : Int32) (s2 : xS) (rd2 : xRd) (J2 : mJ) (I2 : mI), Q v s2 rd2 J2 I2 → hh_V X (pc + 3) loc (.int v :: st) (z + mc) (k + ms) (hx s2 rd2 J2 I2)) : hh_V X pc loc st0 z k (hx s rd J I) := hv_callDX hX hd hM hcode hS hst hr hz h8w (fun E r h' q => by obtain ⟨c, s2, rd2, J2, I2, rfl, rfl, rfl, hf⟩ := q; exact kx c s2 rd2 J2 I2 hf) (fun v h' q => by obtain ⟨r, s2, rd2, J2, I2, rfl, rfl, hf⟩ := q; exact kk r s2 rd2 J2 I2 hf)
theorem bix_m15 : (Int8.ofInt (-15)).toInt32 = (-15) := by decide
theorem bix_11 : (Int8.ofInt 11).toInt32 = 11 := by decide
theorem bix_13 : (Int8.ofInt 13).toInt32 = 13 := by decide
theorem bix_41 : (Int8.ofInt 41).toInt32 = 41 := by decide
theorem bix_50 : (Int8.ofInt 50).toInt32 = 50 := by decide
theorem bix_63 : (Int8.ofInt 63).toInt32 = 63 := by decide
theorem bix_70 : (Int8.ofInt 70).toInt32 = 70 := by decide
theorem bix_71 : (Int8.ofInt 71).toInt32 = 71 := by decide
theorem bix_72 : (Int8.ofInt 72).toInt32 = 72 := by decide
theorem bix_73 : (Int8.ofInt 73).toInt32 = 73 := by decide
theorem fl22_1_22 : hh_FL RX22 1 22 3 2 true := ⟨RX22, TX22, 4, tyX22, "HungryHedge$BushThing", by decide, rfl, in_X22, by decide, rfl, rfl, .inl q1343, tyX22_ok, (.inr ⟨rfl, tw_nm22⟩), rfl, rfl, .inl rfl⟩
theorem fl21_1_22 : hh_FL RX21 1 22 2 2 true := ⟨RX22, TX22, 4, tyX22, "HungryHedge$PatchThing", by decide, rfl, in_X22, by decide, rfl, rfl, .inl q1350, tyX22_ok, (.inr ⟨rfl, tw_nm22⟩), rfl, rfl, .inl rfl⟩
theorem fl21_13_22 : hh_FL RX21 13 22 0 0 true := ⟨RX22, TX22, 4, tyX22, "HungryHedge$PatchThing", by decide, rfl, in_X22, by decide, rfl, rfl, .inl q1344, tyX22_ok, (.inr ⟨rfl, tw_nm22⟩), rfl, rfl, .inl rfl⟩
theorem fl21_17_22 : hh_FL RX21 17 22 1 0 true := ⟨RX22, TX22, 4, tyX22, "HungryHedge$PatchThing", by decide, rfl, in_X22, by decide, rfl, rfl, .inl q1347, tyX22_ok, (.inr ⟨rfl, tw_nm22⟩), rfl, rfl, .inl rfl⟩
theorem fl23_1_23 : hh_FL RX23 1 23 4 2 true := ⟨RX23, TX23, 5, tyX23, "HungryHedge$FieldThing", by decide, rfl, in_X23, by decide, rfl, rfl, .inl q1366, tyX23_ok, (.inr ⟨rfl, tw_nm23⟩), rfl, rfl, .inl rfl⟩
theorem fl22_1_23 : hh_FL RX22 1 23 3 2 true := ⟨RX23, TX23, 5, tyX23, "HungryHedge$BushThing", by decide, rfl, in_X23, by decide, rfl, rfl, .inl q1343, tyX23_ok, (.inr ⟨rfl, tw_nm23⟩), rfl, rfl, .inl rfl⟩
theorem fl21_1_23 : hh_FL RX21 1 23 2 2 true := ⟨RX23, TX23, 5, tyX23, "HungryHedge$PatchThing", by decide, rfl, in_X23, by decide, rfl, rfl, .inl q1350, tyX23_ok, (.inr ⟨rfl, tw_nm23⟩), rfl, rfl, .inl rfl⟩
theorem fl21_13_23 : hh_FL RX21 13 23 0 0 true := ⟨RX23, TX23, 5, tyX23, "HungryHedge$PatchThing", by decide, rfl, in_X23, by decide, rfl, rfl, .inl q1344, tyX23_ok, (.inr ⟨rfl, tw_nm23⟩), rfl, rfl, .inl rfl⟩
theorem fl21_17_23 : hh_FL RX21 17 23 1 0 true := ⟨RX23, TX23, 5, tyX23, "HungryHedge$PatchThing", by decide, rfl, in_X23, by decide, rfl, rfl, .inl q1347, tyX23_ok, (.inr ⟨rfl, tw_nm23⟩), rfl, rfl, .inl rfl⟩
theorem fl24_1_24 : hh_FL RX24 1 24 5 2 true := ⟨RX24, TX24, 6, tyX24, "HungryHedge$FeederThing", by decide, rfl, in_X24, by decide, rfl, rfl, .inl q1380, tyX24_ok, (.inr ⟨rfl, tw_nm24⟩), rfl, rfl, .inl rfl⟩
theorem fl23_1_24 : hh_FL RX23 1 24 4 2 true := ⟨RX24, TX24, 6, tyX24, "HungryHedge$FieldThing", by decide, rfl, in_X24, by decide, rfl, rfl, .inl q1366, tyX24_ok, (.inr ⟨rfl, tw_nm24⟩), rfl, rfl, .inl rfl⟩
theorem fl22_1_24 : hh_FL RX22 1 24 3 2 true := ⟨RX24, TX24, 6, tyX24, "HungryHedge$BushThing", by decide, rfl, in_X24, by decide, rfl, rfl, .inl q1343, tyX24_ok, (.inr ⟨rfl, tw_nm24⟩), rfl, rfl, .inl rfl⟩
theorem fl21_1_24 : hh_FL RX21 1 24 2 2 true := ⟨RX24, TX24, 6, tyX24, "HungryHedge$PatchThing", by decide, rfl, in_X24, by decide, rfl, rfl, .inl q1350, tyX24_ok, (.inr ⟨rfl, tw_nm24⟩), rfl, rfl, .inl rfl⟩
theorem fl21_13_24 : hh_FL RX21 13 24 0 0 true := ⟨RX24, TX24, 6, tyX24, "HungryHedge$PatchThing", by decide, rfl, in_X24, by decide, rfl, rfl, .inl q1344, tyX24_ok, (.inr ⟨rfl, tw_nm24⟩), rfl, rfl, .inl rfl⟩
theorem fl21_17_24 : hh_FL RX21 17 24 1 0 true := ⟨RX24, TX24, 6, tyX24, "HungryHedge$PatchThing", by decide, rfl, in_X24, by decide, rfl, rfl, .inl q1347, tyX24_ok, (.inr ⟨rfl, tw_nm24⟩), rfl, rfl, .inl rfl⟩
theorem fl25_1_25 : hh_FL RX25 1 25 3 2 true := ⟨RX25, TX25, 4, tyX25, "HungryHedge$NestThing", by decide, rfl, in_X25, by decide, rfl, rfl, .inl q1395, tyX25_ok, (.inr ⟨rfl, tw_nm25⟩), rfl, rfl, .inl rfl⟩
theorem fl21_1_25 : hh_FL RX21 1 25 2 2 true := ⟨RX25, TX25, 4, tyX25, "HungryHedge$PatchThing", by decide, rfl, in_X25, by decide, rfl, rfl, .inl q1350, tyX25_ok, (.inr ⟨rfl, tw_nm25⟩), rfl, rfl, .inl rfl⟩
theorem fl21_13_25 : hh_FL RX21 13 25 0 0 true := ⟨RX25, TX25, 4, tyX25, "HungryHedge$PatchThing", by decide, rfl, in_X25, by decide, rfl, rfl, .inl q1344, tyX25_ok, (.inr ⟨rfl, tw_nm25⟩), rfl, rfl, .inl rfl⟩
theorem fl21_17_25 : hh_FL RX21 17 25 1 0 true := ⟨RX25, TX25, 4, tyX25, "HungryHedge$PatchThing", by decide, rfl, in_X25, by decide, rfl, rfl, .inl q1347, tyX25_ok, (.inr ⟨rfl, tw_nm25⟩), rfl, rfl, .inl rfl⟩
theorem fl26_1_26 : hh_FL RX26 1 26 2 2 true := ⟨RX26, TX26, 3, tyX26, "HungryHedge$RiskThing", by decide, rfl, in_X26, by decide, rfl, rfl, .inl q1415, tyX26_ok, .inl nmX26, rfl, rfl, .inl rfl⟩
theorem fl26_13_26 : hh_FL RX26 13 26 0 0 true := ⟨RX26, TX26, 3, tyX26, "HungryHedge$RiskThing", by decide, rfl, in_X26, by decide, rfl, rfl, .inl q1413, tyX26_ok, .inl nmX26, rfl, rfl, .inl rfl⟩
theorem fl26_17_26 : hh_FL RX26 17 26 1 0 true := ⟨RX26, TX26, 3, tyX26, "HungryHedge$RiskThing", by decide, rfl, in_X26, by decide, rfl, rfl, .inl q1414, tyX26_ok, .inl nmX26, rfl, rfl, .inl rfl⟩
theorem fl27_1_27 : hh_FL RX27 1 27 2 2 true := ⟨RX27, TX27, 3, tyX27, "HungryHedge$BirdThing", by decide, rfl, in_X27, by decide, rfl, rfl, .inl q1431, tyX27_ok, .inl nmX27, rfl, rfl, .inl rfl⟩
theorem fl27_13_27 : hh_FL RX27 13 27 0 0 true := ⟨RX27, TX27, 3, tyX27, "HungryHedge$BirdThing", by decide, rfl, in_X27, by decide, rfl, rfl, .inl q1429, tyX27_ok, .inl nmX27, rfl, rfl, .inl rfl⟩
theorem fl27_17_27 : hh_FL RX27 17 27 1 0 true := ⟨RX27, TX27, 3, tyX27, "HungryHedge$BirdThing", by decide, rfl, in_X27, by decide, rfl, rfl, .inl q1430, tyX27_ok, .inl nmX27, rfl, rfl, .inl rfl⟩
theorem fl24_23_24 : hh_FL RX24 23 24 1 0 true := ⟨RX24, TX24, 6, tyX24, "HungryHedge$FeederThing", by decide, rfl, in_X24, by decide, rfl, rfl, .inl q1348, tyX24_ok, (.inr ⟨rfl, tw_nm24⟩), rfl, rfl, .inr q1349⟩
theorem fl23_26_23 : hh_FL RX23 26 23 0 0 true := ⟨RX23, TX23, 5, tyX23, "HungryHedge$FieldThing", by decide, rfl, in_X23, by decide, rfl, rfl, .inl q1345, tyX23_ok, (.inr ⟨rfl, tw_nm23⟩), rfl, rfl, .inr q1346⟩
theorem fl23_26_24 : hh_FL RX23 26 24 0 0 true := ⟨RX24, TX24, 6, tyX24, "HungryHedge$FieldThing", by decide, rfl, in_X24, by decide, rfl, rfl, .inl q1345, tyX24_ok, (.inr ⟨rfl, tw_nm24⟩), rfl, rfl, .inr q1346⟩
theorem nl0_401 : hh_NL RX0 401 23 5 := ⟨RX23, TX23, tyX23, by decide, rfl, in_X23, tyX23_ok, rfl, by decide +kernel, q1360, q1361, q141⟩
theorem nl0_404 : hh_NL RX0 404 24 6 := ⟨RX24, TX24, tyX24, by decide, rfl, in_X24, tyX24_ok, rfl, by decide +kernel, q1374, q1375, q142⟩
theorem nl0_407 : hh_NL RX0 407 25 4 := ⟨RX25, TX25, tyX25, by decide, rfl, in_X25, tyX25_ok, rfl, by decide +kernel, q1389, q1390, q143⟩
theorem nl0_423 : hh_NL RX0 423 26 3 := ⟨RX26, TX26, tyX26, by decide, rfl, in_X26, tyX26_ok, rfl, by decide +kernel, q1402, q1403, q144⟩
theorem nl0_429 : hh_NL RX0 429 27 3 := ⟨RX27, TX27, tyX27, by decide, rfl, in_X27, tyX27_ok, rfl, by decide +kernel, q1423, q1424, q145⟩
/-! HungryHedge$PatchThing.<init>(LHungryHedge;II)V -/
def x_X21_init_c22 (a0 : Nat) (a2 : Int32) (a3 : Int32) (s : xS) (rd : xRd) (J : mJ) (I : mI) (Q : xRd → mI → Prop) : Prop :=
  xo s a0 22 ∧ (xR0 a0 2 = none ∧ (Q (u2 rd a0 2 (some 0)) (u2 (u2 I a0 0 a2) a0 1 a3)))
theorem ct_X21_init_c22  (a0 : Nat) (a2 : Int32) (a3 : Int32) (s : xS) (rd : xRd) (J : mJ) (I : mI) (Q : xRd → mI → Prop) (hf : x_X21_init_c22 a0 a2 a3 s rd J I Q) : hh_Ct yX21_init cX21_init 4 none 1 20 [.ref a0, .ref 0, .int a2, .int a3] (hx s rd J I) (xQv (fun S9 R9 J9 I9 => s = S9 ∧ J = J9 ∧ Q R9 I9)) 0 0 := by
  refine hh_Ct.ofN (own := RX21) rfl (by decide +kernel) (Nat.le_of_ble_eq_true rfl) ?_
  intro X hX hN hE hNm
  show hh_V X 0 [(0, .ref a0), (1, .ref 0), (2, .int a2), (3, .int a3)] [] 0 0 (hx s rd J I)
  unfold x_X21_init_c22 at hf
  refine hv_aload_n hX dX21_init_0 rfl 0 rfl ?_
  refine hv_aload_n hX dX21_init_1 rfl 1 rfl ?_
  obtain ⟨o1, hf⟩ := hf
  obtain ⟨g, hf⟩ := hf
  refine hx_putFO (v := (some 0)) hX hNm dX21_init_2 fl21_1_22 ⟨RX22, TX22, 4, "HungryHedge$PatchThing", rfl, rfl, q1350, .inl rfl⟩ o1 g ?_
  refine hv_aload_n hX dX21_init_5 rfl 0 rfl ?_
  refine hv_objinit hX dX21_init_6 q1342 q153 q154 hN ⟨Nat.le_of_ble_eq_true rfl, Nat.le_of_ble_eq_true rfl⟩ ?_
  refine hv_aload_n hX dX21_init_9 rfl 0 rfl ?_
  refine hv_iload_n hX dX21_init_10 rfl 2 rfl ?_
  refine hx_putFI hX hNm dX21_init_11 fl21_13_22 ⟨RX22, TX22, 4, "HungryHedge$PatchThing", rfl, rfl, q1344, .inl rfl⟩ o1 ?_
  refine hv_aload_n hX dX21_init_14 rfl 0 rfl ?_
  refine hv_iload_n hX dX21_init_15 rfl 3 rfl ?_
  refine hx_putFI hX hNm dX21_init_16 fl21_17_22 ⟨RX22, TX22, 4, "HungryHedge$PatchThing", rfl, rfl, q1347, .inl rfl⟩ o1 ?_
  exact hx_vret hX hE dX21_init_19 ⟨rfl, rfl, hf⟩
/-! HungryHedge$BushThing.<init>(LHungryHedge;II)V -/
def x_X22_init (a0 : Nat) (a2 : Int32) (a3 : Int32) (s : xS) (rd : xRd) (J : mJ) (I : mI) (Q : xRd → mI → Prop) : Prop :=
  xo s a0 22 ∧ (xR0 a0 3 = none ∧ (x_X21_init_c22 a0 a2 a3 s (u2 rd a0 3 (some 0)) J I (fun rd2 I3 => Q rd2 I3)))
theorem ct_X22_init  (a0 : Nat) (a2 : Int32) (a3 : Int32) (s : xS) (rd : xRd) (J : mJ) (I : mI) (Q : xRd → mI → Prop) (hf : x_X22_init a0 a2 a3 s rd J I Q) : hh_Ct yX22_init cX22_init 4 none 2 43 [.ref a0, .ref 0, .int a2, .int a3] (hx s rd J I) (xQv (fun S9 R9 J9 I9 => s = S9 ∧ J = J9 ∧ Q R9 I9)) 0 0 := by
  refine hh_Ct.ofN (own := RX22) rfl (by decide +kernel) (Nat.le_of_ble_eq_true rfl) ?_
  intro X hX hN hE hNm
  show hh_V X 0 [(0, .ref a0), (1, .ref 0), (2, .int a2), (3, .int a3)] [] 0 0 (hx s rd J I)
  unfold x_X22_init at hf
  refine hv_aload_n hX dX22_init_0 rfl 0 rfl ?_
  refine hv_aload_n hX dX22_init_1 rfl 1 rfl ?_
  obtain ⟨o1, hf⟩ := hf
  obtain ⟨g, hf⟩ := hf
  refine hx_putFO (v := (some 0)) hX hNm dX22_init_2 fl22_1_22 ⟨RX22, TX22, 4, "HungryHedge$BushThing", rfl, rfl, q1343, .inl rfl⟩ o1 g ?_
  refine hv_aload_n hX dX22_init_5 rfl 0 rfl ?_
  refine hv_aload_n hX dX22_init_6 rfl 1 rfl ?_
  refine hv_iload_n hX dX22_init_7 rfl 2 rfl ?_
  refine hv_iload_n hX dX22_init_8 rfl 3 rfl ?_
  refine hx_callIv (ci := 22) (q := (RX22, TX22, 4)) hX dX22_init_9 (ct_X21_init_c22 a0 a2 a3 s (u2 rd a0 3 (some 0)) J I _ hf) q1339 rfl q1341 q139 q1340 rfl (by decide) np_X21_init rfl o1 rfl ⟨Nat.le_of_ble_eq_true rfl, Nat.le_of_ble_eq_true rfl⟩ ⟨Nat.le_of_ble_eq_true rfl, Nat.le_of_ble_eq_true rfl⟩ (Nat.le_of_ble_eq_true rfl) ?_
  intro  S9 rd2 J9 I3 hq
  clear hf
  obtain ⟨rfl, rfl, hf⟩ := hq
  exact hx_vret hX hE dX22_init_12 ⟨rfl, rfl, hf⟩
/-! HungryHedge$PatchThing.<init>(LHungryHedge;II)V -/
def x_X21_init_c23 (a0 : Nat) (a2 : Int32) (a3 : Int32) (s : xS) (rd : xRd) (J : mJ) (I : mI) (Q : xRd → mI → Prop) : Prop :=
  xo s a0 23 ∧ (xR0 a0 2 = none ∧ (Q (u2 rd a0 2 (some 0)) (u2 (u2 I a0 0 a2) a0 1 a3)))
theorem ct_X21_init_c23  (a0 : Nat) (a2 : Int32) (a3 : Int32) (s : xS) (rd : xRd) (J : mJ) (I : mI) (Q : xRd → mI → Prop) (hf : x_X21_init_c23 a0 a2 a3 s rd J I Q) : hh_Ct yX21_init cX21_init 4 none 1 20 [.ref a0, .ref 0, .int a2, .int a3] (hx s rd J I) (xQv (fun S9 R9 J9 I9 => s = S9 ∧ J = J9 ∧ Q R9 I9)) 0 0 := by
  refine hh_Ct.ofN (own := RX21) rfl (by decide +kernel) (Nat.le_of_ble_eq_true rfl) ?_
  intro X hX hN hE hNm
  show hh_V X 0 [(0, .ref a0), (1, .ref 0), (2, .int a2), (3, .int a3)] [] 0 0 (hx s rd J I)
  unfold x_X21_init_c23 at hf
  refine hv_aload_n hX dX21_init_0 rfl 0 rfl ?_
  refine hv_aload_n hX dX21_init_1 rfl 1 rfl ?_
  obtain ⟨o1, hf⟩ := hf
  obtain ⟨g, hf⟩ := hf
  refine hx_putFO (v := (some 0)) hX hNm dX21_init_2 fl21_1_23 ⟨RX23, TX23, 5, "HungryHedge$PatchThing", rfl, rfl, q1350, .inl rfl⟩ o1 g ?_
  refine hv_aload_n hX dX21_init_5 rfl 0 rfl ?_
  refine hv_objinit hX dX21_init_6 q1342 q153 q154 hN ⟨Nat.le_of_ble_eq_true rfl, Nat.le_of_ble_eq_true rfl⟩ ?_
  refine hv_aload_n hX dX21_init_9 rfl 0 rfl ?_
  refine hv_iload_n hX dX21_init_10 rfl 2 rfl ?_
  refine hx_putFI hX hNm dX21_init_11 fl21_13_23 ⟨RX23, TX23, 5, "HungryHedge$PatchThing", rfl, rfl, q1344, .inl rfl⟩ o1 ?_
  refine hv_aload_n hX dX21_init_14 rfl 0 rfl ?_
  refine hv_iload_n hX dX21_init_15 rfl 3 rfl ?_
  refine hx_putFI hX hNm dX21_init_16 fl21_17_23 ⟨RX23, TX23, 5, "HungryHedge$PatchThing", rfl, rfl, q1347, .inl rfl⟩ o1 ?_
  exact hx_vret hX hE dX21_init_19 ⟨rfl, rfl, hf⟩
/-! HungryHedge$BushThing.<init>(LHungryHedge;II)V -/
def x_X22_init_c23 (a0 : Nat) (a2 : Int32) (a3 : Int32) (s : xS) (rd : xRd) (J : mJ) (I : mI) (Q : xRd → mI → Prop) : Prop :=
  xo s a0 23 ∧ (xR0 a0 3 = none ∧ (x_X21_init_c23 a0 a2 a3 s (u2 rd a0 3 (some 0)) J I (fun rd2 I3 => Q rd2 I3)))
theorem ct_X22_init_c23  (a0 : Nat) (a2 : Int32) (a3 : Int32) (s : xS) (rd : xRd) (J : mJ) (I : mI) (Q : xRd → mI → Prop) (hf : x_X22_init_c23 a0 a2 a3 s rd J I Q) : hh_Ct yX22_init cX22_init 4 none 2 43 [.ref a0, .ref 0, .int a2, .int a3] (hx s rd J I) (xQv (fun S9 R9 J9 I9 => s = S9 ∧ J = J9 ∧ Q R9 I9)) 0 0 := by
  refine hh_Ct.ofN (own := RX22) rfl (by decide +kernel) (Nat.le_of_ble_eq_true rfl) ?_
  intro X hX hN hE hNm
  show hh_V X 0 [(0, .ref a0), (1, .ref 0), (2, .int a2), (3, .int a3)] [] 0 0 (hx s rd J I)
  unfold x_X22_init_c23 at hf
  refine hv_aload_n hX dX22_init_0 rfl 0 rfl ?_
  refine hv_aload_n hX dX22_init_1 rfl 1 rfl ?_
  obtain ⟨o1, hf⟩ := hf
  obtain ⟨g, hf⟩ := hf
  refine hx_putFO (v := (some 0)) hX hNm dX22_init_2 fl22_1_23 ⟨RX23, TX23, 5, "HungryHedge$BushThing", rfl, rfl, q1343, .inl rfl⟩ o1 g ?_
  refine hv_aload_n hX dX22_init_5 rfl 0 rfl ?_
  refine hv_aload_n hX dX22_init_6 rfl 1 rfl ?_
  refine hv_iload_n hX dX22_init_7 rfl 2 rfl ?_
  refine hv_iload_n hX dX22_init_8 rfl 3 rfl ?_
  refine hx_callIv (ci := 23) (q := (RX23, TX23, 5)) hX dX22_init_9 (ct_X21_init_c23 a0 a2 a3 s (u2 rd a0 3 (some 0)) J I _ hf) q1339 rfl q1341 q139 q1340 rfl (by decide) np_X21_init rfl o1 rfl ⟨Nat.le_of_ble_eq_true rfl, Nat.le_of_ble_eq_true rfl⟩ ⟨Nat.le_of_ble_eq_true rfl, Nat.le_of_ble_eq_true rfl⟩ (Nat.le_of_ble_eq_true rfl) ?_
  intro  S9 rd2 J9 I3 hq
  clear hf
  obtain ⟨rfl, rfl, hf⟩ := hq
  exact hx_vret hX hE dX22_init_12 ⟨rfl, rfl, hf⟩
/-! HungryHedge$FieldThing.<init>(LHungryHedge;II)V -/
def x_X23_init (a0 : Nat) (a2 : Int32) (a3 : Int32) (s : xS) (rd : xRd) (J : mJ) (I : mI) (Q : xRd → mI → Prop) : Prop :=
  xo s a0 23 ∧ (xR0 a0 4 = none ∧ (x_X22_init_c23 a0 a2 a3 s (u2 rd a0 4 (some 0)) J I (fun rd2 I3 => Q rd2 I3)))
theorem ct_X23_init  (a0 : Nat) (a2 : Int32) (a3 : Int32) (s : xS) (rd : xRd) (J : mJ) (I : mI) (Q : xRd → mI → Prop) (hf : x_X23_init a0 a2 a3 s rd J I Q) : hh_Ct yX23_init cX23_init 4 none 3 66 [.ref a0, .ref 0, .int a2, .int a3] (hx s rd J I) (xQv (fun S9 R9 J9 I9 => s = S9 ∧ J = J9 ∧ Q R9 I9)) 0 0 := by
  refine hh_Ct.ofN (own := RX23) rfl (by decide +kernel) (Nat.le_of_ble_eq_true rfl) ?_
  intro X hX hN hE hNm
  show hh_V X 0 [(0, .ref a0), (1, .ref 0), (2, .int a2), (3, .int a3)] [] 0 0 (hx s rd J I)
  unfold x_X23_init at hf
  refine hv_aload_n hX dX23_init_0 rfl 0 rfl ?_
  refine hv_aload_n hX dX23_init_1 rfl 1 rfl ?_
  obtain ⟨o1, hf⟩ := hf
  obtain ⟨g, hf⟩ := hf
  refine hx_putFO (v := (some 0)) hX hNm dX23_init_2 fl23_1_23 ⟨RX23, TX23, 5, "HungryHedge$FieldThing", rfl, rfl, q1366, .inl rfl⟩ o1 g ?_
  refine hv_aload_n hX dX23_init_5 rfl 0 rfl ?_
  refine hv_aload_n hX dX23_init_6 rfl 1 rfl ?_
  refine hv_iload_n hX dX23_init_7 rfl 2 rfl ?_
  refine hv_iload_n hX dX23_init_8 rfl 3 rfl ?_
  refine hx_callIv (ci := 23) (q := (RX23, TX23, 5)) hX dX23_init_9 (ct_X22_init_c23 a0 a2 a3 s (u2 rd a0 4 (some 0)) J I _ hf) q1365 rfl q1338 q140 q1337 rfl (by decide) np_X22_init rfl o1 rfl ⟨Nat.le_of_ble_eq_true rfl, Nat.le_of_ble_eq_true rfl⟩ ⟨Nat.le_of_ble_eq_true rfl, Nat.le_of_ble_eq_true rfl⟩ (Nat.le_of_ble_eq_true rfl) ?_
  intro  S9 rd2 J9 I3 hq
  clear hf
  obtain ⟨rfl, rfl, hf⟩ := hq
  exact hx_vret hX hE dX23_init_12 ⟨rfl, rfl, hf⟩
/-! HungryHedge$PatchThing.<init>(LHungryHedge;II)V -/
def x_X21_init_c24 (a0 : Nat) (a2 : Int32) (a3 : Int32) (s : xS) (rd : xRd) (J : mJ) (I : mI) (Q : xRd → mI → Prop) : Prop :=
  xo s a0 24 ∧ (xR0 a0 2 = none ∧ (Q (u2 rd a0 2 (some 0)) (u2 (u2 I a0 0 a2) a0 1 a3)))
theorem ct_X21_init_c24  (a0 : Nat) (a2 : Int32) (a3 : Int32) (s : xS) (rd : xRd) (J : mJ) (I : mI) (Q : xRd → mI → Prop) (hf : x_X21_init_c24 a0 a2 a3 s rd J I Q) : hh_Ct yX21_init cX21_init 4 none 1 20 [.ref a0, .ref 0, .int a2, .int a3] (hx s rd J I) (xQv (fun S9 R9 J9 I9 => s = S9 ∧ J = J9 ∧ Q R9 I9)) 0 0 := by
  refine hh_Ct.ofN (own := RX21) rfl (by decide +kernel) (Nat.le_of_ble_eq_true rfl) ?_
  intro X hX hN hE hNm
  show hh_V X 0 [(0, .ref a0), (1, .ref 0), (2, .int a2), (3, .int a3)] [] 0 0 (hx s rd J I)
  unfold x_X21_init_c24 at hf
  refine hv_aload_n hX dX21_init_0 rfl 0 rfl ?_
  refine hv_aload_n hX dX21_init_1 rfl 1 rfl ?_
  obtain ⟨o1, hf⟩ := hf
  obtain ⟨g, hf⟩ := hf
  refine hx_putFO (v := (some 0)) hX hNm dX21_init_2 fl21_1_24 ⟨RX24, TX24, 6, "HungryHedge$PatchThing", rfl, rfl, q1350, .inl rfl⟩ o1 g ?_
  refine hv_aload_n hX dX21_init_5 rfl 0 rfl ?_
  refine hv_objinit hX dX21_init_6 q1342 q153 q154 hN ⟨Nat.le_of_ble_eq_true rfl, Nat.le_of_ble_eq_true rfl⟩ ?_
  refine hv_aload_n hX dX21_init_9 rfl 0 rfl ?_
  refine hv_iload_n hX dX21_init_10 rfl 2 rfl ?_
  refine hx_putFI hX hNm dX21_init_11 fl21_13_24 ⟨RX24, TX24, 6, "HungryHedge$PatchThing", rfl, rfl, q1344, .inl rfl⟩ o1 ?_
  refine hv_aload_n hX dX21_init_14 rfl 0 rfl ?_
  refine hv_iload_n hX dX21_init_15 rfl 3 rfl ?_
  refine hx_putFI hX hNm dX21_init_16 fl21_17_24 ⟨RX24, TX24, 6, "HungryHedge$PatchThing", rfl, rfl, q1347, .inl rfl⟩ o1 ?_
  exact hx_vret hX hE dX21_init_19 ⟨rfl, rfl, hf⟩
/-! HungryHedge$BushThing.<init>(LHungryHedge;II)V -/
def x_X22_init_c24 (a0 : Nat) (a2 : Int32) (a3 : Int32) (s : xS) (rd : xRd) (J : mJ) (I : mI) (Q : xRd → mI → Prop) : Prop :=
  xo s a0 24 ∧ (xR0 a0 3 = none ∧ (x_X21_init_c24 a0 a2 a3 s (u2 rd a0 3 (some 0)) J I (fun rd2 I3 => Q rd2 I3)))
theorem ct_X22_init_c24  (a0 : Nat) (a2 : Int32) (a3 : Int32) (s : xS) (rd : xRd) (J : mJ) (I : mI) (Q : xRd → mI → Prop) (hf : x_X22_init_c24 a0 a2 a3 s rd J I Q) : hh_Ct yX22_init cX22_init 4 none 2 43 [.ref a0, .ref 0, .int a2, .int a3] (hx s rd J I) (xQv (fun S9 R9 J9 I9 => s = S9 ∧ J = J9 ∧ Q R9 I9)) 0 0 := by
  refine hh_Ct.ofN (own := RX22) rfl (by decide +kernel) (Nat.le_of_ble_eq_true rfl) ?_
  intro X hX hN hE hNm
  show hh_V X 0 [(0, .ref a0), (1, .ref 0), (2, .int a2), (3, .int a3)] [] 0 0 (hx s rd J I)
  unfold x_X22_init_c24 at hf
  refine hv_aload_n hX dX22_init_0 rfl 0 rfl ?_
  refine hv_aload_n hX dX22_init_1 rfl 1 rfl ?_
  obtain ⟨o1, hf⟩ := hf
  obtain ⟨g, hf⟩ := hf
  refine hx_putFO (v := (some 0)) hX hNm dX22_init_2 fl22_1_24 ⟨RX24, TX24, 6, "HungryHedge$BushThing", rfl, rfl, q1343, .inl rfl⟩ o1 g ?_
  refine hv_aload_n hX dX22_init_5 rfl 0 rfl ?_
  refine hv_aload_n hX dX22_init_6 rfl 1 rfl ?_
  refine hv_iload_n hX dX22_init_7 rfl 2 rfl ?_
  refine hv_iload_n hX dX22_init_8 rfl 3 rfl ?_
  refine hx_callIv (ci := 24) (q := (RX24, TX24, 6)) hX dX22_init_9 (ct_X21_init_c24 a0 a2 a3 s (u2 rd a0 3 (some 0)) J I _ hf) q1339 rfl q1341 q139 q1340 rfl (by decide) np_X21_init rfl o1 rfl ⟨Nat.le_of_ble_eq_true rfl, Nat.le_of_ble_eq_true rfl⟩ ⟨Nat.le_of_ble_eq_true rfl, Nat.le_of_ble_eq_true rfl⟩ (Nat.le_of_ble_eq_true rfl) ?_
  intro  S9 rd2 J9 I3 hq
  clear hf
  obtain ⟨rfl, rfl, hf⟩ := hq
  exact hx_vret hX hE dX22_init_12 ⟨rfl, rfl, hf⟩
/-! HungryHedge$FieldThing.<init>(LHungryHedge;II)V -/
def x_X23_init_c24 (a0 : Nat) (a2 : Int32) (a3 : Int32) (s : xS) (rd : xRd) (J : mJ) (I : mI) (Q : xRd → mI → Prop) : Prop :=
  xo s a0 24 ∧ (xR0 a0 4 = none ∧ (x_X22_init_c24 a0 a2 a3 s (u2 rd a0 4 (some 0)) J I (fun rd2 I3 => Q rd2 I3)))
theorem ct_X23_init_c24  (a0 : Nat) (a2 : Int32) (a3 : Int32) (s : xS) (rd : xRd) (J : mJ) (I : mI) (Q : xRd → mI → Prop) (hf : x_X23_init_c24 a0 a2 a3 s rd J I Q) : hh_Ct yX23_init cX23_init 4 none 3 66 [.ref a0, .ref 0, .int a2, .int a3] (hx s rd J I) (xQv (fun S9 R9 J9 I9 => s = S9 ∧ J = J9 ∧ Q R9 I9)) 0 0 := by
  refine hh_Ct.ofN (own := RX23) rfl (by decide +kernel) (Nat.le_of_ble_eq_true rfl) ?_
  intro X hX hN hE hNm
  show hh_V X 0 [(0, .ref a0), (1, .ref 0), (2, .int a2), (3, .int a3)] [] 0 0 (hx s rd J I)
  unfold x_X23_init_c24 at hf
  refine hv_aload_n hX dX23_init_0 rfl 0 rfl ?_
  refine hv_aload_n hX dX23_init_1 rfl 1 rfl ?_
  obtain ⟨o1, hf⟩ := hf
  obtain ⟨g, hf⟩ := hf
  refine hx_putFO (v := (some 0)) hX hNm dX23_init_2 fl23_1_24 ⟨RX24, TX24, 6, "HungryHedge$FieldThing", rfl, rfl, q1366, .inl rfl⟩ o1 g ?_
  refine hv_aload_n hX dX23_init_5 rfl 0 rfl ?_
  refine hv_aload_n hX dX23_init_6 rfl 1 rfl ?_
  refine hv_iload_n hX dX23_init_7 rfl 2 rfl ?_
  refine hv_iload_n hX dX23_init_8 rfl 3 rfl ?_
  refine hx_callIv (ci := 24) (q := (RX24, TX24, 6)) hX dX23_init_9 (ct_X22_init_c24 a0 a2 a3 s (u2 rd a0 4 (some 0)) J I _ hf) q1365 rfl q1338 q140 q1337 rfl (by decide) np_X22_init rfl o1 rfl ⟨Nat.le_of_ble_eq_true rfl, Nat.le_of_ble_eq_true rfl⟩ ⟨Nat.le_of_ble_eq_true rfl, Nat.le_of_ble_eq_true rfl⟩ (Nat.le_of_ble_eq_true rfl) ?_
  intro  S9 rd2 J9 I3 hq
  clear hf
  obtain ⟨rfl, rfl, hf⟩ := hq
  exact hx_vret hX hE dX23_init_12 ⟨rfl, rfl, hf⟩
/-! HungryHedge$FeederThing.<init>(LHungryHedge;II)V -/
def x_X24_init (a0 : Nat) (a2 : Int32) (a3 : Int32) (s : xS) (rd : xRd) (J : mJ) (I : mI) (Q : xRd → mI → Prop) : Prop :=
  xo s a0 24 ∧ (xR0 a0 5 = none ∧ (x_X23_init_c24 a0 a2 a3 s (u2 rd a0 5 (some 0)) J I (fun rd2 I3 => Q rd2 I3)))
theorem ct_X24_init  (a0 : Nat) (a2 : Int32) (a3 : Int32) (s : xS) (rd : xRd) (J : mJ) (I : mI) (Q : xRd → mI → Prop) (hf : x_X24_init a0 a2 a3 s rd J I Q) : hh_Ct yX24_init cX24_init 4 none 4 89 [.ref a0, .ref 0, .int a2, .int a3] (hx s rd J I) (xQv (fun S9 R9 J9 I9 => s = S9 ∧ J = J9 ∧ Q R9 I9)) 0 0 := by
  refine hh_Ct.ofN (own := RX24) rfl (by decide +kernel) (Nat.le_of_ble_eq_true rfl) ?_
  intro X hX hN hE hNm
  show hh_V X 0 [(0, .ref a0), (1, .ref 0), (2, .int a2), (3, .int a3)] [] 0 0 (hx s rd J I)
  unfold x_X24_init at hf
  refine hv_aload_n hX dX24_init_0 rfl 0 rfl ?_
  refine hv_aload_n hX dX24_init_1 rfl 1 rfl ?_
  obtain ⟨o1, hf⟩ := hf
  obtain ⟨g, hf⟩ := hf
  refine hx_putFO (v := (some 0)) hX hNm dX24_init_2 fl24_1_24 ⟨RX24, TX24, 6, "HungryHedge$FeederThing", rfl, rfl, q1380, .inl rfl⟩ o1 g ?_
  refine hv_aload_n hX dX24_init_5 rfl 0 rfl ?_
  refine hv_aload_n hX dX24_init_6 rfl 1 rfl ?_
  refine hv_iload_n hX dX24_init_7 rfl 2 rfl ?_
  refine hv_iload_n hX dX24_init_8 rfl 3 rfl ?_
  refine hx_callIv (ci := 24) (q := (RX24, TX24, 6)) hX dX24_init_9 (ct_X23_init_c24 a0 a2 a3 s (u2 rd a0 5 (some 0)) J I _ hf) q1379 rfl q1364 q141 q1363 rfl (by decide) np_X23_init rfl o1 rfl ⟨Nat.le_of_ble_eq_true rfl, Nat.le_of_ble_eq_true rfl⟩ ⟨Nat.le_of_ble_eq_true rfl, Nat.le_of_ble_eq_true rfl⟩ (Nat.le_of_ble_eq_true rfl) ?_
  intro  S9 rd2 J9 I3 hq
  clear hf
  obtain ⟨rfl, rfl, hf⟩ := hq
  exact hx_vret hX hE dX24_init_12 ⟨rfl, rfl, hf⟩
/-! HungryHedge$PatchThing.<init>(LHungryHedge;II)V -/
def x_X21_init_c25 (a0 : Nat) (a2 : Int32) (a3 : Int32) (s : xS) (rd : xRd) (J : mJ) (I : mI) (Q : xRd → mI → Prop) : Prop :=
  xo s a0 25 ∧ (xR0 a0 2 = none ∧ (Q (u2 rd a0 2 (some 0)) (u2 (u2 I a0 0 a2) a0 1 a3)))
theorem ct_X21_init_c25  (a0 : Nat) (a2 : Int32) (a3 : Int32) (s : xS) (rd : xRd) (J : mJ) (I : mI) (Q : xRd → mI → Prop) (hf : x_X21_init_c25 a0 a2 a3 s rd J I Q) : hh_Ct yX21_init cX21_init 4 none 1 20 [.ref a0, .ref 0, .int a2, .int a3] (hx s rd J I) (xQv (fun S9 R9 J9 I9 => s = S9 ∧ J = J9 ∧ Q R9 I9)) 0 0 := by
  refine hh_Ct.ofN (own := RX21) rfl (by decide +kernel) (Nat.le_of_ble_eq_true rfl) ?_
  intro X hX hN hE hNm
  show hh_V X 0 [(0, .ref a0), (1, .ref 0), (2, .int a2), (3, .int a3)] [] 0 0 (hx s rd J I)
  unfold x_X21_init_c25 at hf
  refine hv_aload_n hX dX21_init_0 rfl 0 rfl ?_
  refine hv_aload_n hX dX21_init_1 rfl 1 rfl ?_
  obtain ⟨o1, hf⟩ := hf
  obtain ⟨g, hf⟩ := hf
  refine hx_putFO (v := (some 0)) hX hNm dX21_init_2 fl21_1_25 ⟨RX25, TX25, 4, "HungryHedge$PatchThing", rfl, rfl, q1350, .inl rfl⟩ o1 g ?_
  refine hv_aload_n hX dX21_init_5 rfl 0 rfl ?_
  refine hv_objinit hX dX21_init_6 q1342 q153 q154 hN ⟨Nat.le_of_ble_eq_true rfl, Nat.le_of_ble_eq_true rfl⟩ ?_
  refine hv_aload_n hX dX21_init_9 rfl 0 rfl ?_
  refine hv_iload_n hX dX21_init_10 rfl 2 rfl ?_
  refine hx_putFI hX hNm dX21_init_11 fl21_13_25 ⟨RX25, TX25, 4, "HungryHedge$PatchThing", rfl, rfl, q1344, .inl rfl⟩ o1 ?_
  refine hv_aload_n hX dX21_init_14 rfl 0 rfl ?_
  refine hv_iload_n hX dX21_init_15 rfl 3 rfl ?_
  refine hx_putFI hX hNm dX21_init_16 fl21_17_25 ⟨RX25, TX25, 4, "HungryHedge$PatchThing", rfl, rfl, q1347, .inl rfl⟩ o1 ?_
  exact hx_vret hX hE dX21_init_19 ⟨rfl, rfl, hf⟩
/-! HungryHedge$NestThing.<init>(LHungryHedge;II)V -/
def x_X25_init (a0 : Nat) (a2 : Int32) (a3 : Int32) (s : xS) (rd : xRd) (J : mJ) (I : mI) (Q : xRd → mI → Prop) : Prop :=
  xo s a0 25 ∧ (xR0 a0 3 = none ∧ (x_X21_init_c25 a0 a2 a3 s (u2 rd a0 3 (some 0)) J I (fun rd2 I3 => Q rd2 I3)))
theorem ct_X25_init  (a0 : Nat) (a2 : Int32) (a3 : Int32) (s : xS) (rd : xRd) (J : mJ) (I : mI) (Q : xRd → mI → Prop) (hf : x_X25_init a0 a2 a3 s rd J I Q) : hh_Ct yX25_init cX25_init 4 none 2 43 [.ref a0, .ref 0, .int a2, .int a3] (hx s rd J I) (xQv (fun S9 R9 J9 I9 => s = S9 ∧ J = J9 ∧ Q R9 I9)) 0 0 := by
  refine hh_Ct.ofN (own := RX25) rfl (by decide +kernel) (Nat.le_of_ble_eq_true rfl) ?_
  intro X hX hN hE hNm
  show hh_V X 0 [(0, .ref a0), (1, .ref 0), (2, .int a2), (3, .int a3)] [] 0 0 (hx s rd J I)
  unfold x_X25_init at hf
  refine hv_aload_n hX dX25_init_0 rfl 0 rfl ?_
  refine hv_aload_n hX dX25_init_1 rfl 1 rfl ?_
  obtain ⟨o1, hf⟩ := hf
  obtain ⟨g, hf⟩ := hf
  refine hx_putFO (v := (some 0)) hX hNm dX25_init_2 fl25_1_25 ⟨RX25, TX25, 4, "HungryHedge$NestThing", rfl, rfl, q1395, .inl rfl⟩ o1 g ?_
  refine hv_aload_n hX dX25_init_5 rfl 0 rfl ?_
  refine hv_aload_n hX dX25_init_6 rfl 1 rfl ?_
  refine hv_iload_n hX dX25_init_7 rfl 2 rfl ?_
  refine hv_iload_n hX dX25_init_8 rfl 3 rfl ?_
  refine hx_callIv (ci := 25) (q := (RX25, TX25, 4)) hX dX25_init_9 (ct_X21_init_c25 a0 a2 a3 s (u2 rd a0 3 (some 0)) J I _ hf) q1394 rfl q1341 q139 q1340 rfl (by decide) np_X21_init rfl o1 rfl ⟨Nat.le_of_ble_eq_true rfl, Nat.le_of_ble_eq_true rfl⟩ ⟨Nat.le_of_ble_eq_true rfl, Nat.le_of_ble_eq_true rfl⟩ (Nat.le_of_ble_eq_true rfl) ?_
  intro  S9 rd2 J9 I3 hq
  clear hf
  obtain ⟨rfl, rfl, hf⟩ := hq
  exact hx_vret hX hE dX25_init_12 ⟨rfl, rfl, hf⟩
/-! HungryHedge.patchThing(I)LHungryHedge$Tells; -/
def x_X0_patchThing (a1 : Int32) (s : xS) (rd : xRd) (J : mJ) (I : mI) (Q : Nat → xS → xRd → mJ → mI → Prop) : Prop :=
  vp_in a1 4 ∧ (vp_in a1 4 ∧ (((I 2 a1.toNatClampNeg) = 1 →
    xnw s rd J I 22 4 (fun q2 s3 rd4 J5 I6 => x_X22_init q2 a1 (I 11 a1.toNatClampNeg) s3 rd4 J5 I6 (fun rd8 I9 => Q q2 s3 rd8 J5 I9))) ∧ (¬ (I 2 a1.toNatClampNeg) = 1 →
    ((I 2 a1.toNatClampNeg) = 2 →
    xnw s rd J I 23 5 (fun q11 s12 rd13 J14 I15 => x_X23_init q11 a1 (I 11 a1.toNatClampNeg) s12 rd13 J14 I15 (fun rd17 I18 => Q q11 s12 rd17 J14 I18))) ∧ (¬ (I 2 a1.toNatClampNeg) = 2 →
    ((I 2 a1.toNatClampNeg) = 3 →
    xnw s rd J I 24 6 (fun q20 s21 rd22 J23 I24 => x_X24_init q20 a1 (I 11 a1.toNatClampNeg) s21 rd22 J23 I24 (fun rd26 I27 => Q q20 s21 rd26 J23 I27))) ∧ (¬ (I 2 a1.toNatClampNeg) = 3 →
    xnw s rd J I 25 4 (fun q28 s29 rd30 J31 I32 => x_X25_init q28 a1 (I 11 a1.toNatClampNeg) s29 rd30 J31 I32 (fun rd34 I35 => Q q28 s29 rd34 J31 I35)))))))
theorem ct_X0_patchThing  (a1 : Int32) (s : xS) (rd : xRd) (J : mJ) (I : mI) (Q : Nat → xS → xRd → mJ → mI → Prop) (hf : x_X0_patchThing a1 s rd J I Q) : hh_Ct yX0_patchThing cX0_patchThing 3 (some (.object "HungryHedge$Tells")) 5 112 [.ref 0, .int a1] (hx s rd J I) (xQr (fun r9 S9 R9 J9 I9 => Q r9 S9 R9 J9 I9)) 1 6 := by
  refine hh_Ct.of (own := RX0) rfl (by decide +kernel) (Nat.le_of_ble_eq_true rfl) ?_
  intro X hX hN hE
  show hh_V X 0 [(0, .ref 0), (1, .int a1)] [] 0 0 (hx s rd J I)
  unfold x_X0_patchThing at hf
  refine hv_aload_n hX dX0_patchThing_0 rfl 0 rfl ?_
  refine hx_getR (v := 1) hX dX0_patchThing_1 fl0_10_0 (xo_c (by decide) rfl) (xR_c rfl) ?_
  refine hx_getR (v := 10) hX dX0_patchThing_4 fl0_127_1 (xo_c (by decide) rfl) (xR_c rfl) ?_
  refine hx_getR (v := 11) hX dX0_patchThing_7 fl0_130_2 (xo_c (by decide) rfl) (xR_c rfl) ?_
  refine hv_iload_n hX dX0_patchThing_10 rfl 1 rfl ?_
  obtain ⟨g, hf⟩ := hf
  refine hx_iald (v := (I 11 a1.toNatClampNeg)) hX dX0_patchThing_11 (xo_c (by decide) rfl) (xlen_c (by decide) rfl) g rfl ?_
  refine hv_istore_n (loc2 := [(2, .int (I 11 a1.toNatClampNeg)), (0, .ref 0), (1, .int a1)]) hX dX0_patchThing_12 rfl hN (Nat.le_of_ble_eq_true rfl) rfl ?_
  refine hv_aload_n hX dX0_patchThing_13 rfl 1 rfl ?_
  refine hx_getR (v := 1) hX dX0_patchThing_14 fl0_10_0 (xo_c (by decide) rfl) (xR_c rfl) ?_
  refine hx_getR (v := 2) hX dX0_patchThing_17 fl0_115_1 (xo_c (by decide) rfl) (xR_c rfl) ?_
  refine hv_iload_n hX dX0_patchThing_20 rfl 2 rfl ?_
  obtain ⟨g, hf⟩ := hf
  refine hx_iald (v := (I 2 a1.toNatClampNeg)) hX dX0_patchThing_21 (xo_c (by decide) rfl) (xlen_c (by decide) rfl) g rfl ?_
  by_cases c1 : (I 2 a1.toNatClampNeg) = 1
  · replace hf := hf.1 c1
    refine hv_tswA (v := 1) (tgt := 48) (off := 26) hX dX0_patchThing_22 c1 ⟨by decide, by decide, by decide⟩ (by decide) ?_
    refine hx_new hX dX0_patchThing_48 nl0_396 hf ⟨Nat.le_of_ble_eq_true rfl, Nat.le_of_ble_eq_true rfl⟩ ?_
    intro q2 s3 rd4 J5 I6 hf o7 mono
    refine hv_dup hX rfl dX0_patchThing_51 ?_
    refine hv_aload_n hX dX0_patchThing_52 rfl 1 rfl ?_
    refine hv_iload_n hX dX0_patchThing_53 rfl 2 rfl ?_
    refine hv_iload_n hX dX0_patchThing_54 rfl 0 rfl ?_
    refine hx_callIv (ci := 22) (q := (RX22, TX22, 4)) hX dX0_patchThing_55 (ct_X22_init q2 a1 (I 11 a1.toNatClampNeg) s3 rd4 J5 I6 _ hf) q1336 rfl q1338 q140 q1337 rfl (by decide) np_X22_init rfl o7 rfl ⟨Nat.le_of_ble_eq_true rfl, Nat.le_of_ble_eq_true rfl⟩ ⟨Nat.le_of_ble_eq_true rfl, Nat.le_of_ble_eq_true rfl⟩ (Nat.le_of_ble_eq_true rfl) ?_
    intro  S9 rd8 J9 I9 hq
    clear hf
    obtain ⟨rfl, rfl, hf⟩ := hq
    refine hv_widen (z' := 1) (k' := 6) (Nat.le_of_ble_eq_true rfl) (Nat.le_of_ble_eq_true rfl) ?_
    exact hx_aret hX hE (.inl ⟨_, rfl⟩) dX0_patchThing_58 hf
  · replace hf := hf.2 c1
    by_cases c10 : (I 2 a1.toNatClampNeg) = 2
    · replace hf := hf.1 c10
      refine hv_tswA (v := 2) (tgt := 59) (off := 37) hX dX0_patchThing_22 c10 ⟨by decide, by decide, by decide⟩ (by decide) ?_
      refine hx_new hX dX0_patchThing_59 nl0_401 hf ⟨Nat.le_of_ble_eq_true rfl, Nat.le_of_ble_eq_true rfl⟩ ?_
      intro q11 s12 rd13 J14 I15 hf o16 mono
      refine hv_dup hX rfl dX0_patchThing_62 ?_
      refine hv_aload_n hX dX0_patchThing_63 rfl 1 rfl ?_
      refine hv_iload_n hX dX0_patchThing_64 rfl 2 rfl ?_
      refine hv_iload_n hX dX0_patchThing_65 rfl 0 rfl ?_
      refine hx_callIv (ci := 23) (q := (RX23, TX23, 5)) hX dX0_patchThing_66 (ct_X23_init q11 a1 (I 11 a1.toNatClampNeg) s12 rd13 J14 I15 _ hf) q1362 rfl q1364 q141 q1363 rfl (by decide) np_X23_init rfl o16 rfl ⟨Nat.le_of_ble_eq_true rfl, Nat.le_of_ble_eq_true rfl⟩ ⟨Nat.le_of_ble_eq_true rfl, Nat.le_of_ble_eq_true rfl⟩ (Nat.le_of_ble_eq_true rfl) ?_
      intro  S9 rd17 J9 I18 hq
      clear hf
      obtain ⟨rfl, rfl, hf⟩ := hq
      refine hv_widen (z' := 1) (k' := 6) (Nat.le_of_ble_eq_true rfl) (Nat.le_of_ble_eq_true rfl) ?_
      exact hx_aret hX hE (.inl ⟨_, rfl⟩) dX0_patchThing_69 hf
    · replace hf := hf.2 c10
      by_cases c19 : (I 2 a1.toNatClampNeg) = 3
      · replace hf := hf.1 c19
        refine hv_tswA (v := 3) (tgt := 70) (off := 48) hX dX0_patchThing_22 c19 ⟨by decide, by decide, by decide⟩ (by decide) ?_
        refine hx_new hX dX0_patchThing_70 nl0_404 hf ⟨Nat.le_of_ble_eq_true rfl, Nat.le_of_ble_eq_true rfl⟩ ?_
        intro q20 s21 rd22 J23 I24 hf o25 mono
        refine hv_dup hX rfl dX0_patchThing_73 ?_
        refine hv_aload_n hX dX0_patchThing_74 rfl 1 rfl ?_
        refine hv_iload_n hX dX0_patchThing_75 rfl 2 rfl ?_
        refine hv_iload_n hX dX0_patchThing_76 rfl 0 rfl ?_
        refine hx_callIv (ci := 24) (q := (RX24, TX24, 6)) hX dX0_patchThing_77 (ct_X24_init q20 a1 (I 11 a1.toNatClampNeg) s21 rd22 J23 I24 _ hf) q1376 rfl q1378 q142 q1377 rfl (by decide) np_X24_init rfl o25 rfl ⟨Nat.le_of_ble_eq_true rfl, Nat.le_of_ble_eq_true rfl⟩ ⟨Nat.le_of_ble_eq_true rfl, Nat.le_of_ble_eq_true rfl⟩ (Nat.le_of_ble_eq_true rfl) ?_
        intro  S9 rd26 J9 I27 hq
        clear hf
        obtain ⟨rfl, rfl, hf⟩ := hq
        exact hx_aret hX hE (.inl ⟨_, rfl⟩) dX0_patchThing_80 hf
      · replace hf := hf.2 c19
        refine hv_tswO (tgt := 81) hX dX0_patchThing_22 (by have z0 := lv_neT c1 (a := 1) (by decide); have z1 := lv_neT c10 (a := 2) (by decide); have z2 := lv_neT c19 (a := 3) (by decide); omega) (by decide) ?_
        refine hx_new hX dX0_patchThing_81 nl0_407 hf ⟨Nat.le_of_ble_eq_true rfl, Nat.le_of_ble_eq_true rfl⟩ ?_
        intro q28 s29 rd30 J31 I32 hf o33 mono
        refine hv_dup hX rfl dX0_patchThing_84 ?_
        refine hv_aload_n hX dX0_patchThing_85 rfl 1 rfl ?_
        refine hv_iload_n hX dX0_patchThing_86 rfl 2 rfl ?_
        refine hv_iload_n hX dX0_patchThing_87 rfl 0 rfl ?_
        refine hx_callIv (ci := 25) (q := (RX25, TX25, 4)) hX dX0_patchThing_88 (ct_X25_init q28 a1 (I 11 a1.toNatClampNeg) s29 rd30 J31 I32 _ hf) q1391 rfl q1393 q143 q1392 rfl (by decide) np_X25_init rfl o33 rfl ⟨Nat.le_of_ble_eq_true rfl, Nat.le_of_ble_eq_true rfl⟩ ⟨Nat.le_of_ble_eq_true rfl, Nat.le_of_ble_eq_true rfl⟩ (Nat.le_of_ble_eq_true rfl) ?_
        intro  S9 rd34 J9 I35 hq
        clear hf
        obtain ⟨rfl, rfl, hf⟩ := hq
        refine hv_widen (z' := 1) (k' := 6) (Nat.le_of_ble_eq_true rfl) (Nat.le_of_ble_eq_true rfl) ?_
        exact hx_aret hX hE (.inl ⟨_, rfl⟩) dX0_patchThing_91 hf
/-! HungryHedge$RiskThing.<init>(LHungryHedge;II)V -/
def x_X26_init (a0 : Nat) (a2 : Int32) (a3 : Int32) (s : xS) (rd : xRd) (J : mJ) (I : mI) (Q : xRd → mI → Prop) : Prop :=
  xo s a0 26 ∧ (xR0 a0 2 = none ∧ (Q (u2 rd a0 2 (some 0)) (u2 (u2 I a0 0 a2) a0 1 a3)))
theorem ct_X26_init  (a0 : Nat) (a2 : Int32) (a3 : Int32) (s : xS) (rd : xRd) (J : mJ) (I : mI) (Q : xRd → mI → Prop) (hf : x_X26_init a0 a2 a3 s rd J I Q) : hh_Ct yX26_init cX26_init 4 none 1 20 [.ref a0, .ref 0, .int a2, .int a3] (hx s rd J I) (xQv (fun S9 R9 J9 I9 => s = S9 ∧ J = J9 ∧ Q R9 I9)) 0 0 := by
  refine hh_Ct.ofN (own := RX26) rfl (by decide +kernel) (Nat.le_of_ble_eq_true rfl) ?_
  intro X hX hN hE hNm
  show hh_V X 0 [(0, .ref a0), (1, .ref 0), (2, .int a2), (3, .int a3)] [] 0 0 (hx s rd J I)
  unfold x_X26_init at hf
  refine hv_aload_n hX dX26_init_0 rfl 0 rfl ?_
  refine hv_aload_n hX dX26_init_1 rfl 1 rfl ?_
  obtain ⟨o1, hf⟩ := hf
  obtain ⟨g, hf⟩ := hf
  refine hx_putFO (v := (some 0)) hX hNm dX26_init_2 fl26_1_26 ⟨RX26, TX26, 3, "HungryHedge$RiskThing", rfl, rfl, q1415, .inl rfl⟩ o1 g ?_
  refine hv_aload_n hX dX26_init_5 rfl 0 rfl ?_
  refine hv_objinit hX dX26_init_6 q1412 q153 q154 hN ⟨Nat.le_of_ble_eq_true rfl, Nat.le_of_ble_eq_true rfl⟩ ?_
  refine hv_aload_n hX dX26_init_9 rfl 0 rfl ?_
  refine hv_iload_n hX dX26_init_10 rfl 2 rfl ?_
  refine hx_putFI hX hNm dX26_init_11 fl26_13_26 ⟨RX26, TX26, 3, "HungryHedge$RiskThing", rfl, rfl, q1413, .inl rfl⟩ o1 ?_
  refine hv_aload_n hX dX26_init_14 rfl 0 rfl ?_
  refine hv_iload_n hX dX26_init_15 rfl 3 rfl ?_
  refine hx_putFI hX hNm dX26_init_16 fl26_17_26 ⟨RX26, TX26, 3, "HungryHedge$RiskThing", rfl, rfl, q1414, .inl rfl⟩ o1 ?_
  exact hx_vret hX hE dX26_init_19 ⟨rfl, rfl, hf⟩
/-! HungryHedge$BirdThing.<init>(LHungryHedge;II)V -/
def x_X27_init (a0 : Nat) (a2 : Int32) (a3 : Int32) (s : xS) (rd : xRd) (J : mJ) (I : mI) (Q : xRd → mI → Prop) : Prop :=
  xo s a0 27 ∧ (xR0 a0 2 = none ∧ (Q (u2 rd a0 2 (some 0)) (u2 (u2 I a0 0 a2) a0 1 a3)))
theorem ct_X27_init  (a0 : Nat) (a2 : Int32) (a3 : Int32) (s : xS) (rd : xRd) (J : mJ) (I : mI) (Q : xRd → mI → Prop) (hf : x_X27_init a0 a2 a3 s rd J I Q) : hh_Ct yX27_init cX27_init 4 none 1 20 [.ref a0, .ref 0, .int a2, .int a3] (hx s rd J I) (xQv (fun S9 R9 J9 I9 => s = S9 ∧ J = J9 ∧ Q R9 I9)) 0 0 := by
  refine hh_Ct.ofN (own := RX27) rfl (by decide +kernel) (Nat.le_of_ble_eq_true rfl) ?_
  intro X hX hN hE hNm
  show hh_V X 0 [(0, .ref a0), (1, .ref 0), (2, .int a2), (3, .int a3)] [] 0 0 (hx s rd J I)
  unfold x_X27_init at hf
  refine hv_aload_n hX dX27_init_0 rfl 0 rfl ?_
  refine hv_aload_n hX dX27_init_1 rfl 1 rfl ?_
  obtain ⟨o1, hf⟩ := hf
  obtain ⟨g, hf⟩ := hf
  refine hx_putFO (v := (some 0)) hX hNm dX27_init_2 fl27_1_27 ⟨RX27, TX27, 3, "HungryHedge$BirdThing", rfl, rfl, q1431, .inl rfl⟩ o1 g ?_
  refine hv_aload_n hX dX27_init_5 rfl 0 rfl ?_
  refine hv_objinit hX dX27_init_6 q1428 q153 q154 hN ⟨Nat.le_of_ble_eq_true rfl, Nat.le_of_ble_eq_true rfl⟩ ?_
  refine hv_aload_n hX dX27_init_9 rfl 0 rfl ?_
  refine hv_iload_n hX dX27_init_10 rfl 2 rfl ?_
  refine hx_putFI hX hNm dX27_init_11 fl27_13_27 ⟨RX27, TX27, 3, "HungryHedge$BirdThing", rfl, rfl, q1429, .inl rfl⟩ o1 ?_
  refine hv_aload_n hX dX27_init_14 rfl 0 rfl ?_
  refine hv_iload_n hX dX27_init_15 rfl 3 rfl ?_
  refine hx_putFI hX hNm dX27_init_16 fl27_17_27 ⟨RX27, TX27, 3, "HungryHedge$BirdThing", rfl, rfl, q1430, .inl rfl⟩ o1 ?_
  exact hx_vret hX hE dX27_init_19 ⟨rfl, rfl, hf⟩
/-! HungryHedge.heldOf(LHungryHedge$Shelf;)Ljava/lang/Object; -/
def x_X0_heldOf (a1 : Nat) (s : xS) (rd : xRd) (J : mJ) (I : mI) (Q : Option Nat → xS → xRd → mJ → mI → Prop) : Prop :=
  xo s a1 13 ∧ (((I a1 0) = 0 →
    x_X0_isPatch (I a1 1) s rd J I (fun r3 => (r3 = 0 →
      Q none s rd J I) ∧ (¬ r3 = 0 →
      x_X0_patchThing (I a1 1) s rd J I (fun r9 s5 rd6 J7 I8 => Q (some r9) s5 rd6 J7 I8)))) ∧ (¬ (I a1 0) = 0 →
    ((I a1 0) = 1 →
    x_X0_isRisk (I a1 1) s rd J I (fun r11 => (r11 = 0 →
        Q none s rd J I) ∧ (¬ r11 = 0 →
        xnw s rd J I 26 3 (fun q13 s14 rd15 J16 I17 => xo s14 a1 13 ∧ (vp_in (I17 a1 1) 4 ∧ (∃ v20 : Nat, xR rd15 8 (I17 a1 1).toNatClampNeg = some v20 ∧ (xo s14 v20 15 ∧ (x_X15_greatest v20 s14 rd15 J16 I17 (fun r21 => x_X26_init q13 (I17 a1 1) r21 s14 rd15 J16 I17 (fun rd23 I24 => Q (some q13) s14 rd23 J16 I24)))))))))) ∧ (¬ (I a1 0) = 1 →
    ((I a1 0) = 2 →
    ((I 1 0) ≤ 0 →
          Q none s rd J I) ∧ (¬ (I 1 0) ≤ 0 →
          xnw s rd J I 27 3 (fun q27 s28 rd29 J30 I31 => x_X27_init q27 (I31 10 0) (I31 10 2) s28 rd29 J30 I31 (fun rd33 I34 => Q (some q27) s28 rd33 J30 I34)))) ∧ (¬ (I a1 0) = 2 →
    ((I a1 0) = 3 →
    Q (xR rd a1 2) s rd J I) ∧ (¬ (I a1 0) = 3 →
    Q none s rd J I)))))
theorem ct_X0_heldOf  (a1 : Nat) (s : xS) (rd : xRd) (J : mJ) (I : mI) (Q : Option Nat → xS → xRd → mJ → mI → Prop) (hf : x_X0_heldOf a1 s rd J I Q) : hh_Ct yX0_heldOf cX0_heldOf 2 (some (.object "java/lang/Object")) 6 134 [.ref 0, .ref a1] (hx s rd J I) (xQo (fun r9 S9 R9 J9 I9 => Q r9 S9 R9 J9 I9)) 1 6 := by
  refine hh_Ct.of (own := RX0) rfl (by decide +kernel) (Nat.le_of_ble_eq_true rfl) ?_
  intro X hX hN hE
  show hh_V X 0 [(0, .ref 0), (1, .ref a1)] [] 0 0 (hx s rd J I)
  unfold x_X0_heldOf at hf
  refine hv_aload_n hX dX0_heldOf_0 rfl 1 rfl ?_
  obtain ⟨o1, hf⟩ := hf
  refine hx_getI (v := (I a1 0)) hX dX0_heldOf_1 fl0_410_13 (.inl rfl) o1 rfl ?_
  by_cases c2 : (I a1 0) = 0
  · replace hf := hf.1 c2
    refine hv_tswA (v := 0) (tgt := 36) (off := 32) hX dX0_heldOf_4 c2 ⟨by decide, by decide, by decide⟩ (by decide) ?_
    refine hv_aload_n hX dX0_heldOf_36 rfl 0 rfl ?_
    refine hv_aload_n hX dX0_heldOf_37 rfl 1 rfl ?_
    refine hx_getI (v := (I a1 1)) hX dX0_heldOf_38 fl0_413_13 (.inl rfl) o1 rfl ?_
    refine hx_callVi (ci := 0) (q := (RX0, TX0, 19)) hX dX0_heldOf_41 (ct_X0_isPatch (I a1 1) s rd J I _ hf) (lw_V q656 q658 qs1 q106 q659) rfl (by decide) ⟨rfl, np_X0_isPatch⟩ rfl (xo_c (by decide) rfl) rfl ⟨Nat.le_of_ble_eq_true rfl, Nat.le_of_ble_eq_true rfl⟩ ⟨Nat.le_of_ble_eq_true rfl, Nat.le_of_ble_eq_true rfl⟩ (Nat.le_of_ble_eq_true rfl) ?_
    intro r3 S9 R9 J9 I9 hq
    clear hf
    obtain ⟨rfl, rfl, rfl, rfl, hf⟩ := hq
    refine hv_if_eq (tgt := 58) hX dX0_heldOf_44 (by decide) (fun c4 => ?_) (fun c4 => ?_)
    · replace hf := hf.1 c4
      refine hv_null hX dX0_heldOf_58 ?_
      refine hv_widen (z' := 1) (k' := 6) (Nat.le_of_ble_eq_true rfl) (Nat.le_of_ble_eq_true rfl) ?_
      exact hx_oret (v := none) hX hE (.inl ⟨_, rfl⟩) dX0_heldOf_59 hf
    · replace hf := hf.2 c4
      refine hv_aload_n hX dX0_heldOf_47 rfl 0 rfl ?_
      refine hv_aload_n hX dX0_heldOf_48 rfl 1 rfl ?_
      refine hx_getI (v := (I a1 1)) hX dX0_heldOf_49 fl0_413_13 (.inl rfl) o1 rfl ?_
      refine hx_callVr (ci := 0) (q := (RX0, TX0, 19)) hX dX0_heldOf_52 (ct_X0_patchThing (I a1 1) s rd J I _ hf) (lw_V q1330 q1332 qs47 q106 q1333) rfl (by decide) ⟨rfl, np_X0_patchThing⟩ rfl (xo_c (by decide) rfl) rfl ⟨Nat.le_of_ble_eq_true rfl, Nat.le_of_ble_eq_true rfl⟩ ⟨Nat.le_of_ble_eq_true rfl, Nat.le_of_ble_eq_true rfl⟩ (Nat.le_of_ble_eq_true rfl) ?_
      intro r9 s5 rd6 J7 I8 hq
      clear hf
      have hf := hq
      refine hv_goto (tgt := 59) hX dX0_heldOf_55 (by decide) ?_
      exact hx_oret (v := (some r9)) hX hE (.inl ⟨_, rfl⟩) dX0_heldOf_59 hf
  · replace hf := hf.2 c2
    by_cases c10 : (I a1 0) = 1
    · replace hf := hf.1 c10
      refine hv_tswA (v := 1) (tgt := 60) (off := 56) hX dX0_heldOf_4 c10 ⟨by decide, by decide, by decide⟩ (by decide) ?_
      refine hv_aload_n hX dX0_heldOf_60 rfl 0 rfl ?_
      refine hv_aload_n hX dX0_heldOf_61 rfl 1 rfl ?_
      refine hx_getI (v := (I a1 1)) hX dX0_heldOf_62 fl0_413_13 (.inl rfl) o1 rfl ?_
      refine hx_callVi (ci := 0) (q := (RX0, TX0, 19)) hX dX0_heldOf_65 (ct_X0_isRisk (I a1 1) s rd J I _ hf) (lw_V q1318 q1320 qs45 q106 q1321) rfl (by decide) ⟨rfl, np_X0_isRisk⟩ rfl (xo_c (by decide) rfl) rfl ⟨Nat.le_of_ble_eq_true rfl, Nat.le_of_ble_eq_true rfl⟩ ⟨Nat.le_of_ble_eq_true rfl, Nat.le_of_ble_eq_true rfl⟩ (Nat.le_of_ble_eq_true rfl) ?_
      intro r11 S9 R9 J9 I9 hq
      clear hf
      obtain ⟨rfl, rfl, rfl, rfl, hf⟩ := hq
      refine hv_if_eq (tgt := 101) hX dX0_heldOf_68 (by decide) (fun c12 => ?_) (fun c12 => ?_)
      · replace hf := hf.1 c12
        refine hv_null hX dX0_heldOf_101 ?_
        refine hv_widen (z' := 1) (k' := 6) (Nat.le_of_ble_eq_true rfl) (Nat.le_of_ble_eq_true rfl) ?_
        exact hx_oret (v := none) hX hE (.inl ⟨_, rfl⟩) dX0_heldOf_102 hf
      · replace hf := hf.2 c12
        refine hx_new hX dX0_heldOf_71 nl0_423 hf ⟨Nat.le_of_ble_eq_true rfl, Nat.le_of_ble_eq_true rfl⟩ ?_
        intro q13 s14 rd15 J16 I17 hf o18 mono
        refine hv_dup hX rfl dX0_heldOf_74 ?_
        refine hv_aload_n hX dX0_heldOf_75 rfl 0 rfl ?_
        refine hv_aload_n hX dX0_heldOf_76 rfl 1 rfl ?_
        obtain ⟨o19, hf⟩ := hf
        refine hx_getI (v := (I17 a1 1)) hX dX0_heldOf_77 fl0_413_13 (.inl rfl) o19 rfl ?_
        refine hv_aload_n hX dX0_heldOf_80 rfl 0 rfl ?_
        refine hx_getR (v := 1) hX dX0_heldOf_81 fl0_10_0 (xo_c (by decide) rfl) (xR_c rfl) ?_
        refine hx_getR (v := 8) hX dX0_heldOf_84 fl0_224_1 (xo_c (by decide) rfl) (xR_c rfl) ?_
        refine hv_aload_n hX dX0_heldOf_87 rfl 1 rfl ?_
        refine hx_getI (v := (I17 a1 1)) hX dX0_heldOf_88 fl0_413_13 (.inl rfl) o19 rfl ?_
        obtain ⟨g, hf⟩ := hf
        obtain ⟨v20, gv20, hf⟩ := hf
        refine hx_aald (v := v20) (a := 21) hX 5 rfl (by decide) dX0_heldOf_91 (xo_c (by decide) rfl) (xlen_c (by decide) rfl) g gv20 ?_
        obtain ⟨o22, hf⟩ := hf
        refine hx_callVi (ci := 15) (q := (RX15, TX15, 1)) hX dX0_heldOf_92 (ct_X15_greatest v20 s14 rd15 J16 I17 _ hf) (lw_V q1404 q1405 q1406 q129 q1407) rfl (by decide) ⟨rfl, np_X15_greatest⟩ rfl o22 rfl ⟨Nat.le_of_ble_eq_true rfl, Nat.le_of_ble_eq_true rfl⟩ ⟨Nat.le_of_ble_eq_true rfl, Nat.le_of_ble_eq_true rfl⟩ (Nat.le_of_ble_eq_true rfl) ?_
        intro r21 S9 R9 J9 I9 hq
        clear hf
        obtain ⟨rfl, rfl, rfl, rfl, hf⟩ := hq
        refine hx_callIv (ci := 26) (q := (RX26, TX26, 3)) hX dX0_heldOf_95 (ct_X26_init q13 (I17 a1 1) r21 s14 rd15 J16 I17 _ hf) q1409 rfl q1411 q144 q1410 rfl (by decide) np_X26_init rfl o18 rfl ⟨Nat.le_of_ble_eq_true rfl, Nat.le_of_ble_eq_true rfl⟩ ⟨Nat.le_of_ble_eq_true rfl, Nat.le_of_ble_eq_true rfl⟩ (Nat.le_of_ble_eq_true rfl) ?_
        intro  S9 rd23 J9 I24 hq
        clear hf
        obtain ⟨rfl, rfl, hf⟩ := hq
        refine hv_goto (tgt := 102) hX dX0_heldOf_98 (by decide) ?_
        refine hv_widen (z' := 1) (k' := 6) (Nat.le_of_ble_eq_true rfl) (Nat.le_of_ble_eq_true rfl) ?_
        exact hx_oret (v := (some q13)) hX hE (.inl ⟨_, rfl⟩) dX0_heldOf_102 hf
    · replace hf := hf.2 c10
      by_cases c25 : (I a1 0) = 2
      · replace hf := hf.1 c25
        refine hv_tswA (v := 2) (tgt := 103) (off := 99) hX dX0_heldOf_4 c25 ⟨by decide, by decide, by decide⟩ (by decide) ?_
        refine hv_aload_n hX dX0_heldOf_103 rfl 0 rfl ?_
        refine hx_getR (v := 1) hX dX0_heldOf_104 fl0_10_0 (xo_c (by decide) rfl) (xR_c rfl) ?_
        refine hx_getI (v := (I 1 0)) hX dX0_heldOf_107 fl0_107_1 (.inl rfl) (xo_c (by decide) rfl) rfl ?_
        refine hv_if_le (tgt := 144) hX dX0_heldOf_110 (by decide) (fun c26 => ?_) (fun c26 => ?_)
        · replace hf := hf.1 c26
          refine hv_null hX dX0_heldOf_144 ?_
          refine hv_widen (z' := 1) (k' := 6) (Nat.le_of_ble_eq_true rfl) (Nat.le_of_ble_eq_true rfl) ?_
          exact hx_oret (v := none) hX hE (.inl ⟨_, rfl⟩) dX0_heldOf_145 hf
        · replace hf := hf.2 c26
          refine hx_new hX dX0_heldOf_113 nl0_429 hf ⟨Nat.le_of_ble_eq_true rfl, Nat.le_of_ble_eq_true rfl⟩ ?_
          intro q27 s28 rd29 J30 I31 hf o32 mono
          refine hv_dup hX rfl dX0_heldOf_116 ?_
          refine hv_aload_n hX dX0_heldOf_117 rfl 0 rfl ?_
          refine hv_aload_n hX dX0_heldOf_118 rfl 0 rfl ?_
          refine hx_getR (v := 1) hX dX0_heldOf_119 fl0_10_0 (xo_c (by decide) rfl) (xR_c rfl) ?_
          refine hx_getR (v := 10) hX dX0_heldOf_122 fl0_127_1 (xo_c (by decide) rfl) (xR_c rfl) ?_
          refine hx_getI (v := (I31 10 0)) hX dX0_heldOf_125 fl0_153_2 (.inl rfl) (xo_c (by decide) rfl) rfl ?_
          refine hv_aload_n hX dX0_heldOf_128 rfl 0 rfl ?_
          refine hx_getR (v := 1) hX dX0_heldOf_129 fl0_10_0 (xo_c (by decide) rfl) (xR_c rfl) ?_
          refine hx_getR (v := 10) hX dX0_heldOf_132 fl0_127_1 (xo_c (by decide) rfl) (xR_c rfl) ?_
          refine hx_getI (v := (I31 10 2)) hX dX0_heldOf_135 fl0_156_2 (.inl rfl) (xo_c (by decide) rfl) rfl ?_
          refine hx_callIv (ci := 27) (q := (RX27, TX27, 3)) hX dX0_heldOf_138 (ct_X27_init q27 (I31 10 0) (I31 10 2) s28 rd29 J30 I31 _ hf) q1425 rfl q1427 q145 q1426 rfl (by decide) np_X27_init rfl o32 rfl ⟨Nat.le_of_ble_eq_true rfl, Nat.le_of_ble_eq_true rfl⟩ ⟨Nat.le_of_ble_eq_true rfl, Nat.le_of_ble_eq_true rfl⟩ (Nat.le_of_ble_eq_true rfl) ?_
          intro  S9 rd33 J9 I34 hq
          clear hf
          obtain ⟨rfl, rfl, hf⟩ := hq
          refine hv_goto (tgt := 145) hX dX0_heldOf_141 (by decide) ?_
          refine hv_widen (z' := 1) (k' := 6) (Nat.le_of_ble_eq_true rfl) (Nat.le_of_ble_eq_true rfl) ?_
          exact hx_oret (v := (some q27)) hX hE (.inl ⟨_, rfl⟩) dX0_heldOf_145 hf
      · replace hf := hf.2 c25
        by_cases c35 : (I a1 0) = 3
        · replace hf := hf.1 c35
          refine hv_tswA (v := 3) (tgt := 146) (off := 142) hX dX0_heldOf_4 c35 ⟨by decide, by decide, by decide⟩ (by decide) ?_
          refine hv_aload_n hX dX0_heldOf_146 rfl 1 rfl ?_
          refine hx_getO hX dX0_heldOf_147 fl0_432_13 o1 ?_
          refine hv_widen (z' := 1) (k' := 6) (Nat.le_of_ble_eq_true rfl) (Nat.le_of_ble_eq_true rfl) ?_
          exact hx_oret (v := (xR rd a1 2)) hX hE (.inl ⟨_, rfl⟩) dX0_heldOf_150 hf
        · replace hf := hf.2 c35
          refine hv_tswO (tgt := 151) hX dX0_heldOf_4 (by have z0 := lv_neT c2 (a := 0) (by decide); have z1 := lv_neT c10 (a := 1) (by decide); have z2 := lv_neT c25 (a := 2) (by decide); have z3 := lv_neT c35 (a := 3) (by decide); omega) (by decide) ?_
          refine hv_null hX dX0_heldOf_151 ?_
          refine hv_widen (z' := 1) (k' := 6) (Nat.le_of_ble_eq_true rfl) (Nat.le_of_ble_eq_true rfl) ?_
          exact hx_oret (v := none) hX hE (.inl ⟨_, rfl⟩) dX0_heldOf_152 hf
/-! HungryHedge$PatchThing.its()I -/
def x_X21_its_c22 (a0 : Nat) (s : xS) (rd : xRd) (J : mJ) (I : mI) (QX : Nat → Prop) (Q : Int32 → Prop) : Prop :=
  xo s a0 22 ∧ (Q (I a0 0) )
theorem ct_X21_its_c22  (a0 : Nat) (s : xS) (rd : xRd) (J : mJ) (I : mI) (QX : Nat → Prop) (Q : Int32 → Prop) (hf : x_X21_its_c22 a0 s rd J I QX Q) : hh_CtX yX21_its cX21_its 1 (some .int) 0 0 [.ref a0] (hx s rd J I) (xQi (fun r9 S9 R9 J9 I9 => s = S9 ∧ rd = R9 ∧ J = J9 ∧ I = I9 ∧ Q r9)) (xQX (fun c9 S9 R9 J9 I9 => s = S9 ∧ rd = R9 ∧ J = J9 ∧ I = I9 ∧ QX c9)) 0 0 := by
  refine hh_CtX.of (own := RX21) rfl (by decide +kernel) (Nat.le_of_ble_eq_true rfl) ?_
  intro X hX hN hE hT
  show hh_V X 0 [(0, .ref a0)] [] 0 0 (hx s rd J I)
  unfold x_X21_its_c22 at hf
  refine hv_aload_n hX dX21_its_0 rfl 0 rfl ?_
  obtain ⟨o1, hf⟩ := hf
  refine hx_getI (v := (I a0 0)) hX dX21_its_1 fl21_13_22 (.inl rfl) o1 rfl ?_
  exact hv_xret hX hE (fun X hX hE => hx_iret hX hE dX21_its_4 ⟨rfl, rfl, rfl, rfl, hf⟩)
/-! HungryHedge$PatchThing.its()I -/
def x_X21_its_c23 (a0 : Nat) (s : xS) (rd : xRd) (J : mJ) (I : mI) (QX : Nat → Prop) (Q : Int32 → Prop) : Prop :=
  xo s a0 23 ∧ (Q (I a0 0) )
theorem ct_X21_its_c23  (a0 : Nat) (s : xS) (rd : xRd) (J : mJ) (I : mI) (QX : Nat → Prop) (Q : Int32 → Prop) (hf : x_X21_its_c23 a0 s rd J I QX Q) : hh_CtX yX21_its cX21_its 1 (some .int) 0 0 [.ref a0] (hx s rd J I) (xQi (fun r9 S9 R9 J9 I9 => s = S9 ∧ rd = R9 ∧ J = J9 ∧ I = I9 ∧ Q r9)) (xQX (fun c9 S9 R9 J9 I9 => s = S9 ∧ rd = R9 ∧ J = J9 ∧ I = I9 ∧ QX c9)) 0 0 := by
  refine hh_CtX.of (own := RX21) rfl (by decide +kernel) (Nat.le_of_ble_eq_true rfl) ?_
  intro X hX hN hE hT
  show hh_V X 0 [(0, .ref a0)] [] 0 0 (hx s rd J I)
  unfold x_X21_its_c23 at hf
  refine hv_aload_n hX dX21_its_0 rfl 0 rfl ?_
  obtain ⟨o1, hf⟩ := hf
  refine hx_getI (v := (I a0 0)) hX dX21_its_1 fl21_13_23 (.inl rfl) o1 rfl ?_
  exact hv_xret hX hE (fun X hX hE => hx_iret hX hE dX21_its_4 ⟨rfl, rfl, rfl, rfl, hf⟩)
/-! HungryHedge$PatchThing.its()I -/
def x_X21_its_c24 (a0 : Nat) (s : xS) (rd : xRd) (J : mJ) (I : mI) (QX : Nat → Prop) (Q : Int32 → Prop) : Prop :=
  xo s a0 24 ∧ (Q (I a0 0) )
theorem ct_X21_its_c24  (a0 : Nat) (s : xS) (rd : xRd) (J : mJ) (I : mI) (QX : Nat → Prop) (Q : Int32 → Prop) (hf : x_X21_its_c24 a0 s rd J I QX Q) : hh_CtX yX21_its cX21_its 1 (some .int) 0 0 [.ref a0] (hx s rd J I) (xQi (fun r9 S9 R9 J9 I9 => s = S9 ∧ rd = R9 ∧ J = J9 ∧ I = I9 ∧ Q r9)) (xQX (fun c9 S9 R9 J9 I9 => s = S9 ∧ rd = R9 ∧ J = J9 ∧ I = I9 ∧ QX c9)) 0 0 := by
  refine hh_CtX.of (own := RX21) rfl (by decide +kernel) (Nat.le_of_ble_eq_true rfl) ?_
  intro X hX hN hE hT
  show hh_V X 0 [(0, .ref a0)] [] 0 0 (hx s rd J I)
  unfold x_X21_its_c24 at hf
  refine hv_aload_n hX dX21_its_0 rfl 0 rfl ?_
  obtain ⟨o1, hf⟩ := hf
  refine hx_getI (v := (I a0 0)) hX dX21_its_1 fl21_13_24 (.inl rfl) o1 rfl ?_
  exact hv_xret hX hE (fun X hX hE => hx_iret hX hE dX21_its_4 ⟨rfl, rfl, rfl, rfl, hf⟩)
/-! HungryHedge$PatchThing.its()I -/
def x_X21_its_c25 (a0 : Nat) (s : xS) (rd : xRd) (J : mJ) (I : mI) (QX : Nat → Prop) (Q : Int32 → Prop) : Prop :=
  xo s a0 25 ∧ (Q (I a0 0) )
theorem ct_X21_its_c25  (a0 : Nat) (s : xS) (rd : xRd) (J : mJ) (I : mI) (QX : Nat → Prop) (Q : Int32 → Prop) (hf : x_X21_its_c25 a0 s rd J I QX Q) : hh_CtX yX21_its cX21_its 1 (some .int) 0 0 [.ref a0] (hx s rd J I) (xQi (fun r9 S9 R9 J9 I9 => s = S9 ∧ rd = R9 ∧ J = J9 ∧ I = I9 ∧ Q r9)) (xQX (fun c9 S9 R9 J9 I9 => s = S9 ∧ rd = R9 ∧ J = J9 ∧ I = I9 ∧ QX c9)) 0 0 := by
  refine hh_CtX.of (own := RX21) rfl (by decide +kernel) (Nat.le_of_ble_eq_true rfl) ?_
  intro X hX hN hE hT
  show hh_V X 0 [(0, .ref a0)] [] 0 0 (hx s rd J I)
  unfold x_X21_its_c25 at hf
  refine hv_aload_n hX dX21_its_0 rfl 0 rfl ?_
  obtain ⟨o1, hf⟩ := hf
  refine hx_getI (v := (I a0 0)) hX dX21_its_1 fl21_13_25 (.inl rfl) o1 rfl ?_
  exact hv_xret hX hE (fun X hX hE => hx_iret hX hE dX21_its_4 ⟨rfl, rfl, rfl, rfl, hf⟩)
/-! HungryHedge$RiskThing.its()I -/
def x_X26_its (a0 : Nat) (s : xS) (rd : xRd) (J : mJ) (I : mI) (QX : Nat → Prop) (Q : Int32 → Prop) : Prop :=
  xo s a0 26 ∧ (Q (I a0 0) )
theorem ct_X26_its  (a0 : Nat) (s : xS) (rd : xRd) (J : mJ) (I : mI) (QX : Nat → Prop) (Q : Int32 → Prop) (hf : x_X26_its a0 s rd J I QX Q) : hh_CtX yX26_its cX26_its 1 (some .int) 0 0 [.ref a0] (hx s rd J I) (xQi (fun r9 S9 R9 J9 I9 => s = S9 ∧ rd = R9 ∧ J = J9 ∧ I = I9 ∧ Q r9)) (xQX (fun c9 S9 R9 J9 I9 => s = S9 ∧ rd = R9 ∧ J = J9 ∧ I = I9 ∧ QX c9)) 0 0 := by
  refine hh_CtX.of (own := RX26) rfl (by decide +kernel) (Nat.le_of_ble_eq_true rfl) ?_
  intro X hX hN hE hT
  show hh_V X 0 [(0, .ref a0)] [] 0 0 (hx s rd J I)
  unfold x_X26_its at hf
  refine hv_aload_n hX dX26_its_0 rfl 0 rfl ?_
  obtain ⟨o1, hf⟩ := hf
  refine hx_getI (v := (I a0 0)) hX dX26_its_1 fl26_13_26 (.inl rfl) o1 rfl ?_
  exact hv_xret hX hE (fun X hX hE => hx_iret hX hE dX26_its_4 ⟨rfl, rfl, rfl, rfl, hf⟩)
/-! HungryHedge$BirdThing.its()I -/
def x_X27_its (a0 : Nat) (s : xS) (rd : xRd) (J : mJ) (I : mI) (QX : Nat → Prop) (Q : Int32 → Prop) : Prop :=
  xo s a0 27 ∧ (Q (I a0 0) )
theorem ct_X27_its  (a0 : Nat) (s : xS) (rd : xRd) (J : mJ) (I : mI) (QX : Nat → Prop) (Q : Int32 → Prop) (hf : x_X27_its a0 s rd J I QX Q) : hh_CtX yX27_its cX27_its 1 (some .int) 0 0 [.ref a0] (hx s rd J I) (xQi (fun r9 S9 R9 J9 I9 => s = S9 ∧ rd = R9 ∧ J = J9 ∧ I = I9 ∧ Q r9)) (xQX (fun c9 S9 R9 J9 I9 => s = S9 ∧ rd = R9 ∧ J = J9 ∧ I = I9 ∧ QX c9)) 0 0 := by
  refine hh_CtX.of (own := RX27) rfl (by decide +kernel) (Nat.le_of_ble_eq_true rfl) ?_
  intro X hX hN hE hT
  show hh_V X 0 [(0, .ref a0)] [] 0 0 (hx s rd J I)
  unfold x_X27_its at hf
  refine hv_aload_n hX dX27_its_0 rfl 0 rfl ?_
  obtain ⟨o1, hf⟩ := hf
  refine hx_getI (v := (I a0 0)) hX dX27_its_1 fl27_13_27 (.inl rfl) o1 rfl ?_
  exact hv_xret hX hE (fun X hX hE => hx_iret hX hE dX27_its_4 ⟨rfl, rfl, rfl, rfl, hf⟩)
/-! HungryHedge.castTo(Ljava/lang/Object;I)I -/
def x_X0_castTo (a0 : Nat) (a1 : Int32) (s : xS) (rd : xRd) (J : mJ) (I : mI) (QX : Nat → Prop) (Q : Int32 → Prop) : Prop :=
  (a1 = 0 →
    (xo s a0 100 ∧ (QX 3 )) ∨ (xo s a0 101 ∧ (QX 3 )) ∨ (xo s a0 102 ∧ (QX 3 )) ∨ (xo s a0 110 ∧ (QX 3 )) ∨ (xo s a0 22 ∧ (x_X21_its_c22 a0 s rd J I (fun c4  => QX c4 ) (fun r3  => Q r3 ))) ∨ (xo s a0 23 ∧ (x_X21_its_c23 a0 s rd J I (fun c6  => QX c6 ) (fun r5  => Q r5 ))) ∨ (xo s a0 24 ∧ (x_X21_its_c24 a0 s rd J I (fun c8  => QX c8 ) (fun r7  => Q r7 ))) ∨ (xo s a0 25 ∧ (x_X21_its_c25 a0 s rd J I (fun c10  => QX c10 ) (fun r9  => Q r9 ))) ∨ (xo s a0 26 ∧ (QX 3 )) ∨ (xo s a0 27 ∧ (QX 3 ))) ∧ (¬ a1 = 0 →
    (a1 = 1 →
    (xo s a0 100 ∧ (QX 3 )) ∨ (xo s a0 101 ∧ (QX 3 )) ∨ (xo s a0 102 ∧ (QX 3 )) ∨ (xo s a0 110 ∧ (QX 3 )) ∨ (xo s a0 22 ∧ (x_X21_its_c22 a0 s rd J I (fun c14  => QX c14 ) (fun r13  => Q r13 ))) ∨ (xo s a0 23 ∧ (x_X21_its_c23 a0 s rd J I (fun c16  => QX c16 ) (fun r15  => Q r15 ))) ∨ (xo s a0 24 ∧ (x_X21_its_c24 a0 s rd J I (fun c18  => QX c18 ) (fun r17  => Q r17 ))) ∨ (xo s a0 25 ∧ (QX 3 )) ∨ (xo s a0 26 ∧ (QX 3 )) ∨ (xo s a0 27 ∧ (QX 3 ))) ∧ (¬ a1 = 1 →
    (a1 = 2 →
    (xo s a0 100 ∧ (QX 3 )) ∨ (xo s a0 101 ∧ (QX 3 )) ∨ (xo s a0 102 ∧ (QX 3 )) ∨ (xo s a0 110 ∧ (QX 3 )) ∨ (xo s a0 22 ∧ (QX 3 )) ∨ (xo s a0 23 ∧ (x_X21_its_c23 a0 s rd J I (fun c22  => QX c22 ) (fun r21  => Q r21 ))) ∨ (xo s a0 24 ∧ (x_X21_its_c24 a0 s rd J I (fun c24  => QX c24 ) (fun r23  => Q r23 ))) ∨ (xo s a0 25 ∧ (QX 3 )) ∨ (xo s a0 26 ∧ (QX 3 )) ∨ (xo s a0 27 ∧ (QX 3 ))) ∧ (¬ a1 = 2 →
    (a1 = 3 →
    (xo s a0 100 ∧ (QX 3 )) ∨ (xo s a0 101 ∧ (QX 3 )) ∨ (xo s a0 102 ∧ (QX 3 )) ∨ (xo s a0 110 ∧ (QX 3 )) ∨ (xo s a0 22 ∧ (QX 3 )) ∨ (xo s a0 23 ∧ (QX 3 )) ∨ (xo s a0 24 ∧ (x_X21_its_c24 a0 s rd J I (fun c28  => QX c28 ) (fun r27  => Q r27 ))) ∨ (xo s a0 25 ∧ (QX 3 )) ∨ (xo s a0 26 ∧ (QX 3 )) ∨ (xo s a0 27 ∧ (QX 3 ))) ∧ (¬ a1 = 3 →
    (a1 = 4 →
    (xo s a0 100 ∧ (QX 3 )) ∨ (xo s a0 101 ∧ (QX 3 )) ∨ (xo s a0 102 ∧ (QX 3 )) ∨ (xo s a0 110 ∧ (QX 3 )) ∨ (xo s a0 22 ∧ (QX 3 )) ∨ (xo s a0 23 ∧ (QX 3 )) ∨ (xo s a0 24 ∧ (QX 3 )) ∨ (xo s a0 25 ∧ (x_X21_its_c25 a0 s rd J I (fun c32  => QX c32 ) (fun r31  => Q r31 ))) ∨ (xo s a0 26 ∧ (QX 3 )) ∨ (xo s a0 27 ∧ (QX 3 ))) ∧ (¬ a1 = 4 →
    (a1 = 5 →
    (xo s a0 100 ∧ (QX 3 )) ∨ (xo s a0 101 ∧ (QX 3 )) ∨ (xo s a0 102 ∧ (QX 3 )) ∨ (xo s a0 110 ∧ (QX 3 )) ∨ (xo s a0 22 ∧ (QX 3 )) ∨ (xo s a0 23 ∧ (QX 3 )) ∨ (xo s a0 24 ∧ (QX 3 )) ∨ (xo s a0 25 ∧ (QX 3 )) ∨ (xo s a0 26 ∧ (x_X26_its a0 s rd J I (fun c36 => QX c36 ) (fun r35 => Q r35 ))) ∨ (xo s a0 27 ∧ (QX 3 ))) ∧ (¬ a1 = 5 →
    (a1 = 6 →
    (xo s a0 100 ∧ (QX 3 )) ∨ (xo s a0 101 ∧ (QX 3 )) ∨ (xo s a0 102 ∧ (QX 3 )) ∨ (xo s a0 110 ∧ (QX 3 )) ∨ (xo s a0 22 ∧ (QX 3 )) ∨ (xo s a0 23 ∧ (QX 3 )) ∨ (xo s a0 24 ∧ (QX 3 )) ∨ (xo s a0 25 ∧ (QX 3 )) ∨ (xo s a0 26 ∧ (QX 3 )) ∨ (xo s a0 27 ∧ (x_X27_its a0 s rd J I (fun c40 => QX c40 ) (fun r39 => Q r39 )))) ∧ (¬ a1 = 6 →
    x_X0_rowAs a0 a1 s rd J I (fun c42 => QX c42 ) (fun r41 => Q r41 ))))))))
theorem ct_X0_castTo  (a0 : Nat) (a1 : Int32) (s : xS) (rd : xRd) (J : mJ) (I : mI) (QX : Nat → Prop) (Q : Int32 → Prop) (hf : x_X0_castTo a0 a1 s rd J I QX Q) : hh_CtX yX0_castTo cX0_castTo 2 (some .int) 8 10340 [.ref a0, .int a1] (hx s rd J I) (xQi (fun r9 S9 R9 J9 I9 => s = S9 ∧ rd = R9 ∧ J = J9 ∧ I = I9 ∧ Q r9)) (xQX (fun c9 S9 R9 J9 I9 => s = S9 ∧ rd = R9 ∧ J = J9 ∧ I = I9 ∧ QX c9)) 3 910 := by
  refine hh_CtX.of (own := RX0) rfl (by decide +kernel) (Nat.le_of_ble_eq_true rfl) ?_
  intro X hX hN hE hT
  show hh_V X 0 [(0, .ref a0), (1, .int a1)] [] 0 0 (hx s rd J I)
  unfold x_X0_castTo at hf
  refine hv_iload_n hX dX0_castTo_0 rfl 1 rfl ?_
  by_cases c1 : a1 = 0
  · replace hf := hf.1 c1
    refine hv_tswA (v := 0) (tgt := 44) (off := 43) hX dX0_castTo_1 c1 ⟨by decide, by decide, by decide⟩ (by decide) ?_
    refine hv_aload_n hX dX0_castTo_44 rfl 0 rfl ?_
    rcases hf with ⟨o2, hf⟩ | ⟨o2, hf⟩ | ⟨o2, hf⟩ | ⟨o2, hf⟩ | ⟨o2, hf⟩ | ⟨o2, hf⟩ | ⟨o2, hf⟩ | ⟨o2, hf⟩ | ⟨o2, hf⟩ | ⟨o2, hf⟩
    · skip
      refine hx_castZ hX q1442 o2 isC_100 (by decide) (by decide) (by decide) dX0_castTo_45 ⟨Nat.le_of_ble_eq_true rfl, Nat.le_of_ble_eq_true rfl⟩ ⟨Nat.le_of_ble_eq_true rfl, Nat.le_of_ble_eq_true rfl⟩ ?_
      exact hx_out (c := 3) hX hE hT ⟨Nat.le_of_ble_eq_true rfl, Nat.le_of_ble_eq_true rfl⟩ ⟨rfl, rfl, rfl, rfl, hf⟩
    · skip
      refine hx_castZ hX q1442 o2 isC_101 (by decide) (by decide) (by decide) dX0_castTo_45 ⟨Nat.le_of_ble_eq_true rfl, Nat.le_of_ble_eq_true rfl⟩ ⟨Nat.le_of_ble_eq_true rfl, Nat.le_of_ble_eq_true rfl⟩ ?_
      exact hx_out (c := 3) hX hE hT ⟨Nat.le_of_ble_eq_true rfl, Nat.le_of_ble_eq_true rfl⟩ ⟨rfl, rfl, rfl, rfl, hf⟩
    · skip
      refine hx_castZ hX q1442 o2 isC_102 (by decide) (by decide) (by decide) dX0_castTo_45 ⟨Nat.le_of_ble_eq_true rfl, Nat.le_of_ble_eq_true rfl⟩ ⟨Nat.le_of_ble_eq_true rfl, Nat.le_of_ble_eq_true rfl⟩ ?_
      exact hx_out (c := 3) hX hE hT ⟨Nat.le_of_ble_eq_true rfl, Nat.le_of_ble_eq_true rfl⟩ ⟨rfl, rfl, rfl, rfl, hf⟩
    · skip
      refine hx_castZ hX q1442 o2 isC_110 (by decide) (by decide) (by decide) dX0_castTo_45 ⟨Nat.le_of_ble_eq_true rfl, Nat.le_of_ble_eq_true rfl⟩ ⟨Nat.le_of_ble_eq_true rfl, Nat.le_of_ble_eq_true rfl⟩ ?_
      exact hx_out (c := 3) hX hE hT ⟨Nat.le_of_ble_eq_true rfl, Nat.le_of_ble_eq_true rfl⟩ ⟨rfl, rfl, rfl, rfl, hf⟩
    · skip
      refine hx_cast hX q1442 o2 isC_22 (.inr (hh_nwm q2401 rfl)) dX0_castTo_45 ?_
      refine hx_callZXi hX dX0_castTo_48 (ct_X21_its_c22 a0 s rd J I _ _ hf) q1450 q139 rfl (tw_virt (y := yX21_its) (x := ({ cls := "HungryHedge$PatchThing", name := "its", desc := "()I" } : Jvm.MethodName)) (O := "HungryHedge$PatchThing") hX dX0_castTo_48 q1443 q1445 q1444 q1450 (by decide) q1446 q1444 np_X21_its.2.2 rfl (ci := 22) (q := (RX22, TX22, 4)) rfl (by decide) o2.1 o2.2 rfl) ⟨Nat.le_of_ble_eq_true rfl, Nat.le_of_ble_eq_true rfl⟩ ⟨Nat.le_of_ble_eq_true rfl, Nat.le_of_ble_eq_true rfl⟩ (Nat.le_of_ble_eq_true rfl) ?_ ?_
      · intro c4 S9 R9 J9 I9 hq
        clear hf
        obtain ⟨rfl, rfl, rfl, rfl, hf⟩ := hq
        exact hx_out (c := c4) hX hE hT ⟨Nat.le_of_ble_eq_true rfl, Nat.le_of_ble_eq_true rfl⟩ ⟨rfl, rfl, rfl, rfl, hf⟩
      intro r3 S9 R9 J9 I9 hq
      clear hf
      obtain ⟨rfl, rfl, rfl, rfl, hf⟩ := hq
      refine hv_widen (z' := 3) (k' := 910) (Nat.le_of_ble_eq_true rfl) (Nat.le_of_ble_eq_true rfl) ?_
      exact hv_xret hX hE (fun X hX hE => hx_iret hX hE dX0_castTo_51 ⟨rfl, rfl, rfl, rfl, hf⟩)
    · skip
      refine hx_cast hX q1442 o2 isC_23 (.inr (hh_nwm q2403 rfl)) dX0_castTo_45 ?_
      refine hx_callZXi hX dX0_castTo_48 (ct_X21_its_c23 a0 s rd J I _ _ hf) q1450 q139 rfl (tw_virt (y := yX21_its) (x := ({ cls := "HungryHedge$PatchThing", name := "its", desc := "()I" } : Jvm.MethodName)) (O := "HungryHedge$PatchThing") hX dX0_castTo_48 q1443 q1445 q1444 q1450 (by decide) q1448 q1444 np_X21_its.2.2 rfl (ci := 23) (q := (RX23, TX23, 5)) rfl (by decide) o2.1 o2.2 rfl) ⟨Nat.le_of_ble_eq_true rfl, Nat.le_of_ble_eq_true rfl⟩ ⟨Nat.le_of_ble_eq_true rfl, Nat.le_of_ble_eq_true rfl⟩ (Nat.le_of_ble_eq_true rfl) ?_ ?_
      · intro c6 S9 R9 J9 I9 hq
        clear hf
        obtain ⟨rfl, rfl, rfl, rfl, hf⟩ := hq
        exact hx_out (c := c6) hX hE hT ⟨Nat.le_of_ble_eq_true rfl, Nat.le_of_ble_eq_true rfl⟩ ⟨rfl, rfl, rfl, rfl, hf⟩
      intro r5 S9 R9 J9 I9 hq
      clear hf
      obtain ⟨rfl, rfl, rfl, rfl, hf⟩ := hq
      refine hv_widen (z' := 3) (k' := 910) (Nat.le_of_ble_eq_true rfl) (Nat.le_of_ble_eq_true rfl) ?_
      exact hv_xret hX hE (fun X hX hE => hx_iret hX hE dX0_castTo_51 ⟨rfl, rfl, rfl, rfl, hf⟩)
    · skip
      refine hx_cast hX q1442 o2 isC_24 (.inr (hh_nwm q2402 rfl)) dX0_castTo_45 ?_
      refine hx_callZXi hX dX0_castTo_48 (ct_X21_its_c24 a0 s rd J I _ _ hf) q1450 q139 rfl (tw_virt (y := yX21_its) (x := ({ cls := "HungryHedge$PatchThing", name := "its", desc := "()I" } : Jvm.MethodName)) (O := "HungryHedge$PatchThing") hX dX0_castTo_48 q1443 q1445 q1444 q1450 (by decide) q1447 q1444 np_X21_its.2.2 rfl (ci := 24) (q := (RX24, TX24, 6)) rfl (by decide) o2.1 o2.2 rfl) ⟨Nat.le_of_ble_eq_true rfl, Nat.le_of_ble_eq_true rfl⟩ ⟨Nat.le_of_ble_eq_true rfl, Nat.le_of_ble_eq_true rfl⟩ (Nat.le_of_ble_eq_true rfl) ?_ ?_
      · intro c8 S9 R9 J9 I9 hq
        clear hf
        obtain ⟨rfl, rfl, rfl, rfl, hf⟩ := hq
        exact hx_out (c := c8) hX hE hT ⟨Nat.le_of_ble_eq_true rfl, Nat.le_of_ble_eq_true rfl⟩ ⟨rfl, rfl, rfl, rfl, hf⟩
      intro r7 S9 R9 J9 I9 hq
      clear hf
      obtain ⟨rfl, rfl, rfl, rfl, hf⟩ := hq
      refine hv_widen (z' := 3) (k' := 910) (Nat.le_of_ble_eq_true rfl) (Nat.le_of_ble_eq_true rfl) ?_
      exact hv_xret hX hE (fun X hX hE => hx_iret hX hE dX0_castTo_51 ⟨rfl, rfl, rfl, rfl, hf⟩)
    · skip
      refine hx_cast hX q1442 o2 isC_25 (.inr (hh_nwm q2404 rfl)) dX0_castTo_45 ?_
      refine hx_callZXi hX dX0_castTo_48 (ct_X21_its_c25 a0 s rd J I _ _ hf) q1450 q139 rfl (tw_virt (y := yX21_its) (x := ({ cls := "HungryHedge$PatchThing", name := "its", desc := "()I" } : Jvm.MethodName)) (O := "HungryHedge$PatchThing") hX dX0_castTo_48 q1443 q1445 q1444 q1450 (by decide) q1449 q1444 np_X21_its.2.2 rfl (ci := 25) (q := (RX25, TX25, 4)) rfl (by decide) o2.1 o2.2 rfl) ⟨Nat.le_of_ble_eq_true rfl, Nat.le_of_ble_eq_true rfl⟩ ⟨Nat.le_of_ble_eq_true rfl, Nat.le_of_ble_eq_true rfl⟩ (Nat.le_of_ble_eq_true rfl) ?_ ?_
      · intro c10 S9 R9 J9 I9 hq
        clear hf
        obtain ⟨rfl, rfl, rfl, rfl, hf⟩ := hq
        exact hx_out (c := c10) hX hE hT ⟨Nat.le_of_ble_eq_true rfl, Nat.le_of_ble_eq_true rfl⟩ ⟨rfl, rfl, rfl, rfl, hf⟩
      intro r9 S9 R9 J9 I9 hq
      clear hf
      obtain ⟨rfl, rfl, rfl, rfl, hf⟩ := hq
      refine hv_widen (z' := 3) (k' := 910) (Nat.le_of_ble_eq_true rfl) (Nat.le_of_ble_eq_true rfl) ?_
      exact hv_xret hX hE (fun X hX hE => hx_iret hX hE dX0_castTo_51 ⟨rfl, rfl, rfl, rfl, hf⟩)
    · skip
      refine hx_castZ hX q1442 o2 isC_26 (by decide) (by decide) (by decide) dX0_castTo_45 ⟨Nat.le_of_ble_eq_true rfl, Nat.le_of_ble_eq_true rfl⟩ ⟨Nat.le_of_ble_eq_true rfl, Nat.le_of_ble_eq_true rfl⟩ ?_
      exact hx_out (c := 3) hX hE hT ⟨Nat.le_of_ble_eq_true rfl, Nat.le_of_ble_eq_true rfl⟩ ⟨rfl, rfl, rfl, rfl, hf⟩
    · skip
      refine hx_castZ hX q1442 o2 isC_27 (by decide) (by decide) (by decide) dX0_castTo_45 ⟨Nat.le_of_ble_eq_true rfl, Nat.le_of_ble_eq_true rfl⟩ ⟨Nat.le_of_ble_eq_true rfl, Nat.le_of_ble_eq_true rfl⟩ ?_
      exact hx_out (c := 3) hX hE hT ⟨Nat.le_of_ble_eq_true rfl, Nat.le_of_ble_eq_true rfl⟩ ⟨rfl, rfl, rfl, rfl, hf⟩
  · replace hf := hf.2 c1
    by_cases c11 : a1 = 1
    · replace hf := hf.1 c11
      refine hv_tswA (v := 1) (tgt := 52) (off := 51) hX dX0_castTo_1 c11 ⟨by decide, by decide, by decide⟩ (by decide) ?_
      refine hv_aload_n hX dX0_castTo_52 rfl 0 rfl ?_
      rcases hf with ⟨o12, hf⟩ | ⟨o12, hf⟩ | ⟨o12, hf⟩ | ⟨o12, hf⟩ | ⟨o12, hf⟩ | ⟨o12, hf⟩ | ⟨o12, hf⟩ | ⟨o12, hf⟩ | ⟨o12, hf⟩ | ⟨o12, hf⟩
      · skip
        refine hx_castZ hX q1334 o12 isC_100 (by decide) (by decide) (by decide) dX0_castTo_53 ⟨Nat.le_of_ble_eq_true rfl, Nat.le_of_ble_eq_true rfl⟩ ⟨Nat.le_of_ble_eq_true rfl, Nat.le_of_ble_eq_true rfl⟩ ?_
        exact hx_out (c := 3) hX hE hT ⟨Nat.le_of_ble_eq_true rfl, Nat.le_of_ble_eq_true rfl⟩ ⟨rfl, rfl, rfl, rfl, hf⟩
      · skip
        refine hx_castZ hX q1334 o12 isC_101 (by decide) (by decide) (by decide) dX0_castTo_53 ⟨Nat.le_of_ble_eq_true rfl, Nat.le_of_ble_eq_true rfl⟩ ⟨Nat.le_of_ble_eq_true rfl, Nat.le_of_ble_eq_true rfl⟩ ?_
        exact hx_out (c := 3) hX hE hT ⟨Nat.le_of_ble_eq_true rfl, Nat.le_of_ble_eq_true rfl⟩ ⟨rfl, rfl, rfl, rfl, hf⟩
      · skip
        refine hx_castZ hX q1334 o12 isC_102 (by decide) (by decide) (by decide) dX0_castTo_53 ⟨Nat.le_of_ble_eq_true rfl, Nat.le_of_ble_eq_true rfl⟩ ⟨Nat.le_of_ble_eq_true rfl, Nat.le_of_ble_eq_true rfl⟩ ?_
        exact hx_out (c := 3) hX hE hT ⟨Nat.le_of_ble_eq_true rfl, Nat.le_of_ble_eq_true rfl⟩ ⟨rfl, rfl, rfl, rfl, hf⟩
      · skip
        refine hx_castZ hX q1334 o12 isC_110 (by decide) (by decide) (by decide) dX0_castTo_53 ⟨Nat.le_of_ble_eq_true rfl, Nat.le_of_ble_eq_true rfl⟩ ⟨Nat.le_of_ble_eq_true rfl, Nat.le_of_ble_eq_true rfl⟩ ?_
        exact hx_out (c := 3) hX hE hT ⟨Nat.le_of_ble_eq_true rfl, Nat.le_of_ble_eq_true rfl⟩ ⟨rfl, rfl, rfl, rfl, hf⟩
      · skip
        refine hx_cast hX q1334 o12 isC_22 (.inl rfl) dX0_castTo_53 ?_
        refine hx_callZXi hX dX0_castTo_56 (ct_X21_its_c22 a0 s rd J I _ _ hf) q1450 q139 rfl (tw_virt (y := yX21_its) (x := ({ cls := "HungryHedge$BushThing", name := "its", desc := "()I" } : Jvm.MethodName)) (O := "HungryHedge$PatchThing") hX dX0_castTo_56 q1451 q1452 q1444 q1450 (by decide) q1454 q1444 np_X21_its.2.2 rfl (ci := 22) (q := (RX22, TX22, 4)) rfl (by decide) o12.1 o12.2 rfl) ⟨Nat.le_of_ble_eq_true rfl, Nat.le_of_ble_eq_true rfl⟩ ⟨Nat.le_of_ble_eq_true rfl, Nat.le_of_ble_eq_true rfl⟩ (Nat.le_of_ble_eq_true rfl) ?_ ?_
        · intro c14 S9 R9 J9 I9 hq
          clear hf
          obtain ⟨rfl, rfl, rfl, rfl, hf⟩ := hq
          exact hx_out (c := c14) hX hE hT ⟨Nat.le_of_ble_eq_true rfl, Nat.le_of_ble_eq_true rfl⟩ ⟨rfl, rfl, rfl, rfl, hf⟩
        intro r13 S9 R9 J9 I9 hq
        clear hf
        obtain ⟨rfl, rfl, rfl, rfl, hf⟩ := hq
        refine hv_widen (z' := 3) (k' := 910) (Nat.le_of_ble_eq_true rfl) (Nat.le_of_ble_eq_true rfl) ?_
        exact hv_xret hX hE (fun X hX hE => hx_iret hX hE dX0_castTo_59 ⟨rfl, rfl, rfl, rfl, hf⟩)
      · skip
        refine hx_cast hX q1334 o12 isC_23 (.inr (hh_nwm q2406 rfl)) dX0_castTo_53 ?_
        refine hx_callZXi hX dX0_castTo_56 (ct_X21_its_c23 a0 s rd J I _ _ hf) q1450 q139 rfl (tw_virt (y := yX21_its) (x := ({ cls := "HungryHedge$BushThing", name := "its", desc := "()I" } : Jvm.MethodName)) (O := "HungryHedge$PatchThing") hX dX0_castTo_56 q1451 q1452 q1444 q1450 (by decide) q1456 q1444 np_X21_its.2.2 rfl (ci := 23) (q := (RX23, TX23, 5)) rfl (by decide) o12.1 o12.2 rfl) ⟨Nat.le_of_ble_eq_true rfl, Nat.le_of_ble_eq_true rfl⟩ ⟨Nat.le_of_ble_eq_true rfl, Nat.le_of_ble_eq_true rfl⟩ (Nat.le_of_ble_eq_true rfl) ?_ ?_
        · intro c16 S9 R9 J9 I9 hq
          clear hf
          obtain ⟨rfl, rfl, rfl, rfl, hf⟩ := hq
          exact hx_out (c := c16) hX hE hT ⟨Nat.le_of_ble_eq_true rfl, Nat.le_of_ble_eq_true rfl⟩ ⟨rfl, rfl, rfl, rfl, hf⟩
        intro r15 S9 R9 J9 I9 hq
        clear hf
        obtain ⟨rfl, rfl, rfl, rfl, hf⟩ := hq
        refine hv_widen (z' := 3) (k' := 910) (Nat.le_of_ble_eq_true rfl) (Nat.le_of_ble_eq_true rfl) ?_
        exact hv_xret hX hE (fun X hX hE => hx_iret hX hE dX0_castTo_59 ⟨rfl, rfl, rfl, rfl, hf⟩)
      · skip
        refine hx_cast hX q1334 o12 isC_24 (.inr (hh_nwm q2405 rfl)) dX0_castTo_53 ?_
        refine hx_callZXi hX dX0_castTo_56 (ct_X21_its_c24 a0 s rd J I _ _ hf) q1450 q139 rfl (tw_virt (y := yX21_its) (x := ({ cls := "HungryHedge$BushThing", name := "its", desc := "()I" } : Jvm.MethodName)) (O := "HungryHedge$PatchThing") hX dX0_castTo_56 q1451 q1452 q1444 q1450 (by decide) q1455 q1444 np_X21_its.2.2 rfl (ci := 24) (q := (RX24, TX24, 6)) rfl (by decide) o12.1 o12.2 rfl) ⟨Nat.le_of_ble_eq_true rfl, Nat.le_of_ble_eq_true rfl⟩ ⟨Nat.le_of_ble_eq_true rfl, Nat.le_of_ble_eq_true rfl⟩ (Nat.le_of_ble_eq_true rfl) ?_ ?_
        · intro c18 S9 R9 J9 I9 hq
          clear hf
          obtain ⟨rfl, rfl, rfl, rfl, hf⟩ := hq
          exact hx_out (c := c18) hX hE hT ⟨Nat.le_of_ble_eq_true rfl, Nat.le_of_ble_eq_true rfl⟩ ⟨rfl, rfl, rfl, rfl, hf⟩
        intro r17 S9 R9 J9 I9 hq
        clear hf
        obtain ⟨rfl, rfl, rfl, rfl, hf⟩ := hq
        refine hv_widen (z' := 3) (k' := 910) (Nat.le_of_ble_eq_true rfl) (Nat.le_of_ble_eq_true rfl) ?_
        exact hv_xret hX hE (fun X hX hE => hx_iret hX hE dX0_castTo_59 ⟨rfl, rfl, rfl, rfl, hf⟩)
      · skip
        refine hx_castZ hX q1334 o12 isC_25 (by decide) (by decide) (by decide) dX0_castTo_53 ⟨Nat.le_of_ble_eq_true rfl, Nat.le_of_ble_eq_true rfl⟩ ⟨Nat.le_of_ble_eq_true rfl, Nat.le_of_ble_eq_true rfl⟩ ?_
        exact hx_out (c := 3) hX hE hT ⟨Nat.le_of_ble_eq_true rfl, Nat.le_of_ble_eq_true rfl⟩ ⟨rfl, rfl, rfl, rfl, hf⟩
      · skip
        refine hx_castZ hX q1334 o12 isC_26 (by decide) (by decide) (by decide) dX0_castTo_53 ⟨Nat.le_of_ble_eq_true rfl, Nat.le_of_ble_eq_true rfl⟩ ⟨Nat.le_of_ble_eq_true rfl, Nat.le_of_ble_eq_true rfl⟩ ?_
        exact hx_out (c := 3) hX hE hT ⟨Nat.le_of_ble_eq_true rfl, Nat.le_of_ble_eq_true rfl⟩ ⟨rfl, rfl, rfl, rfl, hf⟩
      · skip
        refine hx_castZ hX q1334 o12 isC_27 (by decide) (by decide) (by decide) dX0_castTo_53 ⟨Nat.le_of_ble_eq_true rfl, Nat.le_of_ble_eq_true rfl⟩ ⟨Nat.le_of_ble_eq_true rfl, Nat.le_of_ble_eq_true rfl⟩ ?_
        exact hx_out (c := 3) hX hE hT ⟨Nat.le_of_ble_eq_true rfl, Nat.le_of_ble_eq_true rfl⟩ ⟨rfl, rfl, rfl, rfl, hf⟩
    · replace hf := hf.2 c11
      by_cases c19 : a1 = 2
      · replace hf := hf.1 c19
        refine hv_tswA (v := 2) (tgt := 60) (off := 59) hX dX0_castTo_1 c19 ⟨by decide, by decide, by decide⟩ (by decide) ?_
        refine hv_aload_n hX dX0_castTo_60 rfl 0 rfl ?_
        rcases hf with ⟨o20, hf⟩ | ⟨o20, hf⟩ | ⟨o20, hf⟩ | ⟨o20, hf⟩ | ⟨o20, hf⟩ | ⟨o20, hf⟩ | ⟨o20, hf⟩ | ⟨o20, hf⟩ | ⟨o20, hf⟩ | ⟨o20, hf⟩
        · skip
          refine hx_castZ hX q1360 o20 isC_100 (by decide) (by decide) (by decide) dX0_castTo_61 ⟨Nat.le_of_ble_eq_true rfl, Nat.le_of_ble_eq_true rfl⟩ ⟨Nat.le_of_ble_eq_true rfl, Nat.le_of_ble_eq_true rfl⟩ ?_
          exact hx_out (c := 3) hX hE hT ⟨Nat.le_of_ble_eq_true rfl, Nat.le_of_ble_eq_true rfl⟩ ⟨rfl, rfl, rfl, rfl, hf⟩
        · skip
          refine hx_castZ hX q1360 o20 isC_101 (by decide) (by decide) (by decide) dX0_castTo_61 ⟨Nat.le_of_ble_eq_true rfl, Nat.le_of_ble_eq_true rfl⟩ ⟨Nat.le_of_ble_eq_true rfl, Nat.le_of_ble_eq_true rfl⟩ ?_
          exact hx_out (c := 3) hX hE hT ⟨Nat.le_of_ble_eq_true rfl, Nat.le_of_ble_eq_true rfl⟩ ⟨rfl, rfl, rfl, rfl, hf⟩
        · skip
          refine hx_castZ hX q1360 o20 isC_102 (by decide) (by decide) (by decide) dX0_castTo_61 ⟨Nat.le_of_ble_eq_true rfl, Nat.le_of_ble_eq_true rfl⟩ ⟨Nat.le_of_ble_eq_true rfl, Nat.le_of_ble_eq_true rfl⟩ ?_
          exact hx_out (c := 3) hX hE hT ⟨Nat.le_of_ble_eq_true rfl, Nat.le_of_ble_eq_true rfl⟩ ⟨rfl, rfl, rfl, rfl, hf⟩
        · skip
          refine hx_castZ hX q1360 o20 isC_110 (by decide) (by decide) (by decide) dX0_castTo_61 ⟨Nat.le_of_ble_eq_true rfl, Nat.le_of_ble_eq_true rfl⟩ ⟨Nat.le_of_ble_eq_true rfl, Nat.le_of_ble_eq_true rfl⟩ ?_
          exact hx_out (c := 3) hX hE hT ⟨Nat.le_of_ble_eq_true rfl, Nat.le_of_ble_eq_true rfl⟩ ⟨rfl, rfl, rfl, rfl, hf⟩
        · skip
          refine hx_castZ hX q1360 o20 isC_22 (by decide) (by decide) (by decide) dX0_castTo_61 ⟨Nat.le_of_ble_eq_true rfl, Nat.le_of_ble_eq_true rfl⟩ ⟨Nat.le_of_ble_eq_true rfl, Nat.le_of_ble_eq_true rfl⟩ ?_
          exact hx_out (c := 3) hX hE hT ⟨Nat.le_of_ble_eq_true rfl, Nat.le_of_ble_eq_true rfl⟩ ⟨rfl, rfl, rfl, rfl, hf⟩
        · skip
          refine hx_cast hX q1360 o20 isC_23 (.inl rfl) dX0_castTo_61 ?_
          refine hx_callZXi hX dX0_castTo_64 (ct_X21_its_c23 a0 s rd J I _ _ hf) q1450 q139 rfl (tw_virt (y := yX21_its) (x := ({ cls := "HungryHedge$FieldThing", name := "its", desc := "()I" } : Jvm.MethodName)) (O := "HungryHedge$PatchThing") hX dX0_castTo_64 q1457 q1458 q1444 q1450 (by decide) q1460 q1444 np_X21_its.2.2 rfl (ci := 23) (q := (RX23, TX23, 5)) rfl (by decide) o20.1 o20.2 rfl) ⟨Nat.le_of_ble_eq_true rfl, Nat.le_of_ble_eq_true rfl⟩ ⟨Nat.le_of_ble_eq_true rfl, Nat.le_of_ble_eq_true rfl⟩ (Nat.le_of_ble_eq_true rfl) ?_ ?_
          · intro c22 S9 R9 J9 I9 hq
            clear hf
            obtain ⟨rfl, rfl, rfl, rfl, hf⟩ := hq
            exact hx_out (c := c22) hX hE hT ⟨Nat.le_of_ble_eq_true rfl, Nat.le_of_ble_eq_true rfl⟩ ⟨rfl, rfl, rfl, rfl, hf⟩
          intro r21 S9 R9 J9 I9 hq
          clear hf
          obtain ⟨rfl, rfl, rfl, rfl, hf⟩ := hq
          refine hv_widen (z' := 3) (k' := 910) (Nat.le_of_ble_eq_true rfl) (Nat.le_of_ble_eq_true rfl) ?_
          exact hv_xret hX hE (fun X hX hE => hx_iret hX hE dX0_castTo_67 ⟨rfl, rfl, rfl, rfl, hf⟩)
        · skip
          refine hx_cast hX q1360 o20 isC_24 (.inr (hh_nwm q2407 rfl)) dX0_castTo_61 ?_
          refine hx_callZXi hX dX0_castTo_64 (ct_X21_its_c24 a0 s rd J I _ _ hf) q1450 q139 rfl (tw_virt (y := yX21_its) (x := ({ cls := "HungryHedge$FieldThing", name := "its", desc := "()I" } : Jvm.MethodName)) (O := "HungryHedge$PatchThing") hX dX0_castTo_64 q1457 q1458 q1444 q1450 (by decide) q1459 q1444 np_X21_its.2.2 rfl (ci := 24) (q := (RX24, TX24, 6)) rfl (by decide) o20.1 o20.2 rfl) ⟨Nat.le_of_ble_eq_true rfl, Nat.le_of_ble_eq_true rfl⟩ ⟨Nat.le_of_ble_eq_true rfl, Nat.le_of_ble_eq_true rfl⟩ (Nat.le_of_ble_eq_true rfl) ?_ ?_
          · intro c24 S9 R9 J9 I9 hq
            clear hf
            obtain ⟨rfl, rfl, rfl, rfl, hf⟩ := hq
            exact hx_out (c := c24) hX hE hT ⟨Nat.le_of_ble_eq_true rfl, Nat.le_of_ble_eq_true rfl⟩ ⟨rfl, rfl, rfl, rfl, hf⟩
          intro r23 S9 R9 J9 I9 hq
          clear hf
          obtain ⟨rfl, rfl, rfl, rfl, hf⟩ := hq
          refine hv_widen (z' := 3) (k' := 910) (Nat.le_of_ble_eq_true rfl) (Nat.le_of_ble_eq_true rfl) ?_
          exact hv_xret hX hE (fun X hX hE => hx_iret hX hE dX0_castTo_67 ⟨rfl, rfl, rfl, rfl, hf⟩)
        · skip
          refine hx_castZ hX q1360 o20 isC_25 (by decide) (by decide) (by decide) dX0_castTo_61 ⟨Nat.le_of_ble_eq_true rfl, Nat.le_of_ble_eq_true rfl⟩ ⟨Nat.le_of_ble_eq_true rfl, Nat.le_of_ble_eq_true rfl⟩ ?_
          exact hx_out (c := 3) hX hE hT ⟨Nat.le_of_ble_eq_true rfl, Nat.le_of_ble_eq_true rfl⟩ ⟨rfl, rfl, rfl, rfl, hf⟩
        · skip
          refine hx_castZ hX q1360 o20 isC_26 (by decide) (by decide) (by decide) dX0_castTo_61 ⟨Nat.le_of_ble_eq_true rfl, Nat.le_of_ble_eq_true rfl⟩ ⟨Nat.le_of_ble_eq_true rfl, Nat.le_of_ble_eq_true rfl⟩ ?_
          exact hx_out (c := 3) hX hE hT ⟨Nat.le_of_ble_eq_true rfl, Nat.le_of_ble_eq_true rfl⟩ ⟨rfl, rfl, rfl, rfl, hf⟩
        · skip
          refine hx_castZ hX q1360 o20 isC_27 (by decide) (by decide) (by decide) dX0_castTo_61 ⟨Nat.le_of_ble_eq_true rfl, Nat.le_of_ble_eq_true rfl⟩ ⟨Nat.le_of_ble_eq_true rfl, Nat.le_of_ble_eq_true rfl⟩ ?_
          exact hx_out (c := 3) hX hE hT ⟨Nat.le_of_ble_eq_true rfl, Nat.le_of_ble_eq_true rfl⟩ ⟨rfl, rfl, rfl, rfl, hf⟩
      · replace hf := hf.2 c19
        by_cases c25 : a1 = 3
        · replace hf := hf.1 c25
          refine hv_tswA (v := 3) (tgt := 68) (off := 67) hX dX0_castTo_1 c25 ⟨by decide, by decide, by decide⟩ (by decide) ?_
          refine hv_aload_n hX dX0_castTo_68 rfl 0 rfl ?_
          rcases hf with ⟨o26, hf⟩ | ⟨o26, hf⟩ | ⟨o26, hf⟩ | ⟨o26, hf⟩ | ⟨o26, hf⟩ | ⟨o26, hf⟩ | ⟨o26, hf⟩ | ⟨o26, hf⟩ | ⟨o26, hf⟩ | ⟨o26, hf⟩
          · skip
            refine hx_castZ hX q1374 o26 isC_100 (by decide) (by decide) (by decide) dX0_castTo_69 ⟨Nat.le_of_ble_eq_true rfl, Nat.le_of_ble_eq_true rfl⟩ ⟨Nat.le_of_ble_eq_true rfl, Nat.le_of_ble_eq_true rfl⟩ ?_
            exact hx_out (c := 3) hX hE hT ⟨Nat.le_of_ble_eq_true rfl, Nat.le_of_ble_eq_true rfl⟩ ⟨rfl, rfl, rfl, rfl, hf⟩
          · skip
            refine hx_castZ hX q1374 o26 isC_101 (by decide) (by decide) (by decide) dX0_castTo_69 ⟨Nat.le_of_ble_eq_true rfl, Nat.le_of_ble_eq_true rfl⟩ ⟨Nat.le_of_ble_eq_true rfl, Nat.le_of_ble_eq_true rfl⟩ ?_
            exact hx_out (c := 3) hX hE hT ⟨Nat.le_of_ble_eq_true rfl, Nat.le_of_ble_eq_true rfl⟩ ⟨rfl, rfl, rfl, rfl, hf⟩
          · skip
            refine hx_castZ hX q1374 o26 isC_102 (by decide) (by decide) (by decide) dX0_castTo_69 ⟨Nat.le_of_ble_eq_true rfl, Nat.le_of_ble_eq_true rfl⟩ ⟨Nat.le_of_ble_eq_true rfl, Nat.le_of_ble_eq_true rfl⟩ ?_
            exact hx_out (c := 3) hX hE hT ⟨Nat.le_of_ble_eq_true rfl, Nat.le_of_ble_eq_true rfl⟩ ⟨rfl, rfl, rfl, rfl, hf⟩
          · skip
            refine hx_castZ hX q1374 o26 isC_110 (by decide) (by decide) (by decide) dX0_castTo_69 ⟨Nat.le_of_ble_eq_true rfl, Nat.le_of_ble_eq_true rfl⟩ ⟨Nat.le_of_ble_eq_true rfl, Nat.le_of_ble_eq_true rfl⟩ ?_
            exact hx_out (c := 3) hX hE hT ⟨Nat.le_of_ble_eq_true rfl, Nat.le_of_ble_eq_true rfl⟩ ⟨rfl, rfl, rfl, rfl, hf⟩
          · skip
            refine hx_castZ hX q1374 o26 isC_22 (by decide) (by decide) (by decide) dX0_castTo_69 ⟨Nat.le_of_ble_eq_true rfl, Nat.le_of_ble_eq_true rfl⟩ ⟨Nat.le_of_ble_eq_true rfl, Nat.le_of_ble_eq_true rfl⟩ ?_
            exact hx_out (c := 3) hX hE hT ⟨Nat.le_of_ble_eq_true rfl, Nat.le_of_ble_eq_true rfl⟩ ⟨rfl, rfl, rfl, rfl, hf⟩
          · skip
            refine hx_castZ hX q1374 o26 isC_23 (by decide) (by decide) (by decide) dX0_castTo_69 ⟨Nat.le_of_ble_eq_true rfl, Nat.le_of_ble_eq_true rfl⟩ ⟨Nat.le_of_ble_eq_true rfl, Nat.le_of_ble_eq_true rfl⟩ ?_
            exact hx_out (c := 3) hX hE hT ⟨Nat.le_of_ble_eq_true rfl, Nat.le_of_ble_eq_true rfl⟩ ⟨rfl, rfl, rfl, rfl, hf⟩
          · skip
            refine hx_cast hX q1374 o26 isC_24 (.inl rfl) dX0_castTo_69 ?_
            refine hx_callZXi hX dX0_castTo_72 (ct_X21_its_c24 a0 s rd J I _ _ hf) q1450 q139 rfl (tw_virt (y := yX21_its) (x := ({ cls := "HungryHedge$FeederThing", name := "its", desc := "()I" } : Jvm.MethodName)) (O := "HungryHedge$PatchThing") hX dX0_castTo_72 q1461 q1462 q1444 q1450 (by decide) q1463 q1444 np_X21_its.2.2 rfl (ci := 24) (q := (RX24, TX24, 6)) rfl (by decide) o26.1 o26.2 rfl) ⟨Nat.le_of_ble_eq_true rfl, Nat.le_of_ble_eq_true rfl⟩ ⟨Nat.le_of_ble_eq_true rfl, Nat.le_of_ble_eq_true rfl⟩ (Nat.le_of_ble_eq_true rfl) ?_ ?_
            · intro c28 S9 R9 J9 I9 hq
              clear hf
              obtain ⟨rfl, rfl, rfl, rfl, hf⟩ := hq
              exact hx_out (c := c28) hX hE hT ⟨Nat.le_of_ble_eq_true rfl, Nat.le_of_ble_eq_true rfl⟩ ⟨rfl, rfl, rfl, rfl, hf⟩
            intro r27 S9 R9 J9 I9 hq
            clear hf
            obtain ⟨rfl, rfl, rfl, rfl, hf⟩ := hq
            refine hv_widen (z' := 3) (k' := 910) (Nat.le_of_ble_eq_true rfl) (Nat.le_of_ble_eq_true rfl) ?_
            exact hv_xret hX hE (fun X hX hE => hx_iret hX hE dX0_castTo_75 ⟨rfl, rfl, rfl, rfl, hf⟩)
          · skip
            refine hx_castZ hX q1374 o26 isC_25 (by decide) (by decide) (by decide) dX0_castTo_69 ⟨Nat.le_of_ble_eq_true rfl, Nat.le_of_ble_eq_true rfl⟩ ⟨Nat.le_of_ble_eq_true rfl, Nat.le_of_ble_eq_true rfl⟩ ?_
            exact hx_out (c := 3) hX hE hT ⟨Nat.le_of_ble_eq_true rfl, Nat.le_of_ble_eq_true rfl⟩ ⟨rfl, rfl, rfl, rfl, hf⟩
          · skip
            refine hx_castZ hX q1374 o26 isC_26 (by decide) (by decide) (by decide) dX0_castTo_69 ⟨Nat.le_of_ble_eq_true rfl, Nat.le_of_ble_eq_true rfl⟩ ⟨Nat.le_of_ble_eq_true rfl, Nat.le_of_ble_eq_true rfl⟩ ?_
            exact hx_out (c := 3) hX hE hT ⟨Nat.le_of_ble_eq_true rfl, Nat.le_of_ble_eq_true rfl⟩ ⟨rfl, rfl, rfl, rfl, hf⟩
          · skip
            refine hx_castZ hX q1374 o26 isC_27 (by decide) (by decide) (by decide) dX0_castTo_69 ⟨Nat.le_of_ble_eq_true rfl, Nat.le_of_ble_eq_true rfl⟩ ⟨Nat.le_of_ble_eq_true rfl, Nat.le_of_ble_eq_true rfl⟩ ?_
            exact hx_out (c := 3) hX hE hT ⟨Nat.le_of_ble_eq_true rfl, Nat.le_of_ble_eq_true rfl⟩ ⟨rfl, rfl, rfl, rfl, hf⟩
        · replace hf := hf.2 c25
          by_cases c29 : a1 = 4
          · replace hf := hf.1 c29
            refine hv_tswA (v := 4) (tgt := 76) (off := 75) hX dX0_castTo_1 c29 ⟨by decide, by decide, by decide⟩ (by decide) ?_
            refine hv_aload_n hX dX0_castTo_76 rfl 0 rfl ?_
            rcases hf with ⟨o30, hf⟩ | ⟨o30, hf⟩ | ⟨o30, hf⟩ | ⟨o30, hf⟩ | ⟨o30, hf⟩ | ⟨o30, hf⟩ | ⟨o30, hf⟩ | ⟨o30, hf⟩ | ⟨o30, hf⟩ | ⟨o30, hf⟩
            · skip
              refine hx_castZ hX q1389 o30 isC_100 (by decide) (by decide) (by decide) dX0_castTo_77 ⟨Nat.le_of_ble_eq_true rfl, Nat.le_of_ble_eq_true rfl⟩ ⟨Nat.le_of_ble_eq_true rfl, Nat.le_of_ble_eq_true rfl⟩ ?_
              exact hx_out (c := 3) hX hE hT ⟨Nat.le_of_ble_eq_true rfl, Nat.le_of_ble_eq_true rfl⟩ ⟨rfl, rfl, rfl, rfl, hf⟩
            · skip
              refine hx_castZ hX q1389 o30 isC_101 (by decide) (by decide) (by decide) dX0_castTo_77 ⟨Nat.le_of_ble_eq_true rfl, Nat.le_of_ble_eq_true rfl⟩ ⟨Nat.le_of_ble_eq_true rfl, Nat.le_of_ble_eq_true rfl⟩ ?_
              exact hx_out (c := 3) hX hE hT ⟨Nat.le_of_ble_eq_true rfl, Nat.le_of_ble_eq_true rfl⟩ ⟨rfl, rfl, rfl, rfl, hf⟩
            · skip
              refine hx_castZ hX q1389 o30 isC_102 (by decide) (by decide) (by decide) dX0_castTo_77 ⟨Nat.le_of_ble_eq_true rfl, Nat.le_of_ble_eq_true rfl⟩ ⟨Nat.le_of_ble_eq_true rfl, Nat.le_of_ble_eq_true rfl⟩ ?_
              exact hx_out (c := 3) hX hE hT ⟨Nat.le_of_ble_eq_true rfl, Nat.le_of_ble_eq_true rfl⟩ ⟨rfl, rfl, rfl, rfl, hf⟩
            · skip
              refine hx_castZ hX q1389 o30 isC_110 (by decide) (by decide) (by decide) dX0_castTo_77 ⟨Nat.le_of_ble_eq_true rfl, Nat.le_of_ble_eq_true rfl⟩ ⟨Nat.le_of_ble_eq_true rfl, Nat.le_of_ble_eq_true rfl⟩ ?_
              exact hx_out (c := 3) hX hE hT ⟨Nat.le_of_ble_eq_true rfl, Nat.le_of_ble_eq_true rfl⟩ ⟨rfl, rfl, rfl, rfl, hf⟩
            · skip
              refine hx_castZ hX q1389 o30 isC_22 (by decide) (by decide) (by decide) dX0_castTo_77 ⟨Nat.le_of_ble_eq_true rfl, Nat.le_of_ble_eq_true rfl⟩ ⟨Nat.le_of_ble_eq_true rfl, Nat.le_of_ble_eq_true rfl⟩ ?_
              exact hx_out (c := 3) hX hE hT ⟨Nat.le_of_ble_eq_true rfl, Nat.le_of_ble_eq_true rfl⟩ ⟨rfl, rfl, rfl, rfl, hf⟩
            · skip
              refine hx_castZ hX q1389 o30 isC_23 (by decide) (by decide) (by decide) dX0_castTo_77 ⟨Nat.le_of_ble_eq_true rfl, Nat.le_of_ble_eq_true rfl⟩ ⟨Nat.le_of_ble_eq_true rfl, Nat.le_of_ble_eq_true rfl⟩ ?_
              exact hx_out (c := 3) hX hE hT ⟨Nat.le_of_ble_eq_true rfl, Nat.le_of_ble_eq_true rfl⟩ ⟨rfl, rfl, rfl, rfl, hf⟩
            · skip
              refine hx_castZ hX q1389 o30 isC_24 (by decide) (by decide) (by decide) dX0_castTo_77 ⟨Nat.le_of_ble_eq_true rfl, Nat.le_of_ble_eq_true rfl⟩ ⟨Nat.le_of_ble_eq_true rfl, Nat.le_of_ble_eq_true rfl⟩ ?_
              exact hx_out (c := 3) hX hE hT ⟨Nat.le_of_ble_eq_true rfl, Nat.le_of_ble_eq_true rfl⟩ ⟨rfl, rfl, rfl, rfl, hf⟩
            · skip
              refine hx_cast hX q1389 o30 isC_25 (.inl rfl) dX0_castTo_77 ?_
              refine hx_callZXi hX dX0_castTo_80 (ct_X21_its_c25 a0 s rd J I _ _ hf) q1450 q139 rfl (tw_virt (y := yX21_its) (x := ({ cls := "HungryHedge$NestThing", name := "its", desc := "()I" } : Jvm.MethodName)) (O := "HungryHedge$PatchThing") hX dX0_castTo_80 q1464 q1465 q1444 q1450 (by decide) q1466 q1444 np_X21_its.2.2 rfl (ci := 25) (q := (RX25, TX25, 4)) rfl (by decide) o30.1 o30.2 rfl) ⟨Nat.le_of_ble_eq_true rfl, Nat.le_of_ble_eq_true rfl⟩ ⟨Nat.le_of_ble_eq_true rfl, Nat.le_of_ble_eq_true rfl⟩ (Nat.le_of_ble_eq_true rfl) ?_ ?_
              · intro c32 S9 R9 J9 I9 hq
                clear hf
                obtain ⟨rfl, rfl, rfl, rfl, hf⟩ := hq
                exact hx_out (c := c32) hX hE hT ⟨Nat.le_of_ble_eq_true rfl, Nat.le_of_ble_eq_true rfl⟩ ⟨rfl, rfl, rfl, rfl, hf⟩
              intro r31 S9 R9 J9 I9 hq
              clear hf
              obtain ⟨rfl, rfl, rfl, rfl, hf⟩ := hq
              refine hv_widen (z' := 3) (k' := 910) (Nat.le_of_ble_eq_true rfl) (Nat.le_of_ble_eq_true rfl) ?_
              exact hv_xret hX hE (fun X hX hE => hx_iret hX hE dX0_castTo_83 ⟨rfl, rfl, rfl, rfl, hf⟩)
            · skip
              refine hx_castZ hX q1389 o30 isC_26 (by decide) (by decide) (by decide) dX0_castTo_77 ⟨Nat.le_of_ble_eq_true rfl, Nat.le_of_ble_eq_true rfl⟩ ⟨Nat.le_of_ble_eq_true rfl, Nat.le_of_ble_eq_true rfl⟩ ?_
              exact hx_out (c := 3) hX hE hT ⟨Nat.le_of_ble_eq_true rfl, Nat.le_of_ble_eq_true rfl⟩ ⟨rfl, rfl, rfl, rfl, hf⟩
            · skip
              refine hx_castZ hX q1389 o30 isC_27 (by decide) (by decide) (by decide) dX0_castTo_77 ⟨Nat.le_of_ble_eq_true rfl, Nat.le_of_ble_eq_true rfl⟩ ⟨Nat.le_of_ble_eq_true rfl, Nat.le_of_ble_eq_true rfl⟩ ?_
              exact hx_out (c := 3) hX hE hT ⟨Nat.le_of_ble_eq_true rfl, Nat.le_of_ble_eq_true rfl⟩ ⟨rfl, rfl, rfl, rfl, hf⟩
          · replace hf := hf.2 c29
            by_cases c33 : a1 = 5
            · replace hf := hf.1 c33
              refine hv_tswA (v := 5) (tgt := 84) (off := 83) hX dX0_castTo_1 c33 ⟨by decide, by decide, by decide⟩ (by decide) ?_
              refine hv_aload_n hX dX0_castTo_84 rfl 0 rfl ?_
              rcases hf with ⟨o34, hf⟩ | ⟨o34, hf⟩ | ⟨o34, hf⟩ | ⟨o34, hf⟩ | ⟨o34, hf⟩ | ⟨o34, hf⟩ | ⟨o34, hf⟩ | ⟨o34, hf⟩ | ⟨o34, hf⟩ | ⟨o34, hf⟩
              · skip
                refine hx_castZ hX q1402 o34 isC_100 (by decide) (by decide) (by decide) dX0_castTo_85 ⟨Nat.le_of_ble_eq_true rfl, Nat.le_of_ble_eq_true rfl⟩ ⟨Nat.le_of_ble_eq_true rfl, Nat.le_of_ble_eq_true rfl⟩ ?_
                exact hx_out (c := 3) hX hE hT ⟨Nat.le_of_ble_eq_true rfl, Nat.le_of_ble_eq_true rfl⟩ ⟨rfl, rfl, rfl, rfl, hf⟩
              · skip
                refine hx_castZ hX q1402 o34 isC_101 (by decide) (by decide) (by decide) dX0_castTo_85 ⟨Nat.le_of_ble_eq_true rfl, Nat.le_of_ble_eq_true rfl⟩ ⟨Nat.le_of_ble_eq_true rfl, Nat.le_of_ble_eq_true rfl⟩ ?_
                exact hx_out (c := 3) hX hE hT ⟨Nat.le_of_ble_eq_true rfl, Nat.le_of_ble_eq_true rfl⟩ ⟨rfl, rfl, rfl, rfl, hf⟩
              · skip
                refine hx_castZ hX q1402 o34 isC_102 (by decide) (by decide) (by decide) dX0_castTo_85 ⟨Nat.le_of_ble_eq_true rfl, Nat.le_of_ble_eq_true rfl⟩ ⟨Nat.le_of_ble_eq_true rfl, Nat.le_of_ble_eq_true rfl⟩ ?_
                exact hx_out (c := 3) hX hE hT ⟨Nat.le_of_ble_eq_true rfl, Nat.le_of_ble_eq_true rfl⟩ ⟨rfl, rfl, rfl, rfl, hf⟩
              · skip
                refine hx_castZ hX q1402 o34 isC_110 (by decide) (by decide) (by decide) dX0_castTo_85 ⟨Nat.le_of_ble_eq_true rfl, Nat.le_of_ble_eq_true rfl⟩ ⟨Nat.le_of_ble_eq_true rfl, Nat.le_of_ble_eq_true rfl⟩ ?_
                exact hx_out (c := 3) hX hE hT ⟨Nat.le_of_ble_eq_true rfl, Nat.le_of_ble_eq_true rfl⟩ ⟨rfl, rfl, rfl, rfl, hf⟩
              · skip
                refine hx_castZ hX q1402 o34 isC_22 (by decide) (by decide) (by decide) dX0_castTo_85 ⟨Nat.le_of_ble_eq_true rfl, Nat.le_of_ble_eq_true rfl⟩ ⟨Nat.le_of_ble_eq_true rfl, Nat.le_of_ble_eq_true rfl⟩ ?_
                exact hx_out (c := 3) hX hE hT ⟨Nat.le_of_ble_eq_true rfl, Nat.le_of_ble_eq_true rfl⟩ ⟨rfl, rfl, rfl, rfl, hf⟩
              · skip
                refine hx_castZ hX q1402 o34 isC_23 (by decide) (by decide) (by decide) dX0_castTo_85 ⟨Nat.le_of_ble_eq_true rfl, Nat.le_of_ble_eq_true rfl⟩ ⟨Nat.le_of_ble_eq_true rfl, Nat.le_of_ble_eq_true rfl⟩ ?_
                exact hx_out (c := 3) hX hE hT ⟨Nat.le_of_ble_eq_true rfl, Nat.le_of_ble_eq_true rfl⟩ ⟨rfl, rfl, rfl, rfl, hf⟩
              · skip
                refine hx_castZ hX q1402 o34 isC_24 (by decide) (by decide) (by decide) dX0_castTo_85 ⟨Nat.le_of_ble_eq_true rfl, Nat.le_of_ble_eq_true rfl⟩ ⟨Nat.le_of_ble_eq_true rfl, Nat.le_of_ble_eq_true rfl⟩ ?_
                exact hx_out (c := 3) hX hE hT ⟨Nat.le_of_ble_eq_true rfl, Nat.le_of_ble_eq_true rfl⟩ ⟨rfl, rfl, rfl, rfl, hf⟩
              · skip
                refine hx_castZ hX q1402 o34 isC_25 (by decide) (by decide) (by decide) dX0_castTo_85 ⟨Nat.le_of_ble_eq_true rfl, Nat.le_of_ble_eq_true rfl⟩ ⟨Nat.le_of_ble_eq_true rfl, Nat.le_of_ble_eq_true rfl⟩ ?_
                exact hx_out (c := 3) hX hE hT ⟨Nat.le_of_ble_eq_true rfl, Nat.le_of_ble_eq_true rfl⟩ ⟨rfl, rfl, rfl, rfl, hf⟩
              · skip
                refine hx_cast hX q1402 o34 isC_26 (.inl rfl) dX0_castTo_85 ?_
                refine hx_callVXi (ci := 26) (q := (RX26, TX26, 3)) hX dX0_castTo_88 (ct_X26_its a0 s rd J I _ _ hf) (lw_V q1467 q1468 q1469 q144 q1470) rfl (by decide) ⟨rfl, np_X26_its⟩ rfl o34 rfl ⟨Nat.le_of_ble_eq_true rfl, Nat.le_of_ble_eq_true rfl⟩ ⟨Nat.le_of_ble_eq_true rfl, Nat.le_of_ble_eq_true rfl⟩ (Nat.le_of_ble_eq_true rfl) ?_ ?_
                · intro c36 S9 R9 J9 I9 hq
                  clear hf
                  obtain ⟨rfl, rfl, rfl, rfl, hf⟩ := hq
                  exact hx_out (c := c36) hX hE hT ⟨Nat.le_of_ble_eq_true rfl, Nat.le_of_ble_eq_true rfl⟩ ⟨rfl, rfl, rfl, rfl, hf⟩
                intro r35 S9 R9 J9 I9 hq
                clear hf
                obtain ⟨rfl, rfl, rfl, rfl, hf⟩ := hq
                refine hv_widen (z' := 3) (k' := 910) (Nat.le_of_ble_eq_true rfl) (Nat.le_of_ble_eq_true rfl) ?_
                exact hv_xret hX hE (fun X hX hE => hx_iret hX hE dX0_castTo_91 ⟨rfl, rfl, rfl, rfl, hf⟩)
              · skip
                refine hx_castZ hX q1402 o34 isC_27 (by decide) (by decide) (by decide) dX0_castTo_85 ⟨Nat.le_of_ble_eq_true rfl, Nat.le_of_ble_eq_true rfl⟩ ⟨Nat.le_of_ble_eq_true rfl, Nat.le_of_ble_eq_true rfl⟩ ?_
                exact hx_out (c := 3) hX hE hT ⟨Nat.le_of_ble_eq_true rfl, Nat.le_of_ble_eq_true rfl⟩ ⟨rfl, rfl, rfl, rfl, hf⟩
            · replace hf := hf.2 c33
              by_cases c37 : a1 = 6
              · replace hf := hf.1 c37
                refine hv_tswA (v := 6) (tgt := 92) (off := 91) hX dX0_castTo_1 c37 ⟨by decide, by decide, by decide⟩ (by decide) ?_
                refine hv_aload_n hX dX0_castTo_92 rfl 0 rfl ?_
                rcases hf with ⟨o38, hf⟩ | ⟨o38, hf⟩ | ⟨o38, hf⟩ | ⟨o38, hf⟩ | ⟨o38, hf⟩ | ⟨o38, hf⟩ | ⟨o38, hf⟩ | ⟨o38, hf⟩ | ⟨o38, hf⟩ | ⟨o38, hf⟩
                · skip
                  refine hx_castZ hX q1423 o38 isC_100 (by decide) (by decide) (by decide) dX0_castTo_93 ⟨Nat.le_of_ble_eq_true rfl, Nat.le_of_ble_eq_true rfl⟩ ⟨Nat.le_of_ble_eq_true rfl, Nat.le_of_ble_eq_true rfl⟩ ?_
                  exact hx_out (c := 3) hX hE hT ⟨Nat.le_of_ble_eq_true rfl, Nat.le_of_ble_eq_true rfl⟩ ⟨rfl, rfl, rfl, rfl, hf⟩
                · skip
                  refine hx_castZ hX q1423 o38 isC_101 (by decide) (by decide) (by decide) dX0_castTo_93 ⟨Nat.le_of_ble_eq_true rfl, Nat.le_of_ble_eq_true rfl⟩ ⟨Nat.le_of_ble_eq_true rfl, Nat.le_of_ble_eq_true rfl⟩ ?_
                  exact hx_out (c := 3) hX hE hT ⟨Nat.le_of_ble_eq_true rfl, Nat.le_of_ble_eq_true rfl⟩ ⟨rfl, rfl, rfl, rfl, hf⟩
                · skip
                  refine hx_castZ hX q1423 o38 isC_102 (by decide) (by decide) (by decide) dX0_castTo_93 ⟨Nat.le_of_ble_eq_true rfl, Nat.le_of_ble_eq_true rfl⟩ ⟨Nat.le_of_ble_eq_true rfl, Nat.le_of_ble_eq_true rfl⟩ ?_
                  exact hx_out (c := 3) hX hE hT ⟨Nat.le_of_ble_eq_true rfl, Nat.le_of_ble_eq_true rfl⟩ ⟨rfl, rfl, rfl, rfl, hf⟩
                · skip
                  refine hx_castZ hX q1423 o38 isC_110 (by decide) (by decide) (by decide) dX0_castTo_93 ⟨Nat.le_of_ble_eq_true rfl, Nat.le_of_ble_eq_true rfl⟩ ⟨Nat.le_of_ble_eq_true rfl, Nat.le_of_ble_eq_true rfl⟩ ?_
                  exact hx_out (c := 3) hX hE hT ⟨Nat.le_of_ble_eq_true rfl, Nat.le_of_ble_eq_true rfl⟩ ⟨rfl, rfl, rfl, rfl, hf⟩
                · skip
                  refine hx_castZ hX q1423 o38 isC_22 (by decide) (by decide) (by decide) dX0_castTo_93 ⟨Nat.le_of_ble_eq_true rfl, Nat.le_of_ble_eq_true rfl⟩ ⟨Nat.le_of_ble_eq_true rfl, Nat.le_of_ble_eq_true rfl⟩ ?_
                  exact hx_out (c := 3) hX hE hT ⟨Nat.le_of_ble_eq_true rfl, Nat.le_of_ble_eq_true rfl⟩ ⟨rfl, rfl, rfl, rfl, hf⟩
                · skip
                  refine hx_castZ hX q1423 o38 isC_23 (by decide) (by decide) (by decide) dX0_castTo_93 ⟨Nat.le_of_ble_eq_true rfl, Nat.le_of_ble_eq_true rfl⟩ ⟨Nat.le_of_ble_eq_true rfl, Nat.le_of_ble_eq_true rfl⟩ ?_
                  exact hx_out (c := 3) hX hE hT ⟨Nat.le_of_ble_eq_true rfl, Nat.le_of_ble_eq_true rfl⟩ ⟨rfl, rfl, rfl, rfl, hf⟩
                · skip
                  refine hx_castZ hX q1423 o38 isC_24 (by decide) (by decide) (by decide) dX0_castTo_93 ⟨Nat.le_of_ble_eq_true rfl, Nat.le_of_ble_eq_true rfl⟩ ⟨Nat.le_of_ble_eq_true rfl, Nat.le_of_ble_eq_true rfl⟩ ?_
                  exact hx_out (c := 3) hX hE hT ⟨Nat.le_of_ble_eq_true rfl, Nat.le_of_ble_eq_true rfl⟩ ⟨rfl, rfl, rfl, rfl, hf⟩
                · skip
                  refine hx_castZ hX q1423 o38 isC_25 (by decide) (by decide) (by decide) dX0_castTo_93 ⟨Nat.le_of_ble_eq_true rfl, Nat.le_of_ble_eq_true rfl⟩ ⟨Nat.le_of_ble_eq_true rfl, Nat.le_of_ble_eq_true rfl⟩ ?_
                  exact hx_out (c := 3) hX hE hT ⟨Nat.le_of_ble_eq_true rfl, Nat.le_of_ble_eq_true rfl⟩ ⟨rfl, rfl, rfl, rfl, hf⟩
                · skip
                  refine hx_castZ hX q1423 o38 isC_26 (by decide) (by decide) (by decide) dX0_castTo_93 ⟨Nat.le_of_ble_eq_true rfl, Nat.le_of_ble_eq_true rfl⟩ ⟨Nat.le_of_ble_eq_true rfl, Nat.le_of_ble_eq_true rfl⟩ ?_
                  exact hx_out (c := 3) hX hE hT ⟨Nat.le_of_ble_eq_true rfl, Nat.le_of_ble_eq_true rfl⟩ ⟨rfl, rfl, rfl, rfl, hf⟩
                · skip
                  refine hx_cast hX q1423 o38 isC_27 (.inl rfl) dX0_castTo_93 ?_
                  refine hx_callVXi (ci := 27) (q := (RX27, TX27, 3)) hX dX0_castTo_96 (ct_X27_its a0 s rd J I _ _ hf) (lw_V q1471 q1472 q1473 q145 q1474) rfl (by decide) ⟨rfl, np_X27_its⟩ rfl o38 rfl ⟨Nat.le_of_ble_eq_true rfl, Nat.le_of_ble_eq_true rfl⟩ ⟨Nat.le_of_ble_eq_true rfl, Nat.le_of_ble_eq_true rfl⟩ (Nat.le_of_ble_eq_true rfl) ?_ ?_
                  · intro c40 S9 R9 J9 I9 hq
                    clear hf
                    obtain ⟨rfl, rfl, rfl, rfl, hf⟩ := hq
                    exact hx_out (c := c40) hX hE hT ⟨Nat.le_of_ble_eq_true rfl, Nat.le_of_ble_eq_true rfl⟩ ⟨rfl, rfl, rfl, rfl, hf⟩
                  intro r39 S9 R9 J9 I9 hq
                  clear hf
                  obtain ⟨rfl, rfl, rfl, rfl, hf⟩ := hq
                  refine hv_widen (z' := 3) (k' := 910) (Nat.le_of_ble_eq_true rfl) (Nat.le_of_ble_eq_true rfl) ?_
                  exact hv_xret hX hE (fun X hX hE => hx_iret hX hE dX0_castTo_99 ⟨rfl, rfl, rfl, rfl, hf⟩)
              · replace hf := hf.2 c37
                refine hv_tswO (tgt := 100) hX dX0_castTo_1 (by have z0 := lv_neT c1 (a := 0) (by decide); have z1 := lv_neT c11 (a := 1) (by decide); have z2 := lv_neT c19 (a := 2) (by decide); have z3 := lv_neT c25 (a := 3) (by decide); have z4 := lv_neT c29 (a := 4) (by decide); have z5 := lv_neT c33 (a := 5) (by decide); have z6 := lv_neT c37 (a := 6) (by decide); omega) (by decide) ?_
                refine hv_aload_n hX dX0_castTo_100 rfl 0 rfl ?_
                refine hv_iload_n hX dX0_castTo_101 rfl 1 rfl ?_
                refine hx_callSXi hX dX0_castTo_102 (ct_X0_rowAs a0 a1 s rd J I _ _ hf) (lw_S q1475 q1476 q106 q1477) np_X0_rowAs rfl rfl ⟨Nat.le_of_ble_eq_true rfl, Nat.le_of_ble_eq_true rfl⟩ ⟨Nat.le_of_ble_eq_true rfl, Nat.le_of_ble_eq_true rfl⟩ (Nat.le_of_ble_eq_true rfl) ?_ ?_
                · intro c42 S9 R9 J9 I9 hq
                  clear hf
                  obtain ⟨rfl, rfl, rfl, rfl, hf⟩ := hq
                  exact hx_out (c := c42) hX hE hT ⟨Nat.le_of_ble_eq_true rfl, Nat.le_of_ble_eq_true rfl⟩ ⟨rfl, rfl, rfl, rfl, hf⟩
                intro r41 S9 R9 J9 I9 hq
                clear hf
                obtain ⟨rfl, rfl, rfl, rfl, hf⟩ := hq
                exact hv_xret hX hE (fun X hX hE => hx_iret hX hE dX0_castTo_105 ⟨rfl, rfl, rfl, rfl, hf⟩)
/-! HungryHedge.taken(II)I -/
def x_X0_taken_j30 (Q : Int32 → xS → xRd → mJ → mI → Prop) (a1 : Int32) (a2 : Int32) (s : xS) (rd : xRd) (J : mJ) (I : mI) : Prop :=
  vp_in a1 4 ∧ (∃ v5 : Nat, xR rd 128 a1.toNatClampNeg = some v5 ∧ (x_X0_heldOf v5 s rd J I (fun r10 s6 rd7 J8 I9 => x_X0_there r10 s6 rd7 J8 I9 (fun c12 => (c12 = 1 ∧ (Q (-11) s6 rd7 J8 I9))) (fun r11 => x_X0_castTo r11 a2 s6 rd7 J8 I9 (fun c14 => (c14 = 3 ∧ (Q (-13) s6 rd7 J8 I9))) (fun r13 => Q r13 s6 rd7 J8 I9)))))
theorem w_X0_taken_j30 {X : hh_CX}  {Q : Int32 → xS → xRd → mJ → mI → Prop} (hX : hh_C X cX0_taken RX0 (hrx 9 10361 4 916)) (hN : hh_nL X = 4) (hE : hh_E X (some .int) (xQi (fun r9 S9 R9 J9 I9 => Q r9 S9 R9 J9 I9)) 4 916) (hT : hh_XT X (tableOf [((30 : Nat), (48 : Nat), (49 : Nat), (89 : Nat)), ((30 : Nat), (48 : Nat), (53 : Nat), (254 : Nat))])) : ∀ (a1 : Int32) (a2 : Int32) (s : xS) (rd : xRd) (J : mJ) (I : mI), x_X0_taken_j30 Q  a1 a2 s rd J I → hh_V X 30 [(0, .ref 0), (1, .int a1), (2, .int a2)] [] 0 0 (hx s rd J I) := by
  intro a1 a2 s rd J I  hf
  unfold x_X0_taken_j30 at hf
  refine hv_aload_n hX dX0_taken_30 rfl 0 rfl ?_
  refine hv_aload_n hX dX0_taken_31 rfl 0 rfl ?_
  refine hv_aload_n hX dX0_taken_32 rfl 0 rfl ?_
  refine hx_getR (v := 128) hX dX0_taken_33 fl0_103_0 (xo_c (by decide) rfl) (xR_c rfl) ?_
  refine hv_iload_n hX dX0_taken_36 rfl 1 rfl ?_
  obtain ⟨g, hf⟩ := hf
  obtain ⟨v5, gv5, hf⟩ := hf
  refine hx_aald (v := v5) (a := 25) hX 9 rfl (by decide) dX0_taken_37 (xo_c (by decide) rfl) (xlen_c (by decide) rfl) g gv5 ?_
  refine hx_callVo (ci := 0) (q := (RX0, TX0, 19)) hX dX0_taken_38 (ct_X0_heldOf v5 s rd J I _ hf) (lw_V q1326 q1328 qs46 q106 q1329) rfl (by decide) ⟨rfl, np_X0_heldOf⟩ rfl (xo_c (by decide) rfl) rfl ⟨Nat.le_of_ble_eq_true rfl, Nat.le_of_ble_eq_true rfl⟩ ⟨Nat.le_of_ble_eq_true rfl, Nat.le_of_ble_eq_true rfl⟩ (Nat.le_of_ble_eq_true rfl) ?_
  intro r10 s6 rd7 J8 I9 hq
  clear hf
  have hf := hq
  refine hx_callVXr (ci := 0) (q := (RX0, TX0, 19)) hX dX0_taken_41 (ct_X0_there r10 s6 rd7 J8 I9 _ _ hf) (lw_V q880 q882 qs12 q106 q883) rfl (by decide) ⟨rfl, np_X0_there⟩ rfl (xo_c (by decide) rfl) rfl ⟨Nat.le_of_ble_eq_true rfl, Nat.le_of_ble_eq_true rfl⟩ ⟨Nat.le_of_ble_eq_true rfl, Nat.le_of_ble_eq_true rfl⟩ (Nat.le_of_ble_eq_true rfl) ?_ ?_
  · intro c12 S9 R9 J9 I9 hq
    clear hf
    obtain ⟨rfl, rfl, rfl, rfl, hf⟩ := hq
    rcases hf with ⟨rfl, hf⟩
    · skip
      refine ht_catch0 (i := 3) (loc2 := [(0, .ref 0), (1, .int a1), (2, .int a2)]) hX hN hT (⟨30, 48, 49, 89⟩ : ExceptionTableEntry) (ht_takes.here (by decide) (by decide) q550 (hh_nwm q552 rfl)) (.inl ⟨_, dX0_taken_49, rfl, rfl⟩) (Nat.le_of_ble_eq_true rfl) rfl ?_
      refine hv_bipush (v := (-11)) hX bix_m11 dX0_taken_50 ?_
      refine hv_widen (z' := 4) (k' := 916) (Nat.le_of_ble_eq_true rfl) (Nat.le_of_ble_eq_true rfl) ?_
      exact hx_iret hX hE dX0_taken_52 hf
  intro r11 S9 R9 J9 I9 hq
  clear hf
  obtain ⟨rfl, rfl, rfl, rfl, hf⟩ := hq
  refine hv_iload_n hX dX0_taken_44 rfl 2 rfl ?_
  refine hx_callSXi hX dX0_taken_45 (ct_X0_castTo r11 a2 s6 rd7 J8 I9 _ _ hf) (lw_S q1439 q1440 q106 q1441) np_X0_castTo rfl rfl ⟨Nat.le_of_ble_eq_true rfl, Nat.le_of_ble_eq_true rfl⟩ ⟨Nat.le_of_ble_eq_true rfl, Nat.le_of_ble_eq_true rfl⟩ (Nat.le_of_ble_eq_true rfl) ?_ ?_
  · intro c14 S9 R9 J9 I9 hq
    clear hf
    obtain ⟨rfl, rfl, rfl, rfl, hf⟩ := hq
    rcases hf with ⟨rfl, hf⟩
    · skip
      refine ht_catch0 (i := 3) (loc2 := [(0, .ref 0), (1, .int a1), (2, .int a2)]) hX hN hT (⟨30, 48, 53, 254⟩ : ExceptionTableEntry) (ht_takes.pass (by decide) q550 (by decide) (ht_takes.here (by decide) (by decide) q846 (hh_nwm q866 rfl))) (.inl ⟨_, dX0_taken_53, rfl, rfl⟩) (Nat.le_of_ble_eq_true rfl) rfl ?_
      refine hv_bipush (v := (-13)) hX bix_m13 dX0_taken_54 ?_
      exact hx_iret hX hE dX0_taken_56 hf
  intro r13 S9 R9 J9 I9 hq
  clear hf
  obtain ⟨rfl, rfl, rfl, rfl, hf⟩ := hq
  exact hx_iret hX hE dX0_taken_48 hf
def x_X0_taken (a1 : Int32) (a2 : Int32) (s : xS) (rd : xRd) (J : mJ) (I : mI) (Q : Int32 → xS → xRd → mJ → mI → Prop) : Prop :=
  x_X0_isShelf a1 s rd J I (fun r1 => (r1 = 0 →
    Q (-1) s rd J I) ∧ (¬ r1 = 0 →
    x_X0_in a2 0 6 s rd J I (fun r3 => (r3 = 0 →
      x_X0_in a2 10 13 s rd J I (fun r15 => (r15 = 0 →
        Q (-1) s rd J I) ∧ (¬ r15 = 0 →
        x_X0_taken_j30 Q   a1 a2 s rd J I))) ∧ (¬ r3 = 0 →
      x_X0_taken_j30 Q   a1 a2 s rd J I))))
theorem ct_X0_taken  (a1 : Int32) (a2 : Int32) (s : xS) (rd : xRd) (J : mJ) (I : mI) (Q : Int32 → xS → xRd → mJ → mI → Prop) (hf : x_X0_taken a1 a2 s rd J I Q) : hh_CtW yX0_taken cX0_taken 4 (some .int) [((30 : Nat), (48 : Nat), (49 : Nat), (89 : Nat)), ((30 : Nat), (48 : Nat), (53 : Nat), (254 : Nat))] 9 10361 [.ref 0, .int a1, .int a2] (hx s rd J I) (xQi (fun r9 S9 R9 J9 I9 => Q r9 S9 R9 J9 I9)) 4 916 := by
  refine hh_CtW.of (own := RX0) rfl (by decide +kernel) (Nat.le_of_ble_eq_true rfl) ?_
  intro X hX hN hE hT
  show hh_V X 0 [(0, .ref 0), (1, .int a1), (2, .int a2)] [] 0 0 (hx s rd J I)
  unfold x_X0_taken at hf
  refine hv_iload_n hX dX0_taken_0 rfl 1 rfl ?_
  refine hx_callSi hX dX0_taken_1 (ct_X0_isShelf a1 s rd J I _ hf) (lw_S q1315 q1316 q106 q1317) np_X0_isShelf rfl rfl ⟨Nat.le_of_ble_eq_true rfl, Nat.le_of_ble_eq_true rfl⟩ ⟨Nat.le_of_ble_eq_true rfl, Nat.le_of_ble_eq_true rfl⟩ (Nat.le_of_ble_eq_true rfl) ?_
  intro r1 S9 R9 J9 I9 hq
  clear hf
  obtain ⟨rfl, rfl, rfl, rfl, hf⟩ := hq
  refine hv_if_eq (tgt := 28) hX dX0_taken_4 (by decide) (fun c2 => ?_) (fun c2 => ?_)
  · replace hf := hf.1 c2
    refine hv_iconst (v := (-1)) hX icx_m1 dX0_taken_28 ?_
    refine hv_widen (z' := 4) (k' := 916) (Nat.le_of_ble_eq_true rfl) (Nat.le_of_ble_eq_true rfl) ?_
    exact hx_iret hX hE dX0_taken_29 hf
  · replace hf := hf.2 c2
    refine hv_iload_n hX dX0_taken_7 rfl 2 rfl ?_
    refine hv_iconst (v := 0) hX icx_0 dX0_taken_8 ?_
    refine hv_bipush (v := 6) hX bix_6 dX0_taken_9 ?_
    refine hx_callSi hX dX0_taken_11 (ct_X0_in a2 0 6 s rd J I _ hf) (lw_S q649 q650 q106 q651) np_X0_in rfl rfl ⟨Nat.le_of_ble_eq_true rfl, Nat.le_of_ble_eq_true rfl⟩ ⟨Nat.le_of_ble_eq_true rfl, Nat.le_of_ble_eq_true rfl⟩ (Nat.le_of_ble_eq_true rfl) ?_
    intro r3 S9 R9 J9 I9 hq
    clear hf
    obtain ⟨rfl, rfl, rfl, rfl, hf⟩ := hq
    refine hv_if_ne (tgt := 30) hX dX0_taken_14 (by decide) (fun c4 => ?_) (fun c4 => ?_)
    · replace hf := hf.2 c4
      exact w_X0_taken_j30 hX hN hE hT  _ _ _ _ _ _ hf
    · replace hf := hf.1 c4
      refine hv_iload_n hX dX0_taken_17 rfl 2 rfl ?_
      refine hv_bipush (v := 10) hX bix_10 dX0_taken_18 ?_
      refine hv_bipush (v := 13) hX bix_13 dX0_taken_20 ?_
      refine hx_callSi hX dX0_taken_22 (ct_X0_in a2 10 13 s rd J I _ hf) (lw_S q649 q650 q106 q651) np_X0_in rfl rfl ⟨Nat.le_of_ble_eq_true rfl, Nat.le_of_ble_eq_true rfl⟩ ⟨Nat.le_of_ble_eq_true rfl, Nat.le_of_ble_eq_true rfl⟩ (Nat.le_of_ble_eq_true rfl) ?_
      intro r15 S9 R9 J9 I9 hq
      clear hf
      obtain ⟨rfl, rfl, rfl, rfl, hf⟩ := hq
      refine hv_if_ne (tgt := 30) hX dX0_taken_25 (by decide) (fun c16 => ?_) (fun c16 => ?_)
      · replace hf := hf.2 c16
        exact w_X0_taken_j30 hX hN hE hT  _ _ _ _ _ _ hf
      · replace hf := hf.1 c16
        refine hv_iconst (v := (-1)) hX icx_m1 dX0_taken_28 ?_
        refine hv_widen (z' := 4) (k' := 916) (Nat.le_of_ble_eq_true rfl) (Nat.le_of_ble_eq_true rfl) ?_
        exact hx_iret hX hE dX0_taken_29 hf
/-! HungryHedge$PatchThing.eats(I)I -/
def x_X21_eats_c22 (a0 : Nat) (a1 : Int32) (s : xS) (rd : xRd) (J : mJ) (I : mI) (QX : Nat → mI → Prop) (Q : Int32 → mI → Prop) : Prop :=
  xo s a0 22 ∧ (xR rd a0 2 = some 0 ∧ (x_X0_ran 10 s rd J I (fun I2 => Q (a1 + (I2 a0 1)) I2)))
theorem ct_X21_eats_c22  (a0 : Nat) (a1 : Int32) (s : xS) (rd : xRd) (J : mJ) (I : mI) (QX : Nat → mI → Prop) (Q : Int32 → mI → Prop) (hf : x_X21_eats_c22 a0 a1 s rd J I QX Q) : hh_CtX yX21_eats cX21_eats 2 (some .int) 1 21 [.ref a0, .int a1] (hx s rd J I) (xQi (fun r9 S9 R9 J9 I9 => s = S9 ∧ rd = R9 ∧ J = J9 ∧ Q r9 I9)) (xQX (fun c9 S9 R9 J9 I9 => s = S9 ∧ rd = R9 ∧ J = J9 ∧ QX c9 I9)) 0 0 := by
  refine hh_CtX.of (own := RX21) rfl (by decide +kernel) (Nat.le_of_ble_eq_true rfl) ?_
  intro X hX hN hE hT
  show hh_V X 0 [(0, .ref a0), (1, .int a1)] [] 0 0 (hx s rd J I)
  unfold x_X21_eats_c22 at hf
  refine hv_aload_n hX dX21_eats_0 rfl 0 rfl ?_
  obtain ⟨o1, hf⟩ := hf
  obtain ⟨g, hf⟩ := hf
  refine hx_getR (v := 0) hX dX21_eats_1 fl21_1_22 o1 g ?_
  refine hv_bipush (v := 10) hX bix_10 dX21_eats_4 ?_
  refine hx_callVNv (ci := 0) (q := (RX0, TX0, 19)) hX dX21_eats_6 (ct_X0_ran 10 s rd J I _ hf) (hh_nwm q1519 rfl) q1512 q106 q1511 qs48 rfl (by decide) np_X0_ran rfl (xo_c (by decide) rfl) rfl ⟨Nat.le_of_ble_eq_true rfl, Nat.le_of_ble_eq_true rfl⟩ ⟨Nat.le_of_ble_eq_true rfl, Nat.le_of_ble_eq_true rfl⟩ (Nat.le_of_ble_eq_true rfl) ?_
  intro  S9 R9 J9 I2 hq
  clear hf
  obtain ⟨rfl, rfl, rfl, hf⟩ := hq
  refine hv_iload_n hX dX21_eats_9 rfl 1 rfl ?_
  refine hv_aload_n hX dX21_eats_10 rfl 0 rfl ?_
  refine hx_getI (v := (I2 a0 1)) hX dX21_eats_11 fl21_17_22 (.inl rfl) o1 rfl ?_
  refine hv_iadd hX dX21_eats_14 ?_
  exact hv_xret hX hE (fun X hX hE => hx_iret hX hE dX21_eats_15 ⟨rfl, rfl, rfl, hf⟩)
/-! HungryHedge$PatchThing.eats(I)I -/
def x_X21_eats_c23 (a0 : Nat) (a1 : Int32) (s : xS) (rd : xRd) (J : mJ) (I : mI) (QX : Nat → mI → Prop) (Q : Int32 → mI → Prop) : Prop :=
  xo s a0 23 ∧ (xR rd a0 2 = some 0 ∧ (x_X0_ran 10 s rd J I (fun I2 => Q (a1 + (I2 a0 1)) I2)))
theorem ct_X21_eats_c23  (a0 : Nat) (a1 : Int32) (s : xS) (rd : xRd) (J : mJ) (I : mI) (QX : Nat → mI → Prop) (Q : Int32 → mI → Prop) (hf : x_X21_eats_c23 a0 a1 s rd J I QX Q) : hh_CtX yX21_eats cX21_eats 2 (some .int) 1 21 [.ref a0, .int a1] (hx s rd J I) (xQi (fun r9 S9 R9 J9 I9 => s = S9 ∧ rd = R9 ∧ J = J9 ∧ Q r9 I9)) (xQX (fun c9 S9 R9 J9 I9 => s = S9 ∧ rd = R9 ∧ J = J9 ∧ QX c9 I9)) 0 0 := by
  refine hh_CtX.of (own := RX21) rfl (by decide +kernel) (Nat.le_of_ble_eq_true rfl) ?_
  intro X hX hN hE hT
  show hh_V X 0 [(0, .ref a0), (1, .int a1)] [] 0 0 (hx s rd J I)
  unfold x_X21_eats_c23 at hf
  refine hv_aload_n hX dX21_eats_0 rfl 0 rfl ?_
  obtain ⟨o1, hf⟩ := hf
  obtain ⟨g, hf⟩ := hf
  refine hx_getR (v := 0) hX dX21_eats_1 fl21_1_23 o1 g ?_
  refine hv_bipush (v := 10) hX bix_10 dX21_eats_4 ?_
  refine hx_callVNv (ci := 0) (q := (RX0, TX0, 19)) hX dX21_eats_6 (ct_X0_ran 10 s rd J I _ hf) (hh_nwm q1519 rfl) q1512 q106 q1511 qs48 rfl (by decide) np_X0_ran rfl (xo_c (by decide) rfl) rfl ⟨Nat.le_of_ble_eq_true rfl, Nat.le_of_ble_eq_true rfl⟩ ⟨Nat.le_of_ble_eq_true rfl, Nat.le_of_ble_eq_true rfl⟩ (Nat.le_of_ble_eq_true rfl) ?_
  intro  S9 R9 J9 I2 hq
  clear hf
  obtain ⟨rfl, rfl, rfl, hf⟩ := hq
  refine hv_iload_n hX dX21_eats_9 rfl 1 rfl ?_
  refine hv_aload_n hX dX21_eats_10 rfl 0 rfl ?_
  refine hx_getI (v := (I2 a0 1)) hX dX21_eats_11 fl21_17_23 (.inl rfl) o1 rfl ?_
  refine hv_iadd hX dX21_eats_14 ?_
  exact hv_xret hX hE (fun X hX hE => hx_iret hX hE dX21_eats_15 ⟨rfl, rfl, rfl, hf⟩)
/-! HungryHedge$FieldThing.eats(I)I -/
def x_X23_eats_c23 (a0 : Nat) (a1 : Int32) (s : xS) (rd : xRd) (J : mJ) (I : mI) (QX : Nat → mI → Prop) (Q : Int32 → mI → Prop) : Prop :=
  xo s a0 23 ∧ (xR rd a0 4 = some 0 ∧ (x_X0_ran 30 s rd J I (fun I2 => x_X21_eats_c23 a0 a1 s rd J I2 (fun c6 I5 => QX c6 I5) (fun r4 I3 => Q (r4 * 3) I3))))
theorem ct_X23_eats_c23  (a0 : Nat) (a1 : Int32) (s : xS) (rd : xRd) (J : mJ) (I : mI) (QX : Nat → mI → Prop) (Q : Int32 → mI → Prop) (hf : x_X23_eats_c23 a0 a1 s rd J I QX Q) : hh_CtX yX23_eats cX23_eats 2 (some .int) 2 42 [.ref a0, .int a1] (hx s rd J I) (xQi (fun r9 S9 R9 J9 I9 => s = S9 ∧ rd = R9 ∧ J = J9 ∧ Q r9 I9)) (xQX (fun c9 S9 R9 J9 I9 => s = S9 ∧ rd = R9 ∧ J = J9 ∧ QX c9 I9)) 0 0 := by
  refine hh_CtX.of (own := RX23) rfl (by decide +kernel) (Nat.le_of_ble_eq_true rfl) ?_
  intro X hX hN hE hT
  show hh_V X 0 [(0, .ref a0), (1, .int a1)] [] 0 0 (hx s rd J I)
  unfold x_X23_eats_c23 at hf
  refine hv_aload_n hX dX23_eats_0 rfl 0 rfl ?_
  obtain ⟨o1, hf⟩ := hf
  obtain ⟨g, hf⟩ := hf
  refine hx_getR (v := 0) hX dX23_eats_1 fl23_1_23 o1 g ?_
  refine hv_bipush (v := 30) hX bix_30 dX23_eats_4 ?_
  refine hx_callVNv (ci := 0) (q := (RX0, TX0, 19)) hX dX23_eats_6 (ct_X0_ran 30 s rd J I _ hf) (hh_nwm q1530 rfl) q1512 q106 q1511 qs48 rfl (by decide) np_X0_ran rfl (xo_c (by decide) rfl) rfl ⟨Nat.le_of_ble_eq_true rfl, Nat.le_of_ble_eq_true rfl⟩ ⟨Nat.le_of_ble_eq_true rfl, Nat.le_of_ble_eq_true rfl⟩ (Nat.le_of_ble_eq_true rfl) ?_
  intro  S9 R9 J9 I2 hq
  clear hf
  obtain ⟨rfl, rfl, rfl, hf⟩ := hq
  refine hv_aload_n hX dX23_eats_9 rfl 0 rfl ?_
  refine hv_iload_n hX dX23_eats_10 rfl 1 rfl ?_
  refine hx_callZXi hX dX23_eats_11 (ct_X21_eats_c23 a0 a1 s rd J I2 _ _ hf) q1518 q139 rfl (tw_super (y := yX21_eats) (x := ({ cls := "HungryHedge$BushThing", name := "eats", desc := "(I)I" } : Jvm.MethodName)) hX dX23_eats_11 q1531 q1532 ⟨rfl, rfl⟩ q1373 (.inr (.inl q1359)) q1516 q1518 (by decide) np_X21_eats.2.2 rfl (ci := 23) (q := (RX23, TX23, 5)) rfl (by decide) o1.1 o1.2 rfl) ⟨Nat.le_of_ble_eq_true rfl, Nat.le_of_ble_eq_true rfl⟩ ⟨Nat.le_of_ble_eq_true rfl, Nat.le_of_ble_eq_true rfl⟩ (Nat.le_of_ble_eq_true rfl) ?_ ?_
  · intro c6 S9 R9 J9 I5 hq
    clear hf
    obtain ⟨rfl, rfl, rfl, hf⟩ := hq
    exact hx_out (c := c6) hX hE hT ⟨Nat.le_of_ble_eq_true rfl, Nat.le_of_ble_eq_true rfl⟩ ⟨rfl, rfl, rfl, hf⟩
  intro r4 S9 R9 J9 I3 hq
  clear hf
  obtain ⟨rfl, rfl, rfl, hf⟩ := hq
  refine hv_iconst (v := 3) hX icx_3 dX23_eats_14 ?_
  refine hv_imul hX dX23_eats_15 ?_
  exact hv_xret hX hE (fun X hX hE => hx_iret hX hE dX23_eats_16 ⟨rfl, rfl, rfl, hf⟩)
/-! HungryHedge$PatchThing.eats(I)I -/
def x_X21_eats_c24 (a0 : Nat) (a1 : Int32) (s : xS) (rd : xRd) (J : mJ) (I : mI) (QX : Nat → mI → Prop) (Q : Int32 → mI → Prop) : Prop :=
  xo s a0 24 ∧ (xR rd a0 2 = some 0 ∧ (x_X0_ran 10 s rd J I (fun I2 => Q (a1 + (I2 a0 1)) I2)))
theorem ct_X21_eats_c24  (a0 : Nat) (a1 : Int32) (s : xS) (rd : xRd) (J : mJ) (I : mI) (QX : Nat → mI → Prop) (Q : Int32 → mI → Prop) (hf : x_X21_eats_c24 a0 a1 s rd J I QX Q) : hh_CtX yX21_eats cX21_eats 2 (some .int) 1 21 [.ref a0, .int a1] (hx s rd J I) (xQi (fun r9 S9 R9 J9 I9 => s = S9 ∧ rd = R9 ∧ J = J9 ∧ Q r9 I9)) (xQX (fun c9 S9 R9 J9 I9 => s = S9 ∧ rd = R9 ∧ J = J9 ∧ QX c9 I9)) 0 0 := by
  refine hh_CtX.of (own := RX21) rfl (by decide +kernel) (Nat.le_of_ble_eq_true rfl) ?_
  intro X hX hN hE hT
  show hh_V X 0 [(0, .ref a0), (1, .int a1)] [] 0 0 (hx s rd J I)
  unfold x_X21_eats_c24 at hf
  refine hv_aload_n hX dX21_eats_0 rfl 0 rfl ?_
  obtain ⟨o1, hf⟩ := hf
  obtain ⟨g, hf⟩ := hf
  refine hx_getR (v := 0) hX dX21_eats_1 fl21_1_24 o1 g ?_
  refine hv_bipush (v := 10) hX bix_10 dX21_eats_4 ?_
  refine hx_callVNv (ci := 0) (q := (RX0, TX0, 19)) hX dX21_eats_6 (ct_X0_ran 10 s rd J I _ hf) (hh_nwm q1519 rfl) q1512 q106 q1511 qs48 rfl (by decide) np_X0_ran rfl (xo_c (by decide) rfl) rfl ⟨Nat.le_of_ble_eq_true rfl, Nat.le_of_ble_eq_true rfl⟩ ⟨Nat.le_of_ble_eq_true rfl, Nat.le_of_ble_eq_true rfl⟩ (Nat.le_of_ble_eq_true rfl) ?_
  intro  S9 R9 J9 I2 hq
  clear hf
  obtain ⟨rfl, rfl, rfl, hf⟩ := hq
  refine hv_iload_n hX dX21_eats_9 rfl 1 rfl ?_
  refine hv_aload_n hX dX21_eats_10 rfl 0 rfl ?_
  refine hx_getI (v := (I2 a0 1)) hX dX21_eats_11 fl21_17_24 (.inl rfl) o1 rfl ?_
  refine hv_iadd hX dX21_eats_14 ?_
  exact hv_xret hX hE (fun X hX hE => hx_iret hX hE dX21_eats_15 ⟨rfl, rfl, rfl, hf⟩)
/-! HungryHedge$FieldThing.eats(I)I -/
def x_X23_eats_c24 (a0 : Nat) (a1 : Int32) (s : xS) (rd : xRd) (J : mJ) (I : mI) (QX : Nat → mI → Prop) (Q : Int32 → mI → Prop) : Prop :=
  xo s a0 24 ∧ (xR rd a0 4 = some 0 ∧ (x_X0_ran 30 s rd J I (fun I2 => x_X21_eats_c24 a0 a1 s rd J I2 (fun c6 I5 => QX c6 I5) (fun r4 I3 => Q (r4 * 3) I3))))
theorem ct_X23_eats_c24  (a0 : Nat) (a1 : Int32) (s : xS) (rd : xRd) (J : mJ) (I : mI) (QX : Nat → mI → Prop) (Q : Int32 → mI → Prop) (hf : x_X23_eats_c24 a0 a1 s rd J I QX Q) : hh_CtX yX23_eats cX23_eats 2 (some .int) 2 42 [.ref a0, .int a1] (hx s rd J I) (xQi (fun r9 S9 R9 J9 I9 => s = S9 ∧ rd = R9 ∧ J = J9 ∧ Q r9 I9)) (xQX (fun c9 S9 R9 J9 I9 => s = S9 ∧ rd = R9 ∧ J = J9 ∧ QX c9 I9)) 0 0 := by
  refine hh_CtX.of (own := RX23) rfl (by decide +kernel) (Nat.le_of_ble_eq_true rfl) ?_
  intro X hX hN hE hT
  show hh_V X 0 [(0, .ref a0), (1, .int a1)] [] 0 0 (hx s rd J I)
  unfold x_X23_eats_c24 at hf
  refine hv_aload_n hX dX23_eats_0 rfl 0 rfl ?_
  obtain ⟨o1, hf⟩ := hf
  obtain ⟨g, hf⟩ := hf
  refine hx_getR (v := 0) hX dX23_eats_1 fl23_1_24 o1 g ?_
  refine hv_bipush (v := 30) hX bix_30 dX23_eats_4 ?_
  refine hx_callVNv (ci := 0) (q := (RX0, TX0, 19)) hX dX23_eats_6 (ct_X0_ran 30 s rd J I _ hf) (hh_nwm q1530 rfl) q1512 q106 q1511 qs48 rfl (by decide) np_X0_ran rfl (xo_c (by decide) rfl) rfl ⟨Nat.le_of_ble_eq_true rfl, Nat.le_of_ble_eq_true rfl⟩ ⟨Nat.le_of_ble_eq_true rfl, Nat.le_of_ble_eq_true rfl⟩ (Nat.le_of_ble_eq_true rfl) ?_
  intro  S9 R9 J9 I2 hq
  clear hf
  obtain ⟨rfl, rfl, rfl, hf⟩ := hq
  refine hv_aload_n hX dX23_eats_9 rfl 0 rfl ?_
  refine hv_iload_n hX dX23_eats_10 rfl 1 rfl ?_
  refine hx_callZXi hX dX23_eats_11 (ct_X21_eats_c24 a0 a1 s rd J I2 _ _ hf) q1518 q139 rfl (tw_super (y := yX21_eats) (x := ({ cls := "HungryHedge$BushThing", name := "eats", desc := "(I)I" } : Jvm.MethodName)) hX dX23_eats_11 q1531 q1532 ⟨rfl, rfl⟩ q1373 (.inr (.inl q1359)) q1516 q1518 (by decide) np_X21_eats.2.2 rfl (ci := 24) (q := (RX24, TX24, 6)) rfl (by decide) o1.1 o1.2 rfl) ⟨Nat.le_of_ble_eq_true rfl, Nat.le_of_ble_eq_true rfl⟩ ⟨Nat.le_of_ble_eq_true rfl, Nat.le_of_ble_eq_true rfl⟩ (Nat.le_of_ble_eq_true rfl) ?_ ?_
  · intro c6 S9 R9 J9 I5 hq
    clear hf
    obtain ⟨rfl, rfl, rfl, hf⟩ := hq
    exact hx_out (c := c6) hX hE hT ⟨Nat.le_of_ble_eq_true rfl, Nat.le_of_ble_eq_true rfl⟩ ⟨rfl, rfl, rfl, hf⟩
  intro r4 S9 R9 J9 I3 hq
  clear hf
  obtain ⟨rfl, rfl, rfl, hf⟩ := hq
  refine hv_iconst (v := 3) hX icx_3 dX23_eats_14 ?_
  refine hv_imul hX dX23_eats_15 ?_
  exact hv_xret hX hE (fun X hX hE => hx_iret hX hE dX23_eats_16 ⟨rfl, rfl, rfl, hf⟩)
/-! HungryHedge$FeederThing.eats(I)I -/
def x_X24_eats_c24 (a0 : Nat) (a1 : Int32) (s : xS) (rd : xRd) (J : mJ) (I : mI) (QX : Nat → mI → Prop) (Q : Int32 → mI → Prop) : Prop :=
  xo s a0 24 ∧ (xR rd a0 5 = some 0 ∧ (x_X0_ran 40 s rd J I (fun I2 => x_X23_eats_c24 a0 a1 s rd J I2 (fun c6 I5 => QX c6 I5) (fun r4 I3 => Q (r4 ^^^ (I3 a0 1)) I3))))
theorem ct_X24_eats_c24  (a0 : Nat) (a1 : Int32) (s : xS) (rd : xRd) (J : mJ) (I : mI) (QX : Nat → mI → Prop) (Q : Int32 → mI → Prop) (hf : x_X24_eats_c24 a0 a1 s rd J I QX Q) : hh_CtX yX24_eats cX24_eats 2 (some .int) 3 63 [.ref a0, .int a1] (hx s rd J I) (xQi (fun r9 S9 R9 J9 I9 => s = S9 ∧ rd = R9 ∧ J = J9 ∧ Q r9 I9)) (xQX (fun c9 S9 R9 J9 I9 => s = S9 ∧ rd = R9 ∧ J = J9 ∧ QX c9 I9)) 0 0 := by
  refine hh_CtX.of (own := RX24) rfl (by decide +kernel) (Nat.le_of_ble_eq_true rfl) ?_
  intro X hX hN hE hT
  show hh_V X 0 [(0, .ref a0), (1, .int a1)] [] 0 0 (hx s rd J I)
  unfold x_X24_eats_c24 at hf
  refine hv_aload_n hX dX24_eats_0 rfl 0 rfl ?_
  obtain ⟨o1, hf⟩ := hf
  obtain ⟨g, hf⟩ := hf
  refine hx_getR (v := 0) hX dX24_eats_1 fl24_1_24 o1 g ?_
  refine hv_bipush (v := 40) hX bix_40 dX24_eats_4 ?_
  refine hx_callVNv (ci := 0) (q := (RX0, TX0, 19)) hX dX24_eats_6 (ct_X0_ran 40 s rd J I _ hf) (hh_nwm q1526 rfl) q1512 q106 q1511 qs48 rfl (by decide) np_X0_ran rfl (xo_c (by decide) rfl) rfl ⟨Nat.le_of_ble_eq_true rfl, Nat.le_of_ble_eq_true rfl⟩ ⟨Nat.le_of_ble_eq_true rfl, Nat.le_of_ble_eq_true rfl⟩ (Nat.le_of_ble_eq_true rfl) ?_
  intro  S9 R9 J9 I2 hq
  clear hf
  obtain ⟨rfl, rfl, rfl, hf⟩ := hq
  refine hv_aload_n hX dX24_eats_9 rfl 0 rfl ?_
  refine hv_iload_n hX dX24_eats_10 rfl 1 rfl ?_
  refine hx_callZXi hX dX24_eats_11 (ct_X23_eats_c24 a0 a1 s rd J I2 _ _ hf) q1529 q141 rfl (tw_super (y := yX23_eats) (x := ({ cls := "HungryHedge$FieldThing", name := "eats", desc := "(I)I" } : Jvm.MethodName)) hX dX24_eats_11 q1527 q2390 ⟨rfl, rfl⟩ q1388 (.inl rfl) q1528 q1529 (by decide) np_X23_eats.2.2 rfl (ci := 24) (q := (RX24, TX24, 6)) rfl (by decide) o1.1 o1.2 rfl) ⟨Nat.le_of_ble_eq_true rfl, Nat.le_of_ble_eq_true rfl⟩ ⟨Nat.le_of_ble_eq_true rfl, Nat.le_of_ble_eq_true rfl⟩ (Nat.le_of_ble_eq_true rfl) ?_ ?_
  · intro c6 S9 R9 J9 I5 hq
    clear hf
    obtain ⟨rfl, rfl, rfl, hf⟩ := hq
    exact hx_out (c := c6) hX hE hT ⟨Nat.le_of_ble_eq_true rfl, Nat.le_of_ble_eq_true rfl⟩ ⟨rfl, rfl, rfl, hf⟩
  intro r4 S9 R9 J9 I3 hq
  clear hf
  obtain ⟨rfl, rfl, rfl, hf⟩ := hq
  refine hv_aload_n hX dX24_eats_14 rfl 0 rfl ?_
  refine hx_getI (v := (I3 a0 1)) hX dX24_eats_15 fl24_23_24 (.inl rfl) o1 rfl ?_
  refine hv_ixor hX dX24_eats_18 ?_
  exact hv_xret hX hE (fun X hX hE => hx_iret hX hE dX24_eats_19 ⟨rfl, rfl, rfl, hf⟩)
/-! HungryHedge$PatchThing.eats(I)I -/
def x_X21_eats_c25 (a0 : Nat) (a1 : Int32) (s : xS) (rd : xRd) (J : mJ) (I : mI) (QX : Nat → mI → Prop) (Q : Int32 → mI → Prop) : Prop :=
  xo s a0 25 ∧ (xR rd a0 2 = some 0 ∧ (x_X0_ran 10 s rd J I (fun I2 => Q (a1 + (I2 a0 1)) I2)))
theorem ct_X21_eats_c25  (a0 : Nat) (a1 : Int32) (s : xS) (rd : xRd) (J : mJ) (I : mI) (QX : Nat → mI → Prop) (Q : Int32 → mI → Prop) (hf : x_X21_eats_c25 a0 a1 s rd J I QX Q) : hh_CtX yX21_eats cX21_eats 2 (some .int) 1 21 [.ref a0, .int a1] (hx s rd J I) (xQi (fun r9 S9 R9 J9 I9 => s = S9 ∧ rd = R9 ∧ J = J9 ∧ Q r9 I9)) (xQX (fun c9 S9 R9 J9 I9 => s = S9 ∧ rd = R9 ∧ J = J9 ∧ QX c9 I9)) 0 0 := by
  refine hh_CtX.of (own := RX21) rfl (by decide +kernel) (Nat.le_of_ble_eq_true rfl) ?_
  intro X hX hN hE hT
  show hh_V X 0 [(0, .ref a0), (1, .int a1)] [] 0 0 (hx s rd J I)
  unfold x_X21_eats_c25 at hf
  refine hv_aload_n hX dX21_eats_0 rfl 0 rfl ?_
  obtain ⟨o1, hf⟩ := hf
  obtain ⟨g, hf⟩ := hf
  refine hx_getR (v := 0) hX dX21_eats_1 fl21_1_25 o1 g ?_
  refine hv_bipush (v := 10) hX bix_10 dX21_eats_4 ?_
  refine hx_callVNv (ci := 0) (q := (RX0, TX0, 19)) hX dX21_eats_6 (ct_X0_ran 10 s rd J I _ hf) (hh_nwm q1519 rfl) q1512 q106 q1511 qs48 rfl (by decide) np_X0_ran rfl (xo_c (by decide) rfl) rfl ⟨Nat.le_of_ble_eq_true rfl, Nat.le_of_ble_eq_true rfl⟩ ⟨Nat.le_of_ble_eq_true rfl, Nat.le_of_ble_eq_true rfl⟩ (Nat.le_of_ble_eq_true rfl) ?_
  intro  S9 R9 J9 I2 hq
  clear hf
  obtain ⟨rfl, rfl, rfl, hf⟩ := hq
  refine hv_iload_n hX dX21_eats_9 rfl 1 rfl ?_
  refine hv_aload_n hX dX21_eats_10 rfl 0 rfl ?_
  refine hx_getI (v := (I2 a0 1)) hX dX21_eats_11 fl21_17_25 (.inl rfl) o1 rfl ?_
  refine hv_iadd hX dX21_eats_14 ?_
  exact hv_xret hX hE (fun X hX hE => hx_iret hX hE dX21_eats_15 ⟨rfl, rfl, rfl, hf⟩)
/-! HungryHedge$RiskThing.eats(I)I -/
def x_X26_eats (a0 : Nat) (a1 : Int32) (s : xS) (rd : xRd) (J : mJ) (I : mI) (QX : Nat → mI → Prop) (Q : Int32 → mI → Prop) : Prop :=
  xo s a0 26 ∧ (xR rd a0 2 = some 0 ∧ (x_X0_ran 60 s rd J I (fun I2 => Q ((I2 a0 1) - a1) I2)))
theorem ct_X26_eats  (a0 : Nat) (a1 : Int32) (s : xS) (rd : xRd) (J : mJ) (I : mI) (QX : Nat → mI → Prop) (Q : Int32 → mI → Prop) (hf : x_X26_eats a0 a1 s rd J I QX Q) : hh_CtX yX26_eats cX26_eats 2 (some .int) 1 21 [.ref a0, .int a1] (hx s rd J I) (xQi (fun r9 S9 R9 J9 I9 => s = S9 ∧ rd = R9 ∧ J = J9 ∧ Q r9 I9)) (xQX (fun c9 S9 R9 J9 I9 => s = S9 ∧ rd = R9 ∧ J = J9 ∧ QX c9 I9)) 0 0 := by
  refine hh_CtX.of (own := RX26) rfl (by decide +kernel) (Nat.le_of_ble_eq_true rfl) ?_
  intro X hX hN hE hT
  show hh_V X 0 [(0, .ref a0), (1, .int a1)] [] 0 0 (hx s rd J I)
  unfold x_X26_eats at hf
  refine hv_aload_n hX dX26_eats_0 rfl 0 rfl ?_
  obtain ⟨o1, hf⟩ := hf
  obtain ⟨g, hf⟩ := hf
  refine hx_getR (v := 0) hX dX26_eats_1 fl26_1_26 o1 g ?_
  refine hv_bipush (v := 60) hX bix_60 dX26_eats_4 ?_
  refine hx_callVNv (ci := 0) (q := (RX0, TX0, 19)) hX dX26_eats_6 (ct_X0_ran 60 s rd J I _ hf) (hh_nwm q1547 rfl) q1512 q106 q1511 qs48 rfl (by decide) np_X0_ran rfl (xo_c (by decide) rfl) rfl ⟨Nat.le_of_ble_eq_true rfl, Nat.le_of_ble_eq_true rfl⟩ ⟨Nat.le_of_ble_eq_true rfl, Nat.le_of_ble_eq_true rfl⟩ (Nat.le_of_ble_eq_true rfl) ?_
  intro  S9 R9 J9 I2 hq
  clear hf
  obtain ⟨rfl, rfl, rfl, hf⟩ := hq
  refine hv_aload_n hX dX26_eats_9 rfl 0 rfl ?_
  refine hx_getI (v := (I2 a0 1)) hX dX26_eats_10 fl26_17_26 (.inl rfl) o1 rfl ?_
  refine hv_iload_n hX dX26_eats_13 rfl 1 rfl ?_
  refine hv_isub hX dX26_eats_14 ?_
  exact hv_xret hX hE (fun X hX hE => hx_iret hX hE dX26_eats_15 ⟨rfl, rfl, rfl, hf⟩)
/-! HungryHedge$BirdThing.eats(I)I -/
def x_X27_eats (a0 : Nat) (a1 : Int32) (s : xS) (rd : xRd) (J : mJ) (I : mI) (QX : Nat → mI → Prop) (Q : Int32 → mI → Prop) : Prop :=
  xo s a0 27 ∧ (xR rd a0 2 = some 0 ∧ (x_X0_ran 70 s rd J I (fun I2 => Q (a1 - (I2 a0 1)) I2)))
theorem ct_X27_eats  (a0 : Nat) (a1 : Int32) (s : xS) (rd : xRd) (J : mJ) (I : mI) (QX : Nat → mI → Prop) (Q : Int32 → mI → Prop) (hf : x_X27_eats a0 a1 s rd J I QX Q) : hh_CtX yX27_eats cX27_eats 2 (some .int) 1 21 [.ref a0, .int a1] (hx s rd J I) (xQi (fun r9 S9 R9 J9 I9 => s = S9 ∧ rd = R9 ∧ J = J9 ∧ Q r9 I9)) (xQX (fun c9 S9 R9 J9 I9 => s = S9 ∧ rd = R9 ∧ J = J9 ∧ QX c9 I9)) 0 0 := by
  refine hh_CtX.of (own := RX27) rfl (by decide +kernel) (Nat.le_of_ble_eq_true rfl) ?_
  intro X hX hN hE hT
  show hh_V X 0 [(0, .ref a0), (1, .int a1)] [] 0 0 (hx s rd J I)
  unfold x_X27_eats at hf
  refine hv_aload_n hX dX27_eats_0 rfl 0 rfl ?_
  obtain ⟨o1, hf⟩ := hf
  obtain ⟨g, hf⟩ := hf
  refine hx_getR (v := 0) hX dX27_eats_1 fl27_1_27 o1 g ?_
  refine hv_bipush (v := 70) hX bix_70 dX27_eats_4 ?_
  refine hx_callVNv (ci := 0) (q := (RX0, TX0, 19)) hX dX27_eats_6 (ct_X0_ran 70 s rd J I _ hf) (hh_nwm q1509 rfl) q1512 q106 q1511 qs48 rfl (by decide) np_X0_ran rfl (xo_c (by decide) rfl) rfl ⟨Nat.le_of_ble_eq_true rfl, Nat.le_of_ble_eq_true rfl⟩ ⟨Nat.le_of_ble_eq_true rfl, Nat.le_of_ble_eq_true rfl⟩ (Nat.le_of_ble_eq_true rfl) ?_
  intro  S9 R9 J9 I2 hq
  clear hf
  obtain ⟨rfl, rfl, rfl, hf⟩ := hq
  refine hv_iload_n hX dX27_eats_9 rfl 1 rfl ?_
  refine hv_aload_n hX dX27_eats_10 rfl 0 rfl ?_
  refine hx_getI (v := (I2 a0 1)) hX dX27_eats_11 fl27_17_27 (.inl rfl) o1 rfl ?_
  refine hv_isub hX dX27_eats_14 ?_
  exact hv_xret hX hE (fun X hX hE => hx_iret hX hE dX27_eats_15 ⟨rfl, rfl, rfl, hf⟩)
/-! HungryHedge$Eats.stays(I)I -/
def x_X28_stays_c22 (a0 : Nat) (a1 : Int32) (s : xS) (rd : xRd) (J : mJ) (I : mI) (QX : Nat → mI → Prop) (Q : Int32 → mI → Prop) : Prop :=
  xo s a0 22 ∧ (x_X21_eats_c22 a0 a1 s rd J I (fun c5 I4 => QX c5 I4) (fun r3 I2 => Q (r3 * 2) I2))
theorem ct_X28_stays_c22  (a0 : Nat) (a1 : Int32) (s : xS) (rd : xRd) (J : mJ) (I : mI) (QX : Nat → mI → Prop) (Q : Int32 → mI → Prop) (hf : x_X28_stays_c22 a0 a1 s rd J I QX Q) : tu_Ct yX28_stays cX28_stays 2 (some .int) 2 42 [.ref a0, .int a1] (hx s rd J I) (xQi (fun r9 S9 R9 J9 I9 => s = S9 ∧ rd = R9 ∧ J = J9 ∧ Q r9 I9)) (xQX (fun c9 S9 R9 J9 I9 => s = S9 ∧ rd = R9 ∧ J = J9 ∧ QX c9 I9)) 0 0 := by
  refine tu_of (own := RX28) rfl (by decide +kernel) (Nat.le_of_ble_eq_true rfl) ?_
  intro X hX hN hE hT
  show hh_V X 0 [(0, .ref a0), (1, .int a1)] [] 0 0 (hx s rd J I)
  unfold x_X28_stays_c22 at hf
  refine hv_aload_n hX dX28_stays_0 rfl 0 rfl ?_
  refine hv_iload_n hX dX28_stays_1 rfl 1 rfl ?_
  obtain ⟨o1, hf⟩ := hf
  refine hx_callZX5i hX dX28_stays_2 (ct_X21_eats_c22 a0 a1 s rd J I _ _ hf) q1518 q139 rfl (tw_face (y := yX21_eats) (x := ({ cls := "HungryHedge$Eats", name := "eats", desc := "(I)I" } : Jvm.MethodName)) hX dX28_stays_2 q1569 (by decide) (by decide) q1514 q1516 np_X21_eats.2.2 rfl (ci := 22) (q := (RX22, TX22, 4)) rfl (by decide) o1.1 o1.2 rfl) ⟨Nat.le_of_ble_eq_true rfl, Nat.le_of_ble_eq_true rfl⟩ ⟨Nat.le_of_ble_eq_true rfl, Nat.le_of_ble_eq_true rfl⟩ (Nat.le_of_ble_eq_true rfl) ?_ ?_
  · intro c5 S9 R9 J9 I4 hq
    clear hf
    obtain ⟨rfl, rfl, rfl, hf⟩ := hq
    exact hx_out (c := c5) hX hE hT ⟨Nat.le_of_ble_eq_true rfl, Nat.le_of_ble_eq_true rfl⟩ ⟨rfl, rfl, rfl, hf⟩
  intro r3 S9 R9 J9 I2 hq
  clear hf
  obtain ⟨rfl, rfl, rfl, hf⟩ := hq
  refine hv_iconst (v := 2) hX icx_2 dX28_stays_7 ?_
  refine hv_imul hX dX28_stays_8 ?_
  exact hv_xret hX hE (fun X hX hE => hx_iret hX hE dX28_stays_9 ⟨rfl, rfl, rfl, hf⟩)
/-! HungryHedge$PatchThing.stays(I)I -/
def x_X21_stays_c22 (a0 : Nat) (a1 : Int32) (s : xS) (rd : xRd) (J : mJ) (I : mI) (QX : Nat → mI → Prop) (Q : Int32 → mI → Prop) : Prop :=
  xo s a0 22 ∧ (xR rd a0 2 = some 0 ∧ (x_X0_ran 11 s rd J I (fun I2 => x_X28_stays_c22 a0 a1 s rd J I2 (fun c6 I5 => QX c6 I5) (fun r4 I3 => Q r4 I3))))
theorem ct_X21_stays_c22  (a0 : Nat) (a1 : Int32) (s : xS) (rd : xRd) (J : mJ) (I : mI) (QX : Nat → mI → Prop) (Q : Int32 → mI → Prop) (hf : x_X21_stays_c22 a0 a1 s rd J I QX Q) : hh_CtX yX21_stays cX21_stays 2 (some .int) 3 63 [.ref a0, .int a1] (hx s rd J I) (xQi (fun r9 S9 R9 J9 I9 => s = S9 ∧ rd = R9 ∧ J = J9 ∧ Q r9 I9)) (xQX (fun c9 S9 R9 J9 I9 => s = S9 ∧ rd = R9 ∧ J = J9 ∧ QX c9 I9)) 0 0 := by
  refine hh_CtX.of (own := RX21) rfl (by decide +kernel) (Nat.le_of_ble_eq_true rfl) ?_
  intro X hX hN hE hT
  show hh_V X 0 [(0, .ref a0), (1, .int a1)] [] 0 0 (hx s rd J I)
  unfold x_X21_stays_c22 at hf
  refine hv_aload_n hX dX21_stays_0 rfl 0 rfl ?_
  obtain ⟨o1, hf⟩ := hf
  obtain ⟨g, hf⟩ := hf
  refine hx_getR (v := 0) hX dX21_stays_1 fl21_1_22 o1 g ?_
  refine hv_bipush (v := 11) hX bix_11 dX21_stays_4 ?_
  refine hx_callVNv (ci := 0) (q := (RX0, TX0, 19)) hX dX21_stays_6 (ct_X0_ran 11 s rd J I _ hf) (hh_nwm q1519 rfl) q1512 q106 q1511 qs48 rfl (by decide) np_X0_ran rfl (xo_c (by decide) rfl) rfl ⟨Nat.le_of_ble_eq_true rfl, Nat.le_of_ble_eq_true rfl⟩ ⟨Nat.le_of_ble_eq_true rfl, Nat.le_of_ble_eq_true rfl⟩ (Nat.le_of_ble_eq_true rfl) ?_
  intro  S9 R9 J9 I2 hq
  clear hf
  obtain ⟨rfl, rfl, rfl, hf⟩ := hq
  refine hv_aload_n hX dX21_stays_9 rfl 0 rfl ?_
  refine hv_iload_n hX dX21_stays_10 rfl 1 rfl ?_
  refine hx_callDXi hX dX21_stays_11 (ct_X28_stays_c22 a0 a1 s rd J I2 _ _ hf) q1567 rfl (tw_dflt (q := (RX22, TX22, 4)) (ci := 22) hX dX21_stays_11 q1565 q1566 (hh_nwm q1550 rfl) (hh_nwm q1549 rfl) rfl (by decide) o1.1 o1.2 rfl) ⟨Nat.le_of_ble_eq_true rfl, Nat.le_of_ble_eq_true rfl⟩ ⟨Nat.le_of_ble_eq_true rfl, Nat.le_of_ble_eq_true rfl⟩ (Nat.le_of_ble_eq_true rfl) ?_ ?_
  · intro c6 S9 R9 J9 I5 hq
    clear hf
    obtain ⟨rfl, rfl, rfl, hf⟩ := hq
    exact hx_out (c := c6) hX hE hT ⟨Nat.le_of_ble_eq_true rfl, Nat.le_of_ble_eq_true rfl⟩ ⟨rfl, rfl, rfl, hf⟩
  intro r4 S9 R9 J9 I3 hq
  clear hf
  obtain ⟨rfl, rfl, rfl, hf⟩ := hq
  exact hv_xret hX hE (fun X hX hE => hx_iret hX hE dX21_stays_14 ⟨rfl, rfl, rfl, hf⟩)
/-! HungryHedge$BushThing.stays(I)I -/
def x_X22_stays_c22 (a0 : Nat) (a1 : Int32) (s : xS) (rd : xRd) (J : mJ) (I : mI) (QX : Nat → mI → Prop) (Q : Int32 → mI → Prop) : Prop :=
  xo s a0 22 ∧ (xR rd a0 3 = some 0 ∧ (x_X0_ran 20 s rd J I (fun I2 => x_X21_stays_c22 a0 a1 s rd J I2 (fun c6 I5 => QX c6 I5) (fun r4 I3 => Q (r4 - 4) I3))))
theorem ct_X22_stays_c22  (a0 : Nat) (a1 : Int32) (s : xS) (rd : xRd) (J : mJ) (I : mI) (QX : Nat → mI → Prop) (Q : Int32 → mI → Prop) (hf : x_X22_stays_c22 a0 a1 s rd J I QX Q) : hh_CtX yX22_stays cX22_stays 2 (some .int) 4 84 [.ref a0, .int a1] (hx s rd J I) (xQi (fun r9 S9 R9 J9 I9 => s = S9 ∧ rd = R9 ∧ J = J9 ∧ Q r9 I9)) (xQX (fun c9 S9 R9 J9 I9 => s = S9 ∧ rd = R9 ∧ J = J9 ∧ QX c9 I9)) 0 0 := by
  refine hh_CtX.of (own := RX22) rfl (by decide +kernel) (Nat.le_of_ble_eq_true rfl) ?_
  intro X hX hN hE hT
  show hh_V X 0 [(0, .ref a0), (1, .int a1)] [] 0 0 (hx s rd J I)
  unfold x_X22_stays_c22 at hf
  refine hv_aload_n hX dX22_stays_0 rfl 0 rfl ?_
  obtain ⟨o1, hf⟩ := hf
  obtain ⟨g, hf⟩ := hf
  refine hx_getR (v := 0) hX dX22_stays_1 fl22_1_22 o1 g ?_
  refine hv_bipush (v := 20) hX bix_20 dX22_stays_4 ?_
  refine hx_callVNv (ci := 0) (q := (RX0, TX0, 19)) hX dX22_stays_6 (ct_X0_ran 20 s rd J I _ hf) (hh_nwm q1561 rfl) q1512 q106 q1511 qs48 rfl (by decide) np_X0_ran rfl (xo_c (by decide) rfl) rfl ⟨Nat.le_of_ble_eq_true rfl, Nat.le_of_ble_eq_true rfl⟩ ⟨Nat.le_of_ble_eq_true rfl, Nat.le_of_ble_eq_true rfl⟩ (Nat.le_of_ble_eq_true rfl) ?_
  intro  S9 R9 J9 I2 hq
  clear hf
  obtain ⟨rfl, rfl, rfl, hf⟩ := hq
  refine hv_aload_n hX dX22_stays_9 rfl 0 rfl ?_
  refine hv_iload_n hX dX22_stays_10 rfl 1 rfl ?_
  refine hx_callZXi hX dX22_stays_11 (ct_X21_stays_c22 a0 a1 s rd J I2 _ _ hf) q1564 q139 rfl (tw_super (y := yX21_stays) (x := ({ cls := "HungryHedge$PatchThing", name := "stays", desc := "(I)I" } : Jvm.MethodName)) hX dX22_stays_11 q1562 q2391 ⟨rfl, rfl⟩ q1359 (.inl rfl) q1563 q1564 (by decide) np_X21_stays.2.2 rfl (ci := 22) (q := (RX22, TX22, 4)) rfl (by decide) o1.1 o1.2 rfl) ⟨Nat.le_of_ble_eq_true rfl, Nat.le_of_ble_eq_true rfl⟩ ⟨Nat.le_of_ble_eq_true rfl, Nat.le_of_ble_eq_true rfl⟩ (Nat.le_of_ble_eq_true rfl) ?_ ?_
  · intro c6 S9 R9 J9 I5 hq
    clear hf
    obtain ⟨rfl, rfl, rfl, hf⟩ := hq
    exact hx_out (c := c6) hX hE hT ⟨Nat.le_of_ble_eq_true rfl, Nat.le_of_ble_eq_true rfl⟩ ⟨rfl, rfl, rfl, hf⟩
  intro r4 S9 R9 J9 I3 hq
  clear hf
  obtain ⟨rfl, rfl, rfl, hf⟩ := hq
  refine hv_iconst (v := 4) hX icx_4 dX22_stays_14 ?_
  refine hv_isub hX dX22_stays_15 ?_
  exact hv_xret hX hE (fun X hX hE => hx_iret hX hE dX22_stays_16 ⟨rfl, rfl, rfl, hf⟩)
/-! HungryHedge$Eats.stays(I)I -/
def x_X28_stays_c23 (a0 : Nat) (a1 : Int32) (s : xS) (rd : xRd) (J : mJ) (I : mI) (QX : Nat → mI → Prop) (Q : Int32 → mI → Prop) : Prop :=
  xo s a0 23 ∧ (x_X23_eats_c23 a0 a1 s rd J I (fun c5 I4 => QX c5 I4) (fun r3 I2 => Q (r3 * 2) I2))
theorem ct_X28_stays_c23  (a0 : Nat) (a1 : Int32) (s : xS) (rd : xRd) (J : mJ) (I : mI) (QX : Nat → mI → Prop) (Q : Int32 → mI → Prop) (hf : x_X28_stays_c23 a0 a1 s rd J I QX Q) : tu_Ct yX28_stays cX28_stays 2 (some .int) 3 63 [.ref a0, .int a1] (hx s rd J I) (xQi (fun r9 S9 R9 J9 I9 => s = S9 ∧ rd = R9 ∧ J = J9 ∧ Q r9 I9)) (xQX (fun c9 S9 R9 J9 I9 => s = S9 ∧ rd = R9 ∧ J = J9 ∧ QX c9 I9)) 0 0 := by
  refine tu_of (own := RX28) rfl (by decide +kernel) (Nat.le_of_ble_eq_true rfl) ?_
  intro X hX hN hE hT
  show hh_V X 0 [(0, .ref a0), (1, .int a1)] [] 0 0 (hx s rd J I)
  unfold x_X28_stays_c23 at hf
  refine hv_aload_n hX dX28_stays_0 rfl 0 rfl ?_
  refine hv_iload_n hX dX28_stays_1 rfl 1 rfl ?_
  obtain ⟨o1, hf⟩ := hf
  refine hx_callZX5i hX dX28_stays_2 (ct_X23_eats_c23 a0 a1 s rd J I _ _ hf) q1529 q141 rfl (tw_face (y := yX23_eats) (x := ({ cls := "HungryHedge$Eats", name := "eats", desc := "(I)I" } : Jvm.MethodName)) hX dX28_stays_2 q1569 (by decide) (by decide) q1535 q1528 np_X23_eats.2.2 rfl (ci := 23) (q := (RX23, TX23, 5)) rfl (by decide) o1.1 o1.2 rfl) ⟨Nat.le_of_ble_eq_true rfl, Nat.le_of_ble_eq_true rfl⟩ ⟨Nat.le_of_ble_eq_true rfl, Nat.le_of_ble_eq_true rfl⟩ (Nat.le_of_ble_eq_true rfl) ?_ ?_
  · intro c5 S9 R9 J9 I4 hq
    clear hf
    obtain ⟨rfl, rfl, rfl, hf⟩ := hq
    exact hx_out (c := c5) hX hE hT ⟨Nat.le_of_ble_eq_true rfl, Nat.le_of_ble_eq_true rfl⟩ ⟨rfl, rfl, rfl, hf⟩
  intro r3 S9 R9 J9 I2 hq
  clear hf
  obtain ⟨rfl, rfl, rfl, hf⟩ := hq
  refine hv_iconst (v := 2) hX icx_2 dX28_stays_7 ?_
  refine hv_imul hX dX28_stays_8 ?_
  exact hv_xret hX hE (fun X hX hE => hx_iret hX hE dX28_stays_9 ⟨rfl, rfl, rfl, hf⟩)
/-! HungryHedge$PatchThing.stays(I)I -/
def x_X21_stays_c23 (a0 : Nat) (a1 : Int32) (s : xS) (rd : xRd) (J : mJ) (I : mI) (QX : Nat → mI → Prop) (Q : Int32 → mI → Prop) : Prop :=
  xo s a0 23 ∧ (xR rd a0 2 = some 0 ∧ (x_X0_ran 11 s rd J I (fun I2 => x_X28_stays_c23 a0 a1 s rd J I2 (fun c6 I5 => QX c6 I5) (fun r4 I3 => Q r4 I3))))
theorem ct_X21_stays_c23  (a0 : Nat) (a1 : Int32) (s : xS) (rd : xRd) (J : mJ) (I : mI) (QX : Nat → mI → Prop) (Q : Int32 → mI → Prop) (hf : x_X21_stays_c23 a0 a1 s rd J I QX Q) : hh_CtX yX21_stays cX21_stays 2 (some .int) 4 84 [.ref a0, .int a1] (hx s rd J I) (xQi (fun r9 S9 R9 J9 I9 => s = S9 ∧ rd = R9 ∧ J = J9 ∧ Q r9 I9)) (xQX (fun c9 S9 R9 J9 I9 => s = S9 ∧ rd = R9 ∧ J = J9 ∧ QX c9 I9)) 0 0 := by
  refine hh_CtX.of (own := RX21) rfl (by decide +kernel) (Nat.le_of_ble_eq_true rfl) ?_
  intro X hX hN hE hT
  show hh_V X 0 [(0, .ref a0), (1, .int a1)] [] 0 0 (hx s rd J I)
  unfold x_X21_stays_c23 at hf
  refine hv_aload_n hX dX21_stays_0 rfl 0 rfl ?_
  obtain ⟨o1, hf⟩ := hf
  obtain ⟨g, hf⟩ := hf
  refine hx_getR (v := 0) hX dX21_stays_1 fl21_1_23 o1 g ?_
  refine hv_bipush (v := 11) hX bix_11 dX21_stays_4 ?_
  refine hx_callVNv (ci := 0) (q := (RX0, TX0, 19)) hX dX21_stays_6 (ct_X0_ran 11 s rd J I _ hf) (hh_nwm q1519 rfl) q1512 q106 q1511 qs48 rfl (by decide) np_X0_ran rfl (xo_c (by decide) rfl) rfl ⟨Nat.le_of_ble_eq_true rfl, Nat.le_of_ble_eq_true rfl⟩ ⟨Nat.le_of_ble_eq_true rfl, Nat.le_of_ble_eq_true rfl⟩ (Nat.le_of_ble_eq_true rfl) ?_
  intro  S9 R9 J9 I2 hq
  clear hf
  obtain ⟨rfl, rfl, rfl, hf⟩ := hq
  refine hv_aload_n hX dX21_stays_9 rfl 0 rfl ?_
  refine hv_iload_n hX dX21_stays_10 rfl 1 rfl ?_
  refine hx_callDXi hX dX21_stays_11 (ct_X28_stays_c23 a0 a1 s rd J I2 _ _ hf) q1567 rfl (tw_dflt (q := (RX23, TX23, 5)) (ci := 23) hX dX21_stays_11 q1565 q1566 (hh_nwm q1550 rfl) (hh_nwm q1549 rfl) rfl (by decide) o1.1 o1.2 rfl) ⟨Nat.le_of_ble_eq_true rfl, Nat.le_of_ble_eq_true rfl⟩ ⟨Nat.le_of_ble_eq_true rfl, Nat.le_of_ble_eq_true rfl⟩ (Nat.le_of_ble_eq_true rfl) ?_ ?_
  · intro c6 S9 R9 J9 I5 hq
    clear hf
    obtain ⟨rfl, rfl, rfl, hf⟩ := hq
    exact hx_out (c := c6) hX hE hT ⟨Nat.le_of_ble_eq_true rfl, Nat.le_of_ble_eq_true rfl⟩ ⟨rfl, rfl, rfl, hf⟩
  intro r4 S9 R9 J9 I3 hq
  clear hf
  obtain ⟨rfl, rfl, rfl, hf⟩ := hq
  exact hv_xret hX hE (fun X hX hE => hx_iret hX hE dX21_stays_14 ⟨rfl, rfl, rfl, hf⟩)
/-! HungryHedge$BushThing.stays(I)I -/
def x_X22_stays_c23 (a0 : Nat) (a1 : Int32) (s : xS) (rd : xRd) (J : mJ) (I : mI) (QX : Nat → mI → Prop) (Q : Int32 → mI → Prop) : Prop :=
  xo s a0 23 ∧ (xR rd a0 3 = some 0 ∧ (x_X0_ran 20 s rd J I (fun I2 => x_X21_stays_c23 a0 a1 s rd J I2 (fun c6 I5 => QX c6 I5) (fun r4 I3 => Q (r4 - 4) I3))))
theorem ct_X22_stays_c23  (a0 : Nat) (a1 : Int32) (s : xS) (rd : xRd) (J : mJ) (I : mI) (QX : Nat → mI → Prop) (Q : Int32 → mI → Prop) (hf : x_X22_stays_c23 a0 a1 s rd J I QX Q) : hh_CtX yX22_stays cX22_stays 2 (some .int) 5 105 [.ref a0, .int a1] (hx s rd J I) (xQi (fun r9 S9 R9 J9 I9 => s = S9 ∧ rd = R9 ∧ J = J9 ∧ Q r9 I9)) (xQX (fun c9 S9 R9 J9 I9 => s = S9 ∧ rd = R9 ∧ J = J9 ∧ QX c9 I9)) 0 0 := by
  refine hh_CtX.of (own := RX22) rfl (by decide +kernel) (Nat.le_of_ble_eq_true rfl) ?_
  intro X hX hN hE hT
  show hh_V X 0 [(0, .ref a0), (1, .int a1)] [] 0 0 (hx s rd J I)
  unfold x_X22_stays_c23 at hf
  refine hv_aload_n hX dX22_stays_0 rfl 0 rfl ?_
  obtain ⟨o1, hf⟩ := hf
  obtain ⟨g, hf⟩ := hf
  refine hx_getR (v := 0) hX dX22_stays_1 fl22_1_23 o1 g ?_
  refine hv_bipush (v := 20) hX bix_20 dX22_stays_4 ?_
  refine hx_callVNv (ci := 0) (q := (RX0, TX0, 19)) hX dX22_stays_6 (ct_X0_ran 20 s rd J I _ hf) (hh_nwm q1561 rfl) q1512 q106 q1511 qs48 rfl (by decide) np_X0_ran rfl (xo_c (by decide) rfl) rfl ⟨Nat.le_of_ble_eq_true rfl, Nat.le_of_ble_eq_true rfl⟩ ⟨Nat.le_of_ble_eq_true rfl, Nat.le_of_ble_eq_true rfl⟩ (Nat.le_of_ble_eq_true rfl) ?_
  intro  S9 R9 J9 I2 hq
  clear hf
  obtain ⟨rfl, rfl, rfl, hf⟩ := hq
  refine hv_aload_n hX dX22_stays_9 rfl 0 rfl ?_
  refine hv_iload_n hX dX22_stays_10 rfl 1 rfl ?_
  refine hx_callZXi hX dX22_stays_11 (ct_X21_stays_c23 a0 a1 s rd J I2 _ _ hf) q1564 q139 rfl (tw_super (y := yX21_stays) (x := ({ cls := "HungryHedge$PatchThing", name := "stays", desc := "(I)I" } : Jvm.MethodName)) hX dX22_stays_11 q1562 q2391 ⟨rfl, rfl⟩ q1359 (.inl rfl) q1563 q1564 (by decide) np_X21_stays.2.2 rfl (ci := 23) (q := (RX23, TX23, 5)) rfl (by decide) o1.1 o1.2 rfl) ⟨Nat.le_of_ble_eq_true rfl, Nat.le_of_ble_eq_true rfl⟩ ⟨Nat.le_of_ble_eq_true rfl, Nat.le_of_ble_eq_true rfl⟩ (Nat.le_of_ble_eq_true rfl) ?_ ?_
  · intro c6 S9 R9 J9 I5 hq
    clear hf
    obtain ⟨rfl, rfl, rfl, hf⟩ := hq
    exact hx_out (c := c6) hX hE hT ⟨Nat.le_of_ble_eq_true rfl, Nat.le_of_ble_eq_true rfl⟩ ⟨rfl, rfl, rfl, hf⟩
  intro r4 S9 R9 J9 I3 hq
  clear hf
  obtain ⟨rfl, rfl, rfl, hf⟩ := hq
  refine hv_iconst (v := 4) hX icx_4 dX22_stays_14 ?_
  refine hv_isub hX dX22_stays_15 ?_
  exact hv_xret hX hE (fun X hX hE => hx_iret hX hE dX22_stays_16 ⟨rfl, rfl, rfl, hf⟩)
/-! HungryHedge$Eats.stays(I)I -/
def x_X28_stays_c24 (a0 : Nat) (a1 : Int32) (s : xS) (rd : xRd) (J : mJ) (I : mI) (QX : Nat → mI → Prop) (Q : Int32 → mI → Prop) : Prop :=
  xo s a0 24 ∧ (x_X24_eats_c24 a0 a1 s rd J I (fun c5 I4 => QX c5 I4) (fun r3 I2 => Q (r3 * 2) I2))
theorem ct_X28_stays_c24  (a0 : Nat) (a1 : Int32) (s : xS) (rd : xRd) (J : mJ) (I : mI) (QX : Nat → mI → Prop) (Q : Int32 → mI → Prop) (hf : x_X28_stays_c24 a0 a1 s rd J I QX Q) : tu_Ct yX28_stays cX28_stays 2 (some .int) 4 84 [.ref a0, .int a1] (hx s rd J I) (xQi (fun r9 S9 R9 J9 I9 => s = S9 ∧ rd = R9 ∧ J = J9 ∧ Q r9 I9)) (xQX (fun c9 S9 R9 J9 I9 => s = S9 ∧ rd = R9 ∧ J = J9 ∧ QX c9 I9)) 0 0 := by
  refine tu_of (own := RX28) rfl (by decide +kernel) (Nat.le_of_ble_eq_true rfl) ?_
  intro X hX hN hE hT
  show hh_V X 0 [(0, .ref a0), (1, .int a1)] [] 0 0 (hx s rd J I)
  unfold x_X28_stays_c24 at hf
  refine hv_aload_n hX dX28_stays_0 rfl 0 rfl ?_
  refine hv_iload_n hX dX28_stays_1 rfl 1 rfl ?_
  obtain ⟨o1, hf⟩ := hf
  refine hx_callZX5i hX dX28_stays_2 (ct_X24_eats_c24 a0 a1 s rd J I _ _ hf) q1525 q142 rfl (tw_face (y := yX24_eats) (x := ({ cls := "HungryHedge$Eats", name := "eats", desc := "(I)I" } : Jvm.MethodName)) hX dX28_stays_2 q1569 (by decide) (by decide) q1521 q1523 np_X24_eats.2.2 rfl (ci := 24) (q := (RX24, TX24, 6)) rfl (by decide) o1.1 o1.2 rfl) ⟨Nat.le_of_ble_eq_true rfl, Nat.le_of_ble_eq_true rfl⟩ ⟨Nat.le_of_ble_eq_true rfl, Nat.le_of_ble_eq_true rfl⟩ (Nat.le_of_ble_eq_true rfl) ?_ ?_
  · intro c5 S9 R9 J9 I4 hq
    clear hf
    obtain ⟨rfl, rfl, rfl, hf⟩ := hq
    exact hx_out (c := c5) hX hE hT ⟨Nat.le_of_ble_eq_true rfl, Nat.le_of_ble_eq_true rfl⟩ ⟨rfl, rfl, rfl, hf⟩
  intro r3 S9 R9 J9 I2 hq
  clear hf
  obtain ⟨rfl, rfl, rfl, hf⟩ := hq
  refine hv_iconst (v := 2) hX icx_2 dX28_stays_7 ?_
  refine hv_imul hX dX28_stays_8 ?_
  exact hv_xret hX hE (fun X hX hE => hx_iret hX hE dX28_stays_9 ⟨rfl, rfl, rfl, hf⟩)
/-! HungryHedge$PatchThing.stays(I)I -/
def x_X21_stays_c24 (a0 : Nat) (a1 : Int32) (s : xS) (rd : xRd) (J : mJ) (I : mI) (QX : Nat → mI → Prop) (Q : Int32 → mI → Prop) : Prop :=
  xo s a0 24 ∧ (xR rd a0 2 = some 0 ∧ (x_X0_ran 11 s rd J I (fun I2 => x_X28_stays_c24 a0 a1 s rd J I2 (fun c6 I5 => QX c6 I5) (fun r4 I3 => Q r4 I3))))
theorem ct_X21_stays_c24  (a0 : Nat) (a1 : Int32) (s : xS) (rd : xRd) (J : mJ) (I : mI) (QX : Nat → mI → Prop) (Q : Int32 → mI → Prop) (hf : x_X21_stays_c24 a0 a1 s rd J I QX Q) : hh_CtX yX21_stays cX21_stays 2 (some .int) 5 105 [.ref a0, .int a1] (hx s rd J I) (xQi (fun r9 S9 R9 J9 I9 => s = S9 ∧ rd = R9 ∧ J = J9 ∧ Q r9 I9)) (xQX (fun c9 S9 R9 J9 I9 => s = S9 ∧ rd = R9 ∧ J = J9 ∧ QX c9 I9)) 0 0 := by
  refine hh_CtX.of (own := RX21) rfl (by decide +kernel) (Nat.le_of_ble_eq_true rfl) ?_
  intro X hX hN hE hT
  show hh_V X 0 [(0, .ref a0), (1, .int a1)] [] 0 0 (hx s rd J I)
  unfold x_X21_stays_c24 at hf
  refine hv_aload_n hX dX21_stays_0 rfl 0 rfl ?_
  obtain ⟨o1, hf⟩ := hf
  obtain ⟨g, hf⟩ := hf
  refine hx_getR (v := 0) hX dX21_stays_1 fl21_1_24 o1 g ?_
  refine hv_bipush (v := 11) hX bix_11 dX21_stays_4 ?_
  refine hx_callVNv (ci := 0) (q := (RX0, TX0, 19)) hX dX21_stays_6 (ct_X0_ran 11 s rd J I _ hf) (hh_nwm q1519 rfl) q1512 q106 q1511 qs48 rfl (by decide) np_X0_ran rfl (xo_c (by decide) rfl) rfl ⟨Nat.le_of_ble_eq_true rfl, Nat.le_of_ble_eq_true rfl⟩ ⟨Nat.le_of_ble_eq_true rfl, Nat.le_of_ble_eq_true rfl⟩ (Nat.le_of_ble_eq_true rfl) ?_
  intro  S9 R9 J9 I2 hq
  clear hf
  obtain ⟨rfl, rfl, rfl, hf⟩ := hq
  refine hv_aload_n hX dX21_stays_9 rfl 0 rfl ?_
  refine hv_iload_n hX dX21_stays_10 rfl 1 rfl ?_
  refine hx_callDXi hX dX21_stays_11 (ct_X28_stays_c24 a0 a1 s rd J I2 _ _ hf) q1567 rfl (tw_dflt (q := (RX24, TX24, 6)) (ci := 24) hX dX21_stays_11 q1565 q1566 (hh_nwm q1550 rfl) (hh_nwm q1549 rfl) rfl (by decide) o1.1 o1.2 rfl) ⟨Nat.le_of_ble_eq_true rfl, Nat.le_of_ble_eq_true rfl⟩ ⟨Nat.le_of_ble_eq_true rfl, Nat.le_of_ble_eq_true rfl⟩ (Nat.le_of_ble_eq_true rfl) ?_ ?_
  · intro c6 S9 R9 J9 I5 hq
    clear hf
    obtain ⟨rfl, rfl, rfl, hf⟩ := hq
    exact hx_out (c := c6) hX hE hT ⟨Nat.le_of_ble_eq_true rfl, Nat.le_of_ble_eq_true rfl⟩ ⟨rfl, rfl, rfl, hf⟩
  intro r4 S9 R9 J9 I3 hq
  clear hf
  obtain ⟨rfl, rfl, rfl, hf⟩ := hq
  exact hv_xret hX hE (fun X hX hE => hx_iret hX hE dX21_stays_14 ⟨rfl, rfl, rfl, hf⟩)
/-! HungryHedge$BushThing.stays(I)I -/
def x_X22_stays_c24 (a0 : Nat) (a1 : Int32) (s : xS) (rd : xRd) (J : mJ) (I : mI) (QX : Nat → mI → Prop) (Q : Int32 → mI → Prop) : Prop :=
  xo s a0 24 ∧ (xR rd a0 3 = some 0 ∧ (x_X0_ran 20 s rd J I (fun I2 => x_X21_stays_c24 a0 a1 s rd J I2 (fun c6 I5 => QX c6 I5) (fun r4 I3 => Q (r4 - 4) I3))))
theorem ct_X22_stays_c24  (a0 : Nat) (a1 : Int32) (s : xS) (rd : xRd) (J : mJ) (I : mI) (QX : Nat → mI → Prop) (Q : Int32 → mI → Prop) (hf : x_X22_stays_c24 a0 a1 s rd J I QX Q) : hh_CtX yX22_stays cX22_stays 2 (some .int) 6 126 [.ref a0, .int a1] (hx s rd J I) (xQi (fun r9 S9 R9 J9 I9 => s = S9 ∧ rd = R9 ∧ J = J9 ∧ Q r9 I9)) (xQX (fun c9 S9 R9 J9 I9 => s = S9 ∧ rd = R9 ∧ J = J9 ∧ QX c9 I9)) 0 0 := by
  refine hh_CtX.of (own := RX22) rfl (by decide +kernel) (Nat.le_of_ble_eq_true rfl) ?_
  intro X hX hN hE hT
  show hh_V X 0 [(0, .ref a0), (1, .int a1)] [] 0 0 (hx s rd J I)
  unfold x_X22_stays_c24 at hf
  refine hv_aload_n hX dX22_stays_0 rfl 0 rfl ?_
  obtain ⟨o1, hf⟩ := hf
  obtain ⟨g, hf⟩ := hf
  refine hx_getR (v := 0) hX dX22_stays_1 fl22_1_24 o1 g ?_
  refine hv_bipush (v := 20) hX bix_20 dX22_stays_4 ?_
  refine hx_callVNv (ci := 0) (q := (RX0, TX0, 19)) hX dX22_stays_6 (ct_X0_ran 20 s rd J I _ hf) (hh_nwm q1561 rfl) q1512 q106 q1511 qs48 rfl (by decide) np_X0_ran rfl (xo_c (by decide) rfl) rfl ⟨Nat.le_of_ble_eq_true rfl, Nat.le_of_ble_eq_true rfl⟩ ⟨Nat.le_of_ble_eq_true rfl, Nat.le_of_ble_eq_true rfl⟩ (Nat.le_of_ble_eq_true rfl) ?_
  intro  S9 R9 J9 I2 hq
  clear hf
  obtain ⟨rfl, rfl, rfl, hf⟩ := hq
  refine hv_aload_n hX dX22_stays_9 rfl 0 rfl ?_
  refine hv_iload_n hX dX22_stays_10 rfl 1 rfl ?_
  refine hx_callZXi hX dX22_stays_11 (ct_X21_stays_c24 a0 a1 s rd J I2 _ _ hf) q1564 q139 rfl (tw_super (y := yX21_stays) (x := ({ cls := "HungryHedge$PatchThing", name := "stays", desc := "(I)I" } : Jvm.MethodName)) hX dX22_stays_11 q1562 q2391 ⟨rfl, rfl⟩ q1359 (.inl rfl) q1563 q1564 (by decide) np_X21_stays.2.2 rfl (ci := 24) (q := (RX24, TX24, 6)) rfl (by decide) o1.1 o1.2 rfl) ⟨Nat.le_of_ble_eq_true rfl, Nat.le_of_ble_eq_true rfl⟩ ⟨Nat.le_of_ble_eq_true rfl, Nat.le_of_ble_eq_true rfl⟩ (Nat.le_of_ble_eq_true rfl) ?_ ?_
  · intro c6 S9 R9 J9 I5 hq
    clear hf
    obtain ⟨rfl, rfl, rfl, hf⟩ := hq
    exact hx_out (c := c6) hX hE hT ⟨Nat.le_of_ble_eq_true rfl, Nat.le_of_ble_eq_true rfl⟩ ⟨rfl, rfl, rfl, hf⟩
  intro r4 S9 R9 J9 I3 hq
  clear hf
  obtain ⟨rfl, rfl, rfl, hf⟩ := hq
  refine hv_iconst (v := 4) hX icx_4 dX22_stays_14 ?_
  refine hv_isub hX dX22_stays_15 ?_
  exact hv_xret hX hE (fun X hX hE => hx_iret hX hE dX22_stays_16 ⟨rfl, rfl, rfl, hf⟩)
/-! HungryHedge$Eats.stays(I)I -/
def x_X28_stays_c25 (a0 : Nat) (a1 : Int32) (s : xS) (rd : xRd) (J : mJ) (I : mI) (QX : Nat → mI → Prop) (Q : Int32 → mI → Prop) : Prop :=
  xo s a0 25 ∧ (x_X21_eats_c25 a0 a1 s rd J I (fun c5 I4 => QX c5 I4) (fun r3 I2 => Q (r3 * 2) I2))
theorem ct_X28_stays_c25  (a0 : Nat) (a1 : Int32) (s : xS) (rd : xRd) (J : mJ) (I : mI) (QX : Nat → mI → Prop) (Q : Int32 → mI → Prop) (hf : x_X28_stays_c25 a0 a1 s rd J I QX Q) : tu_Ct yX28_stays cX28_stays 2 (some .int) 2 42 [.ref a0, .int a1] (hx s rd J I) (xQi (fun r9 S9 R9 J9 I9 => s = S9 ∧ rd = R9 ∧ J = J9 ∧ Q r9 I9)) (xQX (fun c9 S9 R9 J9 I9 => s = S9 ∧ rd = R9 ∧ J = J9 ∧ QX c9 I9)) 0 0 := by
  refine tu_of (own := RX28) rfl (by decide +kernel) (Nat.le_of_ble_eq_true rfl) ?_
  intro X hX hN hE hT
  show hh_V X 0 [(0, .ref a0), (1, .int a1)] [] 0 0 (hx s rd J I)
  unfold x_X28_stays_c25 at hf
  refine hv_aload_n hX dX28_stays_0 rfl 0 rfl ?_
  refine hv_iload_n hX dX28_stays_1 rfl 1 rfl ?_
  obtain ⟨o1, hf⟩ := hf
  refine hx_callZX5i hX dX28_stays_2 (ct_X21_eats_c25 a0 a1 s rd J I _ _ hf) q1518 q139 rfl (tw_face (y := yX21_eats) (x := ({ cls := "HungryHedge$Eats", name := "eats", desc := "(I)I" } : Jvm.MethodName)) hX dX28_stays_2 q1569 (by decide) (by decide) q1539 q1516 np_X21_eats.2.2 rfl (ci := 25) (q := (RX25, TX25, 4)) rfl (by decide) o1.1 o1.2 rfl) ⟨Nat.le_of_ble_eq_true rfl, Nat.le_of_ble_eq_true rfl⟩ ⟨Nat.le_of_ble_eq_true rfl, Nat.le_of_ble_eq_true rfl⟩ (Nat.le_of_ble_eq_true rfl) ?_ ?_
  · intro c5 S9 R9 J9 I4 hq
    clear hf
    obtain ⟨rfl, rfl, rfl, hf⟩ := hq
    exact hx_out (c := c5) hX hE hT ⟨Nat.le_of_ble_eq_true rfl, Nat.le_of_ble_eq_true rfl⟩ ⟨rfl, rfl, rfl, hf⟩
  intro r3 S9 R9 J9 I2 hq
  clear hf
  obtain ⟨rfl, rfl, rfl, hf⟩ := hq
  refine hv_iconst (v := 2) hX icx_2 dX28_stays_7 ?_
  refine hv_imul hX dX28_stays_8 ?_
  exact hv_xret hX hE (fun X hX hE => hx_iret hX hE dX28_stays_9 ⟨rfl, rfl, rfl, hf⟩)
/-! HungryHedge$PatchThing.stays(I)I -/
def x_X21_stays_c25 (a0 : Nat) (a1 : Int32) (s : xS) (rd : xRd) (J : mJ) (I : mI) (QX : Nat → mI → Prop) (Q : Int32 → mI → Prop) : Prop :=
  xo s a0 25 ∧ (xR rd a0 2 = some 0 ∧ (x_X0_ran 11 s rd J I (fun I2 => x_X28_stays_c25 a0 a1 s rd J I2 (fun c6 I5 => QX c6 I5) (fun r4 I3 => Q r4 I3))))
theorem ct_X21_stays_c25  (a0 : Nat) (a1 : Int32) (s : xS) (rd : xRd) (J : mJ) (I : mI) (QX : Nat → mI → Prop) (Q : Int32 → mI → Prop) (hf : x_X21_stays_c25 a0 a1 s rd J I QX Q) : hh_CtX yX21_stays cX21_stays 2 (some .int) 3 63 [.ref a0, .int a1] (hx s rd J I) (xQi (fun r9 S9 R9 J9 I9 => s = S9 ∧ rd = R9 ∧ J = J9 ∧ Q r9 I9)) (xQX (fun c9 S9 R9 J9 I9 => s = S9 ∧ rd = R9 ∧ J = J9 ∧ QX c9 I9)) 0 0 := by
  refine hh_CtX.of (own := RX21) rfl (by decide +kernel) (Nat.le_of_ble_eq_true rfl) ?_
  intro X hX hN hE hT
  show hh_V X 0 [(0, .ref a0), (1, .int a1)] [] 0 0 (hx s rd J I)
  unfold x_X21_stays_c25 at hf
  refine hv_aload_n hX dX21_stays_0 rfl 0 rfl ?_
  obtain ⟨o1, hf⟩ := hf
  obtain ⟨g, hf⟩ := hf
  refine hx_getR (v := 0) hX dX21_stays_1 fl21_1_25 o1 g ?_
  refine hv_bipush (v := 11) hX bix_11 dX21_stays_4 ?_
  refine hx_callVNv (ci := 0) (q := (RX0, TX0, 19)) hX dX21_stays_6 (ct_X0_ran 11 s rd J I _ hf) (hh_nwm q1519 rfl) q1512 q106 q1511 qs48 rfl (by decide) np_X0_ran rfl (xo_c (by decide) rfl) rfl ⟨Nat.le_of_ble_eq_true rfl, Nat.le_of_ble_eq_true rfl⟩ ⟨Nat.le_of_ble_eq_true rfl, Nat.le_of_ble_eq_true rfl⟩ (Nat.le_of_ble_eq_true rfl) ?_
  intro  S9 R9 J9 I2 hq
  clear hf
  obtain ⟨rfl, rfl, rfl, hf⟩ := hq
  refine hv_aload_n hX dX21_stays_9 rfl 0 rfl ?_
  refine hv_iload_n hX dX21_stays_10 rfl 1 rfl ?_
  refine hx_callDXi hX dX21_stays_11 (ct_X28_stays_c25 a0 a1 s rd J I2 _ _ hf) q1567 rfl (tw_dflt (q := (RX25, TX25, 4)) (ci := 25) hX dX21_stays_11 q1565 q1566 (hh_nwm q1550 rfl) (hh_nwm q1549 rfl) rfl (by decide) o1.1 o1.2 rfl) ⟨Nat.le_of_ble_eq_true rfl, Nat.le_of_ble_eq_true rfl⟩ ⟨Nat.le_of_ble_eq_true rfl, Nat.le_of_ble_eq_true rfl⟩ (Nat.le_of_ble_eq_true rfl) ?_ ?_
  · intro c6 S9 R9 J9 I5 hq
    clear hf
    obtain ⟨rfl, rfl, rfl, hf⟩ := hq
    exact hx_out (c := c6) hX hE hT ⟨Nat.le_of_ble_eq_true rfl, Nat.le_of_ble_eq_true rfl⟩ ⟨rfl, rfl, rfl, hf⟩
  intro r4 S9 R9 J9 I3 hq
  clear hf
  obtain ⟨rfl, rfl, rfl, hf⟩ := hq
  exact hv_xret hX hE (fun X hX hE => hx_iret hX hE dX21_stays_14 ⟨rfl, rfl, rfl, hf⟩)
/-! HungryHedge$NestThing.stays(I)I -/
def x_X25_stays_c25 (a0 : Nat) (a1 : Int32) (s : xS) (rd : xRd) (J : mJ) (I : mI) (QX : Nat → mI → Prop) (Q : Int32 → mI → Prop) : Prop :=
  xo s a0 25 ∧ (xR rd a0 3 = some 0 ∧ (x_X0_ran 50 s rd J I (fun I2 => x_X21_stays_c25 a0 a1 s rd J I2 (fun c6 I5 => QX c6 I5) (fun r4 I3 => Q (0 - r4) I3))))
theorem ct_X25_stays_c25  (a0 : Nat) (a1 : Int32) (s : xS) (rd : xRd) (J : mJ) (I : mI) (QX : Nat → mI → Prop) (Q : Int32 → mI → Prop) (hf : x_X25_stays_c25 a0 a1 s rd J I QX Q) : hh_CtX yX25_stays cX25_stays 2 (some .int) 4 84 [.ref a0, .int a1] (hx s rd J I) (xQi (fun r9 S9 R9 J9 I9 => s = S9 ∧ rd = R9 ∧ J = J9 ∧ Q r9 I9)) (xQX (fun c9 S9 R9 J9 I9 => s = S9 ∧ rd = R9 ∧ J = J9 ∧ QX c9 I9)) 0 0 := by
  refine hh_CtX.of (own := RX25) rfl (by decide +kernel) (Nat.le_of_ble_eq_true rfl) ?_
  intro X hX hN hE hT
  show hh_V X 0 [(0, .ref a0), (1, .int a1)] [] 0 0 (hx s rd J I)
  unfold x_X25_stays_c25 at hf
  refine hv_aload_n hX dX25_stays_0 rfl 0 rfl ?_
  obtain ⟨o1, hf⟩ := hf
  obtain ⟨g, hf⟩ := hf
  refine hx_getR (v := 0) hX dX25_stays_1 fl25_1_25 o1 g ?_
  refine hv_bipush (v := 50) hX bix_50 dX25_stays_4 ?_
  refine hx_callVNv (ci := 0) (q := (RX0, TX0, 19)) hX dX25_stays_6 (ct_X0_ran 50 s rd J I _ hf) (hh_nwm q1586 rfl) q1512 q106 q1511 qs48 rfl (by decide) np_X0_ran rfl (xo_c (by decide) rfl) rfl ⟨Nat.le_of_ble_eq_true rfl, Nat.le_of_ble_eq_true rfl⟩ ⟨Nat.le_of_ble_eq_true rfl, Nat.le_of_ble_eq_true rfl⟩ (Nat.le_of_ble_eq_true rfl) ?_
  intro  S9 R9 J9 I2 hq
  clear hf
  obtain ⟨rfl, rfl, rfl, hf⟩ := hq
  refine hv_iconst (v := 0) hX icx_0 dX25_stays_9 ?_
  refine hv_aload_n hX dX25_stays_10 rfl 0 rfl ?_
  refine hv_iload_n hX dX25_stays_11 rfl 1 rfl ?_
  refine hx_callZXi hX dX25_stays_12 (ct_X21_stays_c25 a0 a1 s rd J I2 _ _ hf) q1564 q139 rfl (tw_super (y := yX21_stays) (x := ({ cls := "HungryHedge$PatchThing", name := "stays", desc := "(I)I" } : Jvm.MethodName)) hX dX25_stays_12 q1587 q2391 ⟨rfl, rfl⟩ q1401 (.inl rfl) q1563 q1564 (by decide) np_X21_stays.2.2 rfl (ci := 25) (q := (RX25, TX25, 4)) rfl (by decide) o1.1 o1.2 rfl) ⟨Nat.le_of_ble_eq_true rfl, Nat.le_of_ble_eq_true rfl⟩ ⟨Nat.le_of_ble_eq_true rfl, Nat.le_of_ble_eq_true rfl⟩ (Nat.le_of_ble_eq_true rfl) ?_ ?_
  · intro c6 S9 R9 J9 I5 hq
    clear hf
    obtain ⟨rfl, rfl, rfl, hf⟩ := hq
    exact hx_out (c := c6) hX hE hT ⟨Nat.le_of_ble_eq_true rfl, Nat.le_of_ble_eq_true rfl⟩ ⟨rfl, rfl, rfl, hf⟩
  intro r4 S9 R9 J9 I3 hq
  clear hf
  obtain ⟨rfl, rfl, rfl, hf⟩ := hq
  refine hv_isub hX dX25_stays_15 ?_
  exact hv_xret hX hE (fun X hX hE => hx_iret hX hE dX25_stays_16 ⟨rfl, rfl, rfl, hf⟩)
/-! HungryHedge$RiskThing.stays(I)I -/
def x_X26_stays (a0 : Nat) (a1 : Int32) (s : xS) (rd : xRd) (J : mJ) (I : mI) (QX : Nat → mI → Prop) (Q : Int32 → mI → Prop) : Prop :=
  xo s a0 26 ∧ (xR rd a0 2 = some 0 ∧ (x_X0_ran 61 s rd J I (fun I2 => x_X26_eats a0 a1 s rd J I2 (fun c6 I5 => QX c6 I5) (fun r4 I3 => Q (r4 + (I3 a0 0)) I3))))
theorem ct_X26_stays  (a0 : Nat) (a1 : Int32) (s : xS) (rd : xRd) (J : mJ) (I : mI) (QX : Nat → mI → Prop) (Q : Int32 → mI → Prop) (hf : x_X26_stays a0 a1 s rd J I QX Q) : hh_CtX yX26_stays cX26_stays 2 (some .int) 2 42 [.ref a0, .int a1] (hx s rd J I) (xQi (fun r9 S9 R9 J9 I9 => s = S9 ∧ rd = R9 ∧ J = J9 ∧ Q r9 I9)) (xQX (fun c9 S9 R9 J9 I9 => s = S9 ∧ rd = R9 ∧ J = J9 ∧ QX c9 I9)) 0 0 := by
  refine hh_CtX.of (own := RX26) rfl (by decide +kernel) (Nat.le_of_ble_eq_true rfl) ?_
  intro X hX hN hE hT
  show hh_V X 0 [(0, .ref a0), (1, .int a1)] [] 0 0 (hx s rd J I)
  unfold x_X26_stays at hf
  refine hv_aload_n hX dX26_stays_0 rfl 0 rfl ?_
  obtain ⟨o1, hf⟩ := hf
  obtain ⟨g, hf⟩ := hf
  refine hx_getR (v := 0) hX dX26_stays_1 fl26_1_26 o1 g ?_
  refine hv_bipush (v := 61) hX bix_61 dX26_stays_4 ?_
  refine hx_callVNv (ci := 0) (q := (RX0, TX0, 19)) hX dX26_stays_6 (ct_X0_ran 61 s rd J I _ hf) (hh_nwm q1547 rfl) q1512 q106 q1511 qs48 rfl (by decide) np_X0_ran rfl (xo_c (by decide) rfl) rfl ⟨Nat.le_of_ble_eq_true rfl, Nat.le_of_ble_eq_true rfl⟩ ⟨Nat.le_of_ble_eq_true rfl, Nat.le_of_ble_eq_true rfl⟩ (Nat.le_of_ble_eq_true rfl) ?_
  intro  S9 R9 J9 I2 hq
  clear hf
  obtain ⟨rfl, rfl, rfl, hf⟩ := hq
  refine hv_aload_n hX dX26_stays_9 rfl 0 rfl ?_
  refine hv_iload_n hX dX26_stays_10 rfl 1 rfl ?_
  refine hx_callVXi (ci := 26) (q := (RX26, TX26, 3)) hX dX26_stays_11 (ct_X26_eats a0 a1 s rd J I2 _ _ hf) (lw_V q1593 q1544 q2392 q144 q1546) rfl (by decide) ⟨rfl, np_X26_eats⟩ rfl o1 rfl ⟨Nat.le_of_ble_eq_true rfl, Nat.le_of_ble_eq_true rfl⟩ ⟨Nat.le_of_ble_eq_true rfl, Nat.le_of_ble_eq_true rfl⟩ (Nat.le_of_ble_eq_true rfl) ?_ ?_
  · intro c6 S9 R9 J9 I5 hq
    clear hf
    obtain ⟨rfl, rfl, rfl, hf⟩ := hq
    exact hx_out (c := c6) hX hE hT ⟨Nat.le_of_ble_eq_true rfl, Nat.le_of_ble_eq_true rfl⟩ ⟨rfl, rfl, rfl, hf⟩
  intro r4 S9 R9 J9 I3 hq
  clear hf
  obtain ⟨rfl, rfl, rfl, hf⟩ := hq
  refine hv_aload_n hX dX26_stays_14 rfl 0 rfl ?_
  refine hx_getI (v := (I3 a0 0)) hX dX26_stays_15 fl26_13_26 (.inl rfl) o1 rfl ?_
  refine hv_iadd hX dX26_stays_18 ?_
  exact hv_xret hX hE (fun X hX hE => hx_iret hX hE dX26_stays_19 ⟨rfl, rfl, rfl, hf⟩)
/-! HungryHedge$BirdThing.stays(I)I -/
def x_X27_stays (a0 : Nat) (a1 : Int32) (s : xS) (rd : xRd) (J : mJ) (I : mI) (QX : Nat → mI → Prop) (Q : Int32 → mI → Prop) : Prop :=
  xo s a0 27 ∧ (xR rd a0 2 = some 0 ∧ (x_X0_ran 71 s rd J I (fun I2 => Q (a1 * (I2 a0 0)) I2)))
theorem ct_X27_stays  (a0 : Nat) (a1 : Int32) (s : xS) (rd : xRd) (J : mJ) (I : mI) (QX : Nat → mI → Prop) (Q : Int32 → mI → Prop) (hf : x_X27_stays a0 a1 s rd J I QX Q) : hh_CtX yX27_stays cX27_stays 2 (some .int) 1 21 [.ref a0, .int a1] (hx s rd J I) (xQi (fun r9 S9 R9 J9 I9 => s = S9 ∧ rd = R9 ∧ J = J9 ∧ Q r9 I9)) (xQX (fun c9 S9 R9 J9 I9 => s = S9 ∧ rd = R9 ∧ J = J9 ∧ QX c9 I9)) 0 0 := by
  refine hh_CtX.of (own := RX27) rfl (by decide +kernel) (Nat.le_of_ble_eq_true rfl) ?_
  intro X hX hN hE hT
  show hh_V X 0 [(0, .ref a0), (1, .int a1)] [] 0 0 (hx s rd J I)
  unfold x_X27_stays at hf
  refine hv_aload_n hX dX27_stays_0 rfl 0 rfl ?_
  obtain ⟨o1, hf⟩ := hf
  obtain ⟨g, hf⟩ := hf
  refine hx_getR (v := 0) hX dX27_stays_1 fl27_1_27 o1 g ?_
  refine hv_bipush (v := 71) hX bix_71 dX27_stays_4 ?_
  refine hx_callVNv (ci := 0) (q := (RX0, TX0, 19)) hX dX27_stays_6 (ct_X0_ran 71 s rd J I _ hf) (hh_nwm q1509 rfl) q1512 q106 q1511 qs48 rfl (by decide) np_X0_ran rfl (xo_c (by decide) rfl) rfl ⟨Nat.le_of_ble_eq_true rfl, Nat.le_of_ble_eq_true rfl⟩ ⟨Nat.le_of_ble_eq_true rfl, Nat.le_of_ble_eq_true rfl⟩ (Nat.le_of_ble_eq_true rfl) ?_
  intro  S9 R9 J9 I2 hq
  clear hf
  obtain ⟨rfl, rfl, rfl, hf⟩ := hq
  refine hv_iload_n hX dX27_stays_9 rfl 1 rfl ?_
  refine hv_aload_n hX dX27_stays_10 rfl 0 rfl ?_
  refine hx_getI (v := (I2 a0 0)) hX dX27_stays_11 fl27_13_27 (.inl rfl) o1 rfl ?_
  refine hv_imul hX dX27_stays_14 ?_
  exact hv_xret hX hE (fun X hX hE => hx_iret hX hE dX27_stays_15 ⟨rfl, rfl, rfl, hf⟩)
/-! HungryHedge$PatchThing.flies(I)I -/
def x_X21_flies_c22 (a0 : Nat) (a1 : Int32) (s : xS) (rd : xRd) (J : mJ) (I : mI) (QX : Nat → mI → Prop) (Q : Int32 → mI → Prop) : Prop :=
  xo s a0 22 ∧ (xR rd a0 2 = some 0 ∧ (x_X0_ran 12 s rd J I (fun I2 => (((I2 a0 1) - (I2 a0 0)) = 0 → QX 5 I2) ∧ (¬ ((I2 a0 1) - (I2 a0 0)) = 0 → Q (a1 / ((I2 a0 1) - (I2 a0 0))) I2))))
theorem ct_X21_flies_c22  (a0 : Nat) (a1 : Int32) (s : xS) (rd : xRd) (J : mJ) (I : mI) (QX : Nat → mI → Prop) (Q : Int32 → mI → Prop) (hf : x_X21_flies_c22 a0 a1 s rd J I QX Q) : hh_CtX yX21_flies cX21_flies 2 (some .int) 7 10319 [.ref a0, .int a1] (hx s rd J I) (xQi (fun r9 S9 R9 J9 I9 => s = S9 ∧ rd = R9 ∧ J = J9 ∧ Q r9 I9)) (xQX (fun c9 S9 R9 J9 I9 => s = S9 ∧ rd = R9 ∧ J = J9 ∧ QX c9 I9)) 3 19 := by
  refine hh_CtX.of (own := RX21) rfl (by decide +kernel) (Nat.le_of_ble_eq_true rfl) ?_
  intro X hX hN hE hT
  show hh_V X 0 [(0, .ref a0), (1, .int a1)] [] 0 0 (hx s rd J I)
  unfold x_X21_flies_c22 at hf
  refine hv_aload_n hX dX21_flies_0 rfl 0 rfl ?_
  obtain ⟨o1, hf⟩ := hf
  obtain ⟨g, hf⟩ := hf
  refine hx_getR (v := 0) hX dX21_flies_1 fl21_1_22 o1 g ?_
  refine hv_bipush (v := 12) hX bix_12 dX21_flies_4 ?_
  refine hx_callVNv (ci := 0) (q := (RX0, TX0, 19)) hX dX21_flies_6 (ct_X0_ran 12 s rd J I _ hf) (hh_nwm q1519 rfl) q1512 q106 q1511 qs48 rfl (by decide) np_X0_ran rfl (xo_c (by decide) rfl) rfl ⟨Nat.le_of_ble_eq_true rfl, Nat.le_of_ble_eq_true rfl⟩ ⟨Nat.le_of_ble_eq_true rfl, Nat.le_of_ble_eq_true rfl⟩ (Nat.le_of_ble_eq_true rfl) ?_
  intro  S9 R9 J9 I2 hq
  clear hf
  obtain ⟨rfl, rfl, rfl, hf⟩ := hq
  refine hv_iload_n hX dX21_flies_9 rfl 1 rfl ?_
  refine hv_aload_n hX dX21_flies_10 rfl 0 rfl ?_
  refine hx_getI (v := (I2 a0 1)) hX dX21_flies_11 fl21_17_22 (.inl rfl) o1 rfl ?_
  refine hv_aload_n hX dX21_flies_14 rfl 0 rfl ?_
  refine hx_getI (v := (I2 a0 0)) hX dX21_flies_15 fl21_13_22 (.inl rfl) o1 rfl ?_
  refine hv_isub hX dX21_flies_18 ?_
  by_cases c3 : ((I2 a0 1) - (I2 a0 0)) = 0
  · replace hf := hf.1 c3
    refine hv_idivZ hX c3 dX21_flies_19 ⟨Nat.le_of_ble_eq_true rfl, Nat.le_of_ble_eq_true rfl⟩ ⟨Nat.le_of_ble_eq_true rfl, Nat.le_of_ble_eq_true rfl⟩ ?_
    exact hx_out (c := 5) hX hE hT ⟨Nat.le_of_ble_eq_true rfl, Nat.le_of_ble_eq_true rfl⟩ ⟨rfl, rfl, rfl, hf⟩
  replace hf := hf.2 c3
  refine hv_idiv hX c3 dX21_flies_19 ?_
  refine hv_widen (z' := 3) (k' := 19) (Nat.le_of_ble_eq_true rfl) (Nat.le_of_ble_eq_true rfl) ?_
  exact hv_xret hX hE (fun X hX hE => hx_iret hX hE dX21_flies_20 ⟨rfl, rfl, rfl, hf⟩)
/-! HungryHedge$PatchThing.flies(I)I -/
def x_X21_flies_c23 (a0 : Nat) (a1 : Int32) (s : xS) (rd : xRd) (J : mJ) (I : mI) (QX : Nat → mI → Prop) (Q : Int32 → mI → Prop) : Prop :=
  xo s a0 23 ∧ (xR rd a0 2 = some 0 ∧ (x_X0_ran 12 s rd J I (fun I2 => (((I2 a0 1) - (I2 a0 0)) = 0 → QX 5 I2) ∧ (¬ ((I2 a0 1) - (I2 a0 0)) = 0 → Q (a1 / ((I2 a0 1) - (I2 a0 0))) I2))))
theorem ct_X21_flies_c23  (a0 : Nat) (a1 : Int32) (s : xS) (rd : xRd) (J : mJ) (I : mI) (QX : Nat → mI → Prop) (Q : Int32 → mI → Prop) (hf : x_X21_flies_c23 a0 a1 s rd J I QX Q) : hh_CtX yX21_flies cX21_flies 2 (some .int) 7 10319 [.ref a0, .int a1] (hx s rd J I) (xQi (fun r9 S9 R9 J9 I9 => s = S9 ∧ rd = R9 ∧ J = J9 ∧ Q r9 I9)) (xQX (fun c9 S9 R9 J9 I9 => s = S9 ∧ rd = R9 ∧ J = J9 ∧ QX c9 I9)) 3 19 := by
  refine hh_CtX.of (own := RX21) rfl (by decide +kernel) (Nat.le_of_ble_eq_true rfl) ?_
  intro X hX hN hE hT
  show hh_V X 0 [(0, .ref a0), (1, .int a1)] [] 0 0 (hx s rd J I)
  unfold x_X21_flies_c23 at hf
  refine hv_aload_n hX dX21_flies_0 rfl 0 rfl ?_
  obtain ⟨o1, hf⟩ := hf
  obtain ⟨g, hf⟩ := hf
  refine hx_getR (v := 0) hX dX21_flies_1 fl21_1_23 o1 g ?_
  refine hv_bipush (v := 12) hX bix_12 dX21_flies_4 ?_
  refine hx_callVNv (ci := 0) (q := (RX0, TX0, 19)) hX dX21_flies_6 (ct_X0_ran 12 s rd J I _ hf) (hh_nwm q1519 rfl) q1512 q106 q1511 qs48 rfl (by decide) np_X0_ran rfl (xo_c (by decide) rfl) rfl ⟨Nat.le_of_ble_eq_true rfl, Nat.le_of_ble_eq_true rfl⟩ ⟨Nat.le_of_ble_eq_true rfl, Nat.le_of_ble_eq_true rfl⟩ (Nat.le_of_ble_eq_true rfl) ?_
  intro  S9 R9 J9 I2 hq
  clear hf
  obtain ⟨rfl, rfl, rfl, hf⟩ := hq
  refine hv_iload_n hX dX21_flies_9 rfl 1 rfl ?_
  refine hv_aload_n hX dX21_flies_10 rfl 0 rfl ?_
  refine hx_getI (v := (I2 a0 1)) hX dX21_flies_11 fl21_17_23 (.inl rfl) o1 rfl ?_
  refine hv_aload_n hX dX21_flies_14 rfl 0 rfl ?_
  refine hx_getI (v := (I2 a0 0)) hX dX21_flies_15 fl21_13_23 (.inl rfl) o1 rfl ?_
  refine hv_isub hX dX21_flies_18 ?_
  by_cases c3 : ((I2 a0 1) - (I2 a0 0)) = 0
  · replace hf := hf.1 c3
    refine hv_idivZ hX c3 dX21_flies_19 ⟨Nat.le_of_ble_eq_true rfl, Nat.le_of_ble_eq_true rfl⟩ ⟨Nat.le_of_ble_eq_true rfl, Nat.le_of_ble_eq_true rfl⟩ ?_
    exact hx_out (c := 5) hX hE hT ⟨Nat.le_of_ble_eq_true rfl, Nat.le_of_ble_eq_true rfl⟩ ⟨rfl, rfl, rfl, hf⟩
  replace hf := hf.2 c3
  refine hv_idiv hX c3 dX21_flies_19 ?_
  refine hv_widen (z' := 3) (k' := 19) (Nat.le_of_ble_eq_true rfl) (Nat.le_of_ble_eq_true rfl) ?_
  exact hv_xret hX hE (fun X hX hE => hx_iret hX hE dX21_flies_20 ⟨rfl, rfl, rfl, hf⟩)
/-! HungryHedge$PatchThing.flies(I)I -/
def x_X21_flies_c24 (a0 : Nat) (a1 : Int32) (s : xS) (rd : xRd) (J : mJ) (I : mI) (QX : Nat → mI → Prop) (Q : Int32 → mI → Prop) : Prop :=
  xo s a0 24 ∧ (xR rd a0 2 = some 0 ∧ (x_X0_ran 12 s rd J I (fun I2 => (((I2 a0 1) - (I2 a0 0)) = 0 → QX 5 I2) ∧ (¬ ((I2 a0 1) - (I2 a0 0)) = 0 → Q (a1 / ((I2 a0 1) - (I2 a0 0))) I2))))
theorem ct_X21_flies_c24  (a0 : Nat) (a1 : Int32) (s : xS) (rd : xRd) (J : mJ) (I : mI) (QX : Nat → mI → Prop) (Q : Int32 → mI → Prop) (hf : x_X21_flies_c24 a0 a1 s rd J I QX Q) : hh_CtX yX21_flies cX21_flies 2 (some .int) 7 10319 [.ref a0, .int a1] (hx s rd J I) (xQi (fun r9 S9 R9 J9 I9 => s = S9 ∧ rd = R9 ∧ J = J9 ∧ Q r9 I9)) (xQX (fun c9 S9 R9 J9 I9 => s = S9 ∧ rd = R9 ∧ J = J9 ∧ QX c9 I9)) 3 19 := by
  refine hh_CtX.of (own := RX21) rfl (by decide +kernel) (Nat.le_of_ble_eq_true rfl) ?_
  intro X hX hN hE hT
  show hh_V X 0 [(0, .ref a0), (1, .int a1)] [] 0 0 (hx s rd J I)
  unfold x_X21_flies_c24 at hf
  refine hv_aload_n hX dX21_flies_0 rfl 0 rfl ?_
  obtain ⟨o1, hf⟩ := hf
  obtain ⟨g, hf⟩ := hf
  refine hx_getR (v := 0) hX dX21_flies_1 fl21_1_24 o1 g ?_
  refine hv_bipush (v := 12) hX bix_12 dX21_flies_4 ?_
  refine hx_callVNv (ci := 0) (q := (RX0, TX0, 19)) hX dX21_flies_6 (ct_X0_ran 12 s rd J I _ hf) (hh_nwm q1519 rfl) q1512 q106 q1511 qs48 rfl (by decide) np_X0_ran rfl (xo_c (by decide) rfl) rfl ⟨Nat.le_of_ble_eq_true rfl, Nat.le_of_ble_eq_true rfl⟩ ⟨Nat.le_of_ble_eq_true rfl, Nat.le_of_ble_eq_true rfl⟩ (Nat.le_of_ble_eq_true rfl) ?_
  intro  S9 R9 J9 I2 hq
  clear hf
  obtain ⟨rfl, rfl, rfl, hf⟩ := hq
  refine hv_iload_n hX dX21_flies_9 rfl 1 rfl ?_
  refine hv_aload_n hX dX21_flies_10 rfl 0 rfl ?_
  refine hx_getI (v := (I2 a0 1)) hX dX21_flies_11 fl21_17_24 (.inl rfl) o1 rfl ?_
  refine hv_aload_n hX dX21_flies_14 rfl 0 rfl ?_
  refine hx_getI (v := (I2 a0 0)) hX dX21_flies_15 fl21_13_24 (.inl rfl) o1 rfl ?_
  refine hv_isub hX dX21_flies_18 ?_
  by_cases c3 : ((I2 a0 1) - (I2 a0 0)) = 0
  · replace hf := hf.1 c3
    refine hv_idivZ hX c3 dX21_flies_19 ⟨Nat.le_of_ble_eq_true rfl, Nat.le_of_ble_eq_true rfl⟩ ⟨Nat.le_of_ble_eq_true rfl, Nat.le_of_ble_eq_true rfl⟩ ?_
    exact hx_out (c := 5) hX hE hT ⟨Nat.le_of_ble_eq_true rfl, Nat.le_of_ble_eq_true rfl⟩ ⟨rfl, rfl, rfl, hf⟩
  replace hf := hf.2 c3
  refine hv_idiv hX c3 dX21_flies_19 ?_
  refine hv_widen (z' := 3) (k' := 19) (Nat.le_of_ble_eq_true rfl) (Nat.le_of_ble_eq_true rfl) ?_
  exact hv_xret hX hE (fun X hX hE => hx_iret hX hE dX21_flies_20 ⟨rfl, rfl, rfl, hf⟩)
/-! HungryHedge$FeederThing.flies(I)I -/
def x_X24_flies_c24 (a0 : Nat) (a1 : Int32) (s : xS) (rd : xRd) (J : mJ) (I : mI) (QX : Nat → mI → Prop) (Q : Int32 → mI → Prop) : Prop :=
  xo s a0 24 ∧ (xR rd a0 5 = some 0 ∧ (x_X0_ran 41 s rd J I (fun I2 => x_X21_flies_c24 a0 (a1 - 1) s rd J I2 (fun c6 I5 => QX c6 I5) (fun r4 I3 => Q r4 I3))))
theorem ct_X24_flies_c24  (a0 : Nat) (a1 : Int32) (s : xS) (rd : xRd) (J : mJ) (I : mI) (QX : Nat → mI → Prop) (Q : Int32 → mI → Prop) (hf : x_X24_flies_c24 a0 a1 s rd J I QX Q) : hh_CtX yX24_flies cX24_flies 2 (some .int) 8 10340 [.ref a0, .int a1] (hx s rd J I) (xQi (fun r9 S9 R9 J9 I9 => s = S9 ∧ rd = R9 ∧ J = J9 ∧ Q r9 I9)) (xQX (fun c9 S9 R9 J9 I9 => s = S9 ∧ rd = R9 ∧ J = J9 ∧ QX c9 I9)) 3 19 := by
  refine hh_CtX.of (own := RX24) rfl (by decide +kernel) (Nat.le_of_ble_eq_true rfl) ?_
  intro X hX hN hE hT
  show hh_V X 0 [(0, .ref a0), (1, .int a1)] [] 0 0 (hx s rd J I)
  unfold x_X24_flies_c24 at hf
  refine hv_aload_n hX dX24_flies_0 rfl 0 rfl ?_
  obtain ⟨o1, hf⟩ := hf
  obtain ⟨g, hf⟩ := hf
  refine hx_getR (v := 0) hX dX24_flies_1 fl24_1_24 o1 g ?_
  refine hv_bipush (v := 41) hX bix_41 dX24_flies_4 ?_
  refine hx_callVNv (ci := 0) (q := (RX0, TX0, 19)) hX dX24_flies_6 (ct_X0_ran 41 s rd J I _ hf) (hh_nwm q1526 rfl) q1512 q106 q1511 qs48 rfl (by decide) np_X0_ran rfl (xo_c (by decide) rfl) rfl ⟨Nat.le_of_ble_eq_true rfl, Nat.le_of_ble_eq_true rfl⟩ ⟨Nat.le_of_ble_eq_true rfl, Nat.le_of_ble_eq_true rfl⟩ (Nat.le_of_ble_eq_true rfl) ?_
  intro  S9 R9 J9 I2 hq
  clear hf
  obtain ⟨rfl, rfl, rfl, hf⟩ := hq
  refine hv_aload_n hX dX24_flies_9 rfl 0 rfl ?_
  refine hv_iload_n hX dX24_flies_10 rfl 1 rfl ?_
  refine hv_iconst (v := 1) hX icx_1 dX24_flies_11 ?_
  refine hv_isub hX dX24_flies_12 ?_
  refine hx_callZXi hX dX24_flies_13 (ct_X21_flies_c24 a0 (a1 - 1) s rd J I2 _ _ hf) q1608 q139 rfl (tw_super (y := yX21_flies) (x := ({ cls := "HungryHedge$FieldThing", name := "flies", desc := "(I)I" } : Jvm.MethodName)) hX dX24_flies_13 q1614 q1615 ⟨rfl, rfl⟩ q1388 (.inr (.inr ⟨"HungryHedge$BushThing", q1373, q1359⟩)) q1606 q1608 (by decide) np_X21_flies.2.2 rfl (ci := 24) (q := (RX24, TX24, 6)) rfl (by decide) o1.1 o1.2 rfl) ⟨Nat.le_of_ble_eq_true rfl, Nat.le_of_ble_eq_true rfl⟩ ⟨Nat.le_of_ble_eq_true rfl, Nat.le_of_ble_eq_true rfl⟩ (Nat.le_of_ble_eq_true rfl) ?_ ?_
  · intro c6 S9 R9 J9 I5 hq
    clear hf
    obtain ⟨rfl, rfl, rfl, hf⟩ := hq
    exact hx_out (c := c6) hX hE hT ⟨Nat.le_of_ble_eq_true rfl, Nat.le_of_ble_eq_true rfl⟩ ⟨rfl, rfl, rfl, hf⟩
  intro r4 S9 R9 J9 I3 hq
  clear hf
  obtain ⟨rfl, rfl, rfl, hf⟩ := hq
  exact hv_xret hX hE (fun X hX hE => hx_iret hX hE dX24_flies_16 ⟨rfl, rfl, rfl, hf⟩)
/-! HungryHedge$PatchThing.flies(I)I -/
def x_X21_flies_c25 (a0 : Nat) (a1 : Int32) (s : xS) (rd : xRd) (J : mJ) (I : mI) (QX : Nat → mI → Prop) (Q : Int32 → mI → Prop) : Prop :=
  xo s a0 25 ∧ (xR rd a0 2 = some 0 ∧ (x_X0_ran 12 s rd J I (fun I2 => (((I2 a0 1) - (I2 a0 0)) = 0 → QX 5 I2) ∧ (¬ ((I2 a0 1) - (I2 a0 0)) = 0 → Q (a1 / ((I2 a0 1) - (I2 a0 0))) I2))))
theorem ct_X21_flies_c25  (a0 : Nat) (a1 : Int32) (s : xS) (rd : xRd) (J : mJ) (I : mI) (QX : Nat → mI → Prop) (Q : Int32 → mI → Prop) (hf : x_X21_flies_c25 a0 a1 s rd J I QX Q) : hh_CtX yX21_flies cX21_flies 2 (some .int) 7 10319 [.ref a0, .int a1] (hx s rd J I) (xQi (fun r9 S9 R9 J9 I9 => s = S9 ∧ rd = R9 ∧ J = J9 ∧ Q r9 I9)) (xQX (fun c9 S9 R9 J9 I9 => s = S9 ∧ rd = R9 ∧ J = J9 ∧ QX c9 I9)) 3 19 := by
  refine hh_CtX.of (own := RX21) rfl (by decide +kernel) (Nat.le_of_ble_eq_true rfl) ?_
  intro X hX hN hE hT
  show hh_V X 0 [(0, .ref a0), (1, .int a1)] [] 0 0 (hx s rd J I)
  unfold x_X21_flies_c25 at hf
  refine hv_aload_n hX dX21_flies_0 rfl 0 rfl ?_
  obtain ⟨o1, hf⟩ := hf
  obtain ⟨g, hf⟩ := hf
  refine hx_getR (v := 0) hX dX21_flies_1 fl21_1_25 o1 g ?_
  refine hv_bipush (v := 12) hX bix_12 dX21_flies_4 ?_
  refine hx_callVNv (ci := 0) (q := (RX0, TX0, 19)) hX dX21_flies_6 (ct_X0_ran 12 s rd J I _ hf) (hh_nwm q1519 rfl) q1512 q106 q1511 qs48 rfl (by decide) np_X0_ran rfl (xo_c (by decide) rfl) rfl ⟨Nat.le_of_ble_eq_true rfl, Nat.le_of_ble_eq_true rfl⟩ ⟨Nat.le_of_ble_eq_true rfl, Nat.le_of_ble_eq_true rfl⟩ (Nat.le_of_ble_eq_true rfl) ?_
  intro  S9 R9 J9 I2 hq
  clear hf
  obtain ⟨rfl, rfl, rfl, hf⟩ := hq
  refine hv_iload_n hX dX21_flies_9 rfl 1 rfl ?_
  refine hv_aload_n hX dX21_flies_10 rfl 0 rfl ?_
  refine hx_getI (v := (I2 a0 1)) hX dX21_flies_11 fl21_17_25 (.inl rfl) o1 rfl ?_
  refine hv_aload_n hX dX21_flies_14 rfl 0 rfl ?_
  refine hx_getI (v := (I2 a0 0)) hX dX21_flies_15 fl21_13_25 (.inl rfl) o1 rfl ?_
  refine hv_isub hX dX21_flies_18 ?_
  by_cases c3 : ((I2 a0 1) - (I2 a0 0)) = 0
  · replace hf := hf.1 c3
    refine hv_idivZ hX c3 dX21_flies_19 ⟨Nat.le_of_ble_eq_true rfl, Nat.le_of_ble_eq_true rfl⟩ ⟨Nat.le_of_ble_eq_true rfl, Nat.le_of_ble_eq_true rfl⟩ ?_
    exact hx_out (c := 5) hX hE hT ⟨Nat.le_of_ble_eq_true rfl, Nat.le_of_ble_eq_true rfl⟩ ⟨rfl, rfl, rfl, hf⟩
  replace hf := hf.2 c3
  refine hv_idiv hX c3 dX21_flies_19 ?_
  refine hv_widen (z' := 3) (k' := 19) (Nat.le_of_ble_eq_true rfl) (Nat.le_of_ble_eq_true rfl) ?_
  exact hv_xret hX hE (fun X hX hE => hx_iret hX hE dX21_flies_20 ⟨rfl, rfl, rfl, hf⟩)
/-! HungryHedge$RiskThing.flies(I)I -/
def x_X26_flies (a0 : Nat) (a1 : Int32) (s : xS) (rd : xRd) (J : mJ) (I : mI) (QX : Nat → mI → Prop) (Q : Int32 → mI → Prop) : Prop :=
  xo s a0 26 ∧ (xR rd a0 2 = some 0 ∧ (x_X0_ran 62 s rd J I (fun I2 => Q (a1 &&& (I2 a0 1)) I2)))
theorem ct_X26_flies  (a0 : Nat) (a1 : Int32) (s : xS) (rd : xRd) (J : mJ) (I : mI) (QX : Nat → mI → Prop) (Q : Int32 → mI → Prop) (hf : x_X26_flies a0 a1 s rd J I QX Q) : hh_CtX yX26_flies cX26_flies 2 (some .int) 1 21 [.ref a0, .int a1] (hx s rd J I) (xQi (fun r9 S9 R9 J9 I9 => s = S9 ∧ rd = R9 ∧ J = J9 ∧ Q r9 I9)) (xQX (fun c9 S9 R9 J9 I9 => s = S9 ∧ rd = R9 ∧ J = J9 ∧ QX c9 I9)) 0 0 := by
  refine hh_CtX.of (own := RX26) rfl (by decide +kernel) (Nat.le_of_ble_eq_true rfl) ?_
  intro X hX hN hE hT
  show hh_V X 0 [(0, .ref a0), (1, .int a1)] [] 0 0 (hx s rd J I)
  unfold x_X26_flies at hf
  refine hv_aload_n hX dX26_flies_0 rfl 0 rfl ?_
  obtain ⟨o1, hf⟩ := hf
  obtain ⟨g, hf⟩ := hf
  refine hx_getR (v := 0) hX dX26_flies_1 fl26_1_26 o1 g ?_
  refine hv_bipush (v := 62) hX bix_62 dX26_flies_4 ?_
  refine hx_callVNv (ci := 0) (q := (RX0, TX0, 19)) hX dX26_flies_6 (ct_X0_ran 62 s rd J I _ hf) (hh_nwm q1547 rfl) q1512 q106 q1511 qs48 rfl (by decide) np_X0_ran rfl (xo_c (by decide) rfl) rfl ⟨Nat.le_of_ble_eq_true rfl, Nat.le_of_ble_eq_true rfl⟩ ⟨Nat.le_of_ble_eq_true rfl, Nat.le_of_ble_eq_true rfl⟩ (Nat.le_of_ble_eq_true rfl) ?_
  intro  S9 R9 J9 I2 hq
  clear hf
  obtain ⟨rfl, rfl, rfl, hf⟩ := hq
  refine hv_iload_n hX dX26_flies_9 rfl 1 rfl ?_
  refine hv_aload_n hX dX26_flies_10 rfl 0 rfl ?_
  refine hx_getI (v := (I2 a0 1)) hX dX26_flies_11 fl26_17_26 (.inl rfl) o1 rfl ?_
  refine hv_iand hX dX26_flies_14 ?_
  exact hv_xret hX hE (fun X hX hE => hx_iret hX hE dX26_flies_15 ⟨rfl, rfl, rfl, hf⟩)
/-! HungryHedge$BirdThing.flies(I)I -/
def x_X27_flies (a0 : Nat) (a1 : Int32) (s : xS) (rd : xRd) (J : mJ) (I : mI) (QX : Nat → mI → Prop) (Q : Int32 → mI → Prop) : Prop :=
  xo s a0 27 ∧ (xR rd a0 2 = some 0 ∧ (x_X0_ran 72 s rd J I (fun I2 => x_X27_eats a0 a1 s rd J I2 (fun c6 I5 => QX c6 I5) (fun r4 I3 => x_X27_stays a0 a1 s rd J I3 (fun c10 I9 => QX c10 I9) (fun r8 I7 => Q (r4 + r8) I7)))))
theorem ct_X27_flies  (a0 : Nat) (a1 : Int32) (s : xS) (rd : xRd) (J : mJ) (I : mI) (QX : Nat → mI → Prop) (Q : Int32 → mI → Prop) (hf : x_X27_flies a0 a1 s rd J I QX Q) : hh_CtX yX27_flies cX27_flies 3 (some .int) 2 42 [.ref a0, .int a1] (hx s rd J I) (xQi (fun r9 S9 R9 J9 I9 => s = S9 ∧ rd = R9 ∧ J = J9 ∧ Q r9 I9)) (xQX (fun c9 S9 R9 J9 I9 => s = S9 ∧ rd = R9 ∧ J = J9 ∧ QX c9 I9)) 0 0 := by
  refine hh_CtX.of (own := RX27) rfl (by decide +kernel) (Nat.le_of_ble_eq_true rfl) ?_
  intro X hX hN hE hT
  show hh_V X 0 [(0, .ref a0), (1, .int a1)] [] 0 0 (hx s rd J I)
  unfold x_X27_flies at hf
  refine hv_aload_n hX dX27_flies_0 rfl 0 rfl ?_
  obtain ⟨o1, hf⟩ := hf
  obtain ⟨g, hf⟩ := hf
  refine hx_getR (v := 0) hX dX27_flies_1 fl27_1_27 o1 g ?_
  refine hv_bipush (v := 72) hX bix_72 dX27_flies_4 ?_
  refine hx_callVNv (ci := 0) (q := (RX0, TX0, 19)) hX dX27_flies_6 (ct_X0_ran 72 s rd J I _ hf) (hh_nwm q1509 rfl) q1512 q106 q1511 qs48 rfl (by decide) np_X0_ran rfl (xo_c (by decide) rfl) rfl ⟨Nat.le_of_ble_eq_true rfl, Nat.le_of_ble_eq_true rfl⟩ ⟨Nat.le_of_ble_eq_true rfl, Nat.le_of_ble_eq_true rfl⟩ (Nat.le_of_ble_eq_true rfl) ?_
  intro  S9 R9 J9 I2 hq
  clear hf
  obtain ⟨rfl, rfl, rfl, hf⟩ := hq
  refine hv_aload_n hX dX27_flies_9 rfl 0 rfl ?_
  refine hv_iload_n hX dX27_flies_10 rfl 1 rfl ?_
  refine hx_callVXi (ci := 27) (q := (RX27, TX27, 3)) hX dX27_flies_11 (ct_X27_eats a0 a1 s rd J I2 _ _ hf) (lw_V q1602 q1506 q2393 q145 q1508) rfl (by decide) ⟨rfl, np_X27_eats⟩ rfl o1 rfl ⟨Nat.le_of_ble_eq_true rfl, Nat.le_of_ble_eq_true rfl⟩ ⟨Nat.le_of_ble_eq_true rfl, Nat.le_of_ble_eq_true rfl⟩ (Nat.le_of_ble_eq_true rfl) ?_ ?_
  · intro c6 S9 R9 J9 I5 hq
    clear hf
    obtain ⟨rfl, rfl, rfl, hf⟩ := hq
    exact hx_out (c := c6) hX hE hT ⟨Nat.le_of_ble_eq_true rfl, Nat.le_of_ble_eq_true rfl⟩ ⟨rfl, rfl, rfl, hf⟩
  intro r4 S9 R9 J9 I3 hq
  clear hf
  obtain ⟨rfl, rfl, rfl, hf⟩ := hq
  refine hv_istore_n (loc2 := [(2, .int r4), (0, .ref a0), (1, .int a1)]) hX dX27_flies_14 rfl hN (Nat.le_of_ble_eq_true rfl) rfl ?_
  refine hv_iload_n hX dX27_flies_15 rfl 0 rfl ?_
  refine hv_aload_n hX dX27_flies_16 rfl 1 rfl ?_
  refine hv_iload_n hX dX27_flies_17 rfl 2 rfl ?_
  refine hx_callVXi (ci := 27) (q := (RX27, TX27, 3)) hX dX27_flies_18 (ct_X27_stays a0 a1 s rd J I3 _ _ hf) (lw_V q1603 q1553 q2394 q145 q1555) rfl (by decide) ⟨rfl, np_X27_stays⟩ rfl o1 rfl ⟨Nat.le_of_ble_eq_true rfl, Nat.le_of_ble_eq_true rfl⟩ ⟨Nat.le_of_ble_eq_true rfl, Nat.le_of_ble_eq_true rfl⟩ (Nat.le_of_ble_eq_true rfl) ?_ ?_
  · intro c10 S9 R9 J9 I9 hq
    clear hf
    obtain ⟨rfl, rfl, rfl, hf⟩ := hq
    exact hx_out (c := c10) hX hE hT ⟨Nat.le_of_ble_eq_true rfl, Nat.le_of_ble_eq_true rfl⟩ ⟨rfl, rfl, rfl, hf⟩
  intro r8 S9 R9 J9 I7 hq
  clear hf
  obtain ⟨rfl, rfl, rfl, hf⟩ := hq
  refine hv_iadd hX dX27_flies_21 ?_
  exact hv_xret hX hE (fun X hX hE => hx_iret hX hE dX27_flies_22 ⟨rfl, rfl, rfl, hf⟩)
/-! HungryHedge$PatchThing.tells(I)I -/
def x_X21_tells_c22 (a0 : Nat) (a1 : Int32) (s : xS) (rd : xRd) (J : mJ) (I : mI) (QX : Nat → mI → Prop) (Q : Int32 → mI → Prop) : Prop :=
  xo s a0 22 ∧ (xR rd a0 2 = some 0 ∧ (x_X0_ran 13 s rd J I (fun I2 => x_X22_stays_c22 a0 a1 s rd J I2 (fun c6 I5 => QX c6 I5) (fun r4 I3 => Q (r4 ^^^ (I3 a0 0)) I3))))
theorem ct_X21_tells_c22  (a0 : Nat) (a1 : Int32) (s : xS) (rd : xRd) (J : mJ) (I : mI) (QX : Nat → mI → Prop) (Q : Int32 → mI → Prop) (hf : x_X21_tells_c22 a0 a1 s rd J I QX Q) : hh_CtX yX21_tells cX21_tells 2 (some .int) 5 105 [.ref a0, .int a1] (hx s rd J I) (xQi (fun r9 S9 R9 J9 I9 => s = S9 ∧ rd = R9 ∧ J = J9 ∧ Q r9 I9)) (xQX (fun c9 S9 R9 J9 I9 => s = S9 ∧ rd = R9 ∧ J = J9 ∧ QX c9 I9)) 0 0 := by
  refine hh_CtX.of (own := RX21) rfl (by decide +kernel) (Nat.le_of_ble_eq_true rfl) ?_
  intro X hX hN hE hT
  show hh_V X 0 [(0, .ref a0), (1, .int a1)] [] 0 0 (hx s rd J I)
  unfold x_X21_tells_c22 at hf
  refine hv_aload_n hX dX21_tells_0 rfl 0 rfl ?_
  obtain ⟨o1, hf⟩ := hf
  obtain ⟨g, hf⟩ := hf
  refine hx_getR (v := 0) hX dX21_tells_1 fl21_1_22 o1 g ?_
  refine hv_bipush (v := 13) hX bix_13 dX21_tells_4 ?_
  refine hx_callVNv (ci := 0) (q := (RX0, TX0, 19)) hX dX21_tells_6 (ct_X0_ran 13 s rd J I _ hf) (hh_nwm q1519 rfl) q1512 q106 q1511 qs48 rfl (by decide) np_X0_ran rfl (xo_c (by decide) rfl) rfl ⟨Nat.le_of_ble_eq_true rfl, Nat.le_of_ble_eq_true rfl⟩ ⟨Nat.le_of_ble_eq_true rfl, Nat.le_of_ble_eq_true rfl⟩ (Nat.le_of_ble_eq_true rfl) ?_
  intro  S9 R9 J9 I2 hq
  clear hf
  obtain ⟨rfl, rfl, rfl, hf⟩ := hq
  refine hv_aload_n hX dX21_tells_9 rfl 0 rfl ?_
  refine hv_iload_n hX dX21_tells_10 rfl 1 rfl ?_
  refine hx_callZXi hX dX21_tells_11 (ct_X22_stays_c22 a0 a1 s rd J I2 _ _ hf) q1560 q140 rfl (tw_virt (y := yX22_stays) (x := ({ cls := "HungryHedge$PatchThing", name := "stays", desc := "(I)I" } : Jvm.MethodName)) (O := "HungryHedge$PatchThing") hX dX21_tells_11 q1641 q2391 q1563 q1564 (by decide) q2396 q1558 np_X22_stays.2.2 rfl (ci := 22) (q := (RX22, TX22, 4)) rfl (by decide) o1.1 o1.2 rfl) ⟨Nat.le_of_ble_eq_true rfl, Nat.le_of_ble_eq_true rfl⟩ ⟨Nat.le_of_ble_eq_true rfl, Nat.le_of_ble_eq_true rfl⟩ (Nat.le_of_ble_eq_true rfl) ?_ ?_
  · intro c6 S9 R9 J9 I5 hq
    clear hf
    obtain ⟨rfl, rfl, rfl, hf⟩ := hq
    exact hx_out (c := c6) hX hE hT ⟨Nat.le_of_ble_eq_true rfl, Nat.le_of_ble_eq_true rfl⟩ ⟨rfl, rfl, rfl, hf⟩
  intro r4 S9 R9 J9 I3 hq
  clear hf
  obtain ⟨rfl, rfl, rfl, hf⟩ := hq
  refine hv_aload_n hX dX21_tells_14 rfl 0 rfl ?_
  refine hx_getI (v := (I3 a0 0)) hX dX21_tells_15 fl21_13_22 (.inl rfl) o1 rfl ?_
  refine hv_ixor hX dX21_tells_18 ?_
  exact hv_xret hX hE (fun X hX hE => hx_iret hX hE dX21_tells_19 ⟨rfl, rfl, rfl, hf⟩)
/-! HungryHedge$PatchThing.tells(I)I -/
def x_X21_tells_c23 (a0 : Nat) (a1 : Int32) (s : xS) (rd : xRd) (J : mJ) (I : mI) (QX : Nat → mI → Prop) (Q : Int32 → mI → Prop) : Prop :=
  xo s a0 23 ∧ (xR rd a0 2 = some 0 ∧ (x_X0_ran 13 s rd J I (fun I2 => x_X22_stays_c23 a0 a1 s rd J I2 (fun c6 I5 => QX c6 I5) (fun r4 I3 => Q (r4 ^^^ (I3 a0 0)) I3))))
theorem ct_X21_tells_c23  (a0 : Nat) (a1 : Int32) (s : xS) (rd : xRd) (J : mJ) (I : mI) (QX : Nat → mI → Prop) (Q : Int32 → mI → Prop) (hf : x_X21_tells_c23 a0 a1 s rd J I QX Q) : hh_CtX yX21_tells cX21_tells 2 (some .int) 6 126 [.ref a0, .int a1] (hx s rd J I) (xQi (fun r9 S9 R9 J9 I9 => s = S9 ∧ rd = R9 ∧ J = J9 ∧ Q r9 I9)) (xQX (fun c9 S9 R9 J9 I9 => s = S9 ∧ rd = R9 ∧ J = J9 ∧ QX c9 I9)) 0 0 := by
  refine hh_CtX.of (own := RX21) rfl (by decide +kernel) (Nat.le_of_ble_eq_true rfl) ?_
  intro X hX hN hE hT
  show hh_V X 0 [(0, .ref a0), (1, .int a1)] [] 0 0 (hx s rd J I)
  unfold x_X21_tells_c23 at hf
  refine hv_aload_n hX dX21_tells_0 rfl 0 rfl ?_
  obtain ⟨o1, hf⟩ := hf
  obtain ⟨g, hf⟩ := hf
  refine hx_getR (v := 0) hX dX21_tells_1 fl21_1_23 o1 g ?_
  refine hv_bipush (v := 13) hX bix_13 dX21_tells_4 ?_
  refine hx_callVNv (ci := 0) (q := (RX0, TX0, 19)) hX dX21_tells_6 (ct_X0_ran 13 s rd J I _ hf) (hh_nwm q1519 rfl) q1512 q106 q1511 qs48 rfl (by decide) np_X0_ran rfl (xo_c (by decide) rfl) rfl ⟨Nat.le_of_ble_eq_true rfl, Nat.le_of_ble_eq_true rfl⟩ ⟨Nat.le_of_ble_eq_true rfl, Nat.le_of_ble_eq_true rfl⟩ (Nat.le_of_ble_eq_true rfl) ?_
  intro  S9 R9 J9 I2 hq
  clear hf
  obtain ⟨rfl, rfl, rfl, hf⟩ := hq
  refine hv_aload_n hX dX21_tells_9 rfl 0 rfl ?_
  refine hv_iload_n hX dX21_tells_10 rfl 1 rfl ?_
  refine hx_callZXi hX dX21_tells_11 (ct_X22_stays_c23 a0 a1 s rd J I2 _ _ hf) q1560 q140 rfl (tw_virt (y := yX22_stays) (x := ({ cls := "HungryHedge$PatchThing", name := "stays", desc := "(I)I" } : Jvm.MethodName)) (O := "HungryHedge$PatchThing") hX dX21_tells_11 q1641 q2391 q1563 q1564 (by decide) q2398 q1558 np_X22_stays.2.2 rfl (ci := 23) (q := (RX23, TX23, 5)) rfl (by decide) o1.1 o1.2 rfl) ⟨Nat.le_of_ble_eq_true rfl, Nat.le_of_ble_eq_true rfl⟩ ⟨Nat.le_of_ble_eq_true rfl, Nat.le_of_ble_eq_true rfl⟩ (Nat.le_of_ble_eq_true rfl) ?_ ?_
  · intro c6 S9 R9 J9 I5 hq
    clear hf
    obtain ⟨rfl, rfl, rfl, hf⟩ := hq
    exact hx_out (c := c6) hX hE hT ⟨Nat.le_of_ble_eq_true rfl, Nat.le_of_ble_eq_true rfl⟩ ⟨rfl, rfl, rfl, hf⟩
  intro r4 S9 R9 J9 I3 hq
  clear hf
  obtain ⟨rfl, rfl, rfl, hf⟩ := hq
  refine hv_aload_n hX dX21_tells_14 rfl 0 rfl ?_
  refine hx_getI (v := (I3 a0 0)) hX dX21_tells_15 fl21_13_23 (.inl rfl) o1 rfl ?_
  refine hv_ixor hX dX21_tells_18 ?_
  exact hv_xret hX hE (fun X hX hE => hx_iret hX hE dX21_tells_19 ⟨rfl, rfl, rfl, hf⟩)
/-! HungryHedge$FieldThing.tells(I)I -/
def x_X23_tells_c23 (a0 : Nat) (a1 : Int32) (s : xS) (rd : xRd) (J : mJ) (I : mI) (QX : Nat → mI → Prop) (Q : Int32 → mI → Prop) : Prop :=
  xo s a0 23 ∧ (xR rd a0 4 = some 0 ∧ (x_X0_ran 31 s rd J I (fun I2 => x_X21_tells_c23 a0 a1 s rd J I2 (fun c6 I5 => QX c6 I5) (fun r4 I3 => x_X21_flies_c23 a0 ((I3 a0 0) + 1) s rd J I3 (fun c10 I9 => QX c10 I9) (fun r8 I7 => Q (r4 + r8) I7)))))
theorem ct_X23_tells_c23  (a0 : Nat) (a1 : Int32) (s : xS) (rd : xRd) (J : mJ) (I : mI) (QX : Nat → mI → Prop) (Q : Int32 → mI → Prop) (hf : x_X23_tells_c23 a0 a1 s rd J I QX Q) : hh_CtX yX23_tells cX23_tells 3 (some .int) 8 10340 [.ref a0, .int a1] (hx s rd J I) (xQi (fun r9 S9 R9 J9 I9 => s = S9 ∧ rd = R9 ∧ J = J9 ∧ Q r9 I9)) (xQX (fun c9 S9 R9 J9 I9 => s = S9 ∧ rd = R9 ∧ J = J9 ∧ QX c9 I9)) 3 19 := by
  refine hh_CtX.of (own := RX23) rfl (by decide +kernel) (Nat.le_of_ble_eq_true rfl) ?_
  intro X hX hN hE hT
  show hh_V X 0 [(0, .ref a0), (1, .int a1)] [] 0 0 (hx s rd J I)
  unfold x_X23_tells_c23 at hf
  refine hv_aload_n hX dX23_tells_0 rfl 0 rfl ?_
  obtain ⟨o1, hf⟩ := hf
  obtain ⟨g, hf⟩ := hf
  refine hx_getR (v := 0) hX dX23_tells_1 fl23_1_23 o1 g ?_
  refine hv_bipush (v := 31) hX bix_31 dX23_tells_4 ?_
  refine hx_callVNv (ci := 0) (q := (RX0, TX0, 19)) hX dX23_tells_6 (ct_X0_ran 31 s rd J I _ hf) (hh_nwm q1530 rfl) q1512 q106 q1511 qs48 rfl (by decide) np_X0_ran rfl (xo_c (by decide) rfl) rfl ⟨Nat.le_of_ble_eq_true rfl, Nat.le_of_ble_eq_true rfl⟩ ⟨Nat.le_of_ble_eq_true rfl, Nat.le_of_ble_eq_true rfl⟩ (Nat.le_of_ble_eq_true rfl) ?_
  intro  S9 R9 J9 I2 hq
  clear hf
  obtain ⟨rfl, rfl, rfl, hf⟩ := hq
  refine hv_aload_n hX dX23_tells_9 rfl 0 rfl ?_
  refine hv_iload_n hX dX23_tells_10 rfl 1 rfl ?_
  refine hx_callZXi hX dX23_tells_11 (ct_X21_tells_c23 a0 a1 s rd J I2 _ _ hf) q1640 q139 rfl (tw_super (y := yX21_tells) (x := ({ cls := "HungryHedge$BushThing", name := "tells", desc := "(I)I" } : Jvm.MethodName)) hX dX23_tells_11 q1647 q1648 ⟨rfl, rfl⟩ q1373 (.inr (.inl q1359)) q1638 q1640 (by decide) np_X21_tells.2.2 rfl (ci := 23) (q := (RX23, TX23, 5)) rfl (by decide) o1.1 o1.2 rfl) ⟨Nat.le_of_ble_eq_true rfl, Nat.le_of_ble_eq_true rfl⟩ ⟨Nat.le_of_ble_eq_true rfl, Nat.le_of_ble_eq_true rfl⟩ (Nat.le_of_ble_eq_true rfl) ?_ ?_
  · intro c6 S9 R9 J9 I5 hq
    clear hf
    obtain ⟨rfl, rfl, rfl, hf⟩ := hq
    exact hx_out (c := c6) hX hE hT ⟨Nat.le_of_ble_eq_true rfl, Nat.le_of_ble_eq_true rfl⟩ ⟨rfl, rfl, rfl, hf⟩
  intro r4 S9 R9 J9 I3 hq
  clear hf
  obtain ⟨rfl, rfl, rfl, hf⟩ := hq
  refine hv_istore_n (loc2 := [(2, .int r4), (0, .ref a0), (1, .int a1)]) hX dX23_tells_14 rfl hN (Nat.le_of_ble_eq_true rfl) rfl ?_
  refine hv_iload_n hX dX23_tells_15 rfl 0 rfl ?_
  refine hv_aload_n hX dX23_tells_16 rfl 1 rfl ?_
  refine hv_aload_n hX dX23_tells_17 rfl 1 rfl ?_
  refine hx_getI (v := (I3 a0 0)) hX dX23_tells_18 fl23_26_23 (.inl rfl) o1 rfl ?_
  refine hv_iconst (v := 1) hX icx_1 dX23_tells_21 ?_
  refine hv_iadd hX dX23_tells_22 ?_
  refine hx_callZXi hX dX23_tells_23 (ct_X21_flies_c23 a0 ((I3 a0 0) + 1) s rd J I3 _ _ hf) q1608 q139 rfl (tw_virt (y := yX21_flies) (x := ({ cls := "HungryHedge$FieldThing", name := "flies", desc := "(I)I" } : Jvm.MethodName)) (O := "HungryHedge$PatchThing") hX dX23_tells_23 q1650 q1615 q1606 q1608 (by decide) q1652 q1606 np_X21_flies.2.2 rfl (ci := 23) (q := (RX23, TX23, 5)) rfl (by decide) o1.1 o1.2 rfl) ⟨Nat.le_of_ble_eq_true rfl, Nat.le_of_ble_eq_true rfl⟩ ⟨Nat.le_of_ble_eq_true rfl, Nat.le_of_ble_eq_true rfl⟩ (Nat.le_of_ble_eq_true rfl) ?_ ?_
  · intro c10 S9 R9 J9 I9 hq
    clear hf
    obtain ⟨rfl, rfl, rfl, hf⟩ := hq
    exact hx_out (c := c10) hX hE hT ⟨Nat.le_of_ble_eq_true rfl, Nat.le_of_ble_eq_true rfl⟩ ⟨rfl, rfl, rfl, hf⟩
  intro r8 S9 R9 J9 I7 hq
  clear hf
  obtain ⟨rfl, rfl, rfl, hf⟩ := hq
  refine hv_iadd hX dX23_tells_26 ?_
  exact hv_xret hX hE (fun X hX hE => hx_iret hX hE dX23_tells_27 ⟨rfl, rfl, rfl, hf⟩)
/-! HungryHedge$PatchThing.tells(I)I -/
def x_X21_tells_c24 (a0 : Nat) (a1 : Int32) (s : xS) (rd : xRd) (J : mJ) (I : mI) (QX : Nat → mI → Prop) (Q : Int32 → mI → Prop) : Prop :=
  xo s a0 24 ∧ (xR rd a0 2 = some 0 ∧ (x_X0_ran 13 s rd J I (fun I2 => x_X22_stays_c24 a0 a1 s rd J I2 (fun c6 I5 => QX c6 I5) (fun r4 I3 => Q (r4 ^^^ (I3 a0 0)) I3))))
theorem ct_X21_tells_c24  (a0 : Nat) (a1 : Int32) (s : xS) (rd : xRd) (J : mJ) (I : mI) (QX : Nat → mI → Prop) (Q : Int32 → mI → Prop) (hf : x_X21_tells_c24 a0 a1 s rd J I QX Q) : hh_CtX yX21_tells cX21_tells 2 (some .int) 7 147 [.ref a0, .int a1] (hx s rd J I) (xQi (fun r9 S9 R9 J9 I9 => s = S9 ∧ rd = R9 ∧ J = J9 ∧ Q r9 I9)) (xQX (fun c9 S9 R9 J9 I9 => s = S9 ∧ rd = R9 ∧ J = J9 ∧ QX c9 I9)) 0 0 := by
  refine hh_CtX.of (own := RX21) rfl (by decide +kernel) (Nat.le_of_ble_eq_true rfl) ?_
  intro X hX hN hE hT
  show hh_V X 0 [(0, .ref a0), (1, .int a1)] [] 0 0 (hx s rd J I)
  unfold x_X21_tells_c24 at hf
  refine hv_aload_n hX dX21_tells_0 rfl 0 rfl ?_
  obtain ⟨o1, hf⟩ := hf
  obtain ⟨g, hf⟩ := hf
  refine hx_getR (v := 0) hX dX21_tells_1 fl21_1_24 o1 g ?_
  refine hv_bipush (v := 13) hX bix_13 dX21_tells_4 ?_
  refine hx_callVNv (ci := 0) (q := (RX0, TX0, 19)) hX dX21_tells_6 (ct_X0_ran 13 s rd J I _ hf) (hh_nwm q1519 rfl) q1512 q106 q1511 qs48 rfl (by decide) np_X0_ran rfl (xo_c (by decide) rfl) rfl ⟨Nat.le_of_ble_eq_true rfl, Nat.le_of_ble_eq_true rfl⟩ ⟨Nat.le_of_ble_eq_true rfl, Nat.le_of_ble_eq_true rfl⟩ (Nat.le_of_ble_eq_true rfl) ?_
  intro  S9 R9 J9 I2 hq
  clear hf
  obtain ⟨rfl, rfl, rfl, hf⟩ := hq
  refine hv_aload_n hX dX21_tells_9 rfl 0 rfl ?_
  refine hv_iload_n hX dX21_tells_10 rfl 1 rfl ?_
  refine hx_callZXi hX dX21_tells_11 (ct_X22_stays_c24 a0 a1 s rd J I2 _ _ hf) q1560 q140 rfl (tw_virt (y := yX22_stays) (x := ({ cls := "HungryHedge$PatchThing", name := "stays", desc := "(I)I" } : Jvm.MethodName)) (O := "HungryHedge$PatchThing") hX dX21_tells_11 q1641 q2391 q1563 q1564 (by decide) q2397 q1558 np_X22_stays.2.2 rfl (ci := 24) (q := (RX24, TX24, 6)) rfl (by decide) o1.1 o1.2 rfl) ⟨Nat.le_of_ble_eq_true rfl, Nat.le_of_ble_eq_true rfl⟩ ⟨Nat.le_of_ble_eq_true rfl, Nat.le_of_ble_eq_true rfl⟩ (Nat.le_of_ble_eq_true rfl) ?_ ?_
  · intro c6 S9 R9 J9 I5 hq
    clear hf
    obtain ⟨rfl, rfl, rfl, hf⟩ := hq
    exact hx_out (c := c6) hX hE hT ⟨Nat.le_of_ble_eq_true rfl, Nat.le_of_ble_eq_true rfl⟩ ⟨rfl, rfl, rfl, hf⟩
  intro r4 S9 R9 J9 I3 hq
  clear hf
  obtain ⟨rfl, rfl, rfl, hf⟩ := hq
  refine hv_aload_n hX dX21_tells_14 rfl 0 rfl ?_
  refine hx_getI (v := (I3 a0 0)) hX dX21_tells_15 fl21_13_24 (.inl rfl) o1 rfl ?_
  refine hv_ixor hX dX21_tells_18 ?_
  exact hv_xret hX hE (fun X hX hE => hx_iret hX hE dX21_tells_19 ⟨rfl, rfl, rfl, hf⟩)
/-! HungryHedge$FieldThing.tells(I)I -/
def x_X23_tells_c24 (a0 : Nat) (a1 : Int32) (s : xS) (rd : xRd) (J : mJ) (I : mI) (QX : Nat → mI → Prop) (Q : Int32 → mI → Prop) : Prop :=
  xo s a0 24 ∧ (xR rd a0 4 = some 0 ∧ (x_X0_ran 31 s rd J I (fun I2 => x_X21_tells_c24 a0 a1 s rd J I2 (fun c6 I5 => QX c6 I5) (fun r4 I3 => x_X24_flies_c24 a0 ((I3 a0 0) + 1) s rd J I3 (fun c10 I9 => QX c10 I9) (fun r8 I7 => Q (r4 + r8) I7)))))
theorem ct_X23_tells_c24  (a0 : Nat) (a1 : Int32) (s : xS) (rd : xRd) (J : mJ) (I : mI) (QX : Nat → mI → Prop) (Q : Int32 → mI → Prop) (hf : x_X23_tells_c24 a0 a1 s rd J I QX Q) : hh_CtX yX23_tells cX23_tells 3 (some .int) 9 10361 [.ref a0, .int a1] (hx s rd J I) (xQi (fun r9 S9 R9 J9 I9 => s = S9 ∧ rd = R9 ∧ J = J9 ∧ Q r9 I9)) (xQX (fun c9 S9 R9 J9 I9 => s = S9 ∧ rd = R9 ∧ J = J9 ∧ QX c9 I9)) 3 19 := by
  refine hh_CtX.of (own := RX23) rfl (by decide +kernel) (Nat.le_of_ble_eq_true rfl) ?_
  intro X hX hN hE hT
  show hh_V X 0 [(0, .ref a0), (1, .int a1)] [] 0 0 (hx s rd J I)
  unfold x_X23_tells_c24 at hf
  refine hv_aload_n hX dX23_tells_0 rfl 0 rfl ?_
  obtain ⟨o1, hf⟩ := hf
  obtain ⟨g, hf⟩ := hf
  refine hx_getR (v := 0) hX dX23_tells_1 fl23_1_24 o1 g ?_
  refine hv_bipush (v := 31) hX bix_31 dX23_tells_4 ?_
  refine hx_callVNv (ci := 0) (q := (RX0, TX0, 19)) hX dX23_tells_6 (ct_X0_ran 31 s rd J I _ hf) (hh_nwm q1530 rfl) q1512 q106 q1511 qs48 rfl (by decide) np_X0_ran rfl (xo_c (by decide) rfl) rfl ⟨Nat.le_of_ble_eq_true rfl, Nat.le_of_ble_eq_true rfl⟩ ⟨Nat.le_of_ble_eq_true rfl, Nat.le_of_ble_eq_true rfl⟩ (Nat.le_of_ble_eq_true rfl) ?_
  intro  S9 R9 J9 I2 hq
  clear hf
  obtain ⟨rfl, rfl, rfl, hf⟩ := hq
  refine hv_aload_n hX dX23_tells_9 rfl 0 rfl ?_
  refine hv_iload_n hX dX23_tells_10 rfl 1 rfl ?_
  refine hx_callZXi hX dX23_tells_11 (ct_X21_tells_c24 a0 a1 s rd J I2 _ _ hf) q1640 q139 rfl (tw_super (y := yX21_tells) (x := ({ cls := "HungryHedge$BushThing", name := "tells", desc := "(I)I" } : Jvm.MethodName)) hX dX23_tells_11 q1647 q1648 ⟨rfl, rfl⟩ q1373 (.inr (.inl q1359)) q1638 q1640 (by decide) np_X21_tells.2.2 rfl (ci := 24) (q := (RX24, TX24, 6)) rfl (by decide) o1.1 o1.2 rfl) ⟨Nat.le_of_ble_eq_true rfl, Nat.le_of_ble_eq_true rfl⟩ ⟨Nat.le_of_ble_eq_true rfl, Nat.le_of_ble_eq_true rfl⟩ (Nat.le_of_ble_eq_true rfl) ?_ ?_
  · intro c6 S9 R9 J9 I5 hq
    clear hf
    obtain ⟨rfl, rfl, rfl, hf⟩ := hq
    exact hx_out (c := c6) hX hE hT ⟨Nat.le_of_ble_eq_true rfl, Nat.le_of_ble_eq_true rfl⟩ ⟨rfl, rfl, rfl, hf⟩
  intro r4 S9 R9 J9 I3 hq
  clear hf
  obtain ⟨rfl, rfl, rfl, hf⟩ := hq
  refine hv_istore_n (loc2 := [(2, .int r4), (0, .ref a0), (1, .int a1)]) hX dX23_tells_14 rfl hN (Nat.le_of_ble_eq_true rfl) rfl ?_
  refine hv_iload_n hX dX23_tells_15 rfl 0 rfl ?_
  refine hv_aload_n hX dX23_tells_16 rfl 1 rfl ?_
  refine hv_aload_n hX dX23_tells_17 rfl 1 rfl ?_
  refine hx_getI (v := (I3 a0 0)) hX dX23_tells_18 fl23_26_24 (.inl rfl) o1 rfl ?_
  refine hv_iconst (v := 1) hX icx_1 dX23_tells_21 ?_
  refine hv_iadd hX dX23_tells_22 ?_
  refine hx_callZXi hX dX23_tells_23 (ct_X24_flies_c24 a0 ((I3 a0 0) + 1) s rd J I3 _ _ hf) q1613 q142 rfl (tw_virt (y := yX24_flies) (x := ({ cls := "HungryHedge$FieldThing", name := "flies", desc := "(I)I" } : Jvm.MethodName)) (O := "HungryHedge$PatchThing") hX dX23_tells_23 q1650 q1615 q1606 q1608 (by decide) q1651 q1611 np_X24_flies.2.2 rfl (ci := 24) (q := (RX24, TX24, 6)) rfl (by decide) o1.1 o1.2 rfl) ⟨Nat.le_of_ble_eq_true rfl, Nat.le_of_ble_eq_true rfl⟩ ⟨Nat.le_of_ble_eq_true rfl, Nat.le_of_ble_eq_true rfl⟩ (Nat.le_of_ble_eq_true rfl) ?_ ?_
  · intro c10 S9 R9 J9 I9 hq
    clear hf
    obtain ⟨rfl, rfl, rfl, hf⟩ := hq
    exact hx_out (c := c10) hX hE hT ⟨Nat.le_of_ble_eq_true rfl, Nat.le_of_ble_eq_true rfl⟩ ⟨rfl, rfl, rfl, hf⟩
  intro r8 S9 R9 J9 I7 hq
  clear hf
  obtain ⟨rfl, rfl, rfl, hf⟩ := hq
  refine hv_iadd hX dX23_tells_26 ?_
  exact hv_xret hX hE (fun X hX hE => hx_iret hX hE dX23_tells_27 ⟨rfl, rfl, rfl, hf⟩)
/-! HungryHedge$PatchThing.tells(I)I -/
def x_X21_tells_c25 (a0 : Nat) (a1 : Int32) (s : xS) (rd : xRd) (J : mJ) (I : mI) (QX : Nat → mI → Prop) (Q : Int32 → mI → Prop) : Prop :=
  xo s a0 25 ∧ (xR rd a0 2 = some 0 ∧ (x_X0_ran 13 s rd J I (fun I2 => x_X25_stays_c25 a0 a1 s rd J I2 (fun c6 I5 => QX c6 I5) (fun r4 I3 => Q (r4 ^^^ (I3 a0 0)) I3))))
theorem ct_X21_tells_c25  (a0 : Nat) (a1 : Int32) (s : xS) (rd : xRd) (J : mJ) (I : mI) (QX : Nat → mI → Prop) (Q : Int32 → mI → Prop) (hf : x_X21_tells_c25 a0 a1 s rd J I QX Q) : hh_CtX yX21_tells cX21_tells 2 (some .int) 5 105 [.ref a0, .int a1] (hx s rd J I) (xQi (fun r9 S9 R9 J9 I9 => s = S9 ∧ rd = R9 ∧ J = J9 ∧ Q r9 I9)) (xQX (fun c9 S9 R9 J9 I9 => s = S9 ∧ rd = R9 ∧ J = J9 ∧ QX c9 I9)) 0 0 := by
  refine hh_CtX.of (own := RX21) rfl (by decide +kernel) (Nat.le_of_ble_eq_true rfl) ?_
  intro X hX hN hE hT
  show hh_V X 0 [(0, .ref a0), (1, .int a1)] [] 0 0 (hx s rd J I)
  unfold x_X21_tells_c25 at hf
  refine hv_aload_n hX dX21_tells_0 rfl 0 rfl ?_
  obtain ⟨o1, hf⟩ := hf
  obtain ⟨g, hf⟩ := hf
  refine hx_getR (v := 0) hX dX21_tells_1 fl21_1_25 o1 g ?_
  refine hv_bipush (v := 13) hX bix_13 dX21_tells_4 ?_
  refine hx_callVNv (ci := 0) (q := (RX0, TX0, 19)) hX dX21_tells_6 (ct_X0_ran 13 s rd J I _ hf) (hh_nwm q1519 rfl) q1512 q106 q1511 qs48 rfl (by decide) np_X0_ran rfl (xo_c (by decide) rfl) rfl ⟨Nat.le_of_ble_eq_true rfl, Nat.le_of_ble_eq_true rfl⟩ ⟨Nat.le_of_ble_eq_true rfl, Nat.le_of_ble_eq_true rfl⟩ (Nat.le_of_ble_eq_true rfl) ?_
  intro  S9 R9 J9 I2 hq
  clear hf
  obtain ⟨rfl, rfl, rfl, hf⟩ := hq
  refine hv_aload_n hX dX21_tells_9 rfl 0 rfl ?_
  refine hv_iload_n hX dX21_tells_10 rfl 1 rfl ?_
  refine hx_callZXi hX dX21_tells_11 (ct_X25_stays_c25 a0 a1 s rd J I2 _ _ hf) q1585 q143 rfl (tw_virt (y := yX25_stays) (x := ({ cls := "HungryHedge$PatchThing", name := "stays", desc := "(I)I" } : Jvm.MethodName)) (O := "HungryHedge$PatchThing") hX dX21_tells_11 q1641 q2391 q1563 q1564 (by decide) q2399 q1583 np_X25_stays.2.2 rfl (ci := 25) (q := (RX25, TX25, 4)) rfl (by decide) o1.1 o1.2 rfl) ⟨Nat.le_of_ble_eq_true rfl, Nat.le_of_ble_eq_true rfl⟩ ⟨Nat.le_of_ble_eq_true rfl, Nat.le_of_ble_eq_true rfl⟩ (Nat.le_of_ble_eq_true rfl) ?_ ?_
  · intro c6 S9 R9 J9 I5 hq
    clear hf
    obtain ⟨rfl, rfl, rfl, hf⟩ := hq
    exact hx_out (c := c6) hX hE hT ⟨Nat.le_of_ble_eq_true rfl, Nat.le_of_ble_eq_true rfl⟩ ⟨rfl, rfl, rfl, hf⟩
  intro r4 S9 R9 J9 I3 hq
  clear hf
  obtain ⟨rfl, rfl, rfl, hf⟩ := hq
  refine hv_aload_n hX dX21_tells_14 rfl 0 rfl ?_
  refine hx_getI (v := (I3 a0 0)) hX dX21_tells_15 fl21_13_25 (.inl rfl) o1 rfl ?_
  refine hv_ixor hX dX21_tells_18 ?_
  exact hv_xret hX hE (fun X hX hE => hx_iret hX hE dX21_tells_19 ⟨rfl, rfl, rfl, hf⟩)
/-! HungryHedge$RiskThing.tells(I)I -/
def x_X26_tells (a0 : Nat) (a1 : Int32) (s : xS) (rd : xRd) (J : mJ) (I : mI) (QX : Nat → mI → Prop) (Q : Int32 → mI → Prop) : Prop :=
  xo s a0 26 ∧ (xR rd a0 2 = some 0 ∧ (x_X0_ran 63 s rd J I (fun I2 => x_X26_stays a0 a1 s rd J I2 (fun c6 I5 => QX c6 I5) (fun r4 I3 => Q (r4 * 7) I3))))
theorem ct_X26_tells  (a0 : Nat) (a1 : Int32) (s : xS) (rd : xRd) (J : mJ) (I : mI) (QX : Nat → mI → Prop) (Q : Int32 → mI → Prop) (hf : x_X26_tells a0 a1 s rd J I QX Q) : hh_CtX yX26_tells cX26_tells 2 (some .int) 3 63 [.ref a0, .int a1] (hx s rd J I) (xQi (fun r9 S9 R9 J9 I9 => s = S9 ∧ rd = R9 ∧ J = J9 ∧ Q r9 I9)) (xQX (fun c9 S9 R9 J9 I9 => s = S9 ∧ rd = R9 ∧ J = J9 ∧ QX c9 I9)) 0 0 := by
  refine hh_CtX.of (own := RX26) rfl (by decide +kernel) (Nat.le_of_ble_eq_true rfl) ?_
  intro X hX hN hE hT
  show hh_V X 0 [(0, .ref a0), (1, .int a1)] [] 0 0 (hx s rd J I)
  unfold x_X26_tells at hf
  refine hv_aload_n hX dX26_tells_0 rfl 0 rfl ?_
  obtain ⟨o1, hf⟩ := hf
  obtain ⟨g, hf⟩ := hf
  refine hx_getR (v := 0) hX dX26_tells_1 fl26_1_26 o1 g ?_
  refine hv_bipush (v := 63) hX bix_63 dX26_tells_4 ?_
  refine hx_callVNv (ci := 0) (q := (RX0, TX0, 19)) hX dX26_tells_6 (ct_X0_ran 63 s rd J I _ hf) (hh_nwm q1547 rfl) q1512 q106 q1511 qs48 rfl (by decide) np_X0_ran rfl (xo_c (by decide) rfl) rfl ⟨Nat.le_of_ble_eq_true rfl, Nat.le_of_ble_eq_true rfl⟩ ⟨Nat.le_of_ble_eq_true rfl, Nat.le_of_ble_eq_true rfl⟩ (Nat.le_of_ble_eq_true rfl) ?_
  intro  S9 R9 J9 I2 hq
  clear hf
  obtain ⟨rfl, rfl, rfl, hf⟩ := hq
  refine hv_aload_n hX dX26_tells_9 rfl 0 rfl ?_
  refine hv_iload_n hX dX26_tells_10 rfl 1 rfl ?_
  refine hx_callVXi (ci := 26) (q := (RX26, TX26, 3)) hX dX26_tells_11 (ct_X26_stays a0 a1 s rd J I2 _ _ hf) (lw_V q1662 q1590 q2400 q144 q1592) rfl (by decide) ⟨rfl, np_X26_stays⟩ rfl o1 rfl ⟨Nat.le_of_ble_eq_true rfl, Nat.le_of_ble_eq_true rfl⟩ ⟨Nat.le_of_ble_eq_true rfl, Nat.le_of_ble_eq_true rfl⟩ (Nat.le_of_ble_eq_true rfl) ?_ ?_
  · intro c6 S9 R9 J9 I5 hq
    clear hf
    obtain ⟨rfl, rfl, rfl, hf⟩ := hq
    exact hx_out (c := c6) hX hE hT ⟨Nat.le_of_ble_eq_true rfl, Nat.le_of_ble_eq_true rfl⟩ ⟨rfl, rfl, rfl, hf⟩
  intro r4 S9 R9 J9 I3 hq
  clear hf
  obtain ⟨rfl, rfl, rfl, hf⟩ := hq
  refine hv_bipush (v := 7) hX bix_7 dX26_tells_14 ?_
  refine hv_imul hX dX26_tells_16 ?_
  exact hv_xret hX hE (fun X hX hE => hx_iret hX hE dX26_tells_17 ⟨rfl, rfl, rfl, hf⟩)
/-! HungryHedge$BirdThing.tells(I)I -/
def x_X27_tells (a0 : Nat) (a1 : Int32) (s : xS) (rd : xRd) (J : mJ) (I : mI) (QX : Nat → mI → Prop) (Q : Int32 → mI → Prop) : Prop :=
  xo s a0 27 ∧ (xR rd a0 2 = some 0 ∧ (x_X0_ran 73 s rd J I (fun I2 => x_X27_flies a0 a1 s rd J I2 (fun c6 I5 => QX c6 I5) (fun r4 I3 => Q (r4 ^^^ (I3 a0 1)) I3))))
theorem ct_X27_tells  (a0 : Nat) (a1 : Int32) (s : xS) (rd : xRd) (J : mJ) (I : mI) (QX : Nat → mI → Prop) (Q : Int32 → mI → Prop) (hf : x_X27_tells a0 a1 s rd J I QX Q) : hh_CtX yX27_tells cX27_tells 2 (some .int) 3 64 [.ref a0, .int a1] (hx s rd J I) (xQi (fun r9 S9 R9 J9 I9 => s = S9 ∧ rd = R9 ∧ J = J9 ∧ Q r9 I9)) (xQX (fun c9 S9 R9 J9 I9 => s = S9 ∧ rd = R9 ∧ J = J9 ∧ QX c9 I9)) 0 0 := by
  refine hh_CtX.of (own := RX27) rfl (by decide +kernel) (Nat.le_of_ble_eq_true rfl) ?_
  intro X hX hN hE hT
  show hh_V X 0 [(0, .ref a0), (1, .int a1)] [] 0 0 (hx s rd J I)
  unfold x_X27_tells at hf
  refine hv_aload_n hX dX27_tells_0 rfl 0 rfl ?_
  obtain ⟨o1, hf⟩ := hf
  obtain ⟨g, hf⟩ := hf
  refine hx_getR (v := 0) hX dX27_tells_1 fl27_1_27 o1 g ?_
  refine hv_bipush (v := 73) hX bix_73 dX27_tells_4 ?_
  refine hx_callVNv (ci := 0) (q := (RX0, TX0, 19)) hX dX27_tells_6 (ct_X0_ran 73 s rd J I _ hf) (hh_nwm q1509 rfl) q1512 q106 q1511 qs48 rfl (by decide) np_X0_ran rfl (xo_c (by decide) rfl) rfl ⟨Nat.le_of_ble_eq_true rfl, Nat.le_of_ble_eq_true rfl⟩ ⟨Nat.le_of_ble_eq_true rfl, Nat.le_of_ble_eq_true rfl⟩ (Nat.le_of_ble_eq_true rfl) ?_
  intro  S9 R9 J9 I2 hq
  clear hf
  obtain ⟨rfl, rfl, rfl, hf⟩ := hq
  refine hv_aload_n hX dX27_tells_9 rfl 0 rfl ?_
  refine hv_iload_n hX dX27_tells_10 rfl 1 rfl ?_
  refine hx_callVXi (ci := 27) (q := (RX27, TX27, 3)) hX dX27_tells_11 (ct_X27_flies a0 a1 s rd J I2 _ _ hf) (lw_V q1635 q1599 q2395 q145 q1601) rfl (by decide) ⟨rfl, np_X27_flies⟩ rfl o1 rfl ⟨Nat.le_of_ble_eq_true rfl, Nat.le_of_ble_eq_true rfl⟩ ⟨Nat.le_of_ble_eq_true rfl, Nat.le_of_ble_eq_true rfl⟩ (Nat.le_of_ble_eq_true rfl) ?_ ?_
  · intro c6 S9 R9 J9 I5 hq
    clear hf
    obtain ⟨rfl, rfl, rfl, hf⟩ := hq
    exact hx_out (c := c6) hX hE hT ⟨Nat.le_of_ble_eq_true rfl, Nat.le_of_ble_eq_true rfl⟩ ⟨rfl, rfl, rfl, hf⟩
  intro r4 S9 R9 J9 I3 hq
  clear hf
  obtain ⟨rfl, rfl, rfl, hf⟩ := hq
  refine hv_aload_n hX dX27_tells_14 rfl 0 rfl ?_
  refine hx_getI (v := (I3 a0 1)) hX dX27_tells_15 fl27_17_27 (.inl rfl) o1 rfl ?_
  refine hv_ixor hX dX27_tells_18 ?_
  exact hv_xret hX hE (fun X hX hE => hx_iret hX hE dX27_tells_19 ⟨rfl, rfl, rfl, hf⟩)
/-! HungryHedge.acted(LHungryHedge$Tells;II)I -/
def x_X0_acted (a0 : Nat) (a1 : Int32) (a2 : Int32) (s : xS) (rd : xRd) (J : mJ) (I : mI) (QX : Nat → mI → Prop) (Q : Int32 → mI → Prop) : Prop :=
  (a1 = 0 →
    (xo s a0 22 ∧ (x_X21_eats_c22 a0 a2 s rd J I (fun c6 I5 => QX c6 I5) (fun r4 I3 => Q r4 I3))) ∨ (xo s a0 23 ∧ (x_X23_eats_c23 a0 a2 s rd J I (fun c10 I9 => QX c10 I9) (fun r8 I7 => Q r8 I7))) ∨ (xo s a0 24 ∧ (x_X24_eats_c24 a0 a2 s rd J I (fun c14 I13 => QX c14 I13) (fun r12 I11 => Q r12 I11))) ∨ (xo s a0 25 ∧ (x_X21_eats_c25 a0 a2 s rd J I (fun c18 I17 => QX c18 I17) (fun r16 I15 => Q r16 I15))) ∨ (xo s a0 26 ∧ (x_X26_eats a0 a2 s rd J I (fun c22 I21 => QX c22 I21) (fun r20 I19 => Q r20 I19))) ∨ (xo s a0 27 ∧ (x_X27_eats a0 a2 s rd J I (fun c26 I25 => QX c26 I25) (fun r24 I23 => Q r24 I23)))) ∧ (¬ a1 = 0 →
    (a1 = 1 →
    (xo s a0 22 ∧ (x_X22_stays_c22 a0 a2 s rd J I (fun c32 I31 => QX c32 I31) (fun r30 I29 => Q r30 I29))) ∨ (xo s a0 23 ∧ (x_X22_stays_c23 a0 a2 s rd J I (fun c36 I35 => QX c36 I35) (fun r34 I33 => Q r34 I33))) ∨ (xo s a0 24 ∧ (x_X22_stays_c24 a0 a2 s rd J I (fun c40 I39 => QX c40 I39) (fun r38 I37 => Q r38 I37))) ∨ (xo s a0 25 ∧ (x_X25_stays_c25 a0 a2 s rd J I (fun c44 I43 => QX c44 I43) (fun r42 I41 => Q r42 I41))) ∨ (xo s a0 26 ∧ (x_X26_stays a0 a2 s rd J I (fun c48 I47 => QX c48 I47) (fun r46 I45 => Q r46 I45))) ∨ (xo s a0 27 ∧ (x_X27_stays a0 a2 s rd J I (fun c52 I51 => QX c52 I51) (fun r50 I49 => Q r50 I49)))) ∧ (¬ a1 = 1 →
    (a1 = 2 →
    (xo s a0 22 ∧ (x_X21_flies_c22 a0 a2 s rd J I (fun c58 I57 => QX c58 I57) (fun r56 I55 => Q r56 I55))) ∨ (xo s a0 23 ∧ (x_X21_flies_c23 a0 a2 s rd J I (fun c62 I61 => QX c62 I61) (fun r60 I59 => Q r60 I59))) ∨ (xo s a0 24 ∧ (x_X24_flies_c24 a0 a2 s rd J I (fun c66 I65 => QX c66 I65) (fun r64 I63 => Q r64 I63))) ∨ (xo s a0 25 ∧ (x_X21_flies_c25 a0 a2 s rd J I (fun c70 I69 => QX c70 I69) (fun r68 I67 => Q r68 I67))) ∨ (xo s a0 26 ∧ (x_X26_flies a0 a2 s rd J I (fun c74 I73 => QX c74 I73) (fun r72 I71 => Q r72 I71))) ∨ (xo s a0 27 ∧ (x_X27_flies a0 a2 s rd J I (fun c78 I77 => QX c78 I77) (fun r76 I75 => Q r76 I75)))) ∧ (¬ a1 = 2 →
    (xo s a0 22 ∧ (x_X21_tells_c22 a0 a2 s rd J I (fun c83 I82 => QX c83 I82) (fun r81 I80 => Q r81 I80))) ∨ (xo s a0 23 ∧ (x_X23_tells_c23 a0 a2 s rd J I (fun c87 I86 => QX c87 I86) (fun r85 I84 => Q r85 I84))) ∨ (xo s a0 24 ∧ (x_X23_tells_c24 a0 a2 s rd J I (fun c91 I90 => QX c91 I90) (fun r89 I88 => Q r89 I88))) ∨ (xo s a0 25 ∧ (x_X21_tells_c25 a0 a2 s rd J I (fun c95 I94 => QX c95 I94) (fun r93 I92 => Q r93 I92))) ∨ (xo s a0 26 ∧ (x_X26_tells a0 a2 s rd J I (fun c99 I98 => QX c99 I98) (fun r97 I96 => Q r97 I96))) ∨ (xo s a0 27 ∧ (x_X27_tells a0 a2 s rd J I (fun c103 I102 => QX c103 I102) (fun r101 I100 => Q r101 I100))))))
theorem ct_X0_acted  (a0 : Nat) (a1 : Int32) (a2 : Int32) (s : xS) (rd : xRd) (J : mJ) (I : mI) (QX : Nat → mI → Prop) (Q : Int32 → mI → Prop) (hf : x_X0_acted a0 a1 a2 s rd J I QX Q) : hh_CtX yX0_acted cX0_acted 3 (some .int) 10 10383 [.ref a0, .int a1, .int a2] (hx s rd J I) (xQi (fun r9 S9 R9 J9 I9 => s = S9 ∧ rd = R9 ∧ J = J9 ∧ Q r9 I9)) (xQX (fun c9 S9 R9 J9 I9 => s = S9 ∧ rd = R9 ∧ J = J9 ∧ QX c9 I9)) 3 19 := by
  refine hh_CtX.of (own := RX0) rfl (by decide +kernel) (Nat.le_of_ble_eq_true rfl) ?_
  intro X hX hN hE hT
  show hh_V X 0 [(0, .ref a0), (1, .int a1), (2, .int a2)] [] 0 0 (hx s rd J I)
  unfold x_X0_acted at hf
  refine hv_iload_n hX dX0_acted_0 rfl 1 rfl ?_
  by_cases c1 : a1 = 0
  · replace hf := hf.1 c1
    refine hv_tswA (v := 0) (tgt := 28) (off := 27) hX dX0_acted_1 c1 ⟨by decide, by decide, by decide⟩ (by decide) ?_
    refine hv_aload_n hX dX0_acted_28 rfl 0 rfl ?_
    refine hv_iload_n hX dX0_acted_29 rfl 2 rfl ?_
    rcases hf with ⟨o2, hf⟩ | ⟨o2, hf⟩ | ⟨o2, hf⟩ | ⟨o2, hf⟩ | ⟨o2, hf⟩ | ⟨o2, hf⟩
    · skip
      refine hx_callZX5i hX dX0_acted_30 (ct_X21_eats_c22 a0 a2 s rd J I _ _ hf) q1518 q139 rfl (tw_faceU (y := yX21_eats) (x := ({ cls := "HungryHedge$Tells", name := "eats", desc := "(I)I" } : Jvm.MethodName)) (J := "HungryHedge$Eats") hX dX0_acted_30 (List.mem_of_getElem? (i := 0) rfl) (List.mem_of_getElem? (i := 4) rfl) (hh_nwm q1502 rfl) (hh_nwm q1501 rfl) (hh_nwm q1517 rfl) (hh_nwm q1515 rfl) (hh_nwm q1513 rfl) (by decide) (by decide) (by decide) q1514 q1516 np_X21_eats.2.2 rfl (ci := 22) (q := (RX22, TX22, 4)) rfl (by decide) o2.1 o2.2 rfl) ⟨Nat.le_of_ble_eq_true rfl, Nat.le_of_ble_eq_true rfl⟩ ⟨Nat.le_of_ble_eq_true rfl, Nat.le_of_ble_eq_true rfl⟩ (Nat.le_of_ble_eq_true rfl) ?_ ?_
      · intro c6 S9 R9 J9 I5 hq
        clear hf
        obtain ⟨rfl, rfl, rfl, hf⟩ := hq
        exact hx_out (c := c6) hX hE hT ⟨Nat.le_of_ble_eq_true rfl, Nat.le_of_ble_eq_true rfl⟩ ⟨rfl, rfl, rfl, hf⟩
      intro r4 S9 R9 J9 I3 hq
      clear hf
      obtain ⟨rfl, rfl, rfl, hf⟩ := hq
      refine hv_widen (z' := 3) (k' := 19) (Nat.le_of_ble_eq_true rfl) (Nat.le_of_ble_eq_true rfl) ?_
      exact hv_xret hX hE (fun X hX hE => hx_iret hX hE dX0_acted_35 ⟨rfl, rfl, rfl, hf⟩)
    · skip
      refine hx_callZX5i hX dX0_acted_30 (ct_X23_eats_c23 a0 a2 s rd J I _ _ hf) q1529 q141 rfl (tw_faceU (y := yX23_eats) (x := ({ cls := "HungryHedge$Tells", name := "eats", desc := "(I)I" } : Jvm.MethodName)) (J := "HungryHedge$Eats") hX dX0_acted_30 (List.mem_of_getElem? (i := 0) rfl) (List.mem_of_getElem? (i := 4) rfl) (hh_nwm q1502 rfl) (hh_nwm q1501 rfl) (hh_nwm q1537 rfl) (hh_nwm q1536 rfl) (hh_nwm q1534 rfl) (by decide) (by decide) (by decide) q1535 q1528 np_X23_eats.2.2 rfl (ci := 23) (q := (RX23, TX23, 5)) rfl (by decide) o2.1 o2.2 rfl) ⟨Nat.le_of_ble_eq_true rfl, Nat.le_of_ble_eq_true rfl⟩ ⟨Nat.le_of_ble_eq_true rfl, Nat.le_of_ble_eq_true rfl⟩ (Nat.le_of_ble_eq_true rfl) ?_ ?_
      · intro c10 S9 R9 J9 I9 hq
        clear hf
        obtain ⟨rfl, rfl, rfl, hf⟩ := hq
        exact hx_out (c := c10) hX hE hT ⟨Nat.le_of_ble_eq_true rfl, Nat.le_of_ble_eq_true rfl⟩ ⟨rfl, rfl, rfl, hf⟩
      intro r8 S9 R9 J9 I7 hq
      clear hf
      obtain ⟨rfl, rfl, rfl, hf⟩ := hq
      refine hv_widen (z' := 3) (k' := 19) (Nat.le_of_ble_eq_true rfl) (Nat.le_of_ble_eq_true rfl) ?_
      exact hv_xret hX hE (fun X hX hE => hx_iret hX hE dX0_acted_35 ⟨rfl, rfl, rfl, hf⟩)
    · skip
      refine hx_callZX5i hX dX0_acted_30 (ct_X24_eats_c24 a0 a2 s rd J I _ _ hf) q1525 q142 rfl (tw_faceU (y := yX24_eats) (x := ({ cls := "HungryHedge$Tells", name := "eats", desc := "(I)I" } : Jvm.MethodName)) (J := "HungryHedge$Eats") hX dX0_acted_30 (List.mem_of_getElem? (i := 0) rfl) (List.mem_of_getElem? (i := 4) rfl) (hh_nwm q1502 rfl) (hh_nwm q1501 rfl) (hh_nwm q1524 rfl) (hh_nwm q1522 rfl) (hh_nwm q1520 rfl) (by decide) (by decide) (by decide) q1521 q1523 np_X24_eats.2.2 rfl (ci := 24) (q := (RX24, TX24, 6)) rfl (by decide) o2.1 o2.2 rfl) ⟨Nat.le_of_ble_eq_true rfl, Nat.le_of_ble_eq_true rfl⟩ ⟨Nat.le_of_ble_eq_true rfl, Nat.le_of_ble_eq_true rfl⟩ (Nat.le_of_ble_eq_true rfl) ?_ ?_
      · intro c14 S9 R9 J9 I13 hq
        clear hf
        obtain ⟨rfl, rfl, rfl, hf⟩ := hq
        exact hx_out (c := c14) hX hE hT ⟨Nat.le_of_ble_eq_true rfl, Nat.le_of_ble_eq_true rfl⟩ ⟨rfl, rfl, rfl, hf⟩
      intro r12 S9 R9 J9 I11 hq
      clear hf
      obtain ⟨rfl, rfl, rfl, hf⟩ := hq
      refine hv_widen (z' := 3) (k' := 19) (Nat.le_of_ble_eq_true rfl) (Nat.le_of_ble_eq_true rfl) ?_
      exact hv_xret hX hE (fun X hX hE => hx_iret hX hE dX0_acted_35 ⟨rfl, rfl, rfl, hf⟩)
    · skip
      refine hx_callZX5i hX dX0_acted_30 (ct_X21_eats_c25 a0 a2 s rd J I _ _ hf) q1518 q139 rfl (tw_faceU (y := yX21_eats) (x := ({ cls := "HungryHedge$Tells", name := "eats", desc := "(I)I" } : Jvm.MethodName)) (J := "HungryHedge$Eats") hX dX0_acted_30 (List.mem_of_getElem? (i := 0) rfl) (List.mem_of_getElem? (i := 4) rfl) (hh_nwm q1502 rfl) (hh_nwm q1501 rfl) (hh_nwm q1517 rfl) (hh_nwm q1540 rfl) (hh_nwm q1538 rfl) (by decide) (by decide) (by decide) q1539 q1516 np_X21_eats.2.2 rfl (ci := 25) (q := (RX25, TX25, 4)) rfl (by decide) o2.1 o2.2 rfl) ⟨Nat.le_of_ble_eq_true rfl, Nat.le_of_ble_eq_true rfl⟩ ⟨Nat.le_of_ble_eq_true rfl, Nat.le_of_ble_eq_true rfl⟩ (Nat.le_of_ble_eq_true rfl) ?_ ?_
      · intro c18 S9 R9 J9 I17 hq
        clear hf
        obtain ⟨rfl, rfl, rfl, hf⟩ := hq
        exact hx_out (c := c18) hX hE hT ⟨Nat.le_of_ble_eq_true rfl, Nat.le_of_ble_eq_true rfl⟩ ⟨rfl, rfl, rfl, hf⟩
      intro r16 S9 R9 J9 I15 hq
      clear hf
      obtain ⟨rfl, rfl, rfl, hf⟩ := hq
      refine hv_widen (z' := 3) (k' := 19) (Nat.le_of_ble_eq_true rfl) (Nat.le_of_ble_eq_true rfl) ?_
      exact hv_xret hX hE (fun X hX hE => hx_iret hX hE dX0_acted_35 ⟨rfl, rfl, rfl, hf⟩)
    · skip
      refine hx_callZX5i hX dX0_acted_30 (ct_X26_eats a0 a2 s rd J I _ _ hf) q1546 q144 rfl (tw_faceU (y := yX26_eats) (x := ({ cls := "HungryHedge$Tells", name := "eats", desc := "(I)I" } : Jvm.MethodName)) (J := "HungryHedge$Eats") hX dX0_acted_30 (List.mem_of_getElem? (i := 0) rfl) (List.mem_of_getElem? (i := 4) rfl) (hh_nwm q1502 rfl) (hh_nwm q1501 rfl) (hh_nwm q1545 rfl) (hh_nwm q1543 rfl) (hh_nwm q1541 rfl) (by decide) (by decide) (by decide) q1542 q1544 np_X26_eats.2.2 rfl (ci := 26) (q := (RX26, TX26, 3)) rfl (by decide) o2.1 o2.2 rfl) ⟨Nat.le_of_ble_eq_true rfl, Nat.le_of_ble_eq_true rfl⟩ ⟨Nat.le_of_ble_eq_true rfl, Nat.le_of_ble_eq_true rfl⟩ (Nat.le_of_ble_eq_true rfl) ?_ ?_
      · intro c22 S9 R9 J9 I21 hq
        clear hf
        obtain ⟨rfl, rfl, rfl, hf⟩ := hq
        exact hx_out (c := c22) hX hE hT ⟨Nat.le_of_ble_eq_true rfl, Nat.le_of_ble_eq_true rfl⟩ ⟨rfl, rfl, rfl, hf⟩
      intro r20 S9 R9 J9 I19 hq
      clear hf
      obtain ⟨rfl, rfl, rfl, hf⟩ := hq
      refine hv_widen (z' := 3) (k' := 19) (Nat.le_of_ble_eq_true rfl) (Nat.le_of_ble_eq_true rfl) ?_
      exact hv_xret hX hE (fun X hX hE => hx_iret hX hE dX0_acted_35 ⟨rfl, rfl, rfl, hf⟩)
    · skip
      refine hx_callZX5i hX dX0_acted_30 (ct_X27_eats a0 a2 s rd J I _ _ hf) q1508 q145 rfl (tw_faceU (y := yX27_eats) (x := ({ cls := "HungryHedge$Tells", name := "eats", desc := "(I)I" } : Jvm.MethodName)) (J := "HungryHedge$Eats") hX dX0_acted_30 (List.mem_of_getElem? (i := 0) rfl) (List.mem_of_getElem? (i := 4) rfl) (hh_nwm q1502 rfl) (hh_nwm q1501 rfl) (hh_nwm q1507 rfl) (hh_nwm q1505 rfl) (hh_nwm q1503 rfl) (by decide) (by decide) (by decide) q1504 q1506 np_X27_eats.2.2 rfl (ci := 27) (q := (RX27, TX27, 3)) rfl (by decide) o2.1 o2.2 rfl) ⟨Nat.le_of_ble_eq_true rfl, Nat.le_of_ble_eq_true rfl⟩ ⟨Nat.le_of_ble_eq_true rfl, Nat.le_of_ble_eq_true rfl⟩ (Nat.le_of_ble_eq_true rfl) ?_ ?_
      · intro c26 S9 R9 J9 I25 hq
        clear hf
        obtain ⟨rfl, rfl, rfl, hf⟩ := hq
        exact hx_out (c := c26) hX hE hT ⟨Nat.le_of_ble_eq_true rfl, Nat.le_of_ble_eq_true rfl⟩ ⟨rfl, rfl, rfl, hf⟩
      intro r24 S9 R9 J9 I23 hq
      clear hf
      obtain ⟨rfl, rfl, rfl, hf⟩ := hq
      refine hv_widen (z' := 3) (k' := 19) (Nat.le_of_ble_eq_true rfl) (Nat.le_of_ble_eq_true rfl) ?_
      exact hv_xret hX hE (fun X hX hE => hx_iret hX hE dX0_acted_35 ⟨rfl, rfl, rfl, hf⟩)
  · replace hf := hf.2 c1
    by_cases c27 : a1 = 1
    · replace hf := hf.1 c27
      refine hv_tswA (v := 1) (tgt := 36) (off := 35) hX dX0_acted_1 c27 ⟨by decide, by decide, by decide⟩ (by decide) ?_
      refine hv_aload_n hX dX0_acted_36 rfl 0 rfl ?_
      refine hv_iload_n hX dX0_acted_37 rfl 2 rfl ?_
      rcases hf with ⟨o28, hf⟩ | ⟨o28, hf⟩ | ⟨o28, hf⟩ | ⟨o28, hf⟩ | ⟨o28, hf⟩ | ⟨o28, hf⟩
      · skip
        refine hx_callZX5i hX dX0_acted_38 (ct_X22_stays_c22 a0 a2 s rd J I _ _ hf) q1560 q140 rfl (tw_faceU (y := yX22_stays) (x := ({ cls := "HungryHedge$Tells", name := "stays", desc := "(I)I" } : Jvm.MethodName)) (J := "HungryHedge$Eats") hX dX0_acted_38 (List.mem_of_getElem? (i := 1) rfl) (List.mem_of_getElem? (i := 5) rfl) (hh_nwm q1550 rfl) (hh_nwm q1549 rfl) (hh_nwm q1559 rfl) (hh_nwm q1557 rfl) (hh_nwm q1513 rfl) (by decide) (by decide) (by decide) q1556 q1558 np_X22_stays.2.2 rfl (ci := 22) (q := (RX22, TX22, 4)) rfl (by decide) o28.1 o28.2 rfl) ⟨Nat.le_of_ble_eq_true rfl, Nat.le_of_ble_eq_true rfl⟩ ⟨Nat.le_of_ble_eq_true rfl, Nat.le_of_ble_eq_true rfl⟩ (Nat.le_of_ble_eq_true rfl) ?_ ?_
        · intro c32 S9 R9 J9 I31 hq
          clear hf
          obtain ⟨rfl, rfl, rfl, hf⟩ := hq
          exact hx_out (c := c32) hX hE hT ⟨Nat.le_of_ble_eq_true rfl, Nat.le_of_ble_eq_true rfl⟩ ⟨rfl, rfl, rfl, hf⟩
        intro r30 S9 R9 J9 I29 hq
        clear hf
        obtain ⟨rfl, rfl, rfl, hf⟩ := hq
        refine hv_widen (z' := 3) (k' := 19) (Nat.le_of_ble_eq_true rfl) (Nat.le_of_ble_eq_true rfl) ?_
        exact hv_xret hX hE (fun X hX hE => hx_iret hX hE dX0_acted_43 ⟨rfl, rfl, rfl, hf⟩)
      · skip
        refine hx_callZX5i hX dX0_acted_38 (ct_X22_stays_c23 a0 a2 s rd J I _ _ hf) q1560 q140 rfl (tw_faceU (y := yX22_stays) (x := ({ cls := "HungryHedge$Tells", name := "stays", desc := "(I)I" } : Jvm.MethodName)) (J := "HungryHedge$Eats") hX dX0_acted_38 (List.mem_of_getElem? (i := 1) rfl) (List.mem_of_getElem? (i := 5) rfl) (hh_nwm q1550 rfl) (hh_nwm q1549 rfl) (hh_nwm q1559 rfl) (hh_nwm q1580 rfl) (hh_nwm q1534 rfl) (by decide) (by decide) (by decide) q1579 q1558 np_X22_stays.2.2 rfl (ci := 23) (q := (RX23, TX23, 5)) rfl (by decide) o28.1 o28.2 rfl) ⟨Nat.le_of_ble_eq_true rfl, Nat.le_of_ble_eq_true rfl⟩ ⟨Nat.le_of_ble_eq_true rfl, Nat.le_of_ble_eq_true rfl⟩ (Nat.le_of_ble_eq_true rfl) ?_ ?_
        · intro c36 S9 R9 J9 I35 hq
          clear hf
          obtain ⟨rfl, rfl, rfl, hf⟩ := hq
          exact hx_out (c := c36) hX hE hT ⟨Nat.le_of_ble_eq_true rfl, Nat.le_of_ble_eq_true rfl⟩ ⟨rfl, rfl, rfl, hf⟩
        intro r34 S9 R9 J9 I33 hq
        clear hf
        obtain ⟨rfl, rfl, rfl, hf⟩ := hq
        refine hv_widen (z' := 3) (k' := 19) (Nat.le_of_ble_eq_true rfl) (Nat.le_of_ble_eq_true rfl) ?_
        exact hv_xret hX hE (fun X hX hE => hx_iret hX hE dX0_acted_43 ⟨rfl, rfl, rfl, hf⟩)
      · skip
        refine hx_callZX5i hX dX0_acted_38 (ct_X22_stays_c24 a0 a2 s rd J I _ _ hf) q1560 q140 rfl (tw_faceU (y := yX22_stays) (x := ({ cls := "HungryHedge$Tells", name := "stays", desc := "(I)I" } : Jvm.MethodName)) (J := "HungryHedge$Eats") hX dX0_acted_38 (List.mem_of_getElem? (i := 1) rfl) (List.mem_of_getElem? (i := 5) rfl) (hh_nwm q1550 rfl) (hh_nwm q1549 rfl) (hh_nwm q1559 rfl) (hh_nwm q1578 rfl) (hh_nwm q1520 rfl) (by decide) (by decide) (by decide) q1577 q1558 np_X22_stays.2.2 rfl (ci := 24) (q := (RX24, TX24, 6)) rfl (by decide) o28.1 o28.2 rfl) ⟨Nat.le_of_ble_eq_true rfl, Nat.le_of_ble_eq_true rfl⟩ ⟨Nat.le_of_ble_eq_true rfl, Nat.le_of_ble_eq_true rfl⟩ (Nat.le_of_ble_eq_true rfl) ?_ ?_
        · intro c40 S9 R9 J9 I39 hq
          clear hf
          obtain ⟨rfl, rfl, rfl, hf⟩ := hq
          exact hx_out (c := c40) hX hE hT ⟨Nat.le_of_ble_eq_true rfl, Nat.le_of_ble_eq_true rfl⟩ ⟨rfl, rfl, rfl, hf⟩
        intro r38 S9 R9 J9 I37 hq
        clear hf
        obtain ⟨rfl, rfl, rfl, hf⟩ := hq
        refine hv_widen (z' := 3) (k' := 19) (Nat.le_of_ble_eq_true rfl) (Nat.le_of_ble_eq_true rfl) ?_
        exact hv_xret hX hE (fun X hX hE => hx_iret hX hE dX0_acted_43 ⟨rfl, rfl, rfl, hf⟩)
      · skip
        refine hx_callZX5i hX dX0_acted_38 (ct_X25_stays_c25 a0 a2 s rd J I _ _ hf) q1585 q143 rfl (tw_faceU (y := yX25_stays) (x := ({ cls := "HungryHedge$Tells", name := "stays", desc := "(I)I" } : Jvm.MethodName)) (J := "HungryHedge$Eats") hX dX0_acted_38 (List.mem_of_getElem? (i := 1) rfl) (List.mem_of_getElem? (i := 5) rfl) (hh_nwm q1550 rfl) (hh_nwm q1549 rfl) (hh_nwm q1584 rfl) (hh_nwm q1582 rfl) (hh_nwm q1538 rfl) (by decide) (by decide) (by decide) q1581 q1583 np_X25_stays.2.2 rfl (ci := 25) (q := (RX25, TX25, 4)) rfl (by decide) o28.1 o28.2 rfl) ⟨Nat.le_of_ble_eq_true rfl, Nat.le_of_ble_eq_true rfl⟩ ⟨Nat.le_of_ble_eq_true rfl, Nat.le_of_ble_eq_true rfl⟩ (Nat.le_of_ble_eq_true rfl) ?_ ?_
        · intro c44 S9 R9 J9 I43 hq
          clear hf
          obtain ⟨rfl, rfl, rfl, hf⟩ := hq
          exact hx_out (c := c44) hX hE hT ⟨Nat.le_of_ble_eq_true rfl, Nat.le_of_ble_eq_true rfl⟩ ⟨rfl, rfl, rfl, hf⟩
        intro r42 S9 R9 J9 I41 hq
        clear hf
        obtain ⟨rfl, rfl, rfl, hf⟩ := hq
        refine hv_widen (z' := 3) (k' := 19) (Nat.le_of_ble_eq_true rfl) (Nat.le_of_ble_eq_true rfl) ?_
        exact hv_xret hX hE (fun X hX hE => hx_iret hX hE dX0_acted_43 ⟨rfl, rfl, rfl, hf⟩)
      · skip
        refine hx_callZX5i hX dX0_acted_38 (ct_X26_stays a0 a2 s rd J I _ _ hf) q1592 q144 rfl (tw_faceU (y := yX26_stays) (x := ({ cls := "HungryHedge$Tells", name := "stays", desc := "(I)I" } : Jvm.MethodName)) (J := "HungryHedge$Eats") hX dX0_acted_38 (List.mem_of_getElem? (i := 1) rfl) (List.mem_of_getElem? (i := 5) rfl) (hh_nwm q1550 rfl) (hh_nwm q1549 rfl) (hh_nwm q1591 rfl) (hh_nwm q1589 rfl) (hh_nwm q1541 rfl) (by decide) (by decide) (by decide) q1588 q1590 np_X26_stays.2.2 rfl (ci := 26) (q := (RX26, TX26, 3)) rfl (by decide) o28.1 o28.2 rfl) ⟨Nat.le_of_ble_eq_true rfl, Nat.le_of_ble_eq_true rfl⟩ ⟨Nat.le_of_ble_eq_true rfl, Nat.le_of_ble_eq_true rfl⟩ (Nat.le_of_ble_eq_true rfl) ?_ ?_
        · intro c48 S9 R9 J9 I47 hq
          clear hf
          obtain ⟨rfl, rfl, rfl, hf⟩ := hq
          exact hx_out (c := c48) hX hE hT ⟨Nat.le_of_ble_eq_true rfl, Nat.le_of_ble_eq_true rfl⟩ ⟨rfl, rfl, rfl, hf⟩
        intro r46 S9 R9 J9 I45 hq
        clear hf
        obtain ⟨rfl, rfl, rfl, hf⟩ := hq
        refine hv_widen (z' := 3) (k' := 19) (Nat.le_of_ble_eq_true rfl) (Nat.le_of_ble_eq_true rfl) ?_
        exact hv_xret hX hE (fun X hX hE => hx_iret hX hE dX0_acted_43 ⟨rfl, rfl, rfl, hf⟩)
      · skip
        refine hx_callZX5i hX dX0_acted_38 (ct_X27_stays a0 a2 s rd J I _ _ hf) q1555 q145 rfl (tw_faceU (y := yX27_stays) (x := ({ cls := "HungryHedge$Tells", name := "stays", desc := "(I)I" } : Jvm.MethodName)) (J := "HungryHedge$Eats") hX dX0_acted_38 (List.mem_of_getElem? (i := 1) rfl) (List.mem_of_getElem? (i := 5) rfl) (hh_nwm q1550 rfl) (hh_nwm q1549 rfl) (hh_nwm q1554 rfl) (hh_nwm q1552 rfl) (hh_nwm q1503 rfl) (by decide) (by decide) (by decide) q1551 q1553 np_X27_stays.2.2 rfl (ci := 27) (q := (RX27, TX27, 3)) rfl (by decide) o28.1 o28.2 rfl) ⟨Nat.le_of_ble_eq_true rfl, Nat.le_of_ble_eq_true rfl⟩ ⟨Nat.le_of_ble_eq_true rfl, Nat.le_of_ble_eq_true rfl⟩ (Nat.le_of_ble_eq_true rfl) ?_ ?_
        · intro c52 S9 R9 J9 I51 hq
          clear hf
          obtain ⟨rfl, rfl, rfl, hf⟩ := hq
          exact hx_out (c := c52) hX hE hT ⟨Nat.le_of_ble_eq_true rfl, Nat.le_of_ble_eq_true rfl⟩ ⟨rfl, rfl, rfl, hf⟩
        intro r50 S9 R9 J9 I49 hq
        clear hf
        obtain ⟨rfl, rfl, rfl, hf⟩ := hq
        refine hv_widen (z' := 3) (k' := 19) (Nat.le_of_ble_eq_true rfl) (Nat.le_of_ble_eq_true rfl) ?_
        exact hv_xret hX hE (fun X hX hE => hx_iret hX hE dX0_acted_43 ⟨rfl, rfl, rfl, hf⟩)
    · replace hf := hf.2 c27
      by_cases c53 : a1 = 2
      · replace hf := hf.1 c53
        refine hv_tswA (v := 2) (tgt := 44) (off := 43) hX dX0_acted_1 c53 ⟨by decide, by decide, by decide⟩ (by decide) ?_
        refine hv_aload_n hX dX0_acted_44 rfl 0 rfl ?_
        refine hv_iload_n hX dX0_acted_45 rfl 2 rfl ?_
        rcases hf with ⟨o54, hf⟩ | ⟨o54, hf⟩ | ⟨o54, hf⟩ | ⟨o54, hf⟩ | ⟨o54, hf⟩ | ⟨o54, hf⟩
        · skip
          refine hx_callZX5i hX dX0_acted_46 (ct_X21_flies_c22 a0 a2 s rd J I _ _ hf) q1608 q139 rfl (tw_faceU (y := yX21_flies) (x := ({ cls := "HungryHedge$Tells", name := "flies", desc := "(I)I" } : Jvm.MethodName)) (J := "HungryHedge$Flies") hX dX0_acted_46 (List.mem_of_getElem? (i := 2) rfl) (List.mem_of_getElem? (i := 6) rfl) (hh_nwm q1596 rfl) (hh_nwm q1595 rfl) (hh_nwm q1607 rfl) (hh_nwm q1605 rfl) (hh_nwm q1513 rfl) (by decide) (by decide) (by decide) q1604 q1606 np_X21_flies.2.2 rfl (ci := 22) (q := (RX22, TX22, 4)) rfl (by decide) o54.1 o54.2 rfl) ⟨Nat.le_of_ble_eq_true rfl, Nat.le_of_ble_eq_true rfl⟩ ⟨Nat.le_of_ble_eq_true rfl, Nat.le_of_ble_eq_true rfl⟩ (Nat.le_of_ble_eq_true rfl) ?_ ?_
          · intro c58 S9 R9 J9 I57 hq
            clear hf
            obtain ⟨rfl, rfl, rfl, hf⟩ := hq
            exact hx_out (c := c58) hX hE hT ⟨Nat.le_of_ble_eq_true rfl, Nat.le_of_ble_eq_true rfl⟩ ⟨rfl, rfl, rfl, hf⟩
          intro r56 S9 R9 J9 I55 hq
          clear hf
          obtain ⟨rfl, rfl, rfl, hf⟩ := hq
          exact hv_xret hX hE (fun X hX hE => hx_iret hX hE dX0_acted_51 ⟨rfl, rfl, rfl, hf⟩)
        · skip
          refine hx_callZX5i hX dX0_acted_46 (ct_X21_flies_c23 a0 a2 s rd J I _ _ hf) q1608 q139 rfl (tw_faceU (y := yX21_flies) (x := ({ cls := "HungryHedge$Tells", name := "flies", desc := "(I)I" } : Jvm.MethodName)) (J := "HungryHedge$Flies") hX dX0_acted_46 (List.mem_of_getElem? (i := 2) rfl) (List.mem_of_getElem? (i := 6) rfl) (hh_nwm q1596 rfl) (hh_nwm q1595 rfl) (hh_nwm q1607 rfl) (hh_nwm q1618 rfl) (hh_nwm q1534 rfl) (by decide) (by decide) (by decide) q1617 q1606 np_X21_flies.2.2 rfl (ci := 23) (q := (RX23, TX23, 5)) rfl (by decide) o54.1 o54.2 rfl) ⟨Nat.le_of_ble_eq_true rfl, Nat.le_of_ble_eq_true rfl⟩ ⟨Nat.le_of_ble_eq_true rfl, Nat.le_of_ble_eq_true rfl⟩ (Nat.le_of_ble_eq_true rfl) ?_ ?_
          · intro c62 S9 R9 J9 I61 hq
            clear hf
            obtain ⟨rfl, rfl, rfl, hf⟩ := hq
            exact hx_out (c := c62) hX hE hT ⟨Nat.le_of_ble_eq_true rfl, Nat.le_of_ble_eq_true rfl⟩ ⟨rfl, rfl, rfl, hf⟩
          intro r60 S9 R9 J9 I59 hq
          clear hf
          obtain ⟨rfl, rfl, rfl, hf⟩ := hq
          exact hv_xret hX hE (fun X hX hE => hx_iret hX hE dX0_acted_51 ⟨rfl, rfl, rfl, hf⟩)
        · skip
          refine hx_callZX5i hX dX0_acted_46 (ct_X24_flies_c24 a0 a2 s rd J I _ _ hf) q1613 q142 rfl (tw_faceU (y := yX24_flies) (x := ({ cls := "HungryHedge$Tells", name := "flies", desc := "(I)I" } : Jvm.MethodName)) (J := "HungryHedge$Flies") hX dX0_acted_46 (List.mem_of_getElem? (i := 2) rfl) (List.mem_of_getElem? (i := 6) rfl) (hh_nwm q1596 rfl) (hh_nwm q1595 rfl) (hh_nwm q1612 rfl) (hh_nwm q1610 rfl) (hh_nwm q1520 rfl) (by decide) (by decide) (by decide) q1609 q1611 np_X24_flies.2.2 rfl (ci := 24) (q := (RX24, TX24, 6)) rfl (by decide) o54.1 o54.2 rfl) ⟨Nat.le_of_ble_eq_true rfl, Nat.le_of_ble_eq_true rfl⟩ ⟨Nat.le_of_ble_eq_true rfl, Nat.le_of_ble_eq_true rfl⟩ (Nat.le_of_ble_eq_true rfl) ?_ ?_
          · intro c66 S9 R9 J9 I65 hq
            clear hf
            obtain ⟨rfl, rfl, rfl, hf⟩ := hq
            exact hx_out (c := c66) hX hE hT ⟨Nat.le_of_ble_eq_true rfl, Nat.le_of_ble_eq_true rfl⟩ ⟨rfl, rfl, rfl, hf⟩
          intro r64 S9 R9 J9 I63 hq
          clear hf
          obtain ⟨rfl, rfl, rfl, hf⟩ := hq
          exact hv_xret hX hE (fun X hX hE => hx_iret hX hE dX0_acted_51 ⟨rfl, rfl, rfl, hf⟩)
        · skip
          refine hx_callZX5i hX dX0_acted_46 (ct_X21_flies_c25 a0 a2 s rd J I _ _ hf) q1608 q139 rfl (tw_faceU (y := yX21_flies) (x := ({ cls := "HungryHedge$Tells", name := "flies", desc := "(I)I" } : Jvm.MethodName)) (J := "HungryHedge$Flies") hX dX0_acted_46 (List.mem_of_getElem? (i := 2) rfl) (List.mem_of_getElem? (i := 6) rfl) (hh_nwm q1596 rfl) (hh_nwm q1595 rfl) (hh_nwm q1607 rfl) (hh_nwm q1620 rfl) (hh_nwm q1538 rfl) (by decide) (by decide) (by decide) q1619 q1606 np_X21_flies.2.2 rfl (ci := 25) (q := (RX25, TX25, 4)) rfl (by decide) o54.1 o54.2 rfl) ⟨Nat.le_of_ble_eq_true rfl, Nat.le_of_ble_eq_true rfl⟩ ⟨Nat.le_of_ble_eq_true rfl, Nat.le_of_ble_eq_true rfl⟩ (Nat.le_of_ble_eq_true rfl) ?_ ?_
          · intro c70 S9 R9 J9 I69 hq
            clear hf
            obtain ⟨rfl, rfl, rfl, hf⟩ := hq
            exact hx_out (c := c70) hX hE hT ⟨Nat.le_of_ble_eq_true rfl, Nat.le_of_ble_eq_true rfl⟩ ⟨rfl, rfl, rfl, hf⟩
          intro r68 S9 R9 J9 I67 hq
          clear hf
          obtain ⟨rfl, rfl, rfl, hf⟩ := hq
          exact hv_xret hX hE (fun X hX hE => hx_iret hX hE dX0_acted_51 ⟨rfl, rfl, rfl, hf⟩)
        · skip
          refine hx_callZX5i hX dX0_acted_46 (ct_X26_flies a0 a2 s rd J I _ _ hf) q1625 q144 rfl (tw_faceU (y := yX26_flies) (x := ({ cls := "HungryHedge$Tells", name := "flies", desc := "(I)I" } : Jvm.MethodName)) (J := "HungryHedge$Flies") hX dX0_acted_46 (List.mem_of_getElem? (i := 2) rfl) (List.mem_of_getElem? (i := 6) rfl) (hh_nwm q1596 rfl) (hh_nwm q1595 rfl) (hh_nwm q1624 rfl) (hh_nwm q1622 rfl) (hh_nwm q1541 rfl) (by decide) (by decide) (by decide) q1621 q1623 np_X26_flies.2.2 rfl (ci := 26) (q := (RX26, TX26, 3)) rfl (by decide) o54.1 o54.2 rfl) ⟨Nat.le_of_ble_eq_true rfl, Nat.le_of_ble_eq_true rfl⟩ ⟨Nat.le_of_ble_eq_true rfl, Nat.le_of_ble_eq_true rfl⟩ (Nat.le_of_ble_eq_true rfl) ?_ ?_
          · intro c74 S9 R9 J9 I73 hq
            clear hf
            obtain ⟨rfl, rfl, rfl, hf⟩ := hq
            exact hx_out (c := c74) hX hE hT ⟨Nat.le_of_ble_eq_true rfl, Nat.le_of_ble_eq_true rfl⟩ ⟨rfl, rfl, rfl, hf⟩
          intro r72 S9 R9 J9 I71 hq
          clear hf
          obtain ⟨rfl, rfl, rfl, hf⟩ := hq
          refine hv_widen (z' := 3) (k' := 19) (Nat.le_of_ble_eq_true rfl) (Nat.le_of_ble_eq_true rfl) ?_
          exact hv_xret hX hE (fun X hX hE => hx_iret hX hE dX0_acted_51 ⟨rfl, rfl, rfl, hf⟩)
        · skip
          refine hx_callZX5i hX dX0_acted_46 (ct_X27_flies a0 a2 s rd J I _ _ hf) q1601 q145 rfl (tw_faceU (y := yX27_flies) (x := ({ cls := "HungryHedge$Tells", name := "flies", desc := "(I)I" } : Jvm.MethodName)) (J := "HungryHedge$Flies") hX dX0_acted_46 (List.mem_of_getElem? (i := 2) rfl) (List.mem_of_getElem? (i := 6) rfl) (hh_nwm q1596 rfl) (hh_nwm q1595 rfl) (hh_nwm q1600 rfl) (hh_nwm q1598 rfl) (hh_nwm q1503 rfl) (by decide) (by decide) (by decide) q1597 q1599 np_X27_flies.2.2 rfl (ci := 27) (q := (RX27, TX27, 3)) rfl (by decide) o54.1 o54.2 rfl) ⟨Nat.le_of_ble_eq_true rfl, Nat.le_of_ble_eq_true rfl⟩ ⟨Nat.le_of_ble_eq_true rfl, Nat.le_of_ble_eq_true rfl⟩ (Nat.le_of_ble_eq_true rfl) ?_ ?_
          · intro c78 S9 R9 J9 I77 hq
            clear hf
            obtain ⟨rfl, rfl, rfl, hf⟩ := hq
            exact hx_out (c := c78) hX hE hT ⟨Nat.le_of_ble_eq_true rfl, Nat.le_of_ble_eq_true rfl⟩ ⟨rfl, rfl, rfl, hf⟩
          intro r76 S9 R9 J9 I75 hq
          clear hf
          obtain ⟨rfl, rfl, rfl, hf⟩ := hq
          refine hv_widen (z' := 3) (k' := 19) (Nat.le_of_ble_eq_true rfl) (Nat.le_of_ble_eq_true rfl) ?_
          exact hv_xret hX hE (fun X hX hE => hx_iret hX hE dX0_acted_51 ⟨rfl, rfl, rfl, hf⟩)
      · replace hf := hf.2 c53
        refine hv_tswO (tgt := 52) hX dX0_acted_1 (by have z0 := lv_neT c1 (a := 0) (by decide); have z1 := lv_neT c27 (a := 1) (by decide); have z2 := lv_neT c53 (a := 2) (by decide); omega) (by decide) ?_
        refine hv_aload_n hX dX0_acted_52 rfl 0 rfl ?_
        refine hv_iload_n hX dX0_acted_53 rfl 2 rfl ?_
        rcases hf with ⟨o79, hf⟩ | ⟨o79, hf⟩ | ⟨o79, hf⟩ | ⟨o79, hf⟩ | ⟨o79, hf⟩ | ⟨o79, hf⟩
        · skip
          refine hx_callZX5i hX dX0_acted_54 (ct_X21_tells_c22 a0 a2 s rd J I _ _ hf) q1640 q139 rfl (tw_face (y := yX21_tells) (x := ({ cls := "HungryHedge$Tells", name := "tells", desc := "(I)I" } : Jvm.MethodName)) hX dX0_acted_54 q1627 (by decide) (by decide) q1636 q1638 np_X21_tells.2.2 rfl (ci := 22) (q := (RX22, TX22, 4)) rfl (by decide) o79.1 o79.2 rfl) ⟨Nat.le_of_ble_eq_true rfl, Nat.le_of_ble_eq_true rfl⟩ ⟨Nat.le_of_ble_eq_true rfl, Nat.le_of_ble_eq_true rfl⟩ (Nat.le_of_ble_eq_true rfl) ?_ ?_
          · intro c83 S9 R9 J9 I82 hq
            clear hf
            obtain ⟨rfl, rfl, rfl, hf⟩ := hq
            exact hx_out (c := c83) hX hE hT ⟨Nat.le_of_ble_eq_true rfl, Nat.le_of_ble_eq_true rfl⟩ ⟨rfl, rfl, rfl, hf⟩
          intro r81 S9 R9 J9 I80 hq
          clear hf
          obtain ⟨rfl, rfl, rfl, hf⟩ := hq
          refine hv_widen (z' := 3) (k' := 19) (Nat.le_of_ble_eq_true rfl) (Nat.le_of_ble_eq_true rfl) ?_
          exact hv_xret hX hE (fun X hX hE => hx_iret hX hE dX0_acted_59 ⟨rfl, rfl, rfl, hf⟩)
        · skip
          refine hx_callZX5i hX dX0_acted_54 (ct_X23_tells_c23 a0 a2 s rd J I _ _ hf) q1646 q141 rfl (tw_face (y := yX23_tells) (x := ({ cls := "HungryHedge$Tells", name := "tells", desc := "(I)I" } : Jvm.MethodName)) hX dX0_acted_54 q1627 (by decide) (by decide) q1653 q1644 np_X23_tells.2.2 rfl (ci := 23) (q := (RX23, TX23, 5)) rfl (by decide) o79.1 o79.2 rfl) ⟨Nat.le_of_ble_eq_true rfl, Nat.le_of_ble_eq_true rfl⟩ ⟨Nat.le_of_ble_eq_true rfl, Nat.le_of_ble_eq_true rfl⟩ (Nat.le_of_ble_eq_true rfl) ?_ ?_
          · intro c87 S9 R9 J9 I86 hq
            clear hf
            obtain ⟨rfl, rfl, rfl, hf⟩ := hq
            exact hx_out (c := c87) hX hE hT ⟨Nat.le_of_ble_eq_true rfl, Nat.le_of_ble_eq_true rfl⟩ ⟨rfl, rfl, rfl, hf⟩
          intro r85 S9 R9 J9 I84 hq
          clear hf
          obtain ⟨rfl, rfl, rfl, hf⟩ := hq
          exact hv_xret hX hE (fun X hX hE => hx_iret hX hE dX0_acted_59 ⟨rfl, rfl, rfl, hf⟩)
        · skip
          refine hx_callZX5i hX dX0_acted_54 (ct_X23_tells_c24 a0 a2 s rd J I _ _ hf) q1646 q141 rfl (tw_face (y := yX23_tells) (x := ({ cls := "HungryHedge$Tells", name := "tells", desc := "(I)I" } : Jvm.MethodName)) hX dX0_acted_54 q1627 (by decide) (by decide) q1642 q1644 np_X23_tells.2.2 rfl (ci := 24) (q := (RX24, TX24, 6)) rfl (by decide) o79.1 o79.2 rfl) ⟨Nat.le_of_ble_eq_true rfl, Nat.le_of_ble_eq_true rfl⟩ ⟨Nat.le_of_ble_eq_true rfl, Nat.le_of_ble_eq_true rfl⟩ (Nat.le_of_ble_eq_true rfl) ?_ ?_
          · intro c91 S9 R9 J9 I90 hq
            clear hf
            obtain ⟨rfl, rfl, rfl, hf⟩ := hq
            exact hx_out (c := c91) hX hE hT ⟨Nat.le_of_ble_eq_true rfl, Nat.le_of_ble_eq_true rfl⟩ ⟨rfl, rfl, rfl, hf⟩
          intro r89 S9 R9 J9 I88 hq
          clear hf
          obtain ⟨rfl, rfl, rfl, hf⟩ := hq
          exact hv_xret hX hE (fun X hX hE => hx_iret hX hE dX0_acted_59 ⟨rfl, rfl, rfl, hf⟩)
        · skip
          refine hx_callZX5i hX dX0_acted_54 (ct_X21_tells_c25 a0 a2 s rd J I _ _ hf) q1640 q139 rfl (tw_face (y := yX21_tells) (x := ({ cls := "HungryHedge$Tells", name := "tells", desc := "(I)I" } : Jvm.MethodName)) hX dX0_acted_54 q1627 (by decide) (by decide) q1655 q1638 np_X21_tells.2.2 rfl (ci := 25) (q := (RX25, TX25, 4)) rfl (by decide) o79.1 o79.2 rfl) ⟨Nat.le_of_ble_eq_true rfl, Nat.le_of_ble_eq_true rfl⟩ ⟨Nat.le_of_ble_eq_true rfl, Nat.le_of_ble_eq_true rfl⟩ (Nat.le_of_ble_eq_true rfl) ?_ ?_
          · intro c95 S9 R9 J9 I94 hq
            clear hf
            obtain ⟨rfl, rfl, rfl, hf⟩ := hq
            exact hx_out (c := c95) hX hE hT ⟨Nat.le_of_ble_eq_true rfl, Nat.le_of_ble_eq_true rfl⟩ ⟨rfl, rfl, rfl, hf⟩
          intro r93 S9 R9 J9 I92 hq
          clear hf
          obtain ⟨rfl, rfl, rfl, hf⟩ := hq
          refine hv_widen (z' := 3) (k' := 19) (Nat.le_of_ble_eq_true rfl) (Nat.le_of_ble_eq_true rfl) ?_
          exact hv_xret hX hE (fun X hX hE => hx_iret hX hE dX0_acted_59 ⟨rfl, rfl, rfl, hf⟩)
        · skip
          refine hx_callZX5i hX dX0_acted_54 (ct_X26_tells a0 a2 s rd J I _ _ hf) q1661 q144 rfl (tw_face (y := yX26_tells) (x := ({ cls := "HungryHedge$Tells", name := "tells", desc := "(I)I" } : Jvm.MethodName)) hX dX0_acted_54 q1627 (by decide) (by decide) q1657 q1659 np_X26_tells.2.2 rfl (ci := 26) (q := (RX26, TX26, 3)) rfl (by decide) o79.1 o79.2 rfl) ⟨Nat.le_of_ble_eq_true rfl, Nat.le_of_ble_eq_true rfl⟩ ⟨Nat.le_of_ble_eq_true rfl, Nat.le_of_ble_eq_true rfl⟩ (Nat.le_of_ble_eq_true rfl) ?_ ?_
          · intro c99 S9 R9 J9 I98 hq
            clear hf
            obtain ⟨rfl, rfl, rfl, hf⟩ := hq
            exact hx_out (c := c99) hX hE hT ⟨Nat.le_of_ble_eq_true rfl, Nat.le_of_ble_eq_true rfl⟩ ⟨rfl, rfl, rfl, hf⟩
          intro r97 S9 R9 J9 I96 hq
          clear hf
          obtain ⟨rfl, rfl, rfl, hf⟩ := hq
          refine hv_widen (z' := 3) (k' := 19) (Nat.le_of_ble_eq_true rfl) (Nat.le_of_ble_eq_true rfl) ?_
          exact hv_xret hX hE (fun X hX hE => hx_iret hX hE dX0_acted_59 ⟨rfl, rfl, rfl, hf⟩)
        · skip
          refine hx_callZX5i hX dX0_acted_54 (ct_X27_tells a0 a2 s rd J I _ _ hf) q1634 q145 rfl (tw_face (y := yX27_tells) (x := ({ cls := "HungryHedge$Tells", name := "tells", desc := "(I)I" } : Jvm.MethodName)) hX dX0_acted_54 q1627 (by decide) (by decide) q1630 q1632 np_X27_tells.2.2 rfl (ci := 27) (q := (RX27, TX27, 3)) rfl (by decide) o79.1 o79.2 rfl) ⟨Nat.le_of_ble_eq_true rfl, Nat.le_of_ble_eq_true rfl⟩ ⟨Nat.le_of_ble_eq_true rfl, Nat.le_of_ble_eq_true rfl⟩ (Nat.le_of_ble_eq_true rfl) ?_ ?_
          · intro c103 S9 R9 J9 I102 hq
            clear hf
            obtain ⟨rfl, rfl, rfl, hf⟩ := hq
            exact hx_out (c := c103) hX hE hT ⟨Nat.le_of_ble_eq_true rfl, Nat.le_of_ble_eq_true rfl⟩ ⟨rfl, rfl, rfl, hf⟩
          intro r101 S9 R9 J9 I100 hq
          clear hf
          obtain ⟨rfl, rfl, rfl, hf⟩ := hq
          refine hv_widen (z' := 3) (k' := 19) (Nat.le_of_ble_eq_true rfl) (Nat.le_of_ble_eq_true rfl) ?_
          exact hv_xret hX hE (fun X hX hE => hx_iret hX hE dX0_acted_59 ⟨rfl, rfl, rfl, hf⟩)
/-! HungryHedge.act(III)I -/
def x_X0_act (a1 : Int32) (a2 : Int32) (a3 : Int32) (s : xS) (rd : xRd) (J : mJ) (I : mI) (Q : Int32 → xS → xRd → mJ → mI → Prop) : Prop :=
  x_X0_isShelf a1 s rd J (u2 I 0 17 0) (fun r1 => (r1 = 0 →
    Q 0 s rd J (u2 I 0 17 0)) ∧ (¬ r1 = 0 →
    x_X0_in a2 0 3 s rd J (u2 I 0 17 0) (fun r3 => (r3 = 0 →
      Q 0 s rd J (u2 I 0 17 0)) ∧ (¬ r3 = 0 →
      vp_in a1 4 ∧ (∃ v5 : Nat, xR rd 128 a1.toNatClampNeg = some v5 ∧ (x_X0_heldOf v5 s rd J (u2 I 0 17 0) (fun r10 s6 rd7 J8 I9 => (r10 = none → Q 0 s6 rd7 J8 I9) ∧ (∀ v11 : Nat, r10 = some v11 → (xo s6 v11 100 ∧ (Q 0 s6 rd7 J8 I9)) ∨ (xo s6 v11 101 ∧ (Q 0 s6 rd7 J8 I9)) ∨ (xo s6 v11 102 ∧ (Q 0 s6 rd7 J8 I9)) ∨ (xo s6 v11 110 ∧ (Q 0 s6 rd7 J8 I9)) ∨ (xo s6 v11 22 ∧ (x_X0_acted v11 a2 a3 s6 rd7 J8 I9 (fun c22 I21 => (c22 = 5 ∧ (Q (-15) s6 rd7 J8 I21))) (fun r20 I19 => Q r20 s6 rd7 J8 I19))) ∨ (xo s6 v11 23 ∧ (x_X0_acted v11 a2 a3 s6 rd7 J8 I9 (fun c27 I26 => (c27 = 5 ∧ (Q (-15) s6 rd7 J8 I26))) (fun r25 I24 => Q r25 s6 rd7 J8 I24))) ∨ (xo s6 v11 24 ∧ (x_X0_acted v11 a2 a3 s6 rd7 J8 I9 (fun c32 I31 => (c32 = 5 ∧ (Q (-15) s6 rd7 J8 I31))) (fun r30 I29 => Q r30 s6 rd7 J8 I29))) ∨ (xo s6 v11 25 ∧ (x_X0_acted v11 a2 a3 s6 rd7 J8 I9 (fun c37 I36 => (c37 = 5 ∧ (Q (-15) s6 rd7 J8 I36))) (fun r35 I34 => Q r35 s6 rd7 J8 I34))) ∨ (xo s6 v11 26 ∧ (x_X0_acted v11 a2 a3 s6 rd7 J8 I9 (fun c42 I41 => (c42 = 5 ∧ (Q (-15) s6 rd7 J8 I41))) (fun r40 I39 => Q r40 s6 rd7 J8 I39))) ∨ (xo s6 v11 27 ∧ (x_X0_acted v11 a2 a3 s6 rd7 J8 I9 (fun c47 I46 => (c47 = 5 ∧ (Q (-15) s6 rd7 J8 I46))) (fun r45 I44 => Q r45 s6 rd7 J8 I44)))))))))))
theorem ct_X0_act  (a1 : Int32) (a2 : Int32) (a3 : Int32) (s : xS) (rd : xRd) (J : mJ) (I : mI) (Q : Int32 → xS → xRd → mJ → mI → Prop) (hf : x_X0_act a1 a2 a3 s rd J I Q) : hh_CtW yX0_act cX0_act 6 (some .int) [((45 : Nat), (55 : Nat), (56 : Nat), (478 : Nat))] 11 10405 [.ref 0, .int a1, .int a2, .int a3] (hx s rd J I) (xQi (fun r9 S9 R9 J9 I9 => Q r9 S9 R9 J9 I9)) 4 25 := by
  refine hh_CtW.of (own := RX0) rfl (by decide +kernel) (Nat.le_of_ble_eq_true rfl) ?_
  intro X hX hN hE hT
  show hh_V X 0 [(0, .ref 0), (1, .int a1), (2, .int a2), (3, .int a3)] [] 0 0 (hx s rd J I)
  unfold x_X0_act at hf
  refine hv_aload_n hX dX0_act_0 rfl 0 rfl ?_
  refine hv_iconst (v := 0) hX icx_0 dX0_act_1 ?_
  refine hx_putI hX dX0_act_2 fl0_393_0 (xo_c (by decide) rfl) ?_
  refine hv_iload_n hX dX0_act_5 rfl 1 rfl ?_
  refine hx_callSi hX dX0_act_6 (ct_X0_isShelf a1 s rd J (u2 I 0 17 0) _ hf) (lw_S q1315 q1316 q106 q1317) np_X0_isShelf rfl rfl ⟨Nat.le_of_ble_eq_true rfl, Nat.le_of_ble_eq_true rfl⟩ ⟨Nat.le_of_ble_eq_true rfl, Nat.le_of_ble_eq_true rfl⟩ (Nat.le_of_ble_eq_true rfl) ?_
  intro r1 S9 R9 J9 I9 hq
  clear hf
  obtain ⟨rfl, rfl, rfl, rfl, hf⟩ := hq
  refine hv_if_eq (tgt := 21) hX dX0_act_9 (by decide) (fun c2 => ?_) (fun c2 => ?_)
  · replace hf := hf.1 c2
    refine hv_iconst (v := 0) hX icx_0 dX0_act_21 ?_
    refine hv_widen (z' := 4) (k' := 25) (Nat.le_of_ble_eq_true rfl) (Nat.le_of_ble_eq_true rfl) ?_
    exact hx_iret hX hE dX0_act_22 hf
  · replace hf := hf.2 c2
    refine hv_iload_n hX dX0_act_12 rfl 2 rfl ?_
    refine hv_iconst (v := 0) hX icx_0 dX0_act_13 ?_
    refine hv_iconst (v := 3) hX icx_3 dX0_act_14 ?_
    refine hx_callSi hX dX0_act_15 (ct_X0_in a2 0 3 s rd J (u2 I 0 17 0) _ hf) (lw_S q649 q650 q106 q651) np_X0_in rfl rfl ⟨Nat.le_of_ble_eq_true rfl, Nat.le_of_ble_eq_true rfl⟩ ⟨Nat.le_of_ble_eq_true rfl, Nat.le_of_ble_eq_true rfl⟩ (Nat.le_of_ble_eq_true rfl) ?_
    intro r3 S9 R9 J9 I9 hq
    clear hf
    obtain ⟨rfl, rfl, rfl, rfl, hf⟩ := hq
    refine hv_if_ne (tgt := 23) hX dX0_act_18 (by decide) (fun c4 => ?_) (fun c4 => ?_)
    · replace hf := hf.2 c4
      refine hv_aload_n hX dX0_act_23 rfl 0 rfl ?_
      refine hv_aload_n hX dX0_act_24 rfl 0 rfl ?_
      refine hx_getR (v := 128) hX dX0_act_25 fl0_103_0 (xo_c (by decide) rfl) (xR_c rfl) ?_
      refine hv_iload_n hX dX0_act_28 rfl 1 rfl ?_
      obtain ⟨g, hf⟩ := hf
      obtain ⟨v5, gv5, hf⟩ := hf
      refine hx_aald (v := v5) (a := 25) hX 9 rfl (by decide) dX0_act_29 (xo_c (by decide) rfl) (xlen_c (by decide) rfl) g gv5 ?_
      refine hx_callVo (ci := 0) (q := (RX0, TX0, 19)) hX dX0_act_30 (ct_X0_heldOf v5 s rd J (u2 I 0 17 0) _ hf) (lw_V q1326 q1328 qs46 q106 q1329) rfl (by decide) ⟨rfl, np_X0_heldOf⟩ rfl (xo_c (by decide) rfl) rfl ⟨Nat.le_of_ble_eq_true rfl, Nat.le_of_ble_eq_true rfl⟩ ⟨Nat.le_of_ble_eq_true rfl, Nat.le_of_ble_eq_true rfl⟩ (Nat.le_of_ble_eq_true rfl) ?_
      intro r10 s6 rd7 J8 I9 hq
      clear hf
      have hf := hq
      rcases hx_ov r10 with ⟨he, hv⟩ | ⟨v11, he, hv⟩
      · rw [hv]
        replace hf := hf.1 he
        refine hv_astoreN (loc2 := [(4, .null), (0, .ref 0), (1, .int a1), (2, .int a2), (3, .int a3)]) hX dX0_act_33 hN (Nat.le_of_ble_eq_true rfl) rfl ?_
        refine hv_aloadN hX dX0_act_35 0 rfl ?_
        refine hv_instN hX dX0_act_37 ?_
        refine hv_if_ne (tgt := 45) hX dX0_act_40 (by decide) (fun c12 => ?_) (fun c12 => ?_)
        · exact absurd c12 (by decide)
        · skip
          refine hv_iconst (v := 0) hX icx_0 dX0_act_43 ?_
          refine hv_widen (z' := 4) (k' := 25) (Nat.le_of_ble_eq_true rfl) (Nat.le_of_ble_eq_true rfl) ?_
          exact hx_iret hX hE dX0_act_44 hf
      · rw [hv]
        replace hf := hf.2 v11 he
        refine hv_astore (loc2 := [(4, .ref v11), (0, .ref 0), (1, .int a1), (2, .int a2), (3, .int a3)]) hX dX0_act_33 hN (Nat.le_of_ble_eq_true rfl) rfl ?_
        refine hv_aload hX dX0_act_35 0 rfl ?_
        rcases hf with ⟨o13, hf⟩ | ⟨o13, hf⟩ | ⟨o13, hf⟩ | ⟨o13, hf⟩ | ⟨o13, hf⟩ | ⟨o13, hf⟩ | ⟨o13, hf⟩ | ⟨o13, hf⟩ | ⟨o13, hf⟩ | ⟨o13, hf⟩
        · skip
          refine hx_instNo hX q1496 o13 isC_100 (by decide) dX0_act_37 ?_
          refine hv_if_ne (tgt := 45) hX dX0_act_40 (by decide) (fun c14 => ?_) (fun c14 => ?_)
          · exact absurd c14 (by decide)
          · skip
            refine hv_iconst (v := 0) hX icx_0 dX0_act_43 ?_
            refine hv_widen (z' := 4) (k' := 25) (Nat.le_of_ble_eq_true rfl) (Nat.le_of_ble_eq_true rfl) ?_
            exact hx_iret hX hE dX0_act_44 hf
        · skip
          refine hx_instNo hX q1496 o13 isC_101 (by decide) dX0_act_37 ?_
          refine hv_if_ne (tgt := 45) hX dX0_act_40 (by decide) (fun c15 => ?_) (fun c15 => ?_)
          · exact absurd c15 (by decide)
          · skip
            refine hv_iconst (v := 0) hX icx_0 dX0_act_43 ?_
            refine hv_widen (z' := 4) (k' := 25) (Nat.le_of_ble_eq_true rfl) (Nat.le_of_ble_eq_true rfl) ?_
            exact hx_iret hX hE dX0_act_44 hf
        · skip
          refine hx_instNo hX q1496 o13 isC_102 (by decide) dX0_act_37 ?_
          refine hv_if_ne (tgt := 45) hX dX0_act_40 (by decide) (fun c16 => ?_) (fun c16 => ?_)
          · exact absurd c16 (by decide)
          · skip
            refine hv_iconst (v := 0) hX icx_0 dX0_act_43 ?_
            refine hv_widen (z' := 4) (k' := 25) (Nat.le_of_ble_eq_true rfl) (Nat.le_of_ble_eq_true rfl) ?_
            exact hx_iret hX hE dX0_act_44 hf
        · skip
          refine hx_instNo hX q1496 o13 isC_110 (by decide) dX0_act_37 ?_
          refine hv_if_ne (tgt := 45) hX dX0_act_40 (by decide) (fun c17 => ?_) (fun c17 => ?_)
          · exact absurd c17 (by decide)
          · skip
            refine hv_iconst (v := 0) hX icx_0 dX0_act_43 ?_
            refine hv_widen (z' := 4) (k' := 25) (Nat.le_of_ble_eq_true rfl) (Nat.le_of_ble_eq_true rfl) ?_
            exact hx_iret hX hE dX0_act_44 hf
        · skip
          refine hx_instY hX q1496 o13 isC_22 (.inr (hh_nwm q1513 rfl)) dX0_act_37 ?_
          refine hv_if_ne (tgt := 45) hX dX0_act_40 (by decide) (fun c18 => ?_) (fun c18 => ?_)
          · skip
            refine hv_aload hX dX0_act_45 0 rfl ?_
            refine hx_cast hX q1496 o13 isC_22 (.inr (hh_nwm q1513 rfl)) dX0_act_47 ?_
            refine hv_iload_n hX dX0_act_50 rfl 3 rfl ?_
            refine hv_iload_n hX dX0_act_51 rfl 4 rfl ?_
            refine hx_callSXi hX dX0_act_52 (ct_X0_acted v11 a2 a3 s6 rd7 J8 I9 _ _ hf) (lw_S q1497 q1498 q106 q1499) np_X0_acted rfl rfl ⟨Nat.le_of_ble_eq_true rfl, Nat.le_of_ble_eq_true rfl⟩ ⟨Nat.le_of_ble_eq_true rfl, Nat.le_of_ble_eq_true rfl⟩ (Nat.le_of_ble_eq_true rfl) ?_ ?_
            · intro c22 S9 R9 J9 I21 hq
              clear hf
              obtain ⟨rfl, rfl, rfl, hf⟩ := hq
              rcases hf with ⟨rfl, hf⟩
              · skip
                refine ht_catch0 (i := 5) (loc2 := [(4, .ref v11), (0, .ref 0), (1, .int a1), (2, .int a2), (3, .int a3)]) hX hN hT (⟨45, 55, 56, 478⟩ : ExceptionTableEntry) (ht_takes.here (by decide) (by decide) q1482 (hh_nwm q1494 rfl)) (.inr ⟨dX0_act_56, rfl⟩) (Nat.le_of_ble_eq_true rfl) rfl ?_
                refine hv_bipush (v := (-15)) hX bix_m15 dX0_act_58 ?_
                exact hx_iret hX hE dX0_act_60 hf
            intro r20 S9 R9 J9 I19 hq
            clear hf
            obtain ⟨rfl, rfl, rfl, hf⟩ := hq
            exact hx_iret hX hE dX0_act_55 hf
          · exact absurd c18 (by decide)
        · skip
          refine hx_instY hX q1496 o13 isC_23 (.inr (hh_nwm q1534 rfl)) dX0_act_37 ?_
          refine hv_if_ne (tgt := 45) hX dX0_act_40 (by decide) (fun c23 => ?_) (fun c23 => ?_)
          · skip
            refine hv_aload hX dX0_act_45 0 rfl ?_
            refine hx_cast hX q1496 o13 isC_23 (.inr (hh_nwm q1534 rfl)) dX0_act_47 ?_
            refine hv_iload_n hX dX0_act_50 rfl 3 rfl ?_
            refine hv_iload_n hX dX0_act_51 rfl 4 rfl ?_
            refine hx_callSXi hX dX0_act_52 (ct_X0_acted v11 a2 a3 s6 rd7 J8 I9 _ _ hf) (lw_S q1497 q1498 q106 q1499) np_X0_acted rfl rfl ⟨Nat.le_of_ble_eq_true rfl, Nat.le_of_ble_eq_true rfl⟩ ⟨Nat.le_of_ble_eq_true rfl, Nat.le_of_ble_eq_true rfl⟩ (Nat.le_of_ble_eq_true rfl) ?_ ?_
            · intro c27 S9 R9 J9 I26 hq
              clear hf
              obtain ⟨rfl, rfl, rfl, hf⟩ := hq
              rcases hf with ⟨rfl, hf⟩
              · skip
                refine ht_catch0 (i := 5) (loc2 := [(4, .ref v11), (0, .ref 0), (1, .int a1), (2, .int a2), (3, .int a3)]) hX hN hT (⟨45, 55, 56, 478⟩ : ExceptionTableEntry) (ht_takes.here (by decide) (by decide) q1482 (hh_nwm q1494 rfl)) (.inr ⟨dX0_act_56, rfl⟩) (Nat.le_of_ble_eq_true rfl) rfl ?_
                refine hv_bipush (v := (-15)) hX bix_m15 dX0_act_58 ?_
                exact hx_iret hX hE dX0_act_60 hf
            intro r25 S9 R9 J9 I24 hq
            clear hf
            obtain ⟨rfl, rfl, rfl, hf⟩ := hq
            exact hx_iret hX hE dX0_act_55 hf
          · exact absurd c23 (by decide)
        · skip
          refine hx_instY hX q1496 o13 isC_24 (.inr (hh_nwm q1520 rfl)) dX0_act_37 ?_
          refine hv_if_ne (tgt := 45) hX dX0_act_40 (by decide) (fun c28 => ?_) (fun c28 => ?_)
          · skip
            refine hv_aload hX dX0_act_45 0 rfl ?_
            refine hx_cast hX q1496 o13 isC_24 (.inr (hh_nwm q1520 rfl)) dX0_act_47 ?_
            refine hv_iload_n hX dX0_act_50 rfl 3 rfl ?_
            refine hv_iload_n hX dX0_act_51 rfl 4 rfl ?_
            refine hx_callSXi hX dX0_act_52 (ct_X0_acted v11 a2 a3 s6 rd7 J8 I9 _ _ hf) (lw_S q1497 q1498 q106 q1499) np_X0_acted rfl rfl ⟨Nat.le_of_ble_eq_true rfl, Nat.le_of_ble_eq_true rfl⟩ ⟨Nat.le_of_ble_eq_true rfl, Nat.le_of_ble_eq_true rfl⟩ (Nat.le_of_ble_eq_true rfl) ?_ ?_
            · intro c32 S9 R9 J9 I31 hq
              clear hf
              obtain ⟨rfl, rfl, rfl, hf⟩ := hq
              rcases hf with ⟨rfl, hf⟩
              · skip
                refine ht_catch0 (i := 5) (loc2 := [(4, .ref v11), (0, .ref 0), (1, .int a1), (2, .int a2), (3, .int a3)]) hX hN hT (⟨45, 55, 56, 478⟩ : ExceptionTableEntry) (ht_takes.here (by decide) (by decide) q1482 (hh_nwm q1494 rfl)) (.inr ⟨dX0_act_56, rfl⟩) (Nat.le_of_ble_eq_true rfl) rfl ?_
                refine hv_bipush (v := (-15)) hX bix_m15 dX0_act_58 ?_
                exact hx_iret hX hE dX0_act_60 hf
            intro r30 S9 R9 J9 I29 hq
            clear hf
            obtain ⟨rfl, rfl, rfl, hf⟩ := hq
            exact hx_iret hX hE dX0_act_55 hf
          · exact absurd c28 (by decide)
        · skip
          refine hx_instY hX q1496 o13 isC_25 (.inr (hh_nwm q1538 rfl)) dX0_act_37 ?_
          refine hv_if_ne (tgt := 45) hX dX0_act_40 (by decide) (fun c33 => ?_) (fun c33 => ?_)
          · skip
            refine hv_aload hX dX0_act_45 0 rfl ?_
            refine hx_cast hX q1496 o13 isC_25 (.inr (hh_nwm q1538 rfl)) dX0_act_47 ?_
            refine hv_iload_n hX dX0_act_50 rfl 3 rfl ?_
            refine hv_iload_n hX dX0_act_51 rfl 4 rfl ?_
            refine hx_callSXi hX dX0_act_52 (ct_X0_acted v11 a2 a3 s6 rd7 J8 I9 _ _ hf) (lw_S q1497 q1498 q106 q1499) np_X0_acted rfl rfl ⟨Nat.le_of_ble_eq_true rfl, Nat.le_of_ble_eq_true rfl⟩ ⟨Nat.le_of_ble_eq_true rfl, Nat.le_of_ble_eq_true rfl⟩ (Nat.le_of_ble_eq_true rfl) ?_ ?_
            · intro c37 S9 R9 J9 I36 hq
              clear hf
              obtain ⟨rfl, rfl, rfl, hf⟩ := hq
              rcases hf with ⟨rfl, hf⟩
              · skip
                refine ht_catch0 (i := 5) (loc2 := [(4, .ref v11), (0, .ref 0), (1, .int a1), (2, .int a2), (3, .int a3)]) hX hN hT (⟨45, 55, 56, 478⟩ : ExceptionTableEntry) (ht_takes.here (by decide) (by decide) q1482 (hh_nwm q1494 rfl)) (.inr ⟨dX0_act_56, rfl⟩) (Nat.le_of_ble_eq_true rfl) rfl ?_
                refine hv_bipush (v := (-15)) hX bix_m15 dX0_act_58 ?_
                exact hx_iret hX hE dX0_act_60 hf
            intro r35 S9 R9 J9 I34 hq
            clear hf
            obtain ⟨rfl, rfl, rfl, hf⟩ := hq
            exact hx_iret hX hE dX0_act_55 hf
          · exact absurd c33 (by decide)
        · skip
          refine hx_instY hX q1496 o13 isC_26 (.inr (hh_nwm q1541 rfl)) dX0_act_37 ?_
          refine hv_if_ne (tgt := 45) hX dX0_act_40 (by decide) (fun c38 => ?_) (fun c38 => ?_)
          · skip
            refine hv_aload hX dX0_act_45 0 rfl ?_
            refine hx_cast hX q1496 o13 isC_26 (.inr (hh_nwm q1541 rfl)) dX0_act_47 ?_
            refine hv_iload_n hX dX0_act_50 rfl 3 rfl ?_
            refine hv_iload_n hX dX0_act_51 rfl 4 rfl ?_
            refine hx_callSXi hX dX0_act_52 (ct_X0_acted v11 a2 a3 s6 rd7 J8 I9 _ _ hf) (lw_S q1497 q1498 q106 q1499) np_X0_acted rfl rfl ⟨Nat.le_of_ble_eq_true rfl, Nat.le_of_ble_eq_true rfl⟩ ⟨Nat.le_of_ble_eq_true rfl, Nat.le_of_ble_eq_true rfl⟩ (Nat.le_of_ble_eq_true rfl) ?_ ?_
            · intro c42 S9 R9 J9 I41 hq
              clear hf
              obtain ⟨rfl, rfl, rfl, hf⟩ := hq
              rcases hf with ⟨rfl, hf⟩
              · skip
                refine ht_catch0 (i := 5) (loc2 := [(4, .ref v11), (0, .ref 0), (1, .int a1), (2, .int a2), (3, .int a3)]) hX hN hT (⟨45, 55, 56, 478⟩ : ExceptionTableEntry) (ht_takes.here (by decide) (by decide) q1482 (hh_nwm q1494 rfl)) (.inr ⟨dX0_act_56, rfl⟩) (Nat.le_of_ble_eq_true rfl) rfl ?_
                refine hv_bipush (v := (-15)) hX bix_m15 dX0_act_58 ?_
                exact hx_iret hX hE dX0_act_60 hf
            intro r40 S9 R9 J9 I39 hq
            clear hf
            obtain ⟨rfl, rfl, rfl, hf⟩ := hq
            exact hx_iret hX hE dX0_act_55 hf
          · exact absurd c38 (by decide)
        · skip
          refine hx_instY hX q1496 o13 isC_27 (.inr (hh_nwm q1503 rfl)) dX0_act_37 ?_
          refine hv_if_ne (tgt := 45) hX dX0_act_40 (by decide) (fun c43 => ?_) (fun c43 => ?_)
          · skip
            refine hv_aload hX dX0_act_45 0 rfl ?_
            refine hx_cast hX q1496 o13 isC_27 (.inr (hh_nwm q1503 rfl)) dX0_act_47 ?_
            refine hv_iload_n hX dX0_act_50 rfl 3 rfl ?_
            refine hv_iload_n hX dX0_act_51 rfl 4 rfl ?_
            refine hx_callSXi hX dX0_act_52 (ct_X0_acted v11 a2 a3 s6 rd7 J8 I9 _ _ hf) (lw_S q1497 q1498 q106 q1499) np_X0_acted rfl rfl ⟨Nat.le_of_ble_eq_true rfl, Nat.le_of_ble_eq_true rfl⟩ ⟨Nat.le_of_ble_eq_true rfl, Nat.le_of_ble_eq_true rfl⟩ (Nat.le_of_ble_eq_true rfl) ?_ ?_
            · intro c47 S9 R9 J9 I46 hq
              clear hf
              obtain ⟨rfl, rfl, rfl, hf⟩ := hq
              rcases hf with ⟨rfl, hf⟩
              · skip
                refine ht_catch0 (i := 5) (loc2 := [(4, .ref v11), (0, .ref 0), (1, .int a1), (2, .int a2), (3, .int a3)]) hX hN hT (⟨45, 55, 56, 478⟩ : ExceptionTableEntry) (ht_takes.here (by decide) (by decide) q1482 (hh_nwm q1494 rfl)) (.inr ⟨dX0_act_56, rfl⟩) (Nat.le_of_ble_eq_true rfl) rfl ?_
                refine hv_bipush (v := (-15)) hX bix_m15 dX0_act_58 ?_
                exact hx_iret hX hE dX0_act_60 hf
            intro r45 S9 R9 J9 I44 hq
            clear hf
            obtain ⟨rfl, rfl, rfl, hf⟩ := hq
            exact hx_iret hX hE dX0_act_55 hf
          · exact absurd c43 (by decide)
    · replace hf := hf.1 c4
      refine hv_iconst (v := 0) hX icx_0 dX0_act_21 ?_
      refine hv_widen (z' := 4) (k' := 25) (Nat.le_of_ble_eq_true rfl) (Nat.le_of_ble_eq_true rfl) ?_
      exact hx_iret hX hE dX0_act_22 hf
