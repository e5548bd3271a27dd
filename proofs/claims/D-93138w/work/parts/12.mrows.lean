set_option maxRecDepth 100000
/-! THE MODEL as a heap: cell 0 the object, 1 to 34 its arrays; I, J: its ints and longs (cell, place) -/
abbrev mI : Type := Nat → Nat → Int32
abbrev mJ : Type := Nat → Nat → Int64
def mK : Nat → Nat
  | 0 => 14
  | 15 => 110
  | 16 => 110
  | 28 => 110
  | _ => 100
def mL : Nat → Nat
  | 0 => 74
  | 1 => 44
  | 2 => 16
  | 3 => 40
  | 4 => 6
  | 5 => 6
  | 6 => 210
  | 7 => 201684
  | 8 => 24
  | 9 => 24
  | 10 => 24
  | 11 => 24
  | 12 => 24
  | 13 => 4
  | 14 => 4
  | 15 => 3133
  | 16 => 241
  | 17 => 8
  | 18 => 4
  | 19 => 200
  | 20 => 210
  | 21 => 210
  | 22 => 6
  | 23 => 6
  | 24 => 210
  | 25 => 40
  | 26 => 4
  | 27 => 4
  | 28 => 160
  | 29 => 4
  | 30 => 4
  | 31 => 4
  | 32 => 30
  | 33 => 400
  | 34 => 12
  | _ => 0
def mRf : Nat → Option Nat
  | 11 => some 1
  | 13 => some 2
  | 14 => some 3
  | 15 => some 4
  | 16 => some 5
  | 17 => some 6
  | 23 => some 7
  | 24 => some 8
  | 25 => some 9
  | 26 => some 10
  | 27 => some 11
  | 28 => some 12
  | 29 => some 13
  | 30 => some 14
  | 33 => some 15
  | 35 => some 16
  | 36 => some 17
  | 37 => some 18
  | 38 => some 19
  | 45 => some 20
  | 46 => some 21
  | 47 => some 22
  | 48 => some 23
  | 55 => some 24
  | 56 => some 25
  | 58 => some 26
  | 59 => some 27
  | 60 => some 28
  | 61 => some 29
  | 62 => some 30
  | 63 => some 31
  | 67 => some 32
  | 71 => some 33
  | 73 => some 34
  | _ => none
def mR : Nat → Nat → Option Nat
  | 0, k => mRf k
  | _, _ => none
def hm (I : mI) (J : mJ) : hh_T := (35, mK, mL, I, J, mR)
def mQi (Q : Int32 → mI → mJ → Prop) : Option Value → hh_T → Prop := fun v h' => ∃ (r : Int32) (I : mI) (J : mJ), v = some (.int r) ∧ h' = hm I J ∧ Q r I J
def mQl (Q : Int64 → mI → mJ → Prop) : Option Value → hh_T → Prop := fun v h' => ∃ (r : Int64) (I : mI) (J : mJ), v = some (.long r) ∧ h' = hm I J ∧ Q r I J
def mQv (Q : mI → mJ → Prop) : Option Value → hh_T → Prop := fun v h' => ∃ (I : mI) (J : mJ), v = none ∧ h' = hm I J ∧ Q I J
abbrev hrm (fr lo : Nat) : Room := { frames := fr, cells := 0, slots := 0, locals := lo }
theorem hm_getI {X : hh_CX} {cc : ByteArray} {rm : Room} {pc : Nat} {loc : List (Nat × Value)} {st : List Value} {z k : Nat} {I : mI} {J : mJ} (hX : hh_C X cc RX14 rm) {idx f t : Nat} {fin : Bool} (hd : decode cc pc = .ok (.getfield idx, 3)) (hF : hh_FL RX14 idx 14 f t fin) (ht : t = 0 ∨ t = 3) {v : Int32} (hv : I 0 f = v)
    (kk : hh_V X (pc + 3) loc (.int v :: st) z k (hm I J)) : hh_V X pc loc (.ref 0 :: st) z k (hm I J) := by
  subst hv
  exact hv_getI hX hd hF ht (show 0 < 35 by decide) rfl kk
theorem hm_getJ {X : hh_CX} {cc : ByteArray} {rm : Room} {pc : Nat} {loc : List (Nat × Value)} {st : List Value} {z k : Nat} {I : mI} {J : mJ} (hX : hh_C X cc RX14 rm) {idx f : Nat} {fin : Bool} (hd : decode cc pc = .ok (.getfield idx, 3)) (hF : hh_FL RX14 idx 14 f 1 fin) {v : Int64} (hv : J 0 f = v)
    (kk : hh_V X (pc + 3) loc (.long v :: st) z k (hm I J)) : hh_V X pc loc (.ref 0 :: st) z k (hm I J) := by
  subst hv
  exact hv_getJ hX hd hF (show 0 < 35 by decide) rfl kk
theorem hm_getR {X : hh_CX} {cc : ByteArray} {rm : Room} {pc : Nat} {loc : List (Nat × Value)} {st : List Value} {z k : Nat} {I : mI} {J : mJ} (hX : hh_C X cc RX14 rm) {idx f : Nat} {fin : Bool} (hd : decode cc pc = .ok (.getfield idx, 3)) (hF : hh_FL RX14 idx 14 f 2 fin) (r : Nat) (hv : mRf f = some r)
    (kk : hh_V X (pc + 3) loc (.ref r :: st) z k (hm I J)) : hh_V X pc loc (.ref 0 :: st) z k (hm I J) := hv_getR hX hd hF (show 0 < 35 by decide) rfl (by show hh_av (mRf f) = _; rw [hv]; rfl) kk
theorem hm_putI {X : hh_CX} {cc : ByteArray} {rm : Room} {pc : Nat} {loc : List (Nat × Value)} {st : List Value} {z k : Nat} {I : mI} {J : mJ} (hX : hh_C X cc RX14 rm) {idx f : Nat} {v : Int32} (hd : decode cc pc = .ok (.putfield idx, 3)) (hF : hh_FL RX14 idx 14 f 0 false)
    (kk : hh_V X (pc + 3) loc (st) z k (hm (u2 I 0 f v) J)) : hh_V X pc loc (.int v :: .ref 0 :: st) z k (hm I J) := hv_putI hX hd hF (show 0 < 35 by decide) rfl kk
theorem hm_putZ {X : hh_CX} {cc : ByteArray} {rm : Room} {pc : Nat} {loc : List (Nat × Value)} {st : List Value} {z k : Nat} {I : mI} {J : mJ} (hX : hh_C X cc RX14 rm) {idx f : Nat} {v : Int32} (hd : decode cc pc = .ok (.putfield idx, 3)) (hF : hh_FL RX14 idx 14 f 3 false) (h01 : v = 0 ∨ v = 1)
    (kk : hh_V X (pc + 3) loc (st) z k (hm (u2 I 0 f v) J)) : hh_V X pc loc (.int v :: .ref 0 :: st) z k (hm I J) := hv_putZ hX hd hF h01 (show 0 < 35 by decide) rfl kk
theorem hm_putJ {X : hh_CX} {cc : ByteArray} {rm : Room} {pc : Nat} {loc : List (Nat × Value)} {st : List Value} {z k : Nat} {I : mI} {J : mJ} (hX : hh_C X cc RX14 rm) {idx f : Nat} {v : Int64} (hd : decode cc pc = .ok (.putfield idx, 3)) (hF : hh_FL RX14 idx 14 f 1 false)
    (kk : hh_V X (pc + 3) loc (st) z k (hm I (u2 J 0 f v))) : hh_V X pc loc (.long v :: .ref 0 :: st) z k (hm I J) := hv_putJ hX hd hF (show 0 < 35 by decide) rfl kk
theorem hm_iald {X : hh_CX} {cc : ByteArray} {rm : Room} {pc : Nat} {loc : List (Nat × Value)} {st : List Value} {z k : Nat} {I : mI} {J : mJ} (hX : hh_C X cc RX14 rm) {r L : Nat} {i : Int32} (hd : decode cc pc = .ok (.iaload, 1)) (hr : r < 35) (hK : mK r = 100) (hL : mL r = L) (hi : vp_in i L) {v : Int32} (hv : I r i.toNatClampNeg = v)
    (kk : hh_V X (pc + 1) loc (.int v :: st) z k (hm I J)) : hh_V X pc loc (.int i :: .ref r :: st) z k (hm I J) := by
  subst hv
  subst hL
  exact hv_iald hX hd hr hK hi kk
theorem hm_lald {X : hh_CX} {cc : ByteArray} {rm : Room} {pc : Nat} {loc : List (Nat × Value)} {st : List Value} {z k : Nat} {I : mI} {J : mJ} (hX : hh_C X cc RX14 rm) {r L : Nat} {i : Int32} (hd : decode cc pc = .ok (.laload, 1)) (hr : r < 35) (hK : mK r = 110) (hL : mL r = L) (hi : vp_in i L) {v : Int64} (hv : J r i.toNatClampNeg = v)
    (kk : hh_V X (pc + 1) loc (.long v :: st) z k (hm I J)) : hh_V X pc loc (.int i :: .ref r :: st) z k (hm I J) := by
  subst hv
  subst hL
  exact hv_lald hX hd hr hK hi kk
theorem hm_iast {X : hh_CX} {cc : ByteArray} {rm : Room} {pc : Nat} {loc : List (Nat × Value)} {st : List Value} {z k : Nat} {I : mI} {J : mJ} (hX : hh_C X cc RX14 rm) {r L : Nat} {i x : Int32} (hd : decode cc pc = .ok (.iastore, 1)) (hr : r < 35) (hK : mK r = 100) (hL : mL r = L) (hi : vp_in i L)
    (kk : hh_V X (pc + 1) loc (st) z k (hm (u2 I r i.toNatClampNeg x) J)) : hh_V X pc loc (.int x :: .int i :: .ref r :: st) z k (hm I J) := by
  subst hL
  exact hv_iast hX hd hr hK hi kk
theorem hm_last {X : hh_CX} {cc : ByteArray} {rm : Room} {pc : Nat} {loc : List (Nat × Value)} {st : List Value} {z k : Nat} {I : mI} {J : mJ} (hX : hh_C X cc RX14 rm) {r L : Nat} {i : Int32} {x : Int64} (hd : decode cc pc = .ok (.lastore, 1)) (hr : r < 35) (hK : mK r = 110) (hL : mL r = L) (hi : vp_in i L)
    (kk : hh_V X (pc + 1) loc (st) z k (hm I (u2 J r i.toNatClampNeg x))) : hh_V X pc loc (.long x :: .int i :: .ref r :: st) z k (hm I J) := by
  subst hL
  exact hv_last hX hd hr hK hi kk
theorem hm_callSi {X : hh_CX} {cc : ByteArray} {rm : Room} {pc : Nat} {loc : List (Nat × Value)} {st : List Value} {z k : Nat} {I : mI} {J : mJ} (hX : hh_C X cc RX14 rm) {y : MethodName} {cy : ByteArray} {nY idx fr lo n : Nat} {ret : Option FieldType} {al st0 : List Value} {Q : Int32 → mI → mJ → Prop} (hd : decode cc pc = .ok (.invokestatic idx, 3)) (hM : hh_Ct y cy nY ret fr lo al (hm I J) (mQi Q) 0 0) (hg : GoodIn lw_all (va_wsS RX14 idx y (ws_ y cy nY ret)))
    (hn : y.cls ≠ "java/lang/invoke/MethodHandle" ∧ y.cls ≠ "java/lang/invoke/VarHandle" ∧ (parseMethodDescriptor y.desc).map (fun d => d.parameters.length) = some n) (hlen : al.length = n) (hst : st0 = al.reverse ++ st) (hr : fr + 1 ≤ rm.frames ∧ 8 + (nY + 11) + lo ≤ rm.locals) (hz : z ≤ rm.cells ∧ k ≤ rm.slots) (h8w : (st.map fun v => v.category).sum ≤ 8)
    (kk : ∀ (v : Int32) (I2 : mI) (J2 : mJ), Q v I2 J2 → hh_V X (pc + 3) loc (.int v :: st) z k (hm I2 J2)) : hh_V X pc loc st0 z k (hm I J) :=
  hv_callS hX hd hM hg (by rw [hlen]; exact hn) hst hr hz h8w (fun v h' q => by obtain ⟨r, I2, J2, rfl, rfl, hf⟩ := q; exact kk r I2 J2 hf)
theorem hm_callVi {X : hh_CX} {cc : ByteArray} {rm : Room} {pc : Nat} {loc : List (Nat × Value)} {st : List Value} {z k : Nat} {I : mI} {J : mJ} (hX : hh_C X cc RX14 rm) {y : MethodName} {cy : ByteArray} {nY idx fr lo n : Nat} {ret : Option FieldType} {al st0 : List Value} {Q : Int32 → mI → mJ → Prop} (hd : decode cc pc = .ok (.invokevirtual idx, 3)) (hM : hh_Ct y cy nY ret fr lo (.ref 0 :: al) (hm I J) (mQi Q) 0 0) (hg : GoodIn lw_all (wsV RX14 idx RX14 y (ws_ y cy nY ret)))
    (hn : y.cls = RX14 ∧ y.cls ≠ "java/lang/invoke/MethodHandle" ∧ y.cls ≠ "java/lang/invoke/VarHandle" ∧ (parseMethodDescriptor y.desc).map (fun d => d.parameters.length) = some n) (hlen : al.length = n) (hst : st0 = al.reverse ++ .ref 0 :: st) (hr : fr + 1 ≤ rm.frames ∧ 8 + (nY + 11) + lo ≤ rm.locals) (hz : z ≤ rm.cells ∧ k ≤ rm.slots) (h8w : (st.map fun v => v.category).sum ≤ 8)
    (kk : ∀ (v : Int32) (I2 : mI) (J2 : mJ), Q v I2 J2 → hh_V X (pc + 3) loc (.int v :: st) z k (hm I2 J2)) : hh_V X pc loc st0 z k (hm I J) :=
  hv_callV (q := (RX14, TX14, 74)) (ci := 14) hX hd hM hg rfl (by decide) (by rw [hlen]; exact hn) (show 0 < 35 by decide) rfl hst hr hz h8w (fun v h' q => by obtain ⟨r, I2, J2, rfl, rfl, hf⟩ := q; exact kk r I2 J2 hf)
theorem hm_callSl {X : hh_CX} {cc : ByteArray} {rm : Room} {pc : Nat} {loc : List (Nat × Value)} {st : List Value} {z k : Nat} {I : mI} {J : mJ} (hX : hh_C X cc RX14 rm) {y : MethodName} {cy : ByteArray} {nY idx fr lo n : Nat} {ret : Option FieldType} {al st0 : List Value} {Q : Int64 → mI → mJ → Prop} (hd : decode cc pc = .ok (.invokestatic idx, 3)) (hM : hh_Ct y cy nY ret fr lo al (hm I J) (mQl Q) 0 0) (hg : GoodIn lw_all (va_wsS RX14 idx y (ws_ y cy nY ret)))
    (hn : y.cls ≠ "java/lang/invoke/MethodHandle" ∧ y.cls ≠ "java/lang/invoke/VarHandle" ∧ (parseMethodDescriptor y.desc).map (fun d => d.parameters.length) = some n) (hlen : al.length = n) (hst : st0 = al.reverse ++ st) (hr : fr + 1 ≤ rm.frames ∧ 8 + (nY + 11) + lo ≤ rm.locals) (hz : z ≤ rm.cells ∧ k ≤ rm.slots) (h8w : (st.map fun v => v.category).sum ≤ 8)
    (kk : ∀ (v : Int64) (I2 : mI) (J2 : mJ), Q v I2 J2 → hh_V X (pc + 3) loc (.long v :: st) z k (hm I2 J2)) : hh_V X pc loc st0 z k (hm I J) :=
  hv_callS hX hd hM hg (by rw [hlen]; exact hn) hst hr hz h8w (fun v h' q => by obtain ⟨r, I2, J2, rfl, rfl, hf⟩ := q; exact kk r I2 J2 hf)
theorem hm_callVl {X : hh_CX} {cc : ByteArray} {rm : Room} {pc : Nat} {loc : List (Nat × Value)} {st : List Value} {z k : Nat} {I : mI} {J : mJ} (hX : hh_C X cc RX14 rm) {y : MethodName} {cy : ByteArray} {nY idx fr lo n : Nat} {ret : Option FieldType} {al st0 : List Value} {Q : Int64 → mI → mJ → Prop} (hd : decode cc pc = .ok (.invokevirtual idx, 3)) (hM : hh_Ct y cy nY ret fr lo (.ref 0 :: al) (hm I J) (mQl Q) 0 0) (hg : GoodIn lw_all (wsV RX14 idx RX14 y (ws_ y cy nY ret)))
    (hn : y.cls = RX14 ∧ y.cls ≠ "java/lang/invoke/MethodHandle" ∧ y.cls ≠ "java/lang/invoke/VarHandle" ∧ (parseMethodDescriptor y.desc).map (fun d => d.parameters.length) = some n) (hlen : al.length = n) (hst : st0 = al.reverse ++ .ref 0 :: st) (hr : fr + 1 ≤ rm.frames ∧ 8 + (nY + 11) + lo ≤ rm.locals) (hz : z ≤ rm.cells ∧ k ≤ rm.slots) (h8w : (st.map fun v => v.category).sum ≤ 8)
    (kk : ∀ (v : Int64) (I2 : mI) (J2 : mJ), Q v I2 J2 → hh_V X (pc + 3) loc (.long v :: st) z k (hm I2 J2)) : hh_V X pc loc st0 z k (hm I J) :=
  hv_callV (q := (RX14, TX14, 74)) (ci := 14) hX hd hM hg rfl (by decide) (by rw [hlen]; exact hn) (show 0 < 35 by decide) rfl hst hr hz h8w (fun v h' q => by obtain ⟨r, I2, J2, rfl, rfl, hf⟩ := q; exact kk r I2 J2 hf)
theorem hm_callSv {X : hh_CX} {cc : ByteArray} {rm : Room} {pc : Nat} {loc : List (Nat × Value)} {st : List Value} {z k : Nat} {I : mI} {J : mJ} (hX : hh_C X cc RX14 rm) {y : MethodName} {cy : ByteArray} {nY idx fr lo n : Nat} {ret : Option FieldType} {al st0 : List Value} {Q : mI → mJ → Prop} (hd : decode cc pc = .ok (.invokestatic idx, 3)) (hM : hh_Ct y cy nY ret fr lo al (hm I J) (mQv Q) 0 0) (hg : GoodIn lw_all (va_wsS RX14 idx y (ws_ y cy nY ret)))
    (hn : y.cls ≠ "java/lang/invoke/MethodHandle" ∧ y.cls ≠ "java/lang/invoke/VarHandle" ∧ (parseMethodDescriptor y.desc).map (fun d => d.parameters.length) = some n) (hlen : al.length = n) (hst : st0 = al.reverse ++ st) (hr : fr + 1 ≤ rm.frames ∧ 8 + (nY + 11) + lo ≤ rm.locals) (hz : z ≤ rm.cells ∧ k ≤ rm.slots) (h8w : (st.map fun v => v.category).sum ≤ 8)
    (kk : ∀ (I2 : mI) (J2 : mJ), Q I2 J2 → hh_V X (pc + 3) loc (st) z k (hm I2 J2)) : hh_V X pc loc st0 z k (hm I J) :=
  hv_callS hX hd hM hg (by rw [hlen]; exact hn) hst hr hz h8w (fun v h' q => by obtain ⟨I2, J2, rfl, rfl, hf⟩ := q; exact kk I2 J2 hf)
theorem hm_callVv {X : hh_CX} {cc : ByteArray} {rm : Room} {pc : Nat} {loc : List (Nat × Value)} {st : List Value} {z k : Nat} {I : mI} {J : mJ} (hX : hh_C X cc RX14 rm) {y : MethodName} {cy : ByteArray} {nY idx fr lo n : Nat} {ret : Option FieldType} {al st0 : List Value} {Q : mI → mJ → Prop} (hd : decode cc pc = .ok (.invokevirtual idx, 3)) (hM : hh_Ct y cy nY ret fr lo (.ref 0 :: al) (hm I J) (mQv Q) 0 0) (hg : GoodIn lw_all (wsV RX14 idx RX14 y (ws_ y cy nY ret)))
    (hn : y.cls = RX14 ∧ y.cls ≠ "java/lang/invoke/MethodHandle" ∧ y.cls ≠ "java/lang/invoke/VarHandle" ∧ (parseMethodDescriptor y.desc).map (fun d => d.parameters.length) = some n) (hlen : al.length = n) (hst : st0 = al.reverse ++ .ref 0 :: st) (hr : fr + 1 ≤ rm.frames ∧ 8 + (nY + 11) + lo ≤ rm.locals) (hz : z ≤ rm.cells ∧ k ≤ rm.slots) (h8w : (st.map fun v => v.category).sum ≤ 8)
    (kk : ∀ (I2 : mI) (J2 : mJ), Q I2 J2 → hh_V X (pc + 3) loc (st) z k (hm I2 J2)) : hh_V X pc loc st0 z k (hm I J) :=
  hv_callV (q := (RX14, TX14, 74)) (ci := 14) hX hd hM hg rfl (by decide) (by rw [hlen]; exact hn) (show 0 < 35 by decide) rfl hst hr hz h8w (fun v h' q => by obtain ⟨I2, J2, rfl, rfl, hf⟩ := q; exact kk I2 J2 hf)
theorem hm_iret {X : hh_CX} {cc : ByteArray} {rm : Room} {pc : Nat} {loc : List (Nat × Value)} {z k : Nat} {I : mI} {J : mJ} (hX : hh_C X cc RX14 rm) {Q : Int32 → mI → mJ → Prop} {v : Int32} (hE : hh_E X (some .int) (mQi Q) z k) (hd : decode cc pc = .ok (.ireturn, 1)) (hq : Q v I J) : hh_V X pc loc [.int v] z k (hm I J) := hv_iret hX hE hd ⟨v, I, J, rfl, rfl, hq⟩
theorem hm_lret {X : hh_CX} {cc : ByteArray} {rm : Room} {pc : Nat} {loc : List (Nat × Value)} {z k : Nat} {I : mI} {J : mJ} (hX : hh_C X cc RX14 rm) {Q : Int64 → mI → mJ → Prop} {v : Int64} (hE : hh_E X (some .long) (mQl Q) z k) (hd : decode cc pc = .ok (.lreturn, 1)) (hq : Q v I J) : hh_V X pc loc [.long v] z k (hm I J) := hv_lret hX hE hd ⟨v, I, J, rfl, rfl, hq⟩
theorem hm_zret {X : hh_CX} {cc : ByteArray} {rm : Room} {pc : Nat} {loc : List (Nat × Value)} {z k : Nat} {I : mI} {J : mJ} (hX : hh_C X cc RX14 rm) {Q : Int32 → mI → mJ → Prop} {v : Int32} (hE : hh_E X (some .boolean) (mQi Q) z k) (hd : decode cc pc = .ok (.ireturn, 1)) (h01 : v = 0 ∨ v = 1) (hq : Q v I J) : hh_V X pc loc [.int v] z k (hm I J) := hv_zret hX hE hd (by rcases h01 with rfl | rfl <;> rfl) ⟨v, I, J, rfl, rfl, hq⟩
theorem hm_vret {X : hh_CX} {cc : ByteArray} {rm : Room} {pc : Nat} {loc : List (Nat × Value)} {z k : Nat} {I : mI} {J : mJ} (hX : hh_C X cc RX14 rm) {Q : mI → mJ → Prop} (hE : hh_E X none (mQv Q) z k) (hd : decode cc pc = .ok (.return_, 1)) (hq : Q I J) : hh_V X pc loc [] z k (hm I J) := hv_vret hX hE hd ⟨I, J, rfl, rfl, hq⟩
theorem hv_topi {X : hh_CX} {pc : Nat} {loc : List (Nat × Value)} {st : List Value} {z k : Nat} {h : hh_T} {x : Int32} (kk : ∀ y : Int32, y = x → hh_V X pc loc (.int y :: st) z k h) : hh_V X pc loc (.int x :: st) z k h := kk x rfl
theorem hv_topl {X : hh_CX} {pc : Nat} {loc : List (Nat × Value)} {st : List Value} {z k : Nat} {h : hh_T} {x : Int64} (kk : ∀ y : Int64, y = x → hh_V X pc loc (.long y :: st) z k h) : hh_V X pc loc (.long x :: st) z k h := kk x rfl
theorem hm_nmI {X : hh_CX} {pc : Nat} {loc : List (Nat × Value)} {st : List Value} {z k : Nat} {I : mI} {J : mJ} (kk : ∀ y : mI, y = I → hh_V X pc loc st z k (hm y J)) : hh_V X pc loc st z k (hm I J) := kk I rfl
theorem hm_nmJ {X : hh_CX} {pc : Nat} {loc : List (Nat × Value)} {st : List Value} {z k : Nat} {I : mI} {J : mJ} (kk : ∀ y : mJ, y = J → hh_V X pc loc st z k (hm I y)) : hh_V X pc loc st z k (hm I J) := kk J rfl
/-- a table switch at a known place, or beyond it -/
theorem hv_tswA {X : hh_CX} {cc : ByteArray} {own : String} {rm : Room} {pc : Nat} {loc : List (Nat × Value)} {st : List Value} {z k : Nat} {h : hh_T} (hX : hh_C X cc own rm) {dflt lo hi : Int} {offs : Array Int} {len : Nat} {x v : Int32} {off : Int} {tgt : Nat} (hd : decode cc pc = .ok (.tableswitch dflt lo hi offs, len)) (hx : x = v) (h1 : ¬ v.toInt < lo ∧ ¬ hi < v.toInt ∧ offs[(v.toInt - lo).toNat]? = some off) (ht : (pc : Int) + off = (tgt : Int))
    (kk : hh_V X tgt loc st z k h) : hh_V X pc loc (.int x :: st) z k h := by
  obtain ⟨p, l, e, R, s, m, args, below, meth, c, G, A, φ0, n0, nL, Q⟩ := X
  intro φ H locs ls g1 g2 g3 g4 g5 g6 g7 g8
  subst hx
  exact lv_tableIn hX.1 hX.2.1 hd h1.1 h1.2.1 h1.2.2 ht (kk φ H locs ls g1 g2 g3 g4 g5 g6 g7 g8.2)
theorem hv_tswO {X : hh_CX} {cc : ByteArray} {own : String} {rm : Room} {pc : Nat} {loc : List (Nat × Value)} {st : List Value} {z k : Nat} {h : hh_T} (hX : hh_C X cc own rm) {dflt lo hi : Int} {offs : Array Int} {len : Nat} {x : Int32} {tgt : Nat} (hd : decode cc pc = .ok (.tableswitch dflt lo hi offs, len)) (h1 : x.toInt < lo ∨ hi < x.toInt) (ht : (pc : Int) + dflt = (tgt : Int))
    (kk : hh_V X tgt loc st z k h) : hh_V X pc loc (.int x :: st) z k h := by
  obtain ⟨p, l, e, R, s, m, args, below, meth, c, G, A, φ0, n0, nL, Q⟩ := X
  intro φ H locs ls g1 g2 g3 g4 g5 g6 g7 g8
  exact lv_tableOut hX.1 hX.2.1 hd h1 ht (kk φ H locs ls g1 g2 g3 g4 g5 g6 g7 g8.2)
theorem hv_lsw {X : hh_CX} {cc : ByteArray} {own : String} {rm : Room} {pc : Nat} {loc : List (Nat × Value)} {st : List Value} {z k : Nat} {h : hh_T} (hX : hh_C X cc own rm) {dflt : Int} {ps : Array (Int × Int)} {len : Nat} {x : Int32} {off : Int} {tgt : Nat} (hd : decode cc pc = .ok (.lookupswitch dflt ps, len)) (hp : (ps.toList.zip (ps.toList.drop 1)).all (fun (a, next) => a.1 < next.1) = true) (ho : Op.lookupswitch.offset ps.toList dflt x.toInt = off) (ht : (pc : Int) + off = (tgt : Int))
    (kk : hh_V X tgt loc st z k h) : hh_V X pc loc (.int x :: st) z k h := by
  obtain ⟨p, l, e, R, s, m, args, below, meth, c, G, A, φ0, n0, nL, Q⟩ := X
  intro φ H locs ls g1 g2 g3 g4 g5 g6 g7 g8
  exact lv_lookup hX.1 hX.2.1 hd hp ho ht (kk φ H locs ls g1 g2 g3 g4 g5 g6 g7 g8.2)
theorem mFL {idx f t : Nat} {fin : Bool} (hf : f < 74) (h1 : (hh_ft 14)[f]? = some t) (h2 : Cond.fieldLink RX14 idx (TX14 f).1 (TX14 f).2.1 (TX14 f).2.2.1 ∈ lw_all) (h3 : (TX14 f).2.2.2 = fin) (h4 : hh_code (tyX14 f) = t) : hh_FL RX14 idx 14 f t fin := ⟨RX14, TX14, 74, tyX14, (TX14 f).1, by decide, rfl, in_X14, hf, h1, rfl, .inl h2, tyX14_ok, .inl nmX14, h3, h4, .inl rfl⟩
theorem mfl166 : hh_FL RX14 166 14 0 0 false := mFL (by decide) rfl q1696 rfl rfl
theorem mfl172 : hh_FL RX14 172 14 1 0 false := mFL (by decide) rfl q1697 rfl rfl
theorem mfl7 : hh_FL RX14 7 14 2 0 false := mFL (by decide) rfl q1698 rfl rfl
theorem mfl169 : hh_FL RX14 169 14 3 0 false := mFL (by decide) rfl q1699 rfl rfl
theorem mfl13 : hh_FL RX14 13 14 4 0 false := mFL (by decide) rfl q1700 rfl rfl
theorem mfl16 : hh_FL RX14 16 14 5 0 false := mFL (by decide) rfl q1701 rfl rfl
theorem mfl265 : hh_FL RX14 265 14 6 0 false := mFL (by decide) rfl q1702 rfl rfl
theorem mfl268 : hh_FL RX14 268 14 7 0 false := mFL (by decide) rfl q1703 rfl rfl
theorem mfl130 : hh_FL RX14 130 14 8 0 false := mFL (by decide) rfl q1704 rfl rfl
theorem mfl242 : hh_FL RX14 242 14 9 0 false := mFL (by decide) rfl q1705 rfl rfl
theorem mfl393 : hh_FL RX14 393 14 10 0 false := mFL (by decide) rfl q1706 rfl rfl
theorem mfl19 : hh_FL RX14 19 14 11 2 true := mFL (by decide) rfl q1707 rfl rfl
theorem mfl141 : hh_FL RX14 141 14 12 0 false := mFL (by decide) rfl q1708 rfl rfl
theorem mfl23 : hh_FL RX14 23 14 13 2 true := mFL (by decide) rfl q1709 rfl rfl
theorem mfl26 : hh_FL RX14 26 14 14 2 true := mFL (by decide) rfl q1710 rfl rfl
theorem mfl29 : hh_FL RX14 29 14 15 2 true := mFL (by decide) rfl q1711 rfl rfl
theorem mfl32 : hh_FL RX14 32 14 16 2 true := mFL (by decide) rfl q1712 rfl rfl
theorem mfl35 : hh_FL RX14 35 14 17 2 true := mFL (by decide) rfl q1713 rfl rfl
theorem mfl38 : hh_FL RX14 38 14 18 0 false := mFL (by decide) rfl q1714 rfl rfl
theorem mfl187 : hh_FL RX14 187 14 19 0 false := mFL (by decide) rfl q1715 rfl rfl
theorem mfl181 : hh_FL RX14 181 14 20 0 false := mFL (by decide) rfl q1716 rfl rfl
theorem mfl178 : hh_FL RX14 178 14 21 0 false := mFL (by decide) rfl q1717 rfl rfl
theorem mfl175 : hh_FL RX14 175 14 22 0 false := mFL (by decide) rfl q1718 rfl rfl
theorem mfl42 : hh_FL RX14 42 14 23 2 true := mFL (by decide) rfl q1719 rfl rfl
theorem mfl45 : hh_FL RX14 45 14 24 2 true := mFL (by decide) rfl q1720 rfl rfl
theorem mfl48 : hh_FL RX14 48 14 25 2 true := mFL (by decide) rfl q1721 rfl rfl
theorem mfl51 : hh_FL RX14 51 14 26 2 true := mFL (by decide) rfl q1722 rfl rfl
theorem mfl54 : hh_FL RX14 54 14 27 2 true := mFL (by decide) rfl q1723 rfl rfl
theorem mfl57 : hh_FL RX14 57 14 28 2 true := mFL (by decide) rfl q1724 rfl rfl
theorem mfl60 : hh_FL RX14 60 14 29 2 true := mFL (by decide) rfl q1725 rfl rfl
theorem mfl63 : hh_FL RX14 63 14 30 2 true := mFL (by decide) rfl q1726 rfl rfl
theorem mfl221 : hh_FL RX14 221 14 31 0 false := mFL (by decide) rfl q1727 rfl rfl
theorem mfl224 : hh_FL RX14 224 14 32 0 false := mFL (by decide) rfl q1728 rfl rfl
theorem mfl66 : hh_FL RX14 66 14 33 2 true := mFL (by decide) rfl q1729 rfl rfl
theorem mfl70 : hh_FL RX14 70 14 34 0 false := mFL (by decide) rfl q1730 rfl rfl
theorem mfl73 : hh_FL RX14 73 14 35 2 true := mFL (by decide) rfl q1731 rfl rfl
theorem mfl76 : hh_FL RX14 76 14 36 2 true := mFL (by decide) rfl q1732 rfl rfl
theorem mfl79 : hh_FL RX14 79 14 37 2 true := mFL (by decide) rfl q1733 rfl rfl
theorem mfl82 : hh_FL RX14 82 14 38 2 true := mFL (by decide) rfl q1734 rfl rfl
theorem mfl287 : hh_FL RX14 287 14 39 0 false := mFL (by decide) rfl q1735 rfl rfl
theorem mfl302 : hh_FL RX14 302 14 40 0 false := mFL (by decide) rfl q1736 rfl rfl
theorem mfl295 : hh_FL RX14 295 14 41 0 false := mFL (by decide) rfl q1737 rfl rfl
theorem mfl292 : hh_FL RX14 292 14 42 0 false := mFL (by decide) rfl q1738 rfl rfl
theorem mfl298 : hh_FL RX14 298 14 43 1 false := mFL (by decide) rfl q1739 rfl rfl
theorem mfl317 : hh_FL RX14 317 14 44 0 false := mFL (by decide) rfl q1740 rfl rfl
theorem mfl85 : hh_FL RX14 85 14 45 2 true := mFL (by decide) rfl q1741 rfl rfl
theorem mfl88 : hh_FL RX14 88 14 46 2 true := mFL (by decide) rfl q1742 rfl rfl
theorem mfl91 : hh_FL RX14 91 14 47 2 true := mFL (by decide) rfl q1743 rfl rfl
theorem mfl94 : hh_FL RX14 94 14 48 2 true := mFL (by decide) rfl q1744 rfl rfl
theorem mfl333 : hh_FL RX14 333 14 49 0 false := mFL (by decide) rfl q1745 rfl rfl
theorem mfl336 : hh_FL RX14 336 14 50 0 false := mFL (by decide) rfl q1746 rfl rfl
theorem mfl402 : hh_FL RX14 402 14 51 0 false := mFL (by decide) rfl q1747 rfl rfl
theorem mfl399 : hh_FL RX14 399 14 52 0 false := mFL (by decide) rfl q1748 rfl rfl
theorem mfl396 : hh_FL RX14 396 14 53 0 false := mFL (by decide) rfl q1749 rfl rfl
theorem mfl405 : hh_FL RX14 405 14 54 0 false := mFL (by decide) rfl q1750 rfl rfl
theorem mfl97 : hh_FL RX14 97 14 55 2 true := mFL (by decide) rfl q1751 rfl rfl
theorem mfl100 : hh_FL RX14 100 14 56 2 true := mFL (by decide) rfl q1752 rfl rfl
theorem mfl432 : hh_FL RX14 432 14 57 0 false := mFL (by decide) rfl q1753 rfl rfl
theorem mfl103 : hh_FL RX14 103 14 58 2 true := mFL (by decide) rfl q1754 rfl rfl
theorem mfl106 : hh_FL RX14 106 14 59 2 true := mFL (by decide) rfl q1755 rfl rfl
theorem mfl109 : hh_FL RX14 109 14 60 2 true := mFL (by decide) rfl q1756 rfl rfl
theorem mfl112 : hh_FL RX14 112 14 61 2 true := mFL (by decide) rfl q1757 rfl rfl
theorem mfl115 : hh_FL RX14 115 14 62 2 true := mFL (by decide) rfl q1758 rfl rfl
theorem mfl118 : hh_FL RX14 118 14 63 2 true := mFL (by decide) rfl q1759 rfl rfl
theorem mfl459 : hh_FL RX14 459 14 64 0 false := mFL (by decide) rfl q1760 rfl rfl
theorem mfl474 : hh_FL RX14 474 14 65 0 false := mFL (by decide) rfl q1761 rfl rfl
theorem mfl465 : hh_FL RX14 465 14 66 0 false := mFL (by decide) rfl q1762 rfl rfl
theorem mfl121 : hh_FL RX14 121 14 67 2 true := mFL (by decide) rfl q1763 rfl rfl
theorem mfl456 : hh_FL RX14 456 14 68 0 false := mFL (by decide) rfl q1764 rfl rfl
theorem mfl480 : hh_FL RX14 480 14 69 3 false := mFL (by decide) rfl q1765 rfl rfl
theorem mfl506 : hh_FL RX14 506 14 70 3 false := mFL (by decide) rfl q1766 rfl rfl
theorem mfl124 : hh_FL RX14 124 14 71 2 true := mFL (by decide) rfl q1767 rfl rfl
theorem mfl496 : hh_FL RX14 496 14 72 0 false := mFL (by decide) rfl q1768 rfl rfl
theorem mfl127 : hh_FL RX14 127 14 73 2 true := mFL (by decide) rfl q1769 rfl rfl
