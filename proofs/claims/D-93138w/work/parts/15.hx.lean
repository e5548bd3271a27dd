set_option maxRecDepth 100000
/-! THE CLASS as a heap: cells 0 to 132 are made by its constructor (their kinds, lengths, fixed references: xKl, xLl, xRl); beyond them what came later -/
def xKl : List Nat := [0, 1, 100, 100, 100, 100, 100, 100, 121, 122, 2, 100, 1, 100, 100, 100, 100, 100, 100, 121, 122, 2, 100, 3, 100, 120, 2, 100, 2, 100, 2, 100, 2, 100, 2, 100, 2, 100, 2, 100, 2, 100, 2, 100, 2, 100, 2, 100, 2, 100, 2, 100, 2, 100, 2, 100, 2, 100, 2, 100, 2, 100, 2, 100, 2, 100, 2, 100, 2, 100, 4, 100, 100, 5, 127, 110, 110, 110, 110, 110, 110, 110, 110, 110, 110, 110, 110, 110, 6, 100, 100, 100, 101, 7, 126, 8, 122, 2, 100, 123, 9, 9, 9, 9, 9, 9, 9, 9, 9, 9, 9, 9, 9, 9, 9, 9, 9, 9, 9, 9, 124, 10, 10, 10, 10, 11, 12, 100, 125, 13, 13, 13, 13]
def xLl : List Nat := [19, 17, 4, 4, 4, 4, 28, 16, 4, 6, 4, 4, 17, 4, 4, 4, 4, 28, 16, 4, 6, 4, 4, 4, 201684, 22, 4, 4, 4, 4, 4, 4, 4, 4, 4, 4, 4, 4, 4, 4, 4, 4, 4, 4, 4, 4, 4, 4, 4, 4, 4, 4, 4, 4, 4, 4, 4, 4, 4, 4, 4, 4, 4, 4, 4, 4, 4, 4, 4, 4, 5, 4, 4, 2, 13, 241, 241, 241, 241, 241, 241, 241, 241, 241, 241, 241, 241, 241, 6, 8, 8, 4, 200, 11, 6, 7, 6, 4, 4, 20, 2, 2, 2, 2, 2, 2, 2, 2, 2, 2, 2, 2, 2, 2, 2, 2, 2, 2, 2, 2, 4, 5, 5, 5, 5, 6, 6, 30, 4, 3, 3, 3, 3]
def xRl : List (List (Option Nat)) := [[some 1, some 12, none, some 23, some 70, some 73, some 88, some 92, none, some 93, some 97, some 99, none, some 120, some 125, some 126, some 127, none, some 128], [none, none, none, none, none, none, none, none, some 2, some 3, some 4, some 5, some 6, some 7, some 8, some 9, some 10], [], [], [], [], [], [], [], [], [none, none, none, some 11], [], [none, none, none, none, none, none, none, none, some 13, some 14, some 15, some 16, some 17, some 18, some 19, some 20, some 21], [], [], [], [], [], [], [], [], [none, none, none, some 22], [], [some 24, some 25, none, some 0], [], [some 26, some 28, some 30, some 32, some 34, some 36, some 38, some 40, some 42, some 44, some 46, some 48, some 50, some 52, some 54, some 56, some 58, some 60, some 62, some 64, some 66, some 68], [none, none, none, some 27], [], [none, none, none, some 29], [], [none, none, none, some 31], [], [none, none, none, some 33], [], [none, none, none, some 35], [], [none, none, none, some 37], [], [none, none, none, some 39], [], [none, none, none, some 41], [], [none, none, none, some 43], [], [none, none, none, some 45], [], [none, none, none, some 47], [], [none, none, none, some 49], [], [none, none, none, some 51], [], [none, none, none, some 53], [], [none, none, none, some 55], [], [none, none, none, some 57], [], [none, none, none, some 59], [], [none, none, none, some 61], [], [none, none, none, some 63], [], [none, none, none, some 65], [], [none, none, none, some 67], [], [none, none, none, some 69], [], [some 71, some 72, none, none, some 0], [], [], [some 74, some 0], [some 75, some 76, some 77, some 78, some 79, some 80, some 81, some 82, some 83, some 84, some 85, some 86, some 87], [], [], [], [], [], [], [], [], [], [], [], [], [], [some 89, some 90, some 91, none, none, some 0], [], [], [], [], [some 94, some 95, some 96], [], [], [], [none, none, none, some 98], [], [some 100, some 101, some 102, some 103, some 104, some 105, some 106, some 107, some 108, some 109, some 110, some 111, some 112, some 113, some 114, some 115, some 116, some 117, some 118, some 119], [], [], [], [], [], [], [], [], [], [], [], [], [], [], [], [], [], [], [], [], [some 121, some 122, some 123, some 124], [], [], [], [], [], [], [], [some 129, some 130, some 131, some 132], [], [], [], []]
def xK0 (i : Nat) : Nat := xKl.getD i 0
def xL0 (i : Nat) : Nat := xLl.getD i 0
def xR0 (i k : Nat) : Option Nat := (xRl.getD i []).getD k none
def xK (kd : Nat → Nat) (i : Nat) : Nat := if i < 133 then xK0 i else kd i
def xL (ld : Nat → Nat) (i : Nat) : Nat := if i < 133 then xL0 i else ld i
abbrev xRd : Type := Nat → Nat → Option Nat
def xR (rd : xRd) (i k : Nat) : Option Nat := match xR0 i k with
  | some r => some r
  | none => rd i k
/-- how many cells came later, their kinds, their lengths -/
abbrev xS : Type := Nat × (Nat → Nat) × (Nat → Nat)
def hx (s : xS) (rd : xRd) (J : mJ) (I : mI) : hh_T := (133 + s.1, xK s.2.1, xL s.2.2, I, J, xR rd)
/-- the cell r is of kind q -/
def xo (s : xS) (r q : Nat) : Prop := r < 133 + s.1 ∧ xK s.2.1 r = q
def xlen (s : xS) (r : Nat) : Nat := xL s.2.2 r
/-- a cell more -/
def xn (s : xS) (K L : Nat) : xS := (s.1 + 1, u1 s.2.1 (133 + s.1) K, u1 s.2.2 (133 + s.1) L)
theorem xo_c {s : xS} {r q : Nat} (h1 : r < 133) (h2 : xK0 r = q) : xo s r q := ⟨Nat.lt_of_lt_of_le h1 (Nat.le_add_right _ _), by unfold xK; rw [if_pos h1]; exact h2⟩
theorem xlen_c {s : xS} {r L : Nat} (h1 : r < 133) (h2 : xL0 r = L) : xlen s r = L := by unfold xlen xL; rw [if_pos h1]; exact h2
theorem xR_c {rd : xRd} {i k r : Nat} (h : xR0 i k = some r) : xR rd i k = some r := by unfold xR; rw [h]
theorem xR_d {rd : xRd} {i k : Nat} (h : xR0 i k = none) : xR rd i k = rd i k := by unfold xR; rw [h]
theorem xR_set {rd : xRd} {i k : Nat} {v : Option Nat} (h : xR0 i k = none) : u2 (xR rd) i k v = xR (u2 rd i k v) := by
  funext a b
  by_cases e : a = i ∧ b = k
  · rw [e.1, e.2, u2_self, xR_d h, u2_self]
  · have hne : a ≠ i ∨ b ≠ k := by
      by_cases e1 : a = i
      · exact Or.inr (fun e2 => e ⟨e1, e2⟩)
      · exact Or.inl e1
    rw [u2_ne _ _ hne]
    cases q : xR0 a b with
    | some r => rw [xR_c q, xR_c q]
    | none => rw [xR_d q, xR_d q, u2_ne _ _ hne]
theorem xK_new {kd : Nat → Nat} {m K : Nat} : u1 (xK kd) (133 + m) K = xK (u1 kd (133 + m) K) := by
  funext i
  unfold u1 xK
  by_cases h : i < 133
  · rw [if_pos h, if_pos h, if_neg (by omega)]
  · rw [if_neg h, if_neg h]
theorem xL_new {kd : Nat → Nat} {m K : Nat} : u1 (xL kd) (133 + m) K = xL (u1 kd (133 + m) K) := by
  funext i
  unfold u1 xL
  by_cases h : i < 133
  · rw [if_pos h, if_pos h, if_neg (by omega)]
  · rw [if_neg h, if_neg h]
theorem xR0_out {i : Nat} (k : Nat) (h : 133 ≤ i) : xR0 i k = none := by
  unfold xR0
  have e : xRl.getD i [] = [] := by
    rw [List.getD_eq_getElem?_getD, List.getElem?_eq_none (show xRl.length ≤ i from h)]
    rfl
  rw [e]
  rfl
theorem xR_new {rd : xRd} {m : Nat} : ur (xR rd) (133 + m) (fun _ => none) = xR (ur rd (133 + m) (fun _ => none)) := by
  funext i k
  by_cases e : i = 133 + m
  · have h0 : xR0 i k = none := xR0_out k (by omega)
    rw [xR_d h0]
    simp [ur, e]
  · cases q : xR0 i k with
    | some r => rw [xR_c q]; simp [ur, e, xR_c q]
    | none => rw [xR_d q]; simp [ur, e, xR_d q]
theorem hx_neq (s : xS) (rd : xRd) (J : mJ) (I : mI) (K L : Nat) : hnew (hx s rd J I) K L = hx (xn s K L) (ur rd (133 + s.1) fun _ => none) (ur J (133 + s.1) fun _ => 0) (ur I (133 + s.1) fun _ => 0) := by
  show (133 + s.1 + 1, u1 (xK s.2.1) (133 + s.1) K, u1 (xL s.2.2) (133 + s.1) L, ur I (133 + s.1) (fun _ => 0), ur J (133 + s.1) (fun _ => 0), ur (xR rd) (133 + s.1) (fun _ => none)) = _
  rw [xK_new, xL_new, xR_new]
  rfl
theorem hx_getI {X : hh_CX} {cc : ByteArray} {own : String} {rm : Room} {pc : Nat} {loc : List (Nat × Value)} {st : List Value} {z k : Nat} {s : xS} {rd : xRd} {J : mJ} {I : mI} (hX : hh_C X cc own rm) {idx ci f t r : Nat} {fin : Bool} (hd : decode cc pc = .ok (.getfield idx, 3)) (hF : hh_FL own idx ci f t fin) (ht : t = 0 ∨ t = 3) (ho : xo s r ci) {v : Int32} (hv : I r f = v)
    (kk : hh_V X (pc + 3) loc (.int v :: st) z k (hx s rd J I)) : hh_V X pc loc (.ref r :: st) z k (hx s rd J I) := by
  subst hv
  exact hv_getI hX hd hF ht ho.1 ho.2 kk
theorem hx_getJ {X : hh_CX} {cc : ByteArray} {own : String} {rm : Room} {pc : Nat} {loc : List (Nat × Value)} {st : List Value} {z k : Nat} {s : xS} {rd : xRd} {J : mJ} {I : mI} (hX : hh_C X cc own rm) {idx ci f r : Nat} {fin : Bool} (hd : decode cc pc = .ok (.getfield idx, 3)) (hF : hh_FL own idx ci f 1 fin) (ho : xo s r ci) {v : Int64} (hv : J r f = v)
    (kk : hh_V X (pc + 3) loc (.long v :: st) z k (hx s rd J I)) : hh_V X pc loc (.ref r :: st) z k (hx s rd J I) := by
  subst hv
  exact hv_getJ hX hd hF ho.1 ho.2 kk
theorem hx_getR {X : hh_CX} {cc : ByteArray} {own : String} {rm : Room} {pc : Nat} {loc : List (Nat × Value)} {st : List Value} {z k : Nat} {s : xS} {rd : xRd} {J : mJ} {I : mI} (hX : hh_C X cc own rm) {idx ci f r : Nat} {fin : Bool} (hd : decode cc pc = .ok (.getfield idx, 3)) (hF : hh_FL own idx ci f 2 fin) (ho : xo s r ci) {v : Nat} (hv : xR rd r f = some v)
    (kk : hh_V X (pc + 3) loc (.ref v :: st) z k (hx s rd J I)) : hh_V X pc loc (.ref r :: st) z k (hx s rd J I) := hv_getR hX hd hF ho.1 ho.2 (by show hh_av (xR rd r f) = _; rw [hv]; rfl) kk
theorem hx_getO {X : hh_CX} {cc : ByteArray} {own : String} {rm : Room} {pc : Nat} {loc : List (Nat × Value)} {st : List Value} {z k : Nat} {s : xS} {rd : xRd} {J : mJ} {I : mI} (hX : hh_C X cc own rm) {idx ci f r : Nat} {fin : Bool} (hd : decode cc pc = .ok (.getfield idx, 3)) (hF : hh_FL own idx ci f 2 fin) (ho : xo s r ci)
    (kk : hh_V X (pc + 3) loc (hh_av (xR rd r f) :: st) z k (hx s rd J I)) : hh_V X pc loc (.ref r :: st) z k (hx s rd J I) := hv_getR hX hd hF ho.1 ho.2 rfl kk
theorem hx_putI {X : hh_CX} {cc : ByteArray} {own : String} {rm : Room} {pc : Nat} {loc : List (Nat × Value)} {st : List Value} {z k : Nat} {s : xS} {rd : xRd} {J : mJ} {I : mI} (hX : hh_C X cc own rm) {idx ci f r : Nat} {v : Int32} (hd : decode cc pc = .ok (.putfield idx, 3)) (hF : hh_FL own idx ci f 0 false) (ho : xo s r ci)
    (kk : hh_V X (pc + 3) loc (st) z k (hx s rd J (u2 I r f v))) : hh_V X pc loc (.int v :: .ref r :: st) z k (hx s rd J I) := hv_putI hX hd hF ho.1 ho.2 kk
theorem hx_putZ {X : hh_CX} {cc : ByteArray} {own : String} {rm : Room} {pc : Nat} {loc : List (Nat × Value)} {st : List Value} {z k : Nat} {s : xS} {rd : xRd} {J : mJ} {I : mI} (hX : hh_C X cc own rm) {idx ci f r : Nat} {v : Int32} (hd : decode cc pc = .ok (.putfield idx, 3)) (hF : hh_FL own idx ci f 3 false) (h01 : v = 0 ∨ v = 1) (ho : xo s r ci)
    (kk : hh_V X (pc + 3) loc (st) z k (hx s rd J (u2 I r f v))) : hh_V X pc loc (.int v :: .ref r :: st) z k (hx s rd J I) := hv_putZ hX hd hF h01 ho.1 ho.2 kk
theorem hx_putO {X : hh_CX} {cc : ByteArray} {own : String} {rm : Room} {pc : Nat} {loc : List (Nat × Value)} {st : List Value} {z k : Nat} {s : xS} {rd : xRd} {J : mJ} {I : mI} (hX : hh_C X cc own rm) {idx ci f r : Nat} {v : Option Nat} (hd : decode cc pc = .ok (.putfield idx, 3)) (hF : hh_FL own idx ci f 2 false) (ho : xo s r ci) (h0 : xR0 r f = none)
    (kk : hh_V X (pc + 3) loc (st) z k (hx s (u2 rd r f v) J I)) : hh_V X pc loc (hh_av v :: .ref r :: st) z k (hx s rd J I) := hv_putR hX hd hF ho.1 ho.2 (by show hh_V X (pc + 3) loc st z k (133 + s.1, xK s.2.1, xL s.2.2, I, J, u2 (xR rd) r f v); rw [xR_set h0]; exact kk)
theorem hx_iald {X : hh_CX} {cc : ByteArray} {own : String} {rm : Room} {pc : Nat} {loc : List (Nat × Value)} {st : List Value} {z k : Nat} {s : xS} {rd : xRd} {J : mJ} {I : mI} (hX : hh_C X cc own rm) {r L : Nat} {i : Int32} (hd : decode cc pc = .ok (.iaload, 1)) (ho : xo s r 100) (hL : xlen s r = L) (hi : vp_in i L) {v : Int32} (hv : I r i.toNatClampNeg = v)
    (kk : hh_V X (pc + 1) loc (.int v :: st) z k (hx s rd J I)) : hh_V X pc loc (.int i :: .ref r :: st) z k (hx s rd J I) := by
  subst hv
  subst hL
  exact hv_iald hX hd ho.1 ho.2 hi kk
theorem hx_bald {X : hh_CX} {cc : ByteArray} {own : String} {rm : Room} {pc : Nat} {loc : List (Nat × Value)} {st : List Value} {z k : Nat} {s : xS} {rd : xRd} {J : mJ} {I : mI} (hX : hh_C X cc own rm) {r L : Nat} {i : Int32} (hd : decode cc pc = .ok (.baload, 1)) (ho : xo s r 101) (hL : xlen s r = L) (hi : vp_in i L) {v : Int32} (hv : I r i.toNatClampNeg = v)
    (kk : hh_V X (pc + 1) loc (.int v :: st) z k (hx s rd J I)) : hh_V X pc loc (.int i :: .ref r :: st) z k (hx s rd J I) := by
  subst hv
  subst hL
  exact hv_bald hX hd ho.1 ho.2 hi kk
theorem hx_sald {X : hh_CX} {cc : ByteArray} {own : String} {rm : Room} {pc : Nat} {loc : List (Nat × Value)} {st : List Value} {z k : Nat} {s : xS} {rd : xRd} {J : mJ} {I : mI} (hX : hh_C X cc own rm) {r L : Nat} {i : Int32} (hd : decode cc pc = .ok (.saload, 1)) (ho : xo s r 102) (hL : xlen s r = L) (hi : vp_in i L) {v : Int32} (hv : I r i.toNatClampNeg = v)
    (kk : hh_V X (pc + 1) loc (.int v :: st) z k (hx s rd J I)) : hh_V X pc loc (.int i :: .ref r :: st) z k (hx s rd J I) := by
  subst hv
  subst hL
  exact hv_sald hX hd ho.1 ho.2 hi kk
theorem hx_lald {X : hh_CX} {cc : ByteArray} {own : String} {rm : Room} {pc : Nat} {loc : List (Nat × Value)} {st : List Value} {z k : Nat} {s : xS} {rd : xRd} {J : mJ} {I : mI} (hX : hh_C X cc own rm) {r L : Nat} {i : Int32} (hd : decode cc pc = .ok (.laload, 1)) (ho : xo s r 110) (hL : xlen s r = L) (hi : vp_in i L) {v : Int64} (hv : J r i.toNatClampNeg = v)
    (kk : hh_V X (pc + 1) loc (.long v :: st) z k (hx s rd J I)) : hh_V X pc loc (.int i :: .ref r :: st) z k (hx s rd J I) := by
  subst hv
  subst hL
  exact hv_lald hX hd ho.1 ho.2 hi kk
theorem hx_iast {X : hh_CX} {cc : ByteArray} {own : String} {rm : Room} {pc : Nat} {loc : List (Nat × Value)} {st : List Value} {z k : Nat} {s : xS} {rd : xRd} {J : mJ} {I : mI} (hX : hh_C X cc own rm) {r L : Nat} {i x : Int32} (hd : decode cc pc = .ok (.iastore, 1)) (ho : xo s r 100) (hL : xlen s r = L) (hi : vp_in i L)
    (kk : hh_V X (pc + 1) loc (st) z k (hx s rd J (u2 I r i.toNatClampNeg x))) : hh_V X pc loc (.int x :: .int i :: .ref r :: st) z k (hx s rd J I) := by
  subst hL
  exact hv_iast hX hd ho.1 ho.2 hi kk
theorem hx_bast {X : hh_CX} {cc : ByteArray} {own : String} {rm : Room} {pc : Nat} {loc : List (Nat × Value)} {st : List Value} {z k : Nat} {s : xS} {rd : xRd} {J : mJ} {I : mI} (hX : hh_C X cc own rm) {r L : Nat} {i x : Int32} (hd : decode cc pc = .ok (.bastore, 1)) (ho : xo s r 101) (hL : xlen s r = L) (hi : vp_in i L)
    (kk : hh_V X (pc + 1) loc (st) z k (hx s rd J (u2 I r i.toNatClampNeg (vp_nar .byte x)))) : hh_V X pc loc (.int x :: .int i :: .ref r :: st) z k (hx s rd J I) := by
  subst hL
  exact hv_bast hX hd ho.1 ho.2 hi kk
theorem hx_sast {X : hh_CX} {cc : ByteArray} {own : String} {rm : Room} {pc : Nat} {loc : List (Nat × Value)} {st : List Value} {z k : Nat} {s : xS} {rd : xRd} {J : mJ} {I : mI} (hX : hh_C X cc own rm) {r L : Nat} {i x : Int32} (hd : decode cc pc = .ok (.sastore, 1)) (ho : xo s r 102) (hL : xlen s r = L) (hi : vp_in i L)
    (kk : hh_V X (pc + 1) loc (st) z k (hx s rd J (u2 I r i.toNatClampNeg (vp_nar .short x)))) : hh_V X pc loc (.int x :: .int i :: .ref r :: st) z k (hx s rd J I) := by
  subst hL
  exact hv_sast hX hd ho.1 ho.2 hi kk
theorem hx_last {X : hh_CX} {cc : ByteArray} {own : String} {rm : Room} {pc : Nat} {loc : List (Nat × Value)} {st : List Value} {z k : Nat} {s : xS} {rd : xRd} {J : mJ} {I : mI} (hX : hh_C X cc own rm) {r L : Nat} {i : Int32} {x : Int64} (hd : decode cc pc = .ok (.lastore, 1)) (ho : xo s r 110) (hL : xlen s r = L) (hi : vp_in i L)
    (kk : hh_V X (pc + 1) loc (st) z k (hx s rd (u2 J r i.toNatClampNeg x) I)) : hh_V X pc loc (.long x :: .int i :: .ref r :: st) z k (hx s rd J I) := by
  subst hL
  exact hv_last hX hd ho.1 ho.2 hi kk
theorem hx_aald {X : hh_CX} {cc : ByteArray} {own : String} {rm : Room} {pc : Nat} {loc : List (Nat × Value)} {st : List Value} {z k : Nat} {s : xS} {rd : xRd} {J : mJ} {I : mI} (hX : hh_C X cc own rm) {r L a : Nat} {i : Int32} (j : Nat) (hj : hh_al[j]? = some a) (hja : 20 ≤ a ∧ (hh_ay a).isReference = true) (hd : decode cc pc = .ok (.aaload, 1)) (ho : xo s r (100 + a)) (hL : xlen s r = L) (hi : vp_in i L) {v : Nat} (hv : xR rd r i.toNatClampNeg = some v)
    (kk : hh_V X (pc + 1) loc (.ref v :: st) z k (hx s rd J I)) : hh_V X pc loc (.int i :: .ref r :: st) z k (hx s rd J I) := by
  subst hL
  exact hv_aald hX j hj hja hd ho.1 ho.2 hi (by show hh_av (xR rd r i.toNatClampNeg) = _; rw [hv]; rfl) kk
theorem hx_aast {X : hh_CX} {cc : ByteArray} {own : String} {rm : Room} {pc : Nat} {loc : List (Nat × Value)} {st : List Value} {z k : Nat} {s : xS} {rd : xRd} {J : mJ} {I : mI} (hX : hh_C X cc own rm) {r L a w ci : Nat} {i : Int32} {q : vw_C} (j : Nat) (hj : hh_al[j]? = some a) (hja : 20 ≤ a) (hci : hh_cl[ci]? = some q) (hc1 : ci < 100) (hay : hh_ay a = .object q.1) (hd : decode cc pc = .ok (.aastore, 1)) (ho : xo s r (100 + a)) (hL : xlen s r = L) (hi : vp_in i L) (hw : xo s w ci) (h0 : xR0 r i.toNatClampNeg = none)
    (kk : hh_V X (pc + 1) loc (st) z k (hx s (u2 rd r i.toNatClampNeg (some w)) J I)) : hh_V X pc loc (.ref w :: .int i :: .ref r :: st) z k (hx s rd J I) := by
  subst hL
  exact hv_aast hX j hj hja hci hc1 hay hd ho.1 ho.2 hi hw.1 hw.2 (by show hh_V X (pc + 1) loc st z k (133 + s.1, xK s.2.1, xL s.2.2, I, J, u2 (xR rd) r i.toNatClampNeg (some w)); rw [xR_set h0]; exact kk)
theorem hx_alen {X : hh_CX} {cc : ByteArray} {own : String} {rm : Room} {pc : Nat} {loc : List (Nat × Value)} {st : List Value} {z k : Nat} {s : xS} {rd : xRd} {J : mJ} {I : mI} (hX : hh_C X cc own rm) {r : Nat} {v : Int32} (j : Nat) {a : Nat} (hj : hh_al[j]? = some a) (hd : decode cc pc = .ok (.arraylength, 1)) (ho : xo s r (100 + a)) (hv : Int32.ofNat (xlen s r) = v)
    (kk : hh_V X (pc + 1) loc (.int v :: st) z k (hx s rd J I)) : hh_V X pc loc (.ref r :: st) z k (hx s rd J I) := hv_alen hX j hj hd ho.1 ho.2 hv kk
theorem hx_copyI {X : hh_CX} {cc : ByteArray} {own : String} {rm : Room} {pc : Nat} {loc : List (Nat × Value)} {st : List Value} {z k : Nat} {s : xS} {rd : xRd} {J : mJ} {I : mI} (hX : hh_C X cc own rm) {idx src dst : Nat} {sp dp n : Int32} (hd : decode cc pc = .ok (.invokestatic idx, 3)) (h9 : Cond.methodLink own idx arraycopyName ∈ lw_all) (h10 : Cond.native arraycopyName ∈ lw_all) (h11 : Cond.static arraycopyName ∈ lw_all) (h12 : Cond.initialized "java/lang/System" ∈ lw_all) (hs : xo s src 100) (ht : xo s dst 100) (hb : ¬ sp < 0 ∧ ¬ dp < 0 ∧ ¬ n < 0 ∧ sp.toNatClampNeg + n.toNatClampNeg ≤ xlen s src ∧ dp.toNatClampNeg + n.toNatClampNeg ≤ xlen s dst) (hr : 1 ≤ rm.frames ∧ (st.map fun v => v.category).sum + 18 ≤ rm.locals)
    (kk : hh_V X (pc + 3) loc (st) z k (hx s rd J (ur I dst (va_cpy (I src) (I dst) sp.toNatClampNeg dp.toNatClampNeg n.toNatClampNeg)))) : hh_V X pc loc (.int n :: .int dp :: .ref dst :: .int sp :: .ref src :: st) z k (hx s rd J I) := hv_copyI hX hd h9 h10 h11 h12 hs ht hb hr kk
theorem xR_cpy {rd : xRd} {dst : Nat} {g : Nat → Option Nat} (h : ∀ b, xR0 dst b = none) : ur (xR rd) dst g = xR (ur rd dst g) := by
  funext i k
  by_cases e : i = dst
  · rw [e, xR_d (h k)]; simp [ur]
  · cases q : xR0 i k with
    | some r => rw [xR_c q]; simp [ur, e, xR_c q]
    | none => rw [xR_d q]; simp [ur, e, xR_d q]
theorem hx_copyR {X : hh_CX} {cc : ByteArray} {own : String} {rm : Room} {pc : Nat} {loc : List (Nat × Value)} {st : List Value} {z k : Nat} {s : xS} {rd : xRd} {J : mJ} {I : mI} (hX : hh_C X cc own rm) {idx src dst a ci : Nat} {sp dp n : Int32} {q : vw_C} (j : Nat) (hj : hh_al[j]? = some a) (ha : 20 ≤ a) (hci : hh_cl[ci]? = some q) (hc1 : ci < 100) (hay : hh_ay a = .object q.1) (hd : decode cc pc = .ok (.invokestatic idx, 3)) (h9 : Cond.methodLink own idx arraycopyName ∈ lw_all) (h10 : Cond.native arraycopyName ∈ lw_all) (h11 : Cond.static arraycopyName ∈ lw_all) (h12 : Cond.initialized "java/lang/System" ∈ lw_all) (hs : xo s src (100 + a)) (ht : xo s dst (100 + a)) (hb : ¬ sp < 0 ∧ ¬ dp < 0 ∧ ¬ n < 0 ∧ sp.toNatClampNeg + n.toNatClampNeg ≤ xlen s src ∧ dp.toNatClampNeg + n.toNatClampNeg ≤ xlen s dst) (hel : ∀ i, i < n.toNatClampNeg → ∀ y, xR rd src (sp.toNatClampNeg + i) = some y → xo s y ci) (h0 : ∀ b, xR0 dst b = none) (hr : 1 ≤ rm.frames ∧ (st.map fun v => v.category).sum + 18 ≤ rm.locals)
    (kk : hh_V X (pc + 3) loc (st) z k (hx s (ur rd dst (va_cpy (xR rd src) (xR rd dst) sp.toNatClampNeg dp.toNatClampNeg n.toNatClampNeg)) J I)) : hh_V X pc loc (.int n :: .int dp :: .ref dst :: .int sp :: .ref src :: st) z k (hx s rd J I) := hv_copyR hX j hj ha hci hc1 hay hd h9 h10 h11 h12 hs ht hb hel hr (by show hh_V X (pc + 3) loc st z k (133 + s.1, xK s.2.1, xL s.2.2, I, J, ur (xR rd) dst (va_cpy (xR rd src) (xR rd dst) sp.toNatClampNeg dp.toNatClampNeg n.toNatClampNeg)); rw [xR_cpy h0]; exact kk)
theorem hx_new1 {X : hh_CX} {cc : ByteArray} {own : String} {rm : Room} {pc : Nat} {loc : List (Nat × Value)} {st : List Value} {z k : Nat} {s : xS} {rd : xRd} {J : mJ} {I : mI} (hX : hh_C X cc own rm) {idx ci N : Nat} (hd : decode cc pc = .ok (.new idx, 3)) (hN : hh_NL own idx ci N) (hn : s.1 < 900000) (hz : z + 1 ≤ rm.cells ∧ k + N ≤ rm.slots)
    (kk : hh_V X (pc + 3) loc (.ref (133 + s.1) :: st) (z + 1) (k + N) (hx (xn s ci N) (ur rd (133 + s.1) fun _ => none) (ur J (133 + s.1) fun _ => 0) (ur I (133 + s.1) fun _ => 0))) : hh_V X pc loc (st) z k (hx s rd J I) := hv_new hX hd hN (show 133 + s.1 < 1000000 by omega) hz (by rw [hx_neq]; exact kk)
theorem hx_newA {X : hh_CX} {cc : ByteArray} {own : String} {rm : Room} {pc : Nat} {loc : List (Nat × Value)} {st : List Value} {z k : Nat} {s : xS} {rd : xRd} {J : mJ} {I : mI} (hX : hh_C X cc own rm) {a N : Nat} {atype : ArrayType} {n : Int32} (j : Nat) (hj : hh_al[j]? = some a) (ha : a < 20) (hty : newarray.typeOf atype = hh_ay a) (ha2 : a = 10 ∨ (a < 10 ∧ hh_ay a ≠ .long)) (hda : defaultValue (hh_ay a) = if a < 10 then .int 0 else .long 0) (hw : Cond.arrayClass (newarray.typeOf atype) ∈ lw_all) (hd : decode cc pc = .ok (.newarray atype, 2)) (hn0 : ¬ n < 0) (hN : n.toNatClampNeg = N) (hby : N * componentBytes (hh_ay a) ≤ 536870912) (hn : s.1 < 900000) (hz : z + 1 ≤ rm.cells ∧ k + N ≤ rm.slots)
    (kk : hh_V X (pc + 2) loc (.ref (133 + s.1) :: st) (z + 1) (k + N) (hx (xn s (100 + a) N) (ur rd (133 + s.1) fun _ => none) (ur J (133 + s.1) fun _ => 0) (ur I (133 + s.1) fun _ => 0))) : hh_V X pc loc (.int n :: st) z k (hx s rd J I) := hv_newA hX j hj ha hty ha2 hda hw hd hn0 hN hby (show 133 + s.1 < 1000000 by omega) hz (by rw [hx_neq]; exact kk)
