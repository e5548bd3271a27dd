set_option maxRecDepth 100000
/-! the String constants: numbers 1000000 + i, their bytes 1000100 + i -/
theorem hv_ldcS {X : hh_CX} {cc : ByteArray} {own : String} {rm : Room} {pc : Nat} {loc : List (Nat × Value)} {st : List Value} {z k : Nat} {h : hh_T} (hX : hh_C X cc own rm) {index i : Nat} {tx : String} (hown : own = "HungryHedge$Reader") (hi : hh_str[i]? = some (index, tx)) (hd : decode cc pc = .ok (.ldc index, 2)) (kk : hh_V X (pc + 2) loc (.ref (1000000 + i) :: st) z k h) : hh_V X pc loc st z k h := by
  obtain ⟨p, l, e, R, s, m, args, below, meth, c, G, A, φ0, n0, nL, Q⟩ := X
  intro φ H locs ls h1 h2 h3 h4 h5 h6 h7 h8
  have hXx := hX.2.2.2.2.2.2.2.2.2.1
  subst hown
  have K := kk φ H locs ls h1 h2 h3 h4 h5 h6 h7 ⟨.inr (Nat.le_add_right _ _), h8⟩
  refine va_ldcS hX.1 hX.2.1 hX.2.2.2.1 (hXx.2.1 i (index, tx) hi) hd ?_
  have e : φ (1000000 + i) = φ0 (1000000 + i) := (h1 (1000000 + i) (.inr (Nat.le_add_right _ _)))
  rw [← e]
  exact K
/-- a String's field value -/
theorem hv_getKV {X : hh_CX} {cc : ByteArray} {own : String} {rm : Room} {pc : Nat} {loc : List (Nat × Value)} {st : List Value} {z k : Nat} {h : hh_T} (hX : hh_C X cc own rm) {index i : Nat} (hown : own = "java/lang/String") (hi : i < 13) (hl : Cond.fieldLink "java/lang/String" index "java/lang/String" "value" "[B" ∈ lw_all) (hd : decode cc pc = .ok (.getfield index, 3)) (kk : hh_V X (pc + 3) loc (.ref (1000100 + i) :: st) z k h) : hh_V X pc loc (.ref (1000000 + i) :: st) z k h := by
  obtain ⟨p, l, e, R, s, m, args, below, meth, c, G, A, φ0, n0, nL, Q⟩ := X
  intro φ H locs ls h1 h2 h3 h4 h5 h6 h7 h8
  have hXx := hX.2.2.2.2.2.2.2.2.2.1
  subst hown
  have K := kk φ H locs ls h1 h2 h3 h4 h5 h6 h7 ⟨.inr (show 1000000 ≤ 1000100 + i by omega), h8.2⟩
  have e : φ (1000000 + i) = φ0 (1000000 + i) := (h1 (1000000 + i) (.inr (Nat.le_add_right _ _)))
  have e1 : φ (1000100 + i) = φ0 (1000100 + i) := (h1 (1000100 + i) (.inr (by omega)))
  have g := (hXx.1.1 i hi).2.2.1
  dsimp only at g
  rw [← e, ← e1] at g
  exact vk_getf hX.1 hX.2.1 g h5 hX.2.2.2.1 (hX.2.2.2.2.1 _ hl) (fun _ hx => hx) hd K
/-- .. coder -/
theorem hv_getKC {X : hh_CX} {cc : ByteArray} {own : String} {rm : Room} {pc : Nat} {loc : List (Nat × Value)} {st : List Value} {z k : Nat} {h : hh_T} (hX : hh_C X cc own rm) {index i : Nat} (hown : own = "java/lang/String") (hi : i < 13) (hl : Cond.fieldLink "java/lang/String" index "java/lang/String" "coder" "B" ∈ lw_all) (hd : decode cc pc = .ok (.getfield index, 3)) (kk : hh_V X (pc + 3) loc (.int 0 :: st) z k h) : hh_V X pc loc (.ref (1000000 + i) :: st) z k h := by
  obtain ⟨p, l, e, R, s, m, args, below, meth, c, G, A, φ0, n0, nL, Q⟩ := X
  intro φ H locs ls h1 h2 h3 h4 h5 h6 h7 h8
  have hXx := hX.2.2.2.2.2.2.2.2.2.1
  subst hown
  have K := kk φ H locs ls h1 h2 h3 h4 h5 h6 h7 ⟨trivial, h8.2⟩
  have e : φ (1000000 + i) = φ0 (1000000 + i) := (h1 (1000000 + i) (.inr (Nat.le_add_right _ _)))
  have g := (hXx.1.1 i hi).2.1
  dsimp only at g
  rw [← e] at g
  exact vk_getf hX.1 hX.2.1 g h5 hX.2.2.2.1 (hX.2.2.2.2.1 _ hl) (fun _ hx => hx) hd K
theorem hv_alenK {X : hh_CX} {cc : ByteArray} {own : String} {rm : Room} {pc : Nat} {loc : List (Nat × Value)} {st : List Value} {z k : Nat} {h : hh_T} (hX : hh_C X cc own rm) {i : Nat} (hi : i < 13) (hd : decode cc pc = .ok (.arraylength, 1)) (kk : hh_V X (pc + 1) loc (.int (Int32.ofNat (hh_len.getD i 0)) :: st) z k h) : hh_V X pc loc (.ref (1000100 + i) :: st) z k h := by
  obtain ⟨p, l, e, R, s, m, args, below, meth, c, G, A, φ0, n0, nL, Q⟩ := X
  intro φ H locs ls h1 h2 h3 h4 h5 h6 h7 h8
  have hXx := hX.2.2.2.2.2.2.2.2.2.1
  have K := kk φ H locs ls h1 h2 h3 h4 h5 h6 h7 ⟨trivial, h8.2⟩
  have e1 : φ (1000100 + i) = φ0 (1000100 + i) := (h1 (1000100 + i) (.inr (by omega)))
  have g := (hXx.1.1 i hi).2.2.2
  dsimp only at g
  rw [← e1] at g
  exact va_tlen hX.1 hX.2.1 g h5 rfl hd K
theorem hv_baldK {X : hh_CX} {cc : ByteArray} {own : String} {rm : Room} {pc : Nat} {loc : List (Nat × Value)} {st : List Value} {z k : Nat} {h : hh_T} (hX : hh_C X cc own rm) {i : Nat} {x : Int32} (hi : i < 13) (hin : vp_in x (hh_len.getD i 0)) (hd : decode cc pc = .ok (.baload, 1)) (kk : hh_V X (pc + 1) loc (.int ((hh_byt.getD i []).getD x.toNatClampNeg 0) :: st) z k h) : hh_V X pc loc (.int x :: .ref (1000100 + i) :: st) z k h := by
  obtain ⟨p, l, e, R, s, m, args, below, meth, c, G, A, φ0, n0, nL, Q⟩ := X
  intro φ H locs ls h1 h2 h3 h4 h5 h6 h7 h8
  have hXx := hX.2.2.2.2.2.2.2.2.2.1
  have K := kk φ H locs ls h1 h2 h3 h4 h5 h6 h7 ⟨trivial, h8.2.2⟩
  have e1 : φ (1000100 + i) = φ0 (1000100 + i) := (h1 (1000100 + i) (.inr (by omega)))
  have g := (hXx.1.1 i hi).2.2.2
  dsimp only at g
  rw [← e1] at g
  exact va_tb hX.1 hX.2.1 g h5 hin rfl hd K
/-- the static String.COMPACT_STRINGS -/
theorem hv_getsC {X : hh_CX} {cc : ByteArray} {own : String} {rm : Room} {pc : Nat} {loc : List (Nat × Value)} {st : List Value} {z k : Nat} {h : hh_T} (hX : hh_C X cc own rm) {index : Nat} (hown : own = "java/lang/String") (hl : Cond.fieldLink "java/lang/String" index "java/lang/String" "COMPACT_STRINGS" "Z" ∈ lw_all) (hd : decode cc pc = .ok (.getstatic index, 3)) (kk : hh_V X (pc + 3) loc (.int 1 :: st) z k h) : hh_V X pc loc st z k h := by
  obtain ⟨p, l, e, R, s, m, args, below, meth, c, G, A, φ0, n0, nL, Q⟩ := X
  intro φ H locs ls h1 h2 h3 h4 h5 h6 h7 h8
  have hXx := hX.2.2.2.2.2.2.2.2.2.1
  subst hown
  exact va_gets hX.1 hX.2.1 hXx.2.2.2.1 h5 hX.2.2.2.1 (hX.2.2.2.2.1 _ hl) (fun _ hx => hx) hd (kk φ H locs ls h1 h2 h3 h4 h5 h6 h7 ⟨trivial, h8⟩)
/-- the static of Preconditions: null or some object -/
theorem hv_getsF {X : hh_CX} {cc : ByteArray} {own : String} {rm : Room} {pc : Nat} {loc : List (Nat × Value)} {st : List Value} {z k : Nat} {h : hh_T} (hX : hh_C X cc own rm) {index : Nat} (hown : own = "java/lang/String") (hl : Cond.fieldLink "java/lang/String" index "jdk/internal/util/Preconditions" "SIOOBE_FORMATTER" "Ljava/util/function/BiFunction;" ∈ lw_all) (hd : decode cc pc = .ok (.getstatic index, 3)) (kk : ∀ v : Value, v = .null ∨ v = .ref 1000202 → hh_V X (pc + 3) loc (v :: st) z k h) : hh_V X pc loc st z k h := by
  obtain ⟨p, l, e, R, s, m, args, below, meth, c, G, A, φ0, n0, nL, Q⟩ := X
  intro φ H locs ls h1 h2 h3 h4 h5 h6 h7 h8
  have hXx := hX.2.2.2.2.2.2.2.2.2.1
  subst hown
  rcases hXx.2.2.2.2 with g | g
  · exact va_gets hX.1 hX.2.1 g h5 hX.2.2.2.1 (hX.2.2.2.2.1 _ hl) (fun _ hx => hx) hd (kk _ (.inl rfl) φ H locs ls h1 h2 h3 h4 h5 h6 h7 ⟨trivial, h8⟩)
  · rw [← h1 1000202 (.inr (by decide))] at g
    exact va_gets hX.1 hX.2.1 g h5 hX.2.2.2.1 (hX.2.2.2.2.1 _ hl) (fun _ hx => hx) hd (kk _ (.inr rfl) φ H locs ls h1 h2 h3 h4 h5 h6 h7 ⟨.inr (by decide), h8⟩)
/-- a method of String is called on a constant -/
theorem hv_callK {X : hh_CX} {cc : ByteArray} {own : String} {rm : Room} {pc : Nat} {loc : List (Nat × Value)} {st : List Value} {z k : Nat} {h : hh_T} (hX : hh_C X cc own rm) {y : MethodName} {cy : ByteArray} {nY idx fr lo mc ms i n : Nat} {ret : Option FieldType} {al st0 : List Value} {Qp : Option Value → hh_T → Prop} (hi : i < 13) (hd : decode cc pc = .ok (.invokevirtual idx, 3)) (hM : hh_Ct y cy nY ret fr lo (.ref (1000000 + i) :: al) h Qp mc ms) (hg : GoodIn lw_all (wsV own idx "java/lang/String" y (ws_ y cy nY ret)))
    (hn : y.cls = "java/lang/String" ∧ y.cls ≠ "java/lang/invoke/MethodHandle" ∧ y.cls ≠ "java/lang/invoke/VarHandle" ∧ (parseMethodDescriptor y.desc).map (fun d => d.parameters.length) = some al.length) (hst : st0 = al.reverse ++ .ref (1000000 + i) :: st) (hr : fr + 1 ≤ rm.frames ∧ 8 + (nY + 11) + lo ≤ rm.locals) (hz : z + mc ≤ rm.cells ∧ k + ms ≤ rm.slots) (h8w : (st.map fun v => v.category).sum ≤ 8)
    (kk : ∀ (v : Option Value) (h' : hh_T), Qp v h' → hh_V X (pc + 3) loc (v.toList ++ st) (z + mc) (k + ms) h') : hh_V X pc loc st0 z k h := by
  obtain ⟨p, l, e, R, s, m, args, below, meth, c, G, A, φ0, n0, nL, Q⟩ := X
  intro φ H locs ls h1 h2 h3 h4 h5 h6 h7 h8
  have hXx := hX.2.2.2.2.2.2.2.2.2.1
  have hRR : R = rm := hX.2.2.2.2.2.2.2.1
  subst hRR
  subst hst
  have ho := oks_append.mp h8
  have hal : oks h (.ref (1000000 + i) :: al) := ⟨ho.2.1, oks_mem.mpr fun w hw => oks_mem.mp ho.1 w (List.mem_reverse.mpr hw)⟩
  have hS := hX.2.2.2.2.2.1
  have hrecv := vk_recv hXx.1 hi h5
  have e : φ (1000000 + i) = φ0 (1000000 + i) := (h1 (1000000 + i) (.inr (Nat.le_add_right _ _)))
  rw [← e] at hrecv
  exact hh_after (va_runV (As := al.map (hh_tv φ)) (rest := st.map (hh_tv φ)) ⟨hX.1, hX.2.1, hX.2.2.1, hX.2.2.2.1, hX.2.2.2.2.1⟩ (hM l G φ H.size hX.2.2.2.2.2.2.2.2.2.2) (cwV al.length hX.2.2.2.2.1 hg rfl rfl rfl hn hr) ⟨hh_Pc.blind, hrecv, hh_start h3 h4 hal hS h1 h5 hX.2.2.2.2.2.2.1 hX.2.2.2.2.2.2.2.2.2.1⟩ rfl (by simp) h6.1 (by simp [List.map_reverse, hh_tv]) (lv_room (by rw [List.map_map]; simp only [Function.comp_def, hh_tv_cat]; exact h8w)) hd hz) h1 h2 h3 h4 h5 h6 h7 ho.2.2 hX.2.2.2.2.2.2.1 kk
