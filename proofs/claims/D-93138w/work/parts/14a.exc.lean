set_option maxRecDepth 100000
/-! EXCEPTIONS over the abstract heap: what is thrown over the frame (its class by name; its number, where it is of the world), contracts with a post for a throw -/
def hh_VT : hh_CX → Nat → List (Nat × Value) → String → Option Nat → Nat → Nat → hh_T → Prop
  | (p, l, e, R, s, m, args, below, meth, c, G, A, φ0, n0, nL, Q), pc, loc, E, r, cells, slots, h =>
    ∀ (φ : Nat → Nat) (H : Heap) (locs : List Loc) (ls : Array Slot) (rest : List Value) (q : Nat) (ce : Cell), (∀ i, i < n0 ∨ 1000000 ≤ i → φ i = φ0 i) → n0 ≤ hhN h → hh_W G φ h H → va_D A (hh_ws G.2 φ h) → va_S A s.heap H locs → lv_has ls nL (hh_tl φ loc) → okl h loc →
      H[q]? = some ce → ce.vm = .none → s.vm.findClass E = some ce.cls → (∀ x, r = some x → q = φ x ∧ x < hhN h) → vx_W p l e R s m args below meth c H locs cells slots Q (F0 m pc ls rest) q
def hh_XM (G : hh_G) (A : Nat → Prop) (φ0 : Nat → Nat) (n0 : Nat) (Xp : String → Option Nat → hh_T → Prop) : String → Addr → State → State → Prop := fun E q st t =>
  (∃ (r : Option Nat) (h' : hh_T) (φ' : Nat → Nat), Xp E r h' ∧ (∀ i, i < n0 ∨ 1000000 ≤ i → φ' i = φ0 i) ∧ n0 ≤ hhN h' ∧ hh_W G φ' h' t.heap ∧ va_D A (hh_ws G.2 φ' h') ∧ (∀ x, r = some x → q = φ' x ∧ x < hhN h')) ∧ va_F A st t
/-- the walk ends in hh_QM or in a throw of hh_XM -/
def hh_EX : hh_CX → Option FieldType → (Option Value → hh_T → Prop) → (String → Option Nat → hh_T → Prop) → Nat → Nat → Prop
  | (_, _, _, _, s, _, args, below, meth, _, G, A, φ0, n0, _, Q), ret, Qp, Xp, mc, ms => Q = vx_MQ below (hh_QM G A φ0 n0 Qp) (hh_XM G A φ0 n0 Xp) args s mc ms A ∧ meth.sig.returnType = ret
/-- the method's table of handlers -/
def hh_XT : hh_CX → List ExceptionTableEntry → Prop
  | (_, _, _, _, _, _, _, _, _, c, _, _, _, _, _, _), tab => c.exceptionTable.toList = tab
/-- a contract of a method that may throw: Xp says what, and in which heap -/
def hh_CtX (y : MethodName) (cc : ByteArray) (nL : Nat) (ret : Option FieldType) (fr lo : Nat) (al : List Value) (h : hh_T) (Qp : Option Value → hh_T → Prop) (Xp : String → Option Nat → hh_T → Prop) (mc ms : Nat) : Prop :=
  ∀ (l : Launch) (G : hh_G) (φ0 : Nat → Nat) (sz : Nat), l.stackTraces = false → vx_Met l y (ws_ y cc nL ret) ({ frames := fr, cells := mc, slots := ms, locals := lo }) (hh_Pc G φ0 sz al h) (hh_QM G (va_A (hh_ws G.2 φ0 h) sz) φ0 (hhN h) Qp) (hh_XM G (va_A (hh_ws G.2 φ0 h) sz) φ0 (hhN h) Xp) mc ms (va_A (hh_ws G.2 φ0 h) sz)
/-- a contract of a method with handlers, which lets nothing through -/
def hh_CtW (y : MethodName) (cc : ByteArray) (nL : Nat) (ret : Option FieldType) (hh : List (Nat × Nat × Nat × Nat)) (fr lo : Nat) (al : List Value) (h : hh_T) (Qp : Option Value → hh_T → Prop) (mc ms : Nat) : Prop :=
  ∀ (l : Launch) (G : hh_G) (φ0 : Nat → Nat) (sz : Nat), l.stackTraces = false → Met l y (wsW_ y cc nL ret hh) ({ frames := fr, cells := mc, slots := ms, locals := lo }) (hh_Pc G φ0 sz al h) (hh_QM G (va_A (hh_ws G.2 φ0 h) sz) φ0 (hhN h) Qp) mc ms (va_A (hh_ws G.2 φ0 h) sz)
theorem hh_okargs {h : hh_T} : ∀ (vs : List Value) (i : Nat), oks h vs → okl h (lv_args i vs) := by
  intro vs
  induction vs with
  | nil => intro i _ q hq; cases hq
  | cons v vs ih =>
    intro i ho q hq
    rcases List.mem_cons.mp hq with e1 | e1
    · rw [e1]; exact ho.1
    · exact ih _ ho.2 q e1
/-- from a walk to the contract, of a method that may throw -/
theorem hh_CtX.of {y : MethodName} {cc : ByteArray} {nL : Nat} {ret : Option FieldType} {fr lo : Nat} {al : List Value} {h : hh_T} {Qp : Option Value → hh_T → Prop} {Xp : String → Option Nat → hh_T → Prop} {mc ms : Nat} {own : String} (hown : y.cls = own) (hy : plainName y.cls = true) (hn : (lg_sl al).length ≤ nL)
    (kk : ∀ X : hh_CX, hh_C X cc own ({ frames := fr, cells := mc, slots := ms, locals := lo }) → hh_nL X = nL → hh_EX X ret Qp Xp mc ms → hh_XT X [] → hh_V X 0 (lv_args 0 al) [] 0 0 h) : hh_CtX y cc nL ret fr lo al h Qp Xp mc ms := by
  intro l G φ0 sz hlt
  refine vx_ofW (cc := cc) (maxL := nL) (ret := ret) hy rfl ?_
  intro p e s m args below meth c s₁ B hml htab hv
  obtain ⟨rfl, hsz, hW, hD0, hok, hS, hXx⟩ := hv
  have hts := atoms_spec (ws := ws_ y cc nL ret) B.pre
  have hts : ∀ w ∈ lw_all, w.before _ s = true := fun w h => hts w (List.mem_cons_of_mem _ h)
  subst hsz
  have hfc : s.vm.findClass own = some m.cls := by rw [← hown]; exact findClass_of_methodNamed B.named
  have htb : c.exceptionTable.toList = [] := by
    cases hh : c.exceptionTable.toList with
    | nil => rfl
    | cons x r => exact (htab x (by rw [hh]; exact List.mem_cons_self)).elim
  have K := kk (p, l, e, _, s, m, _, below, meth, c, G, va_A (hh_ws G.2 φ0 h) s.heap.size, φ0, hhN h, nL, _) ⟨B.exec, B.bytes, hml, hfc, hts, hS, fun q hq => Or.inr hq, rfl, B.notSynchronized, hXx, hlt⟩ rfl ⟨rfl, B.returns⟩ htb
  have hl := lv_entry (al.map (hh_tv φ0)) (n := nL) (by rw [hh_sl_len]; exact hn)
  rw [lg_entry_eq]
  refine K φ0 s.heap [] _ (fun _ _ => rfl) (Nat.le_refl _) hW hD0.self va_S.rf ?_ (hh_okargs al 0 hok) trivial
  rw [hh_args_tl] at hl
  exact hl
theorem Met.ofWH {l : Launch} {y : MethodName} {ws ws' : List Cond} {rm : Room} {Pc : Array Value → State → Prop} {Qc : Array Value → State → Outcome → State → Prop} {mc ms : Nat} {free : Addr → Prop} {cc : ByteArray} {maxL : Nat} {ret : Option FieldType} {hh : List (Nat × Nat × Nat × Nat)}
    (hy : plainName y.cls = true) (hw : ws = Cond.codeWith y cc maxL ret hh :: ws')
    (body : ∀ p e s m args below meth c s₁, BodyLoose p l y (headSpec ws rm) cc maxL ret e s m args below meth c s₁ → c.maxLocals = maxL → Pc args s →
      W p l e (headSpec ws rm).room s m args below meth c s.heap [] 0 0 (MQ below Qc args s mc ms free) (entryFrame m args maxL)) : Met l y ws rm Pc Qc mc ms free := by
  refine MetFree.of_bodyS (code := cc) (maxLocals := maxL) (ret := ret) hy ?_ ?_
  · intro args s m h hn
    obtain ⟨m9, meth, c, hn9, h1, h2, h3, h4, -, h5, h6, -⟩ := Cond.codeWith_spec (atoms_spec (ws := ws) h _ (by rw [hw]; exact List.mem_cons_self))
    cases hn.symm.trans hn9
    exact ⟨meth, c, h1, h2, h3, h4, h5, h6⟩
  · intro p e s m args below meth c s₁ B hml hP _
    have hh0 : s₁.heap = s.heap := by rw [B.state]; rfl
    obtain ⟨t, a1, o, b1, b2, b3⟩ := body p e s m args below meth c s₁ B hml hP s₁ hh0 (Stand.of_body B)
    exact ⟨t, o, a1, b1, b2, b3⟩
/-- from a walk to the contract, of a method with handlers -/
theorem hh_CtW.of {y : MethodName} {cc : ByteArray} {nL : Nat} {ret : Option FieldType} {hh : List (Nat × Nat × Nat × Nat)} {fr lo : Nat} {al : List Value} {h : hh_T} {Qp : Option Value → hh_T → Prop} {mc ms : Nat} {own : String} (hown : y.cls = own) (hy : plainName y.cls = true) (hn : (lg_sl al).length ≤ nL)
    (kk : ∀ X : hh_CX, hh_C X cc own ({ frames := fr, cells := mc, slots := ms, locals := lo }) → hh_nL X = nL → hh_E X ret Qp mc ms → hh_XT X (tableOf hh) → hh_V X 0 (lv_args 0 al) [] 0 0 h) : hh_CtW y cc nL ret hh fr lo al h Qp mc ms := by
  intro l G φ0 sz hlt
  refine Met.ofWH (cc := cc) (maxL := nL) (ret := ret) (hh := hh) hy rfl ?_
  intro p e s m args below meth c s₁ B hml hv
  obtain ⟨rfl, hsz, hW, hD0, hok, hS, hXx⟩ := hv
  have hts0 := atoms_spec (ws := wsW_ y cc nL ret hh) B.pre
  have hts : ∀ w ∈ lw_all, w.before _ s = true := fun w h => hts0 w (List.mem_cons_of_mem _ h)
  have htb := vx_table (x := y) B (hts0 _ List.mem_cons_self)
  subst hsz
  have hfc : s.vm.findClass own = some m.cls := by rw [← hown]; exact findClass_of_methodNamed B.named
  have K := kk (p, l, e, _, s, m, _, below, meth, c, G, va_A (hh_ws G.2 φ0 h) s.heap.size, φ0, hhN h, nL, _) ⟨B.exec, B.bytes, hml, hfc, hts, hS, fun q hq => Or.inr hq, rfl, B.notSynchronized, hXx, hlt⟩ rfl ⟨rfl, B.returns⟩ htb
  have hl := lv_entry (al.map (hh_tv φ0)) (n := nL) (by rw [hh_sl_len]; exact hn)
  rw [lg_entry_eq]
  refine K φ0 s.heap [] _ (fun _ _ => rfl) (Nat.le_refl _) hW hD0.self va_S.rf ?_ (hh_okargs al 0 hok) trivial
  rw [hh_args_tl] at hl
  exact hl
theorem hh_C_Q {p : Program} {l : Launch} {e : Env} {R : Room} {s : State} {m : MethodId} {args : Array Value} {below : List Frame} {meth : Method} {c : Code} {G : hh_G} {A : Nat → Prop} {φ0 : Nat → Nat} {n0 nL : Nat} {Q Q' : State → Prop} {cc : ByteArray} {own : String} {rm : Room} (h : hh_C (p, l, e, R, s, m, args, below, meth, c, G, A, φ0, n0, nL, Q) cc own rm) : hh_C (p, l, e, R, s, m, args, below, meth, c, G, A, φ0, n0, nL, Q') cc own rm := h
/-- a method that may throw returns here -/
theorem hv_xret {X : hh_CX} {cc : ByteArray} {own : String} {rm : Room} {pc : Nat} {loc : List (Nat × Value)} {st : List Value} {z k mc ms : Nat} {h : hh_T} {ret : Option FieldType} {Qp : Option Value → hh_T → Prop} {Xp : String → Option Nat → hh_T → Prop} (hX : hh_C X cc own rm) (hE : hh_EX X ret Qp Xp mc ms)
    (kk : ∀ X' : hh_CX, hh_C X' cc own rm → hh_E X' ret Qp mc ms → hh_V X' pc loc st z k h) : hh_V X pc loc st z k h := by
  obtain ⟨p, l, e, R, s, m, args, below, meth, c, G, A, φ0, n0, nL, Q⟩ := X
  intro φ H locs ls h1 h2 h3 h4 h5 h6 h7 h8
  obtain ⟨hQ, hr⟩ := hE
  have K := kk (p, l, e, R, s, m, args, below, meth, c, G, A, φ0, n0, nL, MQ below (hh_QM G A φ0 n0 Qp) args s mc ms A) (hh_C_Q hX) ⟨rfl, hr⟩ φ H locs ls h1 h2 h3 h4 h5 h6 h7 h8
  rw [hQ]
  exact vx_ret K
theorem ht_widen {X : hh_CX} {pc : Nat} {loc : List (Nat × Value)} {E : String} {r : Option Nat} {z k z' k' : Nat} {h : hh_T} (h1 : z ≤ z') (h2 : k ≤ k') (kk : hh_VT X pc loc E r z' k' h) : hh_VT X pc loc E r z k h := by
  obtain ⟨p, l, e, R, s, m, args, below, meth, c, G, A, φ0, n0, nL, Q⟩ := X
  intro φ H locs ls rest q ce g1 g2 g3 g4 g5 g6 g7 g8 g9 g10 g11
  exact vx_widen h1 h2 (kk φ H locs ls rest q ce g1 g2 g3 g4 g5 g6 g7 g8 g9 g10 g11)
/-- not caught here: there's no table -/
theorem ht_out {X : hh_CX} {cc : ByteArray} {own : String} {rm : Room} {pc : Nat} {loc : List (Nat × Value)} {E : String} {r : Option Nat} {z k mc ms : Nat} {h : hh_T} {ret : Option FieldType} {Qp : Option Value → hh_T → Prop} {Xp : String → Option Nat → hh_T → Prop} (hX : hh_C X cc own rm) (hE : hh_EX X ret Qp Xp mc ms) (hT : hh_XT X []) (hx : Xp E r h) (hz : z ≤ mc ∧ k ≤ ms) : hh_VT X pc loc E r z k h := by
  obtain ⟨p, l, e, R, s, m, args, below, meth, c, G, A, φ0, n0, nL, Q⟩ := X
  intro φ H locs ls rest q ce g1 g2 g3 g4 g5 g6 g7 g8 g9 g10 g11
  obtain ⟨rfl, hr⟩ := hE
  have hT : c.exceptionTable.toList = [] := hT
  refine vx_out (fun x hx => ?_) hX.2.2.2.2.2.2.2.2.1 g8 g9 g10 (fun t ht hW => ⟨⟨r, h, φ, hx, g1, g2, by rw [ht]; exact g3, g4, g11⟩, g5.F ht⟩) g5.2.2 hz.1 hz.2
  rw [hT] at hx
  cases hx
/-- which row of a table takes a throw of E at pc: the rows ahead don't -/
def ht_takes (own E : String) (pc : Nat) (tab : List ExceptionTableEntry) (x : ExceptionTableEntry) : Prop := ∃ pre suf : List ExceptionTableEntry, tab = pre ++ x :: suf ∧ (∀ z ∈ pre, covers z pc = false ∨ (z.catchType ≠ 0 ∧ ∃ nm : String, Cond.classLink own z.catchType nm ∈ lw_all ∧ (E, nm) ∈ hh_ncs)) ∧ covers x pc = true ∧ x.catchType ≠ 0 ∧ ∃ name : String, Cond.classLink own x.catchType name ∈ lw_all ∧ Cond.castable E name ∈ hh_nw
/-- caught: the handler keeps the thrown object -/
theorem ht_catch {X : hh_CX} {cc : ByteArray} {own : String} {rm : Room} {pc : Nat} {loc : List (Nat × Value)} {E : String} {r : Nat} {z k : Nat} {h : hh_T} {tab : List ExceptionTableEntry} (hX : hh_C X cc own rm) (hT : hh_XT X tab) (x : ExceptionTableEntry) (ht : ht_takes own E pc tab x)
    (kk : hh_V X x.handlerPc loc [.ref r] z k h) : hh_VT X pc loc E (some r) z k h := by
  obtain ⟨p, l, e, R, s, m, args, below, meth, c, G, A, φ0, n0, nL, Q⟩ := X
  intro φ H locs ls rest q ce g1 g2 g3 g4 g5 g6 g7 g8 g9 g10 g11
  obtain ⟨pre, suf, hsp, hpre, hcov, h0, name, hl, hcast⟩ := ht
  obtain ⟨rfl, hlt⟩ := g11 r rfl
  have hT : c.exceptionTable.toList = tab := hT
  have hcast2 : (Cond.castable E name).before args s = true := va_Nw.use rfl (hX.2.2.2.2.2.1.2.1 _ hcast)
  exact vx_catch hX.2.2.2.1 pre x suf (hT.trans hsp) (fun z hz => (hpre z hz).imp id fun ⟨a1, nm, a2, a3⟩ => ⟨a1, nm, hX.2.2.2.2.1 _ a2, hX.2.2.2.2.2.1.2.2.2.2.1 _ a3⟩) hcov h0 (hX.2.2.2.2.1 _ hl) hcast2 g8 g9 g10 (kk φ H locs ls g1 g2 g3 g4 g5 g6 g7 ⟨Or.inl hlt, trivial⟩)
/-- caught: the handler's first instruction stores the thrown object, nobody reads it -/
theorem ht_catch0 {X : hh_CX} {cc : ByteArray} {own : String} {rm : Room} {pc : Nat} {loc loc2 : List (Nat × Value)} {E : String} {r : Option Nat} {z k i nL' w : Nat} {h : hh_T} {tab : List ExceptionTableEntry} (hX : hh_C X cc own rm) (hn : hh_nL X = nL') (hT : hh_XT X tab) (x : ExceptionTableEntry) (ht : ht_takes own E pc tab x)
    (hd : (∃ f : Fin 4, decode cc x.handlerPc = .ok (.astore_n f, w) ∧ (f : Nat) = i ∧ w = 1) ∨ (decode cc x.handlerPc = .ok (.astore i, w) ∧ w = 2)) (hi : i < nL') (hloc : loc.filter (fun q => !(q.1 == i) && !(q.1 + 1 == i && q.2.category == 2)) = loc2)
    (kk : hh_V X (x.handlerPc + w) loc2 [] z k h) : hh_VT X pc loc E r z k h := by
  obtain ⟨p, l, e, R, s, m, args, below, meth, c, G, A, φ0, n0, nL, Q⟩ := X
  intro φ H locs ls rest q ce g1 g2 g3 g4 g5 g6 g7 g8 g9 g10 g11
  obtain ⟨pre, suf, hsp, hpre, hcov, h0, name, hl, hcast⟩ := ht
  have hn : nL = nL' := hn
  subst hn
  have hT : c.exceptionTable.toList = tab := hT
  have hcast2 : (Cond.castable E name).before args s = true := va_Nw.use rfl (hX.2.2.2.2.2.1.2.1 _ hcast)
  refine vx_catch hX.2.2.2.1 pre x suf (hT.trans hsp) (fun z hz => (hpre z hz).imp id fun ⟨a1, nm, a2, a3⟩ => ⟨a1, nm, hX.2.2.2.2.1 _ a2, hX.2.2.2.2.2.1.2.2.2.2.1 _ a3⟩) hcov h0 (hX.2.2.2.2.1 _ hl) hcast2 g8 g9 g10 ?_
  have hloc' : (hh_tl φ loc).filter (fun q => !(q.1 == i) && !(q.1 + 1 == i && q.2.category == 2)) = hh_tl φ loc2 := by
    rw [← hloc]
    simp [hh_tl, List.filter_map, Function.comp_def, hh_tv_cat]
  have ok2 : okl h loc2 := by
    rw [← hloc]
    exact fun q hq => g7 q (List.mem_filter.mp hq).1
  have key : ∀ ls' : Array Slot, lv_has ls' nL ((i, Value.ref q) :: hh_tl φ loc2) → W p l e R s m args below meth c H locs z k Q (F0 m (x.handlerPc + w) ls' []) := by
    intro ls' hl'
    refine kk φ H locs ls' g1 g2 g3 g4 g5 (lv_sub hl' ((List.range (hh_tl φ loc2).length).map (· + 1)) ?_) ok2 trivial
    generalize hh_tl φ loc2 = l2
    show ((List.range l2.length).map (· + 1)).filterMap (fun j => ((i, Value.ref q) :: l2)[j]?) = l2
    rw [List.filterMap_map]
    have : ((fun j => ((i, Value.ref q) :: l2)[j]?) ∘ fun x => x + 1) = fun j => l2[j]? := by funext j; simp
    rw [this]
    clear this
    induction l2 with
    | nil => rfl
    | cons a t ih =>
      rw [List.length_cons, List.range_succ_eq_map, List.filterMap_cons]
      simp only [List.getElem?_cons_zero, List.filterMap_map]
      congr 1
  rcases hd with ⟨f, hd, hf, rfl⟩ | ⟨hd, rfl⟩
  · exact lv_astore_n hX.1 hX.2.1 hd hf g6 hi (by rw [hloc']) key
  · exact lv_astore hX.1 hX.2.1 hd g6 hi (by rw [hloc']) key
/-- 'throw' of an object of the world -/
theorem hv_athrow {X : hh_CX} {cc : ByteArray} {own : String} {rm : Room} {pc : Nat} {loc : List (Nat × Value)} {st : List Value} {z k r ci : Nat} {h : hh_T} {q : vw_C} (hX : hh_C X cc own rm) (hci : hh_cl[ci]? = some q) (hc1 : ci < 100) (hrr : r < hhN h) (hK : hhK h r = ci) (hd : decode cc pc = .ok (.athrow, 1))
    (kk : hh_VT X pc loc q.1 (some r) z k h) : hh_V X pc loc (.ref r :: st) z k h := by
  obtain ⟨p, l, e, R, s, m, args, below, meth, c, G, A, φ0, n0, nL, Q⟩ := X
  intro φ H locs ls h1 h2 h3 h4 h5 h6 h7 h8
  have hw := h3.1 r (φ r, .inr (ci, hh_fs φ h r ci)) (by rw [hh_ws_at hrr, hh_cell_o hK hc1])
  obtain ⟨r9, hr9, ce, hce, hcl, hvm, -⟩ := hw
  cases hci.symm.trans hr9
  have hcls := (hX.2.2.2.2.2.1.1.1 ci q hci)
  obtain ⟨cell, g1, g2, g3⟩ := va_recv hX.2.2.2.2.2.1.1 h3.1 (q0 := r) hci (by rw [hh_ws_at hrr, hh_cell_o hK hc1])
  cases hce.symm.trans g1
  exact vx_athrow hX.1 hX.2.1 hd (kk φ H locs ls (st.map (hh_tv φ)) (φ r) ce h1 h2 h3 h4 h5 h6 h7 g1 hvm g3 (fun x hx => by cases hx; exact ⟨rfl, hrr⟩))
/-- behind a call that may throw -/
theorem hh_afterX {p : Program} {l : Launch} {e : Env} {R : Room} {s : State} {m : MethodId} {args : Array Value} {below : List Frame} {meth : Method} {c : Code} {G : hh_G} {A : Nat → Prop} {φ0 : Nat → Nat} {n0 nL : Nat} {Q : State → Prop} {φ : Nat → Nat} {H : Heap} {locs : List Loc} {ls : Array Slot} {loc : List (Nat × Value)} {st st0 : List Value} {z k mc ms pc : Nat} {h : hh_T} {Qp : Option Value → hh_T → Prop} {Xp : String → Option Nat → hh_T → Prop} {a : Array Value}
    (hr : vx_Run p l e R s m args below meth c H locs z k mc ms (F0 m pc ls st0) (st.map (hh_tv φ)) (hh_QM G (va_A (hh_ws G.2 φ h) H.size) φ (hhN h) Qp a) (hh_XM G (va_A (hh_ws G.2 φ h) H.size) φ (hhN h) Xp) (va_A (hh_ws G.2 φ h) H.size)) (h1 : ∀ i, i < n0 ∨ 1000000 ≤ i → φ i = φ0 i) (h2 : n0 ≤ hhN h) (h3 : hh_W G φ h H) (h4 : va_D A (hh_ws G.2 φ h)) (h5 : va_S A s.heap H locs) (h6 : lv_has ls nL (hh_tl φ loc)) (h7 : okl h loc) (h8 : oks h st) (hA : ∀ q, s.heap.size ≤ q → A q)
    (kx : ∀ (E : String) (r : Option Nat) (h' : hh_T), Xp E r h' → hh_VT (p, l, e, R, s, m, args, below, meth, c, G, A, φ0, n0, nL, Q) pc loc E r (z + mc) (k + ms) h')
    (kk : ∀ (v : Option Value) (h' : hh_T), Qp v h' → hh_V (p, l, e, R, s, m, args, below, meth, c, G, A, φ0, n0, nL, Q) (pc + 3) loc (v.toList ++ st) (z + mc) (k + ms) h') :
    W p l e R s m args below meth c H locs z k Q (F0 m pc ls st0) := by
  intro T hT X
  have hfree : ∀ q, va_A (hh_ws G.2 φ h) H.size q → A q := by
    intro q hq
    rcases hq with ⟨j, w, hj⟩ | hq
    · exact h4.2 j (q, w) hj
    · exact hA q (Nat.le_trans h5.1 hq)
  rcases hr T hT X with ⟨v, st₀, t, T', L, e0, X', hL, e1, e2, ⟨⟨v', h', φ', ev, hQ, hφ, hn, hW, hD, hok⟩, hz, hk⟩, stp⟩ | ⟨q9, st₀, t, T', L, E, ce, e0, X', hL, e1, e2, ⟨⟨r', h', φ', hQ, hφ, hn, hW, hD, hrr⟩, hz, hk⟩, hce, hcv, hcl, stp⟩
  · have ev := Outcome.returned.inj ev
    rw [e0] at hz hk
    have eφ : ∀ w : Value, okv h w → hh_tv φ' w = hh_tv φ w := by
      intro w hw
      cases w with
      | ref r => exact congrArg Value.ref (hφ r hw)
      | _ => rfl
    have est : st.map (hh_tv φ') = st.map (hh_tv φ) := List.map_congr_left fun w hw => eφ w (oks_mem.mp h8 w hw)
    have eloc : hh_tl φ' loc = hh_tl φ loc := List.map_congr_left fun w hw => by rw [eφ w.2 (h7 w hw)]
    have hD' : va_D A (hh_ws G.2 φ' h') := hD.weaken fun _ _ _ q => hfree _ q
    have hS' : va_S A s.heap T'.heap (locs ++ L) := ⟨Nat.le_trans h5.1 (by rw [e1]; exact hz), fun q g1 g2 => by rw [e1, hk q (Nat.lt_of_lt_of_le g1 h5.1) (fun y => g2 (hfree q y))]; exact h5.2.1 q g1 g2, fun q hq => by
      rcases List.mem_append.mp hq with y | y
      · exact h5.2.2 q y
      · exact hfree _ (hL q y)⟩
    have hok2 : oks h' (v'.toList ++ st) := by
      refine oks_append.mpr ⟨?_, oks_mono hn h8⟩
      cases v' with
      | none => trivial
      | some w => exact ⟨hok w rfl, trivial⟩
    have K := kk v' h' hQ φ' T'.heap (locs ++ L) ls (fun i hi => by
      rcases hi with y | y
      · rw [hφ i (Or.inl (Nat.lt_of_lt_of_le y h2)), h1 i (Or.inl y)]
      · rw [hφ i (Or.inr y), h1 i (Or.inr y)]) (Nat.le_trans h2 hn) (by rw [e1]; exact hW) hD' hS' (by rw [eloc]; exact h6) (okl_mono hn h7) hok2 T' rfl X'
    obtain ⟨t2, a1, b1⟩ := K
    refine ⟨t2, stp t2 ?_, b1⟩
    have e9 : v.toList ++ st.map (hh_tv φ) = (v'.toList ++ st).map (hh_tv φ') := by
      rw [List.map_append, est, ev]
      cases v' <;> rfl
    show Steps p.tables e below (T'.setTop { F0 m pc ls st0 with pc := pc + 3, stack := v.toList ++ st.map (hh_tv φ) }) t2
    rw [e9]
    exact a1
  · rw [e0] at hz hk
    have eφ : ∀ w : Value, okv h w → hh_tv φ' w = hh_tv φ w := by
      intro w hw
      cases w with
      | ref r => exact congrArg Value.ref (hφ r hw)
      | _ => rfl
    have eloc : hh_tl φ' loc = hh_tl φ loc := List.map_congr_left fun w hw => by rw [eφ w.2 (h7 w hw)]
    have hD' : va_D A (hh_ws G.2 φ' h') := hD.weaken fun _ _ _ q => hfree _ q
    have hS' : va_S A s.heap T'.heap (locs ++ L) := ⟨Nat.le_trans h5.1 (by rw [e1]; exact hz), fun q g1 g2 => by rw [e1, hk q (Nat.lt_of_lt_of_le g1 h5.1) (fun y => g2 (hfree q y))]; exact h5.2.1 q g1 g2, fun q hq => by
      rcases List.mem_append.mp hq with y | y
      · exact h5.2.2 q y
      · exact hfree _ (hL q y)⟩
    have K := kx E r' h' hQ φ' T'.heap (locs ++ L) ls (st.map (hh_tv φ)) q9 ce (fun i hi => by
      rcases hi with y | y
      · rw [hφ i (Or.inl (Nat.lt_of_lt_of_le y h2)), h1 i (Or.inl y)]
      · rw [hφ i (Or.inr y), h1 i (Or.inr y)]) (Nat.le_trans h2 hn) (by rw [e1]; exact hW) hD' hS' (by rw [eloc]; exact h6) (okl_mono hn h7) (by rw [e1]; exact hce) hcv hcl hrr T' rfl X'
    obtain ⟨t2, a1, b1⟩ := K
    exact ⟨t2, stp.trans a1, b1⟩
/-- a static method is called that may throw -/
theorem hv_callSX {X : hh_CX} {cc : ByteArray} {own : String} {rm : Room} {pc : Nat} {loc : List (Nat × Value)} {st : List Value} {z k : Nat} {h : hh_T} (hX : hh_C X cc own rm) {y : MethodName} {cy : ByteArray} {nY idx fr lo mc ms : Nat} {ret : Option FieldType} {al st0 : List Value} {Qp : Option Value → hh_T → Prop} {Xp : String → Option Nat → hh_T → Prop} (hd : decode cc pc = .ok (.invokestatic idx, 3)) (hM : hh_CtX y cy nY ret fr lo al h Qp Xp mc ms) (hg : GoodIn lw_all (va_wsS own idx y (ws_ y cy nY ret)))
    (hn : y.cls ≠ "java/lang/invoke/MethodHandle" ∧ y.cls ≠ "java/lang/invoke/VarHandle" ∧ (parseMethodDescriptor y.desc).map (fun d => d.parameters.length) = some al.length) (hst : st0 = al.reverse ++ st) (hr : fr + 1 ≤ rm.frames ∧ 8 + (nY + 11) + lo ≤ rm.locals) (hz : z + mc ≤ rm.cells ∧ k + ms ≤ rm.slots) (h8w : (st.map fun v => v.category).sum ≤ 8)
    (kx : ∀ (E : String) (r : Option Nat) (h' : hh_T), Xp E r h' → hh_VT X pc loc E r (z + mc) (k + ms) h')
    (kk : ∀ (v : Option Value) (h' : hh_T), Qp v h' → hh_V X (pc + 3) loc (v.toList ++ st) (z + mc) (k + ms) h') : hh_V X pc loc st0 z k h := by
  obtain ⟨p, l, e, R, s, m, args, below, meth, c, G, A, φ0, n0, nL, Q⟩ := X
  intro φ H locs ls h1 h2 h3 h4 h5 h6 h7 h8
  have hRR : R = rm := hX.2.2.2.2.2.2.2.1
  subst hRR
  subst hst
  have ho := oks_append.mp h8
  have hal : oks h al := oks_mem.mpr fun w hw => oks_mem.mp ho.1 w (List.mem_reverse.mpr hw)
  exact hh_afterX (vx_runS (As := al.map (hh_tv φ)) (rest := st.map (hh_tv φ)) ⟨hX.1, hX.2.1, hX.2.2.1, hX.2.2.2.1, hX.2.2.2.2.1⟩ (hM l G φ H.size hX.2.2.2.2.2.2.2.2.2.2) (va_cwS al.length hX.2.2.2.2.1 hg rfl rfl rfl hn hr) ⟨hh_Pc.blind, hh_start h3 h4 hal hX.2.2.2.2.2.1 h1 h5 hX.2.2.2.2.2.2.1 hX.2.2.2.2.2.2.2.2.2.1⟩ rfl (by simp) h6.1 (by simp [List.map_reverse]) (lv_room (by rw [List.map_map]; simp only [Function.comp_def, hh_tv_cat]; exact h8w)) hd hz) h1 h2 h3 h4 h5 h6 h7 ho.2 hX.2.2.2.2.2.2.1 kx kk
/-- a method that may throw is called on an object of its own class -/
theorem hv_callVX {X : hh_CX} {cc : ByteArray} {own : String} {rm : Room} {pc : Nat} {loc : List (Nat × Value)} {st : List Value} {z k : Nat} {h : hh_T} (hX : hh_C X cc own rm) {y : MethodName} {cy : ByteArray} {nY idx fr lo mc ms r ci : Nat} {ret : Option FieldType} {al st0 : List Value} {Qp : Option Value → hh_T → Prop} {Xp : String → Option Nat → hh_T → Prop} {q : vw_C} (hd : decode cc pc = .ok (.invokevirtual idx, 3)) (hM : hh_CtX y cy nY ret fr lo (.ref r :: al) h Qp Xp mc ms) (hg : GoodIn lw_all (wsV own idx q.1 y (ws_ y cy nY ret))) (hci : hh_cl[ci]? = some q) (hc1 : ci < 100)
    (hn : y.cls = q.1 ∧ y.cls ≠ "java/lang/invoke/MethodHandle" ∧ y.cls ≠ "java/lang/invoke/VarHandle" ∧ (parseMethodDescriptor y.desc).map (fun d => d.parameters.length) = some al.length) (hrr : r < hhN h) (hK : hhK h r = ci) (hst : st0 = al.reverse ++ .ref r :: st) (hr : fr + 1 ≤ rm.frames ∧ 8 + (nY + 11) + lo ≤ rm.locals) (hz : z + mc ≤ rm.cells ∧ k + ms ≤ rm.slots) (h8w : (st.map fun v => v.category).sum ≤ 8)
    (kx : ∀ (E : String) (r : Option Nat) (h' : hh_T), Xp E r h' → hh_VT X pc loc E r (z + mc) (k + ms) h')
    (kk : ∀ (v : Option Value) (h' : hh_T), Qp v h' → hh_V X (pc + 3) loc (v.toList ++ st) (z + mc) (k + ms) h') : hh_V X pc loc st0 z k h := by
  obtain ⟨p, l, e, R, s, m, args, below, meth, c, G, A, φ0, n0, nL, Q⟩ := X
  intro φ H locs ls h1 h2 h3 h4 h5 h6 h7 h8
  have hRR : R = rm := hX.2.2.2.2.2.2.2.1
  subst hRR
  subst hst
  have ho := oks_append.mp h8
  have hal : oks h (.ref r :: al) := ⟨ho.2.1, oks_mem.mpr fun w hw => oks_mem.mp ho.1 w (List.mem_reverse.mpr hw)⟩
  have hS := hX.2.2.2.2.2.1
  exact hh_afterX (vx_runV (As := al.map (hh_tv φ)) (rest := st.map (hh_tv φ)) ⟨hX.1, hX.2.1, hX.2.2.1, hX.2.2.2.1, hX.2.2.2.2.1⟩ (hM l G φ H.size hX.2.2.2.2.2.2.2.2.2.2) (cwV al.length hX.2.2.2.2.1 hg rfl rfl rfl hn hr) ⟨hh_Pc.blind, va_recv hS.1 h3.1 (q0 := r) hci (by rw [hh_ws_at hrr, hh_cell_o hK hc1]), hh_start h3 h4 hal hS h1 h5 hX.2.2.2.2.2.2.1 hX.2.2.2.2.2.2.2.2.2.1⟩ rfl (by simp) h6.1 (by simp [List.map_reverse, hh_tv]) (lv_room (by rw [List.map_map]; simp only [Function.comp_def, hh_tv_cat]; exact h8w)) hd hz) h1 h2 h3 h4 h5 h6 h7 ho.2.2 hX.2.2.2.2.2.2.1 kx kk
/-! what the machine throws by itself -/
abbrev ht_up : List String := ["java/lang/RuntimeException", "java/lang/Exception"]
theorem ht_words {ws : List Cond} (ps : List Nat) (hp : ws = ps.filterMap (fun i => lw_tbl[i]?)) (hg : ws.all (fun w => goodWord w || hh_nwk w) = true) : ∀ w ∈ ws, w ∈ lw_tbl ∧ (goodWord w = true ∨ hh_nwk w = true) := by
  intro w h
  have h1 := List.all_eq_true.mp hg w h
  rw [hp] at h
  obtain ⟨i, -, hi⟩ := List.mem_filterMap.mp h
  exact ⟨List.mem_of_getElem? hi, by simpa using h1⟩
theorem ht_wCCE : ∀ w ∈ vx_atM "java/lang/ClassCastException" ht_up, w ∈ lw_tbl ∧ (goodWord w = true ∨ hh_nwk w = true) := ht_words [114, 404, 413, 420, 423, 425, 405, 406, 153, 154, 407, 412, 421, 442, 394, 443, 396, 444, 398, 408, 410, 400, 857, 858, 441, 400, 848, 849, 850, 851, 386, 851, 852, 853, 854, 388, 854, 855, 856, 857, 390, 125, 868, 455, 869, 871, 870, 872, 124, 847, 866, 867, 418, 861, 862, 864, 860, 403, 402, 859] (by rfl) (by decide +kernel)
theorem ht_gCCE : ∀ w ∈ vx_atM "java/lang/ClassCastException" ht_up, vx_ot w = true := by decide +kernel
theorem ht_wAE : ∀ w ∈ vx_atM "java/lang/ArithmeticException" ht_up, w ∈ lw_tbl ∧ (goodWord w = true ∨ hh_nwk w = true) := ht_words [114, 404, 413, 420, 423, 425, 405, 406, 153, 154, 407, 412, 421, 442, 394, 443, 396, 444, 398, 408, 410, 400, 857, 858, 441, 400, 1484, 1485, 1486, 851, 386, 851, 852, 853, 854, 388, 854, 855, 856, 857, 390, 125, 868, 455, 869, 871, 870, 872, 146, 1483, 1494, 1495, 417, 1489, 1490, 1492, 1488, 403, 402, 1487] (by rfl) (by decide +kernel)
theorem ht_gAE : ∀ w ∈ vx_atM "java/lang/ArithmeticException" ht_up, vx_ot w = true := by decide +kernel
theorem ht_wNA : ∀ w ∈ vx_atM "java/lang/NegativeArraySizeException" ht_up, w ∈ lw_tbl ∧ (goodWord w = true ∨ hh_nwk w = true) := ht_words [114, 404, 413, 420, 423, 425, 405, 406, 153, 154, 407, 412, 421, 442, 394, 443, 396, 444, 398, 408, 410, 400, 857, 858, 441, 400, 1244, 1245, 1246, 851, 386, 851, 852, 853, 854, 388, 854, 855, 856, 857, 390, 125, 868, 455, 869, 871, 870, 872, 138, 1243, 1254, 1255, 419, 1249, 1250, 1252, 1248, 403, 402, 1247] (by rfl) (by decide +kernel)
theorem ht_gNA : ∀ w ∈ vx_atM "java/lang/NegativeArraySizeException" ht_up, vx_ot w = true := by decide +kernel
/-- a class that the machine throws by itself -/
def ht_E (E : String) : Prop := E = "java/lang/ClassCastException" ∨ E = "java/lang/ArithmeticException" ∨ E = "java/lang/NegativeArraySizeException"
theorem ht_E.words {E : String} (h : ht_E E) : (∀ w ∈ vx_atM E ht_up, w ∈ lw_tbl ∧ (goodWord w = true ∨ hh_nwk w = true)) ∧ (∀ w ∈ vx_atM E ht_up, vx_ot w = true) ∧ Bundle.fit E = true ∧ (E == "java/lang/StackOverflowError") = false ∧ (E == "java/lang/OutOfMemoryError") = false := by
  rcases h with rfl | rfl | rfl
  · exact ⟨ht_wCCE, ht_gCCE, by decide +kernel, by decide, by decide⟩
  · exact ⟨ht_wAE, ht_gAE, by decide +kernel, by decide, by decide⟩
  · exact ⟨ht_wNA, ht_gNA, by decide +kernel, by decide, by decide⟩
theorem ht_zq {φ : Nat → Nat} {A : Nat → Prop} {U : State} {H : Heap} (h : hh_X φ A U H) {q : Nat × String × String} (hq : q ∈ hh_st2s) : vx_Zq "java/lang/Throwable" q.2.1 q.2.2 A U H := ⟨(h.2.2.1 q hq).1.imp id fun g => ⟨_, g⟩, (h.2.2.1 q hq).2⟩
/-- from the machine's note that E is thrown here with this text -/
theorem ht_note {p : Program} {l : Launch} {e : Env} {R : Room} {s : State} {m : MethodId} {args : Array Value} {below : List Frame} {meth : Method} {c : Code} {G : hh_G} {A : Nat → Prop} {φ0 : Nat → Nat} {n0 nL : Nat} {Q : State → Prop} {cc : ByteArray} {own : String} {rm : Room} {φ : Nat → Nat} {H : Heap} {locs : List Loc} {ls : Array Slot} {loc : List (Nat × Value)} {rest : List Value} {z k pc nb : Nat} {h : hh_T} {E text : String}
    (hX : hh_C (p, l, e, R, s, m, args, below, meth, c, G, A, φ0, n0, nL, Q) cc own rm) (h1 : ∀ i, i < n0 ∨ 1000000 ≤ i → φ i = φ0 i) (h2 : n0 ≤ hhN h) (h3 : hh_W G φ h H) (h4 : va_D A (hh_ws G.2 φ h)) (h5 : va_S A s.heap H locs) (h6 : lv_has ls nL (hh_tl φ loc)) (h7 : okl h loc)
    (hE : ht_E E) (ht : (text == notModelled) = false) (hb : (stringBytes (stringToUtf16 text)).size ≤ nb) (hb1 : nb ≤ 1000) (hr : 6 < rm.frames ∧ (rest.map fun v => v.category).sum + 10240 ≤ rm.locals) (hz : z + 3 ≤ rm.cells ∧ k + (nb + 10) ≤ rm.slots)
    (kk : hh_VT (p, l, e, R, s, m, args, below, meth, c, G, A, φ0, n0, nL, Q) pc loc E none (z + 3) (k + (nb + 10)) h) : vx_Note p l e R s m args below meth c H locs z k Q (F0 m pc ls rest) E text := by
  have hRR : R = rm := hX.2.2.2.2.2.2.2.1
  subst hRR
  obtain ⟨w1, w2, w3, w4, w5⟩ := hE.words
  have hXx := hX.2.2.2.2.2.2.2.2.2.1
  refine vx_vm hX.1 hX.2.2.2.2.2.2.2.2.2.2 (names := ht_up) (nb := nb) w3 (by decide +kernel) w4 w5 (fun w hw => ?_) w2 (ht_zq hXx (q := (1000200, "UNASSIGNED_STACK", "[Ljava/lang/StackTraceElement;")) (by decide)) (ht_zq hXx (q := (1000201, "SUPPRESSED_SENTINEL", "Ljava/util/List;")) (by decide)) h5 (h6.1.trans hX.2.2.1.symm) ht hb hb1 hr.1 hr.2 (by decide) hz.1 hz.2 hX.2.2.2.2.2.2.2.2.1 ?_
  · obtain ⟨a1, a2 | a2⟩ := w1 w hw
    · exact hX.2.2.2.2.1 w (lw_g a1 a2)
    · exact va_Nw.use (by cases w <;> first | rfl | exact absurd a2 (by simp [hh_nwk])) (hX.2.2.2.2.2.1.2.1 w (hh_nwm a1 a2))
  · intro H1 q9 ce g1 g2 g3 g4 g5 g6
    refine kk φ H1 locs ls rest q9 ce h1 h2 ⟨h3.1.kept fun j q hj => g2 q.1 (vx_lt h3.1 hj), h3.2⟩ h4 g3 h6 h7 g4 g5 g6 (fun x hx => nomatch hx)
theorem nine_bytes : (stringBytes (stringToUtf16 "/ by zero")).size = 9 := by decide +kernel
/-- division by nought -/
theorem hv_idivZ {X : hh_CX} {cc : ByteArray} {own : String} {rm : Room} {pc : Nat} {loc : List (Nat × Value)} {st : List Value} {z k : Nat} {h : hh_T} {x y : Int32} (hX : hh_C X cc own rm) (hy : y = 0) (hd : decode cc pc = .ok (.idiv, 1)) (hr : 6 < rm.frames ∧ (st.map fun v => v.category).sum + 10240 ≤ rm.locals) (hz : z + 3 ≤ rm.cells ∧ k + 19 ≤ rm.slots)
    (kk : hh_VT X pc loc "java/lang/ArithmeticException" none (z + 3) (k + 19) h) : hh_V X pc loc (.int y :: .int x :: st) z k h := by
  obtain ⟨p, l, e, R, s, m, args, below, meth, c, G, A, φ0, n0, nL, Q⟩ := X
  intro φ H locs ls h1 h2 h3 h4 h5 h6 h7 h8
  exact vx_idivZ hX.1 hX.2.1 hy hd (ht_note (nb := 9) hX h1 h2 h3 h4 h5 h6 h7 (Or.inr (Or.inl rfl)) (by decide +kernel) (by rw [nine_bytes]; exact Nat.le_refl _) (by decide) ⟨hr.1, by rw [List.map_map]; simp only [Function.comp_def, hh_tv_cat]; exact hr.2⟩ hz kk)
/-- an array of fewer than no elements -/
theorem hv_newarrayZ {X : hh_CX} {cc : ByteArray} {own : String} {rm : Room} {pc : Nat} {loc : List (Nat × Value)} {st : List Value} {z k : Nat} {h : hh_T} {n : Int32} {atype : ArrayType} (hX : hh_C X cc own rm) (hn : n < 0) (hd : decode cc pc = .ok (.newarray atype, 2)) (hr : 6 < rm.frames ∧ (st.map fun v => v.category).sum + 10240 ≤ rm.locals) (hz : z + 3 ≤ rm.cells ∧ k + 54 ≤ rm.slots)
    (kk : hh_VT X pc loc "java/lang/NegativeArraySizeException" none (z + 3) (k + 54) h) : hh_V X pc loc (.int n :: st) z k h := by
  obtain ⟨p, l, e, R, s, m, args, below, meth, c, G, A, φ0, n0, nL, Q⟩ := X
  intro φ H locs ls h1 h2 h3 h4 h5 h6 h7 h8
  refine vx_newarrayZ hX.1 hX.2.1 hn hd (fun tx htx => ?_)
  subst htx
  exact ht_note (nb := 44) hX h1 h2 h3 h4 h5 h6 h7 (Or.inr (Or.inr rfl)) (negative_text_modelled hn) (negative_text_bytes n) (by decide) ⟨hr.1, by rw [List.map_map]; simp only [Function.comp_def, hh_tv_cat]; exact hr.2⟩ hz kk
theorem ht_pk : ∀ C ∈ ["HungryHedge$BirdThing", "HungryHedge$BushThing", "HungryHedge$FeederThing", "HungryHedge$FieldThing", "HungryHedge$NestThing", "HungryHedge$RiskThing", "HungryHedge$PatchThing", "[B", "[I", "[J", "[S"], packageOf C = "" ∧ C.toList.length ≤ 24 := by decide +kernel
theorem ht_turned (a b : Char) (s : String) : (turned a b s).toList.length = s.toList.length := by
  unfold turned
  rw [String.toList_ofList, List.length_map]
theorem ht_home {vm : Vm} {k : Class} (hm : ∀ m ∈ vm.modules, (m.loader.isSome || m.name == "java.base" || !(castPackages_1.any fun p => m.packages.contains p)) = true) (hl : k.loader = none) (hp : packageOf k.name = "") : (vm.home k).toList.length ≤ 38 := by
  have hn : vm.moduleOf k = none ∨ ∃ m, vm.moduleOf k = some m ∧ m.name = "java.base" := by
    unfold Vm.moduleOf
    split
    · cases h : vm.modules.find? (fun x => x.name == "java.base") with
      | none => exact Or.inl rfl
      | some m =>
        have := List.find?_some h
        exact Or.inr ⟨m, rfl, by simpa using this⟩
    · cases h : vm.modules.find? (fun m => m.loader == k.loader && m.packages.contains (packageOf k.name)) with
      | none => exact Or.inl rfl
      | some m =>
        have h1 := List.find?_some h
        have h2 := hm m (List.mem_of_find?_eq_some h)
        rw [hp, hl] at h1
        simp only [Bool.and_eq_true, beq_iff_eq] at h1
        refine Or.inr ⟨m, rfl, ?_⟩
        have h3 : (castPackages_1.any fun p => m.packages.contains p) = true := by
          unfold castPackages_1
          simp only [List.any_cons, h1.2, Bool.true_or]
        rw [h3, h1.1] at h2
        simpa using h2
  have hb : (vm.loaderName k.loader).toList.length = 11 := by
    rw [hl]
    show ("'bootstrap'" : String).toList.length = 11
    decide
  unfold Vm.home
  simp only [String.toList_append, List.length_append]
  rw [hb]
  rcases hn with h | ⟨m, h, hname⟩
  · rw [h]; decide
  · rw [h]
    simp only [hname]
    decide
theorem ht_castText {vm : Vm} {ks kt : Class} {C N : String} (hm : ∀ m ∈ vm.modules, (m.loader.isSome || m.name == "java.base" || !(castPackages_1.any fun p => m.packages.contains p)) = true)
    (s1 : ks.name = C) (s2 : ks.hidden = none) (s3 : ks.loader = none) (t1 : kt.name = N) (t2 : kt.hidden = none) (t3 : kt.loader = none) (hC : packageOf C = "" ∧ C.toList.length ≤ 24) (hN : packageOf N = "" ∧ N.toList.length ≤ 24) :
    (stringBytes (stringToUtf16 (Op.checkcast.message vm ks kt))).size ≤ 900 ∧ (Op.checkcast.message vm ks kt == notModelled) = false := by
  have e1 : ks.shown.toList.length ≤ 24 := by
    unfold Class.shown
    rw [s2]
    show (dotted ks.name).toList.length ≤ 24
    unfold dotted
    rw [ht_turned, s1]
    exact hC.2
  have e2 : kt.shown.toList.length ≤ 24 := by
    unfold Class.shown
    rw [t2]
    show (dotted kt.name).toList.length ≤ 24
    unfold dotted
    rw [ht_turned, t1]
    exact hN.2
  have e3 := ht_home hm s3 (by rw [s1]; exact hC.1)
  have e4 := ht_home hm t3 (by rw [t1]; exact hN.1)
  have e5 : (vm.homes ks kt).toList.length ≤ 48 + 92 := by
    unfold Vm.homes
    split
    · show (toString ks.shown ++ toString " and " ++ toString kt.shown ++ toString " are in " ++ toString (vm.home ks)).toList.length ≤ _
      simp only [String.toList_append, List.length_append]
      have a1 : (toString " and ").toList.length = 5 := by decide
      have a2 : (toString " are in ").toList.length = 8 := by decide
      rw [a1, a2]
      show ks.shown.toList.length + 5 + kt.shown.toList.length + 8 + (vm.home ks).toList.length ≤ _
      omega
    · show (toString ks.shown ++ toString " is in " ++ toString (vm.home ks) ++ toString "; " ++ toString kt.shown ++ toString " is in " ++ toString (vm.home kt)).toList.length ≤ _
      simp only [String.toList_append, List.length_append]
      have a1 : (toString " is in ").toList.length = 7 := by decide
      have a2 : (toString "; ").toList.length = 2 := by decide
      rw [a1, a2]
      show ks.shown.toList.length + 7 + (vm.home ks).toList.length + 2 + kt.shown.toList.length + 7 + (vm.home kt).toList.length ≤ _
      omega
  have key : (Op.checkcast.message vm ks kt).toList = 'c' :: ("lass ".toList ++ ks.shown.toList ++ " cannot be cast to class ".toList ++ kt.shown.toList ++ " (".toList ++ (vm.homes ks kt).toList ++ ")".toList) := by
    show (toString "class " ++ toString ks.shown ++ toString " cannot be cast to class " ++ toString kt.shown ++ toString " (" ++ toString (vm.homes ks kt) ++ toString ")").toList = _
    simp only [String.toList_append]
    rfl
  constructor
  · have b1 := stringBytes_size_le (stringToUtf16 (Op.checkcast.message vm ks kt))
    have b2 := utf16_size_le (Op.checkcast.message vm ks kt)
    have b3 := congrArg List.length key
    simp only [List.length_cons, List.length_append] at b3
    have a1 : "lass ".toList.length = 5 := by decide
    have a2 : " cannot be cast to class ".toList.length = 25 := by decide
    have a3 : " (".toList.length = 2 := by decide
    have a4 : ")".toList.length = 1 := by decide
    rw [a1, a2, a3, a4] at b3
    omega
  · rw [beq_eq_false_iff_ne]
    intro h
    have h2 := congrArg String.toList h
    rw [key] at h2
    have h4 : notModelled.toList = '\u0000' :: " a message that is not modelled".toList := by decide
    rw [h4] at h2
    exact absurd (List.cons.inj h2).1 (by decide)
theorem ht_checkcast {p : Program} {l : Launch} {e : Env} {R : Room} {s : State} {m : MethodId} {args : Array Value} {below : List Frame} {meth : Method} {c : Code} {T : State} {locs : List Loc} {cells slots : Nat} (X : Stand p l e R s m args below meth c T locs cells slots) (hexec : p.tables.exec = Jvm.exec)
    {own name : String} {index : Nat} (hown : s.vm.findClass own = some m.cls) (hlink : (Cond.classLink own index name).before args s = true)
    {a : Addr} {cell : Cell} {cT : ClassId} {ks : Class} (hcell : T.heap[a]? = some cell) (hobj : ∀ k, cell.vm ≠ .statics k) (hks : s.vm.classes[cell.cls]? = some ks)
    (hcT : s.vm.findClass name = some cT) (hasg : s.vm.assignable cell.cls cT = false)
    {g : JFrame} (hg : g.method = m) {rest : List Value} (hstack : g.stack = .ref a :: rest) (hdg : decode c.code g.pc = .ok (.checkcast index, 3)) :
    ∃ vm', s.WarmedH vm' ∧ Stand p l e R s m args below meth c (T.setVm vm') locs cells slots ∧ ∃ ks' kt', vm'.classes[cell.cls]? = some ks' ∧ vm'.classes[cT]? = some kt' ∧
      ∀ target, Steps p.tables e below (((T.setVm vm').setTop g).pushFrame (.throwNew "java/lang/ClassCastException" (some (Op.checkcast.message vm' ks' kt')) none)) target → Steps p.tables e below (T.setTop g) target := by
  have hpl : e.platform.magicAccessors = ({} : Platform).magicAccessors := by rw [X.admits.platform]
  obtain ⟨c', hc', hcl⟩ := Cond.classLink_spec hown hlink e.platform hpl
  cases hcT.symm.trans hc'
  obtain ⟨dk, _, _, kt, hd, _, _, _, _, hkt, _, hopen⟩ := hcl.here
  have hcl₀ := X.warmed.classLinks hcl
  have hW' : s.WarmedH (T.vm.noted m.cls index (.cls cT)) := X.warmed.noted hd hopen (State.rightAt_cls hcl)
  obtain ⟨ks', hks', -⟩ := hW'.alike.2.2 _ _ hks
  obtain ⟨kt', hkt', -⟩ := hW'.alike.2.2 _ _ hkt
  refine ⟨_, hW', X.noted hW', ks', kt', hks', hkt', fun target hrest => ?_⟩
  subst hg
  jvm_step X.here [hexec, hdg, checkcast.wp_cold (e := e) (s := T) (f := g) X.here.top hstack (resolveClass_links e.toSetting hcl₀) hcl₀.ready,
    checkcast.wp_ready (e := e) (s := T.setVm (T.vm.noted g.method.cls index (.cls cT))) (f := g) X.here.top hcl₀.ready hstack]
  refine ⟨cell, hcell, hobj, ks', hks', kt', hkt', ?_⟩
  rw [if_neg (by rw [hW'.alike.assignable, hasg]; exact Bool.false_ne_true)]
  exact hrest
/-! type tests -/
def hh_isC (k : Nat) (C : String) : Prop := (∃ q : vw_C, hh_cl[k]? = some q ∧ k < 100 ∧ q.1 = C) ∨ (∃ a j : Nat, k = 100 + a ∧ hh_al[j]? = some a ∧ a ≤ 10 ∧ C = "[" ++ (hh_ay a).toString)
theorem vp_cls (cA : ClassId) (a : vp_A) : (vp_cell cA a).cls = cA ∧ (vp_cell cA a).vm.isStatics = false := by
  obtain ⟨n, f⟩ := a
  rcases f with f | f | f | f | f <;> exact ⟨rfl, rfl⟩
theorem hh_cellC {G : hh_G} {φ : Nat → Nat} {h : hh_T} {H : Heap} {s : State} {r : Nat} {C : String} (hS : hh_S G s) (h3 : hh_W G φ h H) (hr : r < hhN h) (hC : hh_isC (hhK h r) C) : ∃ cell, H[φ r]? = some cell ∧ cell.vm.isStatics = false ∧ s.vm.findClass C = some cell.cls := by
  rcases hC with ⟨q, h1, h2, rfl⟩ | ⟨a, j, h1, hj, ha, rfl⟩
  · exact va_recv hS.1 h3.1 (q0 := r) h1 (by rw [hh_ws_at hr, hh_cell_o rfl h2])
  · have hw := h3.1 r (φ r, .inl (G.2 a, hhL h r, hh_ac φ h r a)) (by rw [hh_ws_at hr, hh_cell_a h1])
    have hk := (hS.1.2 j _ (hh_tys_at hj)).2
    refine ⟨_, hw, (vp_cls _ _).2, ?_⟩
    rw [(vp_cls _ _).1]
    have ha2 : a = 0 ∨ a = 1 ∨ a = 2 ∨ a = 10 := by
      have hm : a ∈ hh_al := List.mem_of_getElem? hj
      simp [hh_al] at hm
      omega
    rcases ha2 with rfl | rfl | rfl | rfl <;> exact hk
theorem hh_asg (vm : Vm) (c : ClassId) : vm.assignable c c = true := by
  show vm.assignableAux (255 + 1) c c = true
  rw [Vm.assignableAux]
  simp only [beq_self_eq_true, Bool.true_or]
/-- a cast that comes through -/
theorem hv_cast {X : hh_CX} {cc : ByteArray} {own : String} {rm : Room} {pc : Nat} {loc : List (Nat × Value)} {st : List Value} {z k r index : Nat} {h : hh_T} {C nm : String} (hX : hh_C X cc own rm) (hl : Cond.classLink own index nm ∈ lw_all) (hr : r < hhN h) (hC : hh_isC (hhK h r) C) (hcast : C = nm ∨ Cond.castable C nm ∈ hh_nw) (hd : decode cc pc = .ok (.checkcast index, 3))
    (kk : hh_V X (pc + 3) loc (.ref r :: st) z k h) : hh_V X pc loc (.ref r :: st) z k h := by
  obtain ⟨p, l, e, R, s, m, args, below, meth, c, G, A, φ0, n0, nL, Q⟩ := X
  intro φ H locs ls h1 h2 h3 h4 h5 h6 h7 h8
  have hc := hh_cellC hX.2.2.2.2.2.1 h3 hr hC
  have K := kk φ H locs ls h1 h2 h3 h4 h5 h6 h7 h8
  rcases hcast with rfl | hcast
  · obtain ⟨cell, g1, g2, g3⟩ := hc
    intro T hT Y
    obtain ⟨ks, hks, -⟩ := Vm.findClass_spec g3
    obtain ⟨vm', Y', st'⟩ := Y.checkcast hX.1 hX.2.2.2.1 (hX.2.2.2.2.1 _ hl) (by rw [hT]; exact g1) (fun k hk => by rw [hk] at g2; cases g2) hks g3 (hh_asg _ _) (g := F0 m pc ls ((Value.ref r :: st).map (hh_tv φ))) rfl rfl (by rw [hX.2.1]; exact hd)
    obtain ⟨t, a1, b1⟩ := K (T.setVm vm') hT Y'
    exact ⟨t, st' _ a1, b1⟩
  · exact va_castY hX.1 hX.2.1 hX.2.2.2.1 (hX.2.2.2.2.1 _ hl) (hX.2.2.2.2.2.1.2.1 _ hcast) hc hd K
/-- a cast that fails -/
theorem hv_castZ {X : hh_CX} {cc : ByteArray} {own : String} {rm : Room} {pc : Nat} {loc : List (Nat × Value)} {st : List Value} {z k r index : Nat} {h : hh_T} {C nm : String} (hX : hh_C X cc own rm) (hl : Cond.classLink own index nm ∈ lw_all) (hr : r < hhN h) (hC : hh_isC (hhK h r) C) (hno : (C, nm) ∈ hh_ncs)
    (hCn : C ∈ ["HungryHedge$BirdThing", "HungryHedge$BushThing", "HungryHedge$FeederThing", "HungryHedge$FieldThing", "HungryHedge$NestThing", "HungryHedge$RiskThing", "HungryHedge$PatchThing", "[B", "[I", "[J", "[S"]) (hnn : nm ∈ ["HungryHedge$BirdThing", "HungryHedge$BushThing", "HungryHedge$FeederThing", "HungryHedge$FieldThing", "HungryHedge$NestThing", "HungryHedge$RiskThing", "HungryHedge$PatchThing", "[B", "[I", "[J", "[S"])
    (hd : decode cc pc = .ok (.checkcast index, 3)) (hrm : 6 < rm.frames ∧ 1 + (st.map fun v => v.category).sum + 10240 ≤ rm.locals) (hz : z + 3 ≤ rm.cells ∧ k + 910 ≤ rm.slots)
    (kk : hh_VT X pc loc "java/lang/ClassCastException" none (z + 3) (k + 910) h) : hh_V X pc loc (.ref r :: st) z k h := by
  obtain ⟨p, l, e, R, s, m, args, below, meth, c, G, A, φ0, n0, nL, Q⟩ := X
  intro φ H locs ls h1 h2 h3 h4 h5 h6 h7 h8
  have hS := hX.2.2.2.2.2.1
  obtain ⟨cell, g1, g2, g3⟩ := hh_cellC hS h3 hr hC
  obtain ⟨a8, b8, n1, n2, n3⟩ := hS.2.2.2.2.1 _ hno
  cases Option.some.inj (n1.symm.trans g3)
  intro T hT Y
  obtain ⟨ks, hks, -⟩ := Vm.findClass_spec g3
  obtain ⟨vm', hW', Y', ks', kt', hks', hkt', st'⟩ := ht_checkcast Y hX.1 hX.2.2.2.1 (hX.2.2.2.2.1 _ hl) (by rw [hT]; exact g1) (fun k hk => by rw [hk] at g2; cases g2) hks n2 n3 (g := F0 m pc ls ((Value.ref r :: st).map (hh_tv φ))) rfl rfl (by rw [hX.2.1]; exact hd)
  have hmod : ∀ m ∈ vm'.modules, (m.loader.isSome || m.name == "java.base" || !(castPackages_1.any fun p => m.packages.contains p)) = true := List.all_eq_true.mp (hh_mod (U := s.setVm vm') hW' hS.2.2.2.2.2.1)
  have fc : ∀ {D : String} {d : ClassId} {kd : Class}, s.vm.findClass D = some d → vm'.classes[d]? = some kd → kd.name = D ∧ kd.hidden = none ∧ kd.loader = none := by
    intro D d kd hf hk
    have hf2 : vm'.findClass D = some d := by rw [hW'.alike.findClass]; exact hf
    unfold Vm.findClass at hf2
    obtain ⟨hlt, hp, -⟩ := Array.findIdx?_eq_some_iff_getElem.mp hf2
    have ek : vm'.classes[d] = kd := by
      rw [Array.getElem?_eq_getElem hlt] at hk
      exact Option.some.inj hk
    rw [ek] at hp
    simp only [Bool.and_eq_true, beq_iff_eq, Option.isNone_iff_eq_none] at hp
    exact ⟨hp.1.1.1, hp.1.1.2, hp.2⟩
  obtain ⟨s1, s2, s3⟩ := fc g3 hks'
  obtain ⟨t1, t2, t3⟩ := fc n2 hkt'
  obtain ⟨b1, b2⟩ := ht_castText (vm := vm') hmod s1 s2 s3 t1 t2 t3 (ht_pk _ hCn) (ht_pk _ hnn)
  obtain ⟨t, a1, c1⟩ := ht_note (nb := 900) (rest := (Value.ref r :: st).map (hh_tv φ)) hX h1 h2 h3 h4 h5 h6 h7 (Or.inl rfl) b2 b1 (by decide) ⟨hrm.1, by
    rw [List.map_map]; simp only [Function.comp_def, hh_tv_cat, List.map_cons, List.sum_cons]
    exact hrm.2⟩ hz kk (T.setVm vm') hT Y'
  exact ⟨t, st' _ a1, c1⟩
/-- a test of the class, that says yes -/
theorem hv_instY {X : hh_CX} {cc : ByteArray} {own : String} {rm : Room} {pc : Nat} {loc : List (Nat × Value)} {st : List Value} {z k r index : Nat} {h : hh_T} {C nm : String} (hX : hh_C X cc own rm) (hl : Cond.classLink own index nm ∈ lw_all) (hr : r < hhN h) (hC : hh_isC (hhK h r) C) (hcast : C = nm ∨ Cond.castable C nm ∈ hh_nw) (hd : decode cc pc = .ok (.instanceof index, 3))
    (kk : hh_V X (pc + 3) loc (.int 1 :: st) z k h) : hh_V X pc loc (.ref r :: st) z k h := by
  obtain ⟨p, l, e, R, s, m, args, below, meth, c, G, A, φ0, n0, nL, Q⟩ := X
  intro φ H locs ls h1 h2 h3 h4 h5 h6 h7 h8
  have hc := hh_cellC hX.2.2.2.2.2.1 h3 hr hC
  have K := kk φ H locs ls h1 h2 h3 h4 h5 h6 h7 ⟨trivial, h8.2⟩
  rcases hcast with rfl | hcast
  · obtain ⟨cell, g1, g2, g3⟩ := hc
    intro T hT Y
    obtain ⟨vm', Y', st'⟩ := Y.instanceofYes hX.1 hX.2.2.2.1 (hX.2.2.2.2.1 _ hl) (by rw [hT]; exact g1) g2 g3 (hh_asg _ _) (g := F0 m pc ls ((Value.ref r :: st).map (hh_tv φ))) rfl rfl (by rw [hX.2.1]; exact hd)
    obtain ⟨t, a1, b1⟩ := K (T.setVm vm') hT Y'
    exact ⟨t, st' _ a1, b1⟩
  · exact va_instY hX.1 hX.2.1 hX.2.2.2.1 (hX.2.2.2.2.1 _ hl) (hX.2.2.2.2.2.1.2.1 _ hcast) hc hd K
/-- .. that says no -/
theorem hv_instNo {X : hh_CX} {cc : ByteArray} {own : String} {rm : Room} {pc : Nat} {loc : List (Nat × Value)} {st : List Value} {z k r index : Nat} {h : hh_T} {C nm : String} (hX : hh_C X cc own rm) (hl : Cond.classLink own index nm ∈ lw_all) (hr : r < hhN h) (hC : hh_isC (hhK h r) C) (hno : (C, nm) ∈ hh_ncs) (hd : decode cc pc = .ok (.instanceof index, 3))
    (kk : hh_V X (pc + 3) loc (.int 0 :: st) z k h) : hh_V X pc loc (.ref r :: st) z k h := by
  obtain ⟨p, l, e, R, s, m, args, below, meth, c, G, A, φ0, n0, nL, Q⟩ := X
  intro φ H locs ls h1 h2 h3 h4 h5 h6 h7 h8
  exact va_instNo hX.1 hX.2.1 hX.2.2.2.1 (hX.2.2.2.2.1 _ hl) (hX.2.2.2.2.2.1.2.2.2.2.1 _ hno) (hh_cellC hX.2.2.2.2.2.1 h3 hr hC) hd (kk φ H locs ls h1 h2 h3 h4 h5 h6 h7 ⟨trivial, h8.2⟩)
