/-! THE ABSTRACT HEAP: cells have numbers (0, 1, ..) instead of addresses; per cell its kind (class number < 100, array code + 100), its length, its ints, longs, references; a place map takes numbers to addresses; numbers from 1000000 on name constants outside of the world. -/
set_option maxRecDepth 100000
abbrev hh_T : Type := Nat × (Nat → Nat) × (Nat → Nat) × (Nat → Nat → Int32) × (Nat → Nat → Int64) × (Nat → Nat → Option Nat)
abbrev hhN (h : hh_T) : Nat := h.1
abbrev hhK (h : hh_T) : Nat → Nat := h.2.1
abbrev hhL (h : hh_T) : Nat → Nat := h.2.2.1
abbrev hhI (h : hh_T) : Nat → Nat → Int32 := h.2.2.2.1
abbrev hhJ (h : hh_T) : Nat → Nat → Int64 := h.2.2.2.2.1
abbrev hhR (h : hh_T) : Nat → Nat → Option Nat := h.2.2.2.2.2
def u1 {α : Type} (f : Nat → α) (i : Nat) (v : α) : Nat → α := fun a => if a = i then v else f a
def u2 {α : Type} (f : Nat → Nat → α) (i k : Nat) (v : α) : Nat → Nat → α := fun a b => if b = k then (if a = i then v else f a b) else f a b
/-- a row of the map anew -/
def ur {α : Type} (f : Nat → Nat → α) (i : Nat) (r : Nat → α) : Nat → Nat → α := fun a b => if a = i then r b else f a b
abbrev hsI (h : hh_T) (i k : Nat) (v : Int32) : hh_T := (hhN h, hhK h, hhL h, u2 (hhI h) i k v, hhJ h, hhR h)
abbrev hsJ (h : hh_T) (i k : Nat) (v : Int64) : hh_T := (hhN h, hhK h, hhL h, hhI h, u2 (hhJ h) i k v, hhR h)
abbrev hsR (h : hh_T) (i k : Nat) (v : Option Nat) : hh_T := (hhN h, hhK h, hhL h, hhI h, hhJ h, u2 (hhR h) i k v)
/-- a new cell of kind K with L places, all blank -/
abbrev hnew (h : hh_T) (K L : Nat) : hh_T := (hhN h + 1, u1 (hhK h) (hhN h) K, u1 (hhL h) (hhN h) L, ur (hhI h) (hhN h) (fun _ => 0), ur (hhJ h) (hhN h) (fun _ => 0), ur (hhR h) (hhN h) (fun _ => none))
theorem u2_self {α : Type} (f : Nat → Nat → α) (i k : Nat) (v : α) : u2 f i k v i k = v := by simp [u2]
theorem u2_ne {α : Type} (f : Nat → Nat → α) {i k a b : Nat} (v : α) (h : a ≠ i ∨ b ≠ k) : u2 f i k v a b = f a b := by
  unfold u2
  split
  · split
    · rcases h with h | h <;> contradiction
    · rfl
  · rfl
/-- the classes: number k is class X{k} of claim/names (21 has no objects of its own: 22 stands there) -/
def hh_cl : List vw_C := [(RX0, TX0, 19), (RX1, TX1, 17), (RX2, TX2, 4), (RX3, TX3, 4), (RX4, TX4, 5), (RX5, TX5, 2), (RX6, TX6, 6), (RX7, TX7, 11), (RX8, TX8, 7), (RX9, TX9, 2), (RX10, TX10, 5), (RX11, TX11, 6), (RX12, TX12, 6), (RX13, TX13, 3), (RX14, TX14, 74), (RX15, TX15, 1), (RX16, TX16, 2), (RX17, TX17, 5), (RX18, TX18, 1), (RX19, TX19, 2), (RX20, TX20, 2), (RX22, TX22, 4), (RX22, TX22, 4), (RX23, TX23, 5), (RX24, TX24, 6), (RX25, TX25, 4), (RX26, TX26, 3), (RX27, TX27, 3)]
/-- what kind of value a field has: 0 int, 1 long, 2 a reference, 3 boolean -/
def hh_code : FieldType → Nat
  | .int => 0
  | .boolean => 3
  | .long => 1
  | .object _ => 2
  | .array _ => 2
  | _ => 9
def hh_ft : Nat → List Nat
  | 0 => [2, 2, 3, 2, 2, 2, 2, 2, 0, 2, 2, 2, 0, 2, 2, 2, 2, 0, 2]
  | 1 => [0, 0, 0, 0, 0, 0, 0, 0, 2, 2, 2, 2, 2, 2, 2, 2, 2]
  | 2 => [0, 0, 0, 2]
  | 3 => [2, 2, 0, 2]
  | 4 => [2, 2, 0, 0, 2]
  | 5 => [2, 2]
  | 6 => [2, 2, 2, 0, 0, 2]
  | 7 => [2, 2, 2, 2, 0, 0, 0, 0, 0, 0, 0]
  | 8 => [2, 2, 2, 2, 2, 0, 0]
  | 9 => [0, 0]
  | 10 => [2, 2, 2, 2, 0]
  | 11 => [2, 2, 2, 2, 2, 0]
  | 12 => [2, 2, 2, 2, 2, 0]
  | 13 => [0, 0, 2]
  | 14 => [0, 0, 0, 0, 0, 0, 0, 0, 0, 0, 0, 2, 0, 2, 2, 2, 2, 2, 0, 0, 0, 0, 0, 2, 2, 2, 2, 2, 2, 2, 2, 0, 0, 2, 0, 2, 2, 2, 2, 0, 0, 0, 0, 1, 0, 2, 2, 2, 2, 0, 0, 0, 0, 0, 0, 2, 2, 0, 2, 2, 2, 2, 2, 2, 0, 0, 0, 2, 0, 3, 3, 2, 0, 2]
  | 15 => [2]
  | 16 => [0, 2]
  | 17 => [0, 0, 0, 0, 0]
  | 18 => [2]
  | 19 => [2, 2]
  | 20 => [2, 2]
  | 21 => [0, 0, 2, 2]
  | 22 => [0, 0, 2, 2]
  | 23 => [0, 0, 2, 2, 2]
  | 24 => [0, 0, 2, 2, 2, 2]
  | 25 => [0, 0, 2, 2]
  | 26 => [0, 0, 2]
  | 27 => [0, 0, 2]
  | _ => []

def hh_rv (φ : Nat → Nat) : Option Nat → Value
  | none => .null
  | some r => .ref (φ r)
def hh_tv (φ : Nat → Nat) : Value → Value
  | .ref r => .ref (φ r)
  | v => v
def hh_fv (φ : Nat → Nat) (h : hh_T) (i k : Nat) : Nat → Value
  | 1 => .long (hhJ h i k)
  | 2 => hh_rv φ (hhR h i k)
  | _ => .int (hhI h i k)
def hh_fs (φ : Nat → Nat) (h : hh_T) (i ci : Nat) : List Value := (hh_ft ci).mapIdx fun k t => hh_fv φ h i k t
def hh_ac (φ : Nat → Nat) (h : hh_T) (i a : Nat) : (Nat → Int32) ⊕ (Nat → Int64) ⊕ (Nat → UInt32) ⊕ (Nat → UInt64) ⊕ (Nat → Option Nat) :=
  if a < 10 then .inl (hhI h i) else if a < 20 then .inr (.inl (hhJ h i)) else .inr (.inr (.inr (.inr fun j => (hhR h i j).map φ)))
def hh_cell (dA : Nat → ClassId) (φ : Nat → Nat) (h : hh_T) (i : Nat) : va_E :=
  if hhK h i < 100 then .inr (hhK h i, hh_fs φ h i (hhK h i)) else .inl (dA (hhK h i - 100), hhL h i, hh_ac φ h i (hhK h i - 100))
def hh_ws (dA : Nat → ClassId) (φ : Nat → Nat) (h : hh_T) : va_W := (List.range (hhN h)).map fun i => (φ i, hh_cell dA φ h i)
/-- array codes: 0 int, 1 byte, 2 short, 10 long, 20.. references -/
def hh_ay : Nat → FieldType
  | 0 => .int
  | 1 => .byte
  | 2 => .short
  | 10 => .long
  | 20 => .object "HungryHedge$Trip"
  | 21 => .object "HungryHedge$Risk"
  | 22 => .object "HungryHedge$Clause"
  | 23 => .object "HungryHedge$Row"
  | 24 => .object "HungryHedge$Sheet"
  | 25 => .object "HungryHedge$Shelf"
  | 26 => .object "java/lang/String"
  | _ => .array .long
def hh_al : List Nat := [0, 1, 2, 10, 20, 21, 22, 23, 24, 25, 26, 27]
def hh_tys (dA : Nat → ClassId) : List (ClassId × FieldType) := hh_al.map fun a => (dA a, hh_ay a)
theorem hh_ws_at {dA : Nat → ClassId} {φ : Nat → Nat} {h : hh_T} {i : Nat} (hi : i < hhN h) : (hh_ws dA φ h)[i]? = some (φ i, hh_cell dA φ h i) := by
  simp [hh_ws, hi]
theorem hh_ws_len {dA : Nat → ClassId} {φ : Nat → Nat} {h : hh_T} : (hh_ws dA φ h).length = hhN h := by simp [hh_ws]
theorem hh_cell_o {dA : Nat → ClassId} {φ : Nat → Nat} {h : hh_T} {i ci : Nat} (hk : hhK h i = ci) (hc : ci < 100) : hh_cell dA φ h i = .inr (ci, hh_fs φ h i ci) := by
  unfold hh_cell
  rw [hk, if_pos hc]
theorem hh_cell_a {dA : Nat → ClassId} {φ : Nat → Nat} {h : hh_T} {i a : Nat} (hk : hhK h i = 100 + a) : hh_cell dA φ h i = .inl (dA a, hhL h i, hh_ac φ h i a) := by
  unfold hh_cell
  rw [hk, if_neg (by omega), Nat.add_sub_cancel_left]
theorem hh_fs_at {φ : Nat → Nat} {h : hh_T} {i ci k t : Nat} (hk : (hh_ft ci)[k]? = some t) : (hh_fs φ h i ci)[k]? = some (hh_fv φ h i k t) := by
  simp [hh_fs, hk]
/-- all references name cells that are there, or constants -/
def hh_ok (h : hh_T) : Prop := hhN h ≤ 1000000 ∧ ∀ i k r, hhR h i k = some r → r < hhN h ∨ 1000000 ≤ r
def okv (h : hh_T) : Value → Prop
  | .ref r => r < hhN h ∨ 1000000 ≤ r
  | _ => True
def oks (h : hh_T) : List Value → Prop
  | [] => True
  | v :: l => okv h v ∧ oks h l
def okl (h : hh_T) (l : List (Nat × Value)) : Prop := ∀ q ∈ l, okv h q.2
theorem okv_mono {h h' : hh_T} (hn : hhN h ≤ hhN h') {v : Value} (ho : okv h v) : okv h' v := by
  cases v with
  | ref r =>
    rcases ho with q | q
    · exact Or.inl (Nat.lt_of_lt_of_le q hn)
    · exact Or.inr q
  | _ => trivial
theorem oks_mono {h h' : hh_T} (hn : hhN h ≤ hhN h') {l : List Value} (ho : oks h l) : oks h' l := by
  induction l with
  | nil => trivial
  | cons v l ih => exact ⟨okv_mono hn ho.1, ih ho.2⟩
theorem okl_mono {h h' : hh_T} (hn : hhN h ≤ hhN h') {l : List (Nat × Value)} (ho : okl h l) : okl h' l := fun q hq => okv_mono hn (ho q hq)
theorem oks_append {h : hh_T} {a b : List Value} : oks h (a ++ b) ↔ oks h a ∧ oks h b := by
  induction a with
  | nil => simp [oks]
  | cons v l ih => simp [oks, ih, and_assoc]
theorem oks_mem {h : hh_T} {a : List Value} : oks h a ↔ ∀ v ∈ a, okv h v := by
  induction a with
  | nil => simp [oks]
  | cons v l ih => simp [oks, ih]
theorem hh_tv_cat (φ : Nat → Nat) (v : Value) : (hh_tv φ v).category = v.category := by cases v <;> rfl
def hh_tl (φ : Nat → Nat) (l : List (Nat × Value)) : List (Nat × Value) := l.map fun q => (q.1, hh_tv φ q.2)
theorem hh_tl_at {φ : Nat → Nat} {l : List (Nat × Value)} {k i : Nat} {v : Value} (h : l[k]? = some (i, v)) : (hh_tl φ l)[k]? = some (i, hh_tv φ v) := by
  simp [hh_tl, h]
/-- the locals behind a store -/
abbrev hh_st (l : List (Nat × Value)) (i : Nat) (v : Value) : List (Nat × Value) := (i, v) :: l.filter (fun q => !(q.1 == i) && !(q.1 + 1 == i && q.2.category == 2))
abbrev hh_st2 (l : List (Nat × Value)) (i : Nat) (v : Value) : List (Nat × Value) := (i, v) :: l.filter (fun q => !(q.1 == i) && (!(q.1 == i + 1) && !(q.1 + 1 == i && q.2.category == 2)))
theorem hh_tl_st {φ : Nat → Nat} {l : List (Nat × Value)} {i : Nat} {v : Value} : hh_st (hh_tl φ l) i (hh_tv φ v) = hh_tl φ (hh_st l i v) := by
  simp [hh_st, hh_tl, List.filter_map, Function.comp_def, hh_tv_cat]
/-- the heap of the machine holds the abstract heap -/
abbrev hh_G : Type := va_G × (Nat → ClassId)
def hh_W (G : hh_G) (φ : Nat → Nat) (h : hh_T) (H : Heap) : Prop := va_P G.1 hh_cl (hh_ws G.2 φ h) H ∧ hh_ok h
/-! what holds of the tables all through: classes, arrays, a nest mate's links, what is castable or declared -/
def hh_nwk : Cond → Bool
  | .fieldLinkNest .. => true
  | .methodLinkNest .. => true
  | .castable .. => true
  | .declares .. => true
  | .publicMethod .. => true
  | .unhidden .. => true
  | _ => false
def hh_nw : List Cond := lw_tbl.filter hh_nwk
theorem hh_nwm {w : Cond} (h : w ∈ lw_tbl) (g : hh_nwk w = true) : w ∈ hh_nw := List.mem_filter.mpr ⟨h, g⟩
def hh_NW (U : State) : Prop := ∀ w ∈ hh_nw, va_Nw w U
theorem va_Nw.warmP {x : MethodName} {s U : State} (hW : s.WarmedH U.vm) (hZ : va_Nw (.publicMethod x) s) : va_Nw (.publicMethod x) U := va_tabs rfl (rfl : (s.setVm U.vm).vm = U.vm) (by rw [Cond.publicMethod_setVm hW.alike]; exact hZ)
theorem va_Nw.warmU {c n d : String} {s U : State} (hW : s.WarmedH U.vm) (hZ : va_Nw (.unhidden c n d) s) : va_Nw (.unhidden c n d) U := va_tabs rfl (rfl : (s.setVm U.vm).vm = U.vm) (by rw [Cond.unhidden_setVm hW.alike]; exact hZ)
theorem va_Nw.warmL {own : String} {idx : Nat} {x : MethodName} {s U : State} (hW : s.WarmedH U.vm) (hZ : va_Nw (.methodLink own idx x) s) : va_Nw (.methodLink own idx x) U := word_at hW (Or.inl (by first | rfl | simp [Cond.onTables, Cond.keeps, Cond.steady])) hZ
theorem va_Nw.warmI {r o n d : String} {s U : State} (hW : s.WarmedH U.vm) (hZ : va_Nw (.interfaceMethod r o n d) s) : va_Nw (.interfaceMethod r o n d) U := va_tabs rfl (rfl : (s.setVm U.vm).vm = U.vm) (by
  have hf : (s.setVm U.vm).methodFound? r n d = s.methodFound? r n d := State.methodFound?_setVm hW.alike r n d
  have e : (Cond.interfaceMethod r o n d).before #[] (s.setVm U.vm) = (Cond.interfaceMethod r o n d).before #[] s := by
    simp only [Cond.before, Cond.holds, Cond.value, State.vm_setVm, hW.alike.findClass, hf, State.methodNamed?_setVm hW.alike, arm_isInterface_setVm hW.alike]
  rw [e]
  exact hZ)
theorem va_Nw.warmDf {c : String} {x y : MethodName} {s U : State} (hW : s.WarmedH U.vm) (hZ : va_Nw (.landsInDefault c x y) s) : va_Nw (.landsInDefault c x y) U := by
  have e : (Cond.landsInDefault c x y).before #[] (s.setVm U.vm) = (Cond.landsInDefault c x y).before #[] U := by
    simp only [Cond.before, Cond.holds, Cond.value, State.methodFound?, State.methodNamed?, State.vm_setVm]
  have e2 := Cond.landsInDefault_setVm (args := #[]) (args' := #[]) (s := s) (vm' := U.vm) hW.alike (cls := c) (x := x) (y := y) (State.methodFound?_setVm hW.alike _ _ _)
  unfold va_Nw
  rw [← e, e2]
  exact hZ
theorem va_Nw.warmAA {t : FieldType} {s U : State} (hW : s.WarmedH U.vm) (hZ : va_Nw (.arrayOver (.array t)) s) : va_Nw (.arrayOver (.array t)) U := by
  have hvm := hW.alike
  unfold va_Nw Cond.before Cond.holds at hZ ⊢
  simp only [Cond.value] at hZ ⊢
  cases hc : s.vm.findClass (FieldType.array t).toString with
  | none => simp [hc] at hZ
  | some comp =>
    have f1 : U.vm.findClass (FieldType.array t).toString = some comp := by rw [hvm.findClass]; exact hc
    simp only [hc, Option.bind_some, beq_iff_eq, Option.bind_eq_some_iff, Option.map_eq_some_iff] at hZ
    obtain ⟨c, hi, k, hk, hb⟩ := hZ
    obtain ⟨k', hk', he⟩ := hvm.2.2 _ _ hk
    have hi' : (U.vm.classes.findIdx? fun (x : Class) => match x.kind with | .array component _ => component == comp | _ => false) = some c := by
      refine (va_idx_bare U.vm comp).symm.trans ?_
      first | rw [hvm.bare_eq] | rw [← hvm.bare_eq]
      exact (va_idx_bare s.vm comp).trans hi
    have ek : k'.kind = k.kind := by rw [he]
    rw [f1, Option.bind_some]
    refine (congrArg (fun o : Option Nat => (o.bind (fun c => (U.vm.classes[c]?).map fun (k : Class) => match k.kind with | .array _ ty => decide (ty = FieldType.array t) && decide (U.vm.findClass ("[" ++ (FieldType.array t).toString) = some c) | _ => false) == some true)) hi').trans ?_
    simp only [Option.bind_some, hk', Option.map_some, ek, hvm.findClass]
    exact beq_iff_eq.mpr (congrArg some hb)
theorem hh_NW.warm {s U : State} (hW : s.WarmedH U.vm) (h : hh_NW s) : hh_NW U := by
  intro w hw
  have h1 := h w hw
  have g := (List.mem_filter.mp hw).2
  cases w <;> first | exact va_Nw.warmF hW h1 | exact va_Nw.warmM hW h1 | exact va_Nw.warmC hW h1 | exact va_Nw.warmD hW h1 | exact va_Nw.warmP hW h1 | exact va_Nw.warmU hW h1 | exact absurd g (by simp [hh_nwk])
theorem hh_NW.of {A : Array Value} {U : State} (h : ∀ w ∈ lw_tbl, w.before A U = true) : hh_NW U := by
  intro w hw
  have h1 := h w (List.mem_filter.mp hw).1
  have g := (List.mem_filter.mp hw).2
  cases w <;> first | exact va_Nw.of rfl h1 | exact absurd g (by simp [hh_nwk])
/-- classes whose arrays are made -/
def hh_aos : List String := ["HungryHedge$Trip", "HungryHedge$Risk", "HungryHedge$Clause", "HungryHedge$Row", "HungryHedge$Sheet", "HungryHedge$Shelf", "java/lang/String"]
def hh_AO (U : State) : Prop := ∀ C ∈ hh_aos, va_AO C U
theorem hh_AO.warm {s U : State} (hW : s.WarmedH U.vm) (h : hh_AO s) : hh_AO U := fun C hC => (h C hC).moved hW.alike
/-- which method an interface's call runs, by the receiver's class -/
def hh_fws : List (String × MethodName × MethodName) := [("HungryHedge$Compared", ⟨"HungryHedge$Cond", "holds", "(LHungryHedge;LHungryHedge$Trip;)Z"⟩, ⟨"HungryHedge$Compared", "holds", "(LHungryHedge;LHungryHedge$Trip;)Z"⟩),
  ("HungryHedge$Not", ⟨"HungryHedge$Cond", "holds", "(LHungryHedge;LHungryHedge$Trip;)Z"⟩, ⟨"HungryHedge$Not", "holds", "(LHungryHedge;LHungryHedge$Trip;)Z"⟩),
  ("HungryHedge$Both", ⟨"HungryHedge$Cond", "holds", "(LHungryHedge;LHungryHedge$Trip;)Z"⟩, ⟨"HungryHedge$Both", "holds", "(LHungryHedge;LHungryHedge$Trip;)Z"⟩),
  ("HungryHedge$Either", ⟨"HungryHedge$Cond", "holds", "(LHungryHedge;LHungryHedge$Trip;)Z"⟩, ⟨"HungryHedge$Either", "holds", "(LHungryHedge;LHungryHedge$Trip;)Z"⟩),
  ("HungryHedge$BirdThing", ⟨"HungryHedge$Eats", "eats", "(I)I"⟩, ⟨"HungryHedge$BirdThing", "eats", "(I)I"⟩),
  ("HungryHedge$BirdThing", ⟨"HungryHedge$Tells", "tells", "(I)I"⟩, ⟨"HungryHedge$BirdThing", "tells", "(I)I"⟩),
  ("HungryHedge$BushThing", ⟨"HungryHedge$Eats", "eats", "(I)I"⟩, ⟨"HungryHedge$PatchThing", "eats", "(I)I"⟩),
  ("HungryHedge$BushThing", ⟨"HungryHedge$Tells", "tells", "(I)I"⟩, ⟨"HungryHedge$PatchThing", "tells", "(I)I"⟩),
  ("HungryHedge$FeederThing", ⟨"HungryHedge$Eats", "eats", "(I)I"⟩, ⟨"HungryHedge$FeederThing", "eats", "(I)I"⟩),
  ("HungryHedge$FeederThing", ⟨"HungryHedge$Tells", "tells", "(I)I"⟩, ⟨"HungryHedge$FieldThing", "tells", "(I)I"⟩),
  ("HungryHedge$FieldThing", ⟨"HungryHedge$Eats", "eats", "(I)I"⟩, ⟨"HungryHedge$FieldThing", "eats", "(I)I"⟩),
  ("HungryHedge$FieldThing", ⟨"HungryHedge$Tells", "tells", "(I)I"⟩, ⟨"HungryHedge$FieldThing", "tells", "(I)I"⟩),
  ("HungryHedge$NestThing", ⟨"HungryHedge$Eats", "eats", "(I)I"⟩, ⟨"HungryHedge$PatchThing", "eats", "(I)I"⟩),
  ("HungryHedge$NestThing", ⟨"HungryHedge$Tells", "tells", "(I)I"⟩, ⟨"HungryHedge$PatchThing", "tells", "(I)I"⟩),
  ("HungryHedge$RiskThing", ⟨"HungryHedge$Eats", "eats", "(I)I"⟩, ⟨"HungryHedge$RiskThing", "eats", "(I)I"⟩),
  ("HungryHedge$RiskThing", ⟨"HungryHedge$Tells", "tells", "(I)I"⟩, ⟨"HungryHedge$RiskThing", "tells", "(I)I"⟩)]
theorem hh_fws_ok : ∀ t ∈ hh_fws, t.2.1.cls ≠ "java/lang/invoke/MethodHandle" ∧ t.2.1.cls ≠ "java/lang/invoke/VarHandle" := by decide +kernel
def hh_FW (U : State) : Prop := ∀ t ∈ hh_fws, va_Fw t.1 t.2.1 t.2.2 U
theorem hh_FW.warm {s U : State} (hW : s.WarmedH U.vm) (h : hh_FW s) : hh_FW U := fun t ht => (h t ht).moved (hh_fws_ok t ht) hW.alike
/-- pairs of classes of which the first isn't castable to the second -/
def hh_ncs : List (String × String) := [("HungryHedge$Fault", "HungryHedge$Nothing"), ("HungryHedge$Beyond", "HungryHedge$Nothing"), ("java/lang/ClassCastException", "HungryHedge$Nothing"), ("java/lang/NegativeArraySizeException", "HungryHedge$Nothing"), ("java/lang/ArithmeticException", "HungryHedge$Nothing"), ("HungryHedge$Fault", "java/lang/ClassCastException"), ("HungryHedge$Beyond", "java/lang/ClassCastException"), ("HungryHedge$Nothing", "java/lang/ClassCastException"), ("java/lang/NegativeArraySizeException", "java/lang/ClassCastException"), ("java/lang/ArithmeticException", "java/lang/ClassCastException"), ("HungryHedge$Beyond", "HungryHedge$Fault"), ("HungryHedge$Nothing", "HungryHedge$Fault"), ("java/lang/ClassCastException", "HungryHedge$Fault"), ("java/lang/NegativeArraySizeException", "HungryHedge$Fault"), ("java/lang/ArithmeticException", "HungryHedge$Fault"), ("HungryHedge$Fault", "java/lang/NegativeArraySizeException"), ("HungryHedge$Beyond", "java/lang/NegativeArraySizeException"), ("HungryHedge$Nothing", "java/lang/NegativeArraySizeException"), ("java/lang/ClassCastException", "java/lang/NegativeArraySizeException"), ("java/lang/ArithmeticException", "java/lang/NegativeArraySizeException"), ("HungryHedge$Fault", "HungryHedge$Beyond"), ("HungryHedge$Nothing", "HungryHedge$Beyond"), ("java/lang/ClassCastException", "HungryHedge$Beyond"), ("java/lang/NegativeArraySizeException", "HungryHedge$Beyond"), ("java/lang/ArithmeticException", "HungryHedge$Beyond"), ("HungryHedge$Fault", "java/lang/ArithmeticException"), ("HungryHedge$Beyond", "java/lang/ArithmeticException"), ("HungryHedge$Nothing", "java/lang/ArithmeticException"), ("java/lang/ClassCastException", "java/lang/ArithmeticException"), ("java/lang/NegativeArraySizeException", "java/lang/ArithmeticException"), ("HungryHedge$RiskThing", "HungryHedge$PatchThing"), ("HungryHedge$BirdThing", "HungryHedge$PatchThing"), ("HungryHedge$NestThing", "HungryHedge$BushThing"), ("HungryHedge$RiskThing", "HungryHedge$BushThing"), ("HungryHedge$BirdThing", "HungryHedge$BushThing"), ("HungryHedge$BushThing", "HungryHedge$FieldThing"), ("HungryHedge$NestThing", "HungryHedge$FieldThing"), ("HungryHedge$RiskThing", "HungryHedge$FieldThing"), ("HungryHedge$BirdThing", "HungryHedge$FieldThing"), ("HungryHedge$BushThing", "HungryHedge$FeederThing"), ("HungryHedge$FieldThing", "HungryHedge$FeederThing"), ("HungryHedge$NestThing", "HungryHedge$FeederThing"), ("HungryHedge$RiskThing", "HungryHedge$FeederThing"), ("HungryHedge$BirdThing", "HungryHedge$FeederThing"), ("HungryHedge$BushThing", "HungryHedge$NestThing"), ("HungryHedge$FieldThing", "HungryHedge$NestThing"), ("HungryHedge$FeederThing", "HungryHedge$NestThing"), ("HungryHedge$RiskThing", "HungryHedge$NestThing"), ("HungryHedge$BirdThing", "HungryHedge$NestThing"), ("HungryHedge$BushThing", "HungryHedge$RiskThing"), ("HungryHedge$FieldThing", "HungryHedge$RiskThing"), ("HungryHedge$FeederThing", "HungryHedge$RiskThing"), ("HungryHedge$NestThing", "HungryHedge$RiskThing"), ("HungryHedge$BirdThing", "HungryHedge$RiskThing"), ("HungryHedge$BushThing", "HungryHedge$BirdThing"), ("HungryHedge$FieldThing", "HungryHedge$BirdThing"), ("HungryHedge$FeederThing", "HungryHedge$BirdThing"), ("HungryHedge$NestThing", "HungryHedge$BirdThing"), ("HungryHedge$RiskThing", "HungryHedge$BirdThing"), ("HungryHedge$BushThing", "[S"), ("HungryHedge$FieldThing", "[S"), ("HungryHedge$FeederThing", "[S"), ("HungryHedge$NestThing", "[S"), ("HungryHedge$RiskThing", "[S"), ("HungryHedge$BirdThing", "[S"), ("[I", "[S"), ("[J", "[S"), ("[B", "[S"), ("HungryHedge$BushThing", "[B"), ("HungryHedge$FieldThing", "[B"), ("HungryHedge$FeederThing", "[B"), ("HungryHedge$NestThing", "[B"), ("HungryHedge$RiskThing", "[B"), ("HungryHedge$BirdThing", "[B"), ("[I", "[B"), ("[J", "[B"), ("[S", "[B"), ("HungryHedge$BushThing", "[J"), ("HungryHedge$FieldThing", "[J"), ("HungryHedge$FeederThing", "[J"), ("HungryHedge$NestThing", "[J"), ("HungryHedge$RiskThing", "[J"), ("HungryHedge$BirdThing", "[J"), ("[I", "[J"), ("[B", "[J"), ("[S", "[J"), ("HungryHedge$BushThing", "[I"), ("HungryHedge$FieldThing", "[I"), ("HungryHedge$FeederThing", "[I"), ("HungryHedge$NestThing", "[I"), ("HungryHedge$RiskThing", "[I"), ("HungryHedge$BirdThing", "[I"), ("[J", "[I"), ("[B", "[I"), ("[S", "[I"), ("[I", "HungryHedge$PatchThing"), ("[J", "HungryHedge$PatchThing"), ("[B", "HungryHedge$PatchThing"), ("[S", "HungryHedge$PatchThing"), ("[I", "HungryHedge$BushThing"), ("[J", "HungryHedge$BushThing"), ("[B", "HungryHedge$BushThing"), ("[S", "HungryHedge$BushThing"), ("[I", "HungryHedge$FieldThing"), ("[J", "HungryHedge$FieldThing"), ("[B", "HungryHedge$FieldThing"), ("[S", "HungryHedge$FieldThing"), ("[I", "HungryHedge$FeederThing"), ("[J", "HungryHedge$FeederThing"), ("[B", "HungryHedge$FeederThing"), ("[S", "HungryHedge$FeederThing"), ("[I", "HungryHedge$NestThing"), ("[J", "HungryHedge$NestThing"), ("[B", "HungryHedge$NestThing"), ("[S", "HungryHedge$NestThing"), ("[I", "HungryHedge$RiskThing"), ("[J", "HungryHedge$RiskThing"), ("[B", "HungryHedge$RiskThing"), ("[S", "HungryHedge$RiskThing"), ("[I", "HungryHedge$BirdThing"), ("[J", "HungryHedge$BirdThing"), ("[B", "HungryHedge$BirdThing"), ("[S", "HungryHedge$BirdThing"), ("[I", "HungryHedge$Tells"), ("[J", "HungryHedge$Tells"), ("[B", "HungryHedge$Tells"), ("[S", "HungryHedge$Tells")]
def hh_NC (U : State) : Prop := ∀ q ∈ hh_ncs, va_Nc q.1 q.2 U
theorem hh_NC.warm {s U : State} (hW : s.WarmedH U.vm) (h : hh_NC s) : hh_NC U := fun q hq => va_Nc.moved hW.alike (h q hq)
theorem hh_mod {s U : State} (hW : s.WarmedH U.vm) (h : modulesRight_1 s = true) : modulesRight_1 U = true := by
  have e : U.vm.modules = s.vm.modules := by
    have h1 := hW.alike.1
    rw [h1]
  unfold modulesRight_1 at h ⊢
  rw [e]
  exact h
/-- of the narrow premise: links and targets of the calls through HungryHedge$Tells -/
def hh_iws : List Cond := [.methodLink "HungryHedge" 460 ⟨"HungryHedge$Tells", "eats", "(I)I"⟩, .methodLink "HungryHedge" 465 ⟨"HungryHedge$Tells", "stays", "(I)I"⟩, .methodLink "HungryHedge" 468 ⟨"HungryHedge$Tells", "flies", "(I)I"⟩, .methodLink "HungryHedge$PatchThing" 26 ⟨"HungryHedge$Tells", "stays", "(I)I"⟩,
  .interfaceMethod "HungryHedge$Tells" "HungryHedge$Eats" "eats" "(I)I", .interfaceMethod "HungryHedge$Tells" "HungryHedge$Eats" "stays" "(I)I", .interfaceMethod "HungryHedge$Tells" "HungryHedge$Flies" "flies" "(I)I", .landsInDefault "HungryHedge$Tells" ⟨"HungryHedge$Tells", "stays", "(I)I"⟩ ⟨"HungryHedge$Eats", "stays", "(I)I"⟩, .arrayOver (.array .long)]
def hh_IW (U : State) : Prop := ∀ w ∈ hh_iws, va_Nw w U
theorem hh_IW.warm {s U : State} (hW : s.WarmedH U.vm) (h : hh_IW s) : hh_IW U := by
  intro w hw
  have h1 := h w hw
  simp only [hh_iws, List.mem_cons, List.not_mem_nil, or_false] at hw
  rcases hw with rfl | rfl | rfl | rfl | rfl | rfl | rfl | rfl | rfl
  · exact va_Nw.warmL hW h1
  · exact va_Nw.warmL hW h1
  · exact va_Nw.warmL hW h1
  · exact va_Nw.warmL hW h1
  · exact va_Nw.warmI hW h1
  · exact va_Nw.warmI hW h1
  · exact va_Nw.warmI hW h1
  · exact va_Nw.warmDf hW h1
  · exact va_Nw.warmAA hW h1
def hh_S (G : hh_G) (U : State) : Prop := va_K G.1 hh_cl (hh_tys G.2) U ∧ hh_NW U ∧ hh_AO U ∧ hh_FW U ∧ hh_NC U ∧ modulesRight_1 U = true ∧ hh_IW U
theorem hh_S.warm {G : hh_G} {s U : State} (hW : s.WarmedH U.vm) (h : hh_S G s) : hh_S G U := ⟨va_K.moved hW.alike h.1, h.2.1.warm hW, h.2.2.1.warm hW, h.2.2.2.1.warm hW, h.2.2.2.2.1.warm hW, hh_mod hW h.2.2.2.2.2.1, h.2.2.2.2.2.2.warm hW⟩
theorem hh_S.calling {G : hh_G} {U : State} {g : JFrame} {mk : MethodId} {a : Array Value} (h : hh_S G U) : hh_S G (U.calling g mk a) := h.warm (U := U.calling g mk a) (State.WarmedH.refl U)
/-- the String constants (all of Reader's): entry and text; their lengths; their bytes. Numbers: 1000000 + k the String, 1000100 + k its bytes; 1000200, 1000201 what two statics of Throwable hold -/
def hh_str : List (Nat × String) := [(11, "food"), (13, "miles"), (15, "yield"), (17, "left"), (19, "got"), (21, "here"), (152, "feed"), (154, "go"), (105, "not"), (117, ")"), (134, "and"), (144, "or"), (159, ";")]
def hh_len : List Nat := [4, 5, 5, 4, 3, 4, 4, 2, 3, 1, 3, 2, 1]
def hh_byt : List (List Int32) := [[102, 111, 111, 100], [109, 105, 108, 101, 115], [121, 105, 101, 108, 100], [108, 101, 102, 116], [103, 111, 116], [104, 101, 114, 101], [102, 101, 101, 100], [103, 111], [110, 111, 116], [41], [97, 110, 100], [111, 114], [59]]
def hh_st2s : List (Nat × String × String) := [(1000200, "UNASSIGNED_STACK", "[Ljava/lang/StackTraceElement;"), (1000201, "SUPPRESSED_SENTINEL", "Ljava/util/List;")]
/-- constants outside of the world, at the numbers from 1000000 on -/
def hh_X (φ : Nat → Nat) (A : Nat → Prop) (U : State) (H : Heap) : Prop :=
  vk_S 13 hh_len hh_byt (fun k => φ (1000000 + k)) (fun k => φ (1000100 + k)) A U H ∧ (∀ (k : Nat) (q : Nat × String), hh_str[k]? = some q → vk_R "HungryHedge$Reader" q.1 q.2 (φ (1000000 + k)) U) ∧
  (∀ q ∈ hh_st2s, (va_Z "java/lang/Throwable" q.2.1 q.2.2 .null A U H ∨ va_Z "java/lang/Throwable" q.2.1 q.2.2 (.ref (φ q.1)) A U H) ∧ vx_L "java/lang/Throwable" q.2.1 q.2.2 A U H) ∧
  va_Z "java/lang/String" "COMPACT_STRINGS" "Z" (.int 1) A U H ∧ (va_Z "jdk/internal/util/Preconditions" "SIOOBE_FORMATTER" "Ljava/util/function/BiFunction;" .null A U H ∨ va_Z "jdk/internal/util/Preconditions" "SIOOBE_FORMATTER" "Ljava/util/function/BiFunction;" (.ref (φ 1000202)) A U H)
theorem hh_st2s_big : ∀ q ∈ hh_st2s, 1000000 ≤ q.1 := by decide
theorem hh_X.to {φ φ0 : Nat → Nat} {A B : Nat → Prop} {s U : State} {H : Heap} (h : hh_X φ0 A s s.heap) (hφ : ∀ i, 1000000 ≤ i → φ i = φ0 i) (hk : ∀ a : Nat, a < s.heap.size → ¬ A a → H[a]? = s.heap[a]?) (hW : s.WarmedH U.vm) (hAB : ∀ q, B q → A q) : hh_X φ B U H := by
  have e1 : (fun k => φ (1000000 + k)) = fun k => φ0 (1000000 + k) := funext fun k => hφ _ (Nat.le_add_right _ _)
  have e2 : (fun k => φ (1000100 + k)) = fun k => φ0 (1000100 + k) := funext fun k => hφ _ (by omega)
  refine ⟨?_, fun k q hq => ?_, fun q hq => ?_, ((h.2.2.2.1.kept hk).moved hW.alike).narrow hAB, ?_⟩
  · rw [e1, e2]
    exact ((h.1.kept hk).moved hW.alike).narrow hAB
  · rw [hφ _ (Nat.le_add_right _ _)]
    exact (h.2.1 k q hq).warm hW
  · rw [hφ _ (hh_st2s_big q hq)]
    refine ⟨?_, (((h.2.2.1 q hq).2.kept hk).moved hW.alike).narrow hAB⟩
    rcases (h.2.2.1 q hq).1 with g | g
    · exact Or.inl (((g.kept hk).moved hW.alike).narrow hAB)
    · exact Or.inr (((g.kept hk).moved hW.alike).narrow hAB)
  · rw [hφ 1000202 (by decide)]
    rcases h.2.2.2.2 with g | g
    · exact Or.inl (((g.kept hk).moved hW.alike).narrow hAB)
    · exact Or.inr (((g.kept hk).moved hW.alike).narrow hAB)
theorem hh_X.calling {φ : Nat → Nat} {A : Nat → Prop} {U : State} {g : JFrame} {mk : MethodId} {a : Array Value} (h : hh_X φ A U U.heap) : hh_X φ A (U.calling g mk a) U.heap := h.to (U := U.calling g mk a) (fun _ _ => rfl) (fun _ _ _ => rfl) (State.WarmedH.refl U) (fun _ q => q)
/-! THE JUDGEMENT: p l e R s m args below meth c, the tables, what may be written, the places at the start, how many, the locals, the end -/
abbrev hh_CX : Type _ := Program × Launch × Env × Room × State × MethodId × Array Value × List Frame × Method × Code × hh_G × (Nat → Prop) × (Nat → Nat) × Nat × Nat × (State → Prop)
def hh_V : hh_CX → Nat → List (Nat × Value) → List Value → Nat → Nat → hh_T → Prop
  | (p, l, e, R, s, m, args, below, meth, c, G, A, φ0, n0, nL, Q), pc, loc, st, cells, slots, h =>
    ∀ (φ : Nat → Nat) (H : Heap) (locs : List Loc) (ls : Array Slot), (∀ i, i < n0 ∨ 1000000 ≤ i → φ i = φ0 i) → n0 ≤ hhN h → hh_W G φ h H → va_D A (hh_ws G.2 φ h) → va_S A s.heap H locs → lv_has ls nL (hh_tl φ loc) → okl h loc → oks h st →
      W p l e R s m args below meth c H locs cells slots Q (F0 m pc ls (st.map (hh_tv φ)))
/-- what holds all through a method's walk: its code, its class, its room, the tables -/
def hh_C : hh_CX → ByteArray → String → Room → Prop
  | (p, l, e, R, s, m, args, below, meth, c, G, A, φ0, n0, nL, Q), cc, own, rm =>
    p.tables.exec = Jvm.exec ∧ c.code = cc ∧ c.maxLocals = nL ∧ s.vm.findClass own = some m.cls ∧ (∀ w ∈ lw_all, w.before args s = true) ∧ hh_S G s ∧ (∀ q, s.heap.size ≤ q → A q) ∧ R = rm ∧ meth.locks = false ∧ hh_X φ0 A s s.heap ∧ l.stackTraces = false
/-- how many locals -/
def hh_nL : hh_CX → Nat
  | (_, _, _, _, _, _, _, _, _, _, _, _, _, _, nL, _) => nL
/-- a method's end: it returned v, the heap is h', and 'Qp v h'' -/
def hh_QM (G : hh_G) (A : Nat → Prop) (φ0 : Nat → Nat) (n0 : Nat) (Qp : Option Value → hh_T → Prop) : Array Value → State → Outcome → State → Prop := fun _ st oc t =>
  (∃ (v : Option Value) (h' : hh_T) (φ' : Nat → Nat), oc = .returned (v.map (hh_tv φ')) ∧ Qp v h' ∧ (∀ i, i < n0 ∨ 1000000 ≤ i → φ' i = φ0 i) ∧ n0 ≤ hhN h' ∧ hh_W G φ' h' t.heap ∧ va_D A (hh_ws G.2 φ' h') ∧ (∀ x, v = some x → okv h' x)) ∧ va_F A st t
/-- the walk ends in hh_QM; the method's answer is of type ret -/
def hh_E : hh_CX → Option FieldType → (Option Value → hh_T → Prop) → Nat → Nat → Prop
  | (_, _, _, _, s, _, args, below, meth, _, G, A, φ0, n0, _, Q), ret, Qp, mc, ms => Q = MQ below (hh_QM G A φ0 n0 Qp) args s mc ms A ∧ meth.sig.returnType = ret
/-- a method's start -/
def hh_Pc (G : hh_G) (φ0 : Nat → Nat) (sz : Nat) (al : List Value) (h : hh_T) : Array Value → State → Prop := va_Pc (al.map (hh_tv φ0)) (fun U => U.heap.size = sz ∧ hh_W G φ0 h U.heap ∧ va_D (fun _ => True) (hh_ws G.2 φ0 h) ∧ oks h al ∧ hh_S G U ∧ hh_X φ0 (va_A (hh_ws G.2 φ0 h) sz) U U.heap)
/-- A METHOD'S CONTRACT: from the heap h with the arguments al it returns, and its answer and its heap are in Qp -/
def hh_Ct (y : MethodName) (cc : ByteArray) (nL : Nat) (ret : Option FieldType) (fr lo : Nat) (al : List Value) (h : hh_T) (Qp : Option Value → hh_T → Prop) (mc ms : Nat) : Prop :=
  ∀ (l : Launch) (G : hh_G) (φ0 : Nat → Nat) (sz : Nat), l.stackTraces = false → Met l y (ws_ y cc nL ret) ({ frames := fr, cells := mc, slots := ms, locals := lo }) (hh_Pc G φ0 sz al h) (hh_QM G (va_A (hh_ws G.2 φ0 h) sz) φ0 (hhN h) Qp) mc ms (va_A (hh_ws G.2 φ0 h) sz)
theorem hh_map_tl {φ : Nat → Nat} : ∀ (l : List (Nat × Value)) (k i : Nat) (v : Value), l[k]? = some (i, v) → (hh_tl φ l)[k]? = some (i, hh_tv φ v) := fun _ _ _ _ h => hh_tl_at h
theorem hh_args_tl (φ : Nat → Nat) : ∀ (vs : List Value) (i : Nat), lv_args i (vs.map (hh_tv φ)) = hh_tl φ (lv_args i vs)
  | [], _ => rfl
  | v :: vs, i => by
    simp only [List.map_cons, lv_args, hh_tv_cat]
    rw [hh_args_tl φ vs]
    rfl
theorem hh_sl_len (φ : Nat → Nat) (vs : List Value) : (lg_sl (vs.map (hh_tv φ))).length = (lg_sl vs).length := by
  induction vs with
  | nil => rfl
  | cons v vs ih =>
    simp only [lg_sl, List.map_cons, List.flatMap_cons, List.length_append, hh_tv_cat] at ih ⊢
    rw [ih]
    split <;> rfl
theorem okl_st {h : hh_T} {l : List (Nat × Value)} {i : Nat} {v : Value} (hl : okl h l) (hv : okv h v) : okl h (hh_st l i v) := by
  intro q hq
  rcases List.mem_cons.mp hq with e | e
  · rw [e]; exact hv
  · exact hl q (List.mem_filter.mp e).1
theorem okl_st2 {h : hh_T} {l : List (Nat × Value)} {i : Nat} {v : Value} (hl : okl h l) (hv : okv h v) : okl h (hh_st2 l i v) := by
  intro q hq
  rcases List.mem_cons.mp hq with e | e
  · rw [e]; exact hv
  · exact hl q (List.mem_filter.mp e).1
theorem hh_tl_st2 {φ : Nat → Nat} {l : List (Nat × Value)} {i : Nat} {v : Value} : hh_st2 (hh_tl φ l) i (hh_tv φ v) = hh_tl φ (hh_st2 l i v) := by
  simp [hh_st2, hh_tl, List.filter_map, Function.comp_def, hh_tv_cat]
/-- from a walk to the contract -/
theorem hh_Ct.of {y : MethodName} {cc : ByteArray} {nL : Nat} {ret : Option FieldType} {fr lo : Nat} {al : List Value} {h : hh_T} {Qp : Option Value → hh_T → Prop} {mc ms : Nat} {own : String} (hown : y.cls = own) (hy : plainName y.cls = true) (hn : (lg_sl al).length ≤ nL)
    (kk : ∀ X : hh_CX, hh_C X cc own ({ frames := fr, cells := mc, slots := ms, locals := lo }) → hh_nL X = nL → hh_E X ret Qp mc ms → hh_V X 0 (lv_args 0 al) [] 0 0 h) : hh_Ct y cc nL ret fr lo al h Qp mc ms := by
  intro l G φ0 sz hlt
  refine Met.ofW (cc := cc) (maxL := nL) (ret := ret) hy rfl ?_
  intro p e s m args below meth c s₁ B hml hv
  obtain ⟨rfl, hsz, hW, hD0, hok, hS, hXx⟩ := hv
  have hts := atoms_spec (ws := ws_ y cc nL ret) B.pre
  have hts : ∀ w ∈ lw_all, w.before _ s = true := fun w h => hts w (List.mem_cons_of_mem _ h)
  subst hsz
  have hfc : s.vm.findClass own = some m.cls := by rw [← hown]; exact findClass_of_methodNamed B.named
  have K := kk (p, l, e, _, s, m, _, below, meth, c, G, va_A (hh_ws G.2 φ0 h) s.heap.size, φ0, hhN h, nL, _) ⟨B.exec, B.bytes, hml, hfc, hts, hS, fun q hq => Or.inr hq, rfl, B.notSynchronized, hXx, hlt⟩ rfl ⟨rfl, B.returns⟩
  have hl := lv_entry (al.map (hh_tv φ0)) (n := nL) (by rw [hh_sl_len]; exact hn)
  rw [lg_entry_eq]
  refine K φ0 s.heap [] _ (fun _ _ => rfl) (Nat.le_refl _) hW hD0.self va_S.rf ?_ ?_ trivial
  · rw [hh_args_tl] at hl
    exact hl
  · clear K hl hts hfc hD0 hW hXx
    have key : ∀ (vs : List Value) (i : Nat), oks h vs → okl h (lv_args i vs) := by
      intro vs
      induction vs with
      | nil => intro i _ q hq; cases hq
      | cons v vs ih =>
        intro i ho q hq
        rcases List.mem_cons.mp hq with e1 | e1
        · rw [e1]; exact ho.1
        · exact ih _ ho.2 q e1
    exact key al 0 hok
theorem hv_widen {X : hh_CX} {pc : Nat} {loc : List (Nat × Value)} {st : List Value} {z k z' k' : Nat} {h : hh_T} (h1 : z ≤ z') (h2 : k ≤ k') (kk : hh_V X pc loc st z' k' h) : hh_V X pc loc st z k h := by
  obtain ⟨p, l, e, R, s, m, args, below, meth, c, G, A, φ0, n0, nL, Q⟩ := X
  intro φ H locs ls g1 g2 g3 g4 g5 g6 g7 g8
  exact W.widen h1 h2 (kk φ H locs ls g1 g2 g3 g4 g5 g6 g7 g8)
/-- fewer locals are remembered -/
theorem hv_fewer {X : hh_CX} {pc : Nat} {loc loc2 : List (Nat × Value)} {st : List Value} {z k : Nat} {h : hh_T} (ks : List Nat) (hl : lv_pick loc ks = loc2) (kk : hh_V X pc loc2 st z k h) : hh_V X pc loc st z k h := by
  obtain ⟨p, l, e, R, s, m, args, below, meth, c, G, A, φ0, n0, nL, Q⟩ := X
  intro φ H locs ls g1 g2 g3 g4 g5 g6 g7 g8
  refine kk φ H locs ls g1 g2 g3 g4 g5 (lv_sub g6 ks ?_) (fun q hq => ?_) g8
  · subst hl
    simp [lv_pick, hh_tl, List.map_filterMap]
  · subst hl
    obtain ⟨i, -, hi⟩ := List.mem_filterMap.mp hq
    exact g7 q (List.mem_of_getElem? hi)
theorem hv_iret {X : hh_CX} {cc : ByteArray} {own : String} {rm : Room} {pc : Nat} {loc : List (Nat × Value)} {z k : Nat} {h : hh_T} {Qp : Option Value → hh_T → Prop} {v : Int32} (hX : hh_C X cc own rm) (hE : hh_E X (some .int) Qp z k) (hd : decode cc pc = .ok (.ireturn, 1)) (hq : Qp (some (.int v)) h) : hh_V X pc loc [.int v] z k h := by
  obtain ⟨p, l, e, R, s, m, args, below, meth, c, G, A, φ0, n0, nL, Q⟩ := X
  intro φ H locs ls h1 h2 h3 h4 h5 h6 h7 h8
  obtain ⟨rfl, hr⟩ := hE
  exact W.iret hX.1 hX.2.1 hr (fun t ht hW => ⟨⟨some (.int v), h, φ, rfl, hq, h1, h2, by rw [ht]; exact h3, h4, fun x hx => by cases hx; trivial⟩, h5.F ht⟩) h5.2.2 hd (hlocks := hX.2.2.2.2.2.2.2.2.1)
theorem hv_zret {X : hh_CX} {cc : ByteArray} {own : String} {rm : Room} {pc : Nat} {loc : List (Nat × Value)} {z k : Nat} {h : hh_T} {Qp : Option Value → hh_T → Prop} {v : Int32} (hX : hh_C X cc own rm) (hE : hh_E X (some .boolean) Qp z k) (hd : decode cc pc = .ok (.ireturn, 1)) (hn : narrow .boolean (.int v) = .int v) (hq : Qp (some (.int v)) h) : hh_V X pc loc [.int v] z k h := by
  obtain ⟨p, l, e, R, s, m, args, below, meth, c, G, A, φ0, n0, nL, Q⟩ := X
  intro φ H locs ls h1 h2 h3 h4 h5 h6 h7 h8
  obtain ⟨rfl, hr⟩ := hE
  exact W.zret hX.1 hX.2.1 hr hn (fun t ht hW => ⟨⟨some (.int v), h, φ, rfl, hq, h1, h2, by rw [ht]; exact h3, h4, fun x hx => by cases hx; trivial⟩, h5.F ht⟩) h5.2.2 hd (hlocks := hX.2.2.2.2.2.2.2.2.1)
theorem hv_lret {X : hh_CX} {cc : ByteArray} {own : String} {rm : Room} {pc : Nat} {loc : List (Nat × Value)} {z k : Nat} {h : hh_T} {Qp : Option Value → hh_T → Prop} {v : Int64} (hX : hh_C X cc own rm) (hE : hh_E X (some .long) Qp z k) (hd : decode cc pc = .ok (.lreturn, 1)) (hq : Qp (some (.long v)) h) : hh_V X pc loc [.long v] z k h := by
  obtain ⟨p, l, e, R, s, m, args, below, meth, c, G, A, φ0, n0, nL, Q⟩ := X
  intro φ H locs ls h1 h2 h3 h4 h5 h6 h7 h8
  obtain ⟨rfl, hr⟩ := hE
  exact W.lret hX.1 hX.2.1 hr (fun t ht hW => ⟨⟨some (.long v), h, φ, rfl, hq, h1, h2, by rw [ht]; exact h3, h4, fun x hx => by cases hx; trivial⟩, h5.F ht⟩) h5.2.2 hd (hlocks := hX.2.2.2.2.2.2.2.2.1)
theorem hv_vret {X : hh_CX} {cc : ByteArray} {own : String} {rm : Room} {pc : Nat} {loc : List (Nat × Value)} {z k : Nat} {h : hh_T} {Qp : Option Value → hh_T → Prop} (hX : hh_C X cc own rm) (hE : hh_E X none Qp z k) (hd : decode cc pc = .ok (.return_, 1)) (hq : Qp none h) : hh_V X pc loc [] z k h := by
  obtain ⟨p, l, e, R, s, m, args, below, meth, c, G, A, φ0, n0, nL, Q⟩ := X
  intro φ H locs ls h1 h2 h3 h4 h5 h6 h7 h8
  obtain ⟨rfl, hr⟩ := hE
  exact W.vret hX.1 hX.2.1 hr (fun t ht hW => ⟨⟨none, h, φ, rfl, hq, h1, h2, by rw [ht]; exact h3, h4, fun x hx => by cases hx⟩, h5.F ht⟩) h5.2.2 hd (hlocks := hX.2.2.2.2.2.2.2.2.1)
theorem hv_aret {X : hh_CX} {cc : ByteArray} {own : String} {rm : Room} {pc : Nat} {loc : List (Nat × Value)} {z k : Nat} {h : hh_T} {Qp : Option Value → hh_T → Prop} {v : Value} {rt : FieldType} (hX : hh_C X cc own rm) (hE : hh_E X (some rt) Qp z k) (hrt : (∃ n, rt = .object n) ∨ ∃ t, rt = .array t) (hv : v = .null ∨ ∃ a, v = .ref a) (hd : decode cc pc = .ok (.areturn, 1)) (hq : Qp (some v) h) : hh_V X pc loc [v] z k h := by
  obtain ⟨p, l, e, R, s, m, args, below, meth, c, G, A, φ0, n0, nL, Q⟩ := X
  intro φ H locs ls h1 h2 h3 h4 h5 h6 h7 h8
  obtain ⟨rfl, hr⟩ := hE
  have hv2 : hh_tv φ v = .null ∨ ∃ a, hh_tv φ v = .ref a := by
    rcases hv with rfl | ⟨a, rfl⟩
    · exact Or.inl rfl
    · exact Or.inr ⟨φ a, rfl⟩
  exact W.aret hX.1 hX.2.1 hr hrt hv2 (fun t ht hW => ⟨⟨some v, h, φ, rfl, hq, h1, h2, by rw [ht]; exact h3, h4, fun x hx => by cases hx; exact h8.1⟩, h5.F ht⟩) h5.2.2 hd (hlocks := hX.2.2.2.2.2.2.2.2.1)
theorem hv_iadd {X : hh_CX} {cc : ByteArray} {own : String} {rm : Room} {pc : Nat} {loc : List (Nat × Value)} {st : List Value} {z k : Nat} {h : hh_T} (hX : hh_C X cc own rm) {x y : Int32} (hd : decode cc pc = .ok (.iadd, 1))
    (kk : hh_V X (pc + 1) loc (.int (x + y) :: st) z k h) : hh_V X pc loc (.int y :: .int x :: st) z k h := by
  obtain ⟨p, l, e, R, s, m, args, below, meth, c, G, A, φ0, n0, nL, Q⟩ := X
  intro φ H locs ls h1 h2 h3 h4 h5 h6 h7 h8
  exact lv_iadd hX.1 hX.2.1 hd  (kk φ H locs ls h1 h2 h3 h4 h5 h6 h7 ⟨trivial, h8.2.2⟩)

theorem hv_isub {X : hh_CX} {cc : ByteArray} {own : String} {rm : Room} {pc : Nat} {loc : List (Nat × Value)} {st : List Value} {z k : Nat} {h : hh_T} (hX : hh_C X cc own rm) {x y : Int32} (hd : decode cc pc = .ok (.isub, 1))
    (kk : hh_V X (pc + 1) loc (.int (x - y) :: st) z k h) : hh_V X pc loc (.int y :: .int x :: st) z k h := by
  obtain ⟨p, l, e, R, s, m, args, below, meth, c, G, A, φ0, n0, nL, Q⟩ := X
  intro φ H locs ls h1 h2 h3 h4 h5 h6 h7 h8
  exact lv_isub hX.1 hX.2.1 hd  (kk φ H locs ls h1 h2 h3 h4 h5 h6 h7 ⟨trivial, h8.2.2⟩)

theorem hv_imul {X : hh_CX} {cc : ByteArray} {own : String} {rm : Room} {pc : Nat} {loc : List (Nat × Value)} {st : List Value} {z k : Nat} {h : hh_T} (hX : hh_C X cc own rm) {x y : Int32} (hd : decode cc pc = .ok (.imul, 1))
    (kk : hh_V X (pc + 1) loc (.int (x * y) :: st) z k h) : hh_V X pc loc (.int y :: .int x :: st) z k h := by
  obtain ⟨p, l, e, R, s, m, args, below, meth, c, G, A, φ0, n0, nL, Q⟩ := X
  intro φ H locs ls h1 h2 h3 h4 h5 h6 h7 h8
  exact lv_imul hX.1 hX.2.1 hd  (kk φ H locs ls h1 h2 h3 h4 h5 h6 h7 ⟨trivial, h8.2.2⟩)

theorem hv_iand {X : hh_CX} {cc : ByteArray} {own : String} {rm : Room} {pc : Nat} {loc : List (Nat × Value)} {st : List Value} {z k : Nat} {h : hh_T} (hX : hh_C X cc own rm) {x y : Int32} (hd : decode cc pc = .ok (.iand, 1))
    (kk : hh_V X (pc + 1) loc (.int (x &&& y) :: st) z k h) : hh_V X pc loc (.int y :: .int x :: st) z k h := by
  obtain ⟨p, l, e, R, s, m, args, below, meth, c, G, A, φ0, n0, nL, Q⟩ := X
  intro φ H locs ls h1 h2 h3 h4 h5 h6 h7 h8
  exact lv_iand hX.1 hX.2.1 hd  (kk φ H locs ls h1 h2 h3 h4 h5 h6 h7 ⟨trivial, h8.2.2⟩)

theorem hv_ior {X : hh_CX} {cc : ByteArray} {own : String} {rm : Room} {pc : Nat} {loc : List (Nat × Value)} {st : List Value} {z k : Nat} {h : hh_T} (hX : hh_C X cc own rm) {x y : Int32} (hd : decode cc pc = .ok (.ior, 1))
    (kk : hh_V X (pc + 1) loc (.int (x ||| y) :: st) z k h) : hh_V X pc loc (.int y :: .int x :: st) z k h := by
  obtain ⟨p, l, e, R, s, m, args, below, meth, c, G, A, φ0, n0, nL, Q⟩ := X
  intro φ H locs ls h1 h2 h3 h4 h5 h6 h7 h8
  exact lv_ior hX.1 hX.2.1 hd  (kk φ H locs ls h1 h2 h3 h4 h5 h6 h7 ⟨trivial, h8.2.2⟩)

theorem hv_ixor {X : hh_CX} {cc : ByteArray} {own : String} {rm : Room} {pc : Nat} {loc : List (Nat × Value)} {st : List Value} {z k : Nat} {h : hh_T} (hX : hh_C X cc own rm) {x y : Int32} (hd : decode cc pc = .ok (.ixor, 1))
    (kk : hh_V X (pc + 1) loc (.int (x ^^^ y) :: st) z k h) : hh_V X pc loc (.int y :: .int x :: st) z k h := by
  obtain ⟨p, l, e, R, s, m, args, below, meth, c, G, A, φ0, n0, nL, Q⟩ := X
  intro φ H locs ls h1 h2 h3 h4 h5 h6 h7 h8
  exact lv_ixor hX.1 hX.2.1 hd  (kk φ H locs ls h1 h2 h3 h4 h5 h6 h7 ⟨trivial, h8.2.2⟩)

theorem hv_ishl {X : hh_CX} {cc : ByteArray} {own : String} {rm : Room} {pc : Nat} {loc : List (Nat × Value)} {st : List Value} {z k : Nat} {h : hh_T} (hX : hh_C X cc own rm) {x y : Int32} (hd : decode cc pc = .ok (.ishl, 1))
    (kk : hh_V X (pc + 1) loc (.int (x <<< (y &&& 31)) :: st) z k h) : hh_V X pc loc (.int y :: .int x :: st) z k h := by
  obtain ⟨p, l, e, R, s, m, args, below, meth, c, G, A, φ0, n0, nL, Q⟩ := X
  intro φ H locs ls h1 h2 h3 h4 h5 h6 h7 h8
  exact lv_ishl hX.1 hX.2.1 hd  (kk φ H locs ls h1 h2 h3 h4 h5 h6 h7 ⟨trivial, h8.2.2⟩)

theorem hv_ishr {X : hh_CX} {cc : ByteArray} {own : String} {rm : Room} {pc : Nat} {loc : List (Nat × Value)} {st : List Value} {z k : Nat} {h : hh_T} (hX : hh_C X cc own rm) {x y : Int32} (hd : decode cc pc = .ok (.ishr, 1))
    (kk : hh_V X (pc + 1) loc (.int (x >>> (y &&& 31)) :: st) z k h) : hh_V X pc loc (.int y :: .int x :: st) z k h := by
  obtain ⟨p, l, e, R, s, m, args, below, meth, c, G, A, φ0, n0, nL, Q⟩ := X
  intro φ H locs ls h1 h2 h3 h4 h5 h6 h7 h8
  exact lv_ishr hX.1 hX.2.1 hd  (kk φ H locs ls h1 h2 h3 h4 h5 h6 h7 ⟨trivial, h8.2.2⟩)

theorem hv_ladd {X : hh_CX} {cc : ByteArray} {own : String} {rm : Room} {pc : Nat} {loc : List (Nat × Value)} {st : List Value} {z k : Nat} {h : hh_T} (hX : hh_C X cc own rm) {x y : Int64} (hd : decode cc pc = .ok (.ladd, 1))
    (kk : hh_V X (pc + 1) loc (.long (x + y) :: st) z k h) : hh_V X pc loc (.long y :: .long x :: st) z k h := by
  obtain ⟨p, l, e, R, s, m, args, below, meth, c, G, A, φ0, n0, nL, Q⟩ := X
  intro φ H locs ls h1 h2 h3 h4 h5 h6 h7 h8
  exact lv_ladd hX.1 hX.2.1 hd  (kk φ H locs ls h1 h2 h3 h4 h5 h6 h7 ⟨trivial, h8.2.2⟩)

theorem hv_lsub {X : hh_CX} {cc : ByteArray} {own : String} {rm : Room} {pc : Nat} {loc : List (Nat × Value)} {st : List Value} {z k : Nat} {h : hh_T} (hX : hh_C X cc own rm) {x y : Int64} (hd : decode cc pc = .ok (.lsub, 1))
    (kk : hh_V X (pc + 1) loc (.long (x - y) :: st) z k h) : hh_V X pc loc (.long y :: .long x :: st) z k h := by
  obtain ⟨p, l, e, R, s, m, args, below, meth, c, G, A, φ0, n0, nL, Q⟩ := X
  intro φ H locs ls h1 h2 h3 h4 h5 h6 h7 h8
  exact lv_lsub hX.1 hX.2.1 hd  (kk φ H locs ls h1 h2 h3 h4 h5 h6 h7 ⟨trivial, h8.2.2⟩)

theorem hv_lmul {X : hh_CX} {cc : ByteArray} {own : String} {rm : Room} {pc : Nat} {loc : List (Nat × Value)} {st : List Value} {z k : Nat} {h : hh_T} (hX : hh_C X cc own rm) {x y : Int64} (hd : decode cc pc = .ok (.lmul, 1))
    (kk : hh_V X (pc + 1) loc (.long (x * y) :: st) z k h) : hh_V X pc loc (.long y :: .long x :: st) z k h := by
  obtain ⟨p, l, e, R, s, m, args, below, meth, c, G, A, φ0, n0, nL, Q⟩ := X
  intro φ H locs ls h1 h2 h3 h4 h5 h6 h7 h8
  exact lv_lmul hX.1 hX.2.1 hd  (kk φ H locs ls h1 h2 h3 h4 h5 h6 h7 ⟨trivial, h8.2.2⟩)

theorem hv_land {X : hh_CX} {cc : ByteArray} {own : String} {rm : Room} {pc : Nat} {loc : List (Nat × Value)} {st : List Value} {z k : Nat} {h : hh_T} (hX : hh_C X cc own rm) {x y : Int64} (hd : decode cc pc = .ok (.land, 1))
    (kk : hh_V X (pc + 1) loc (.long (x &&& y) :: st) z k h) : hh_V X pc loc (.long y :: .long x :: st) z k h := by
  obtain ⟨p, l, e, R, s, m, args, below, meth, c, G, A, φ0, n0, nL, Q⟩ := X
  intro φ H locs ls h1 h2 h3 h4 h5 h6 h7 h8
  exact lv_land hX.1 hX.2.1 hd  (kk φ H locs ls h1 h2 h3 h4 h5 h6 h7 ⟨trivial, h8.2.2⟩)

theorem hv_lor {X : hh_CX} {cc : ByteArray} {own : String} {rm : Room} {pc : Nat} {loc : List (Nat × Value)} {st : List Value} {z k : Nat} {h : hh_T} (hX : hh_C X cc own rm) {x y : Int64} (hd : decode cc pc = .ok (.lor, 1))
    (kk : hh_V X (pc + 1) loc (.long (x ||| y) :: st) z k h) : hh_V X pc loc (.long y :: .long x :: st) z k h := by
  obtain ⟨p, l, e, R, s, m, args, below, meth, c, G, A, φ0, n0, nL, Q⟩ := X
  intro φ H locs ls h1 h2 h3 h4 h5 h6 h7 h8
  exact lv_lor hX.1 hX.2.1 hd  (kk φ H locs ls h1 h2 h3 h4 h5 h6 h7 ⟨trivial, h8.2.2⟩)

theorem hv_lxor {X : hh_CX} {cc : ByteArray} {own : String} {rm : Room} {pc : Nat} {loc : List (Nat × Value)} {st : List Value} {z k : Nat} {h : hh_T} (hX : hh_C X cc own rm) {x y : Int64} (hd : decode cc pc = .ok (.lxor, 1))
    (kk : hh_V X (pc + 1) loc (.long (x ^^^ y) :: st) z k h) : hh_V X pc loc (.long y :: .long x :: st) z k h := by
  obtain ⟨p, l, e, R, s, m, args, below, meth, c, G, A, φ0, n0, nL, Q⟩ := X
  intro φ H locs ls h1 h2 h3 h4 h5 h6 h7 h8
  exact lv_lxor hX.1 hX.2.1 hd  (kk φ H locs ls h1 h2 h3 h4 h5 h6 h7 ⟨trivial, h8.2.2⟩)

theorem hv_idiv {X : hh_CX} {cc : ByteArray} {own : String} {rm : Room} {pc : Nat} {loc : List (Nat × Value)} {st : List Value} {z k : Nat} {h : hh_T} (hX : hh_C X cc own rm) {x y : Int32} (hne : ¬ y = 0) (hd : decode cc pc = .ok (.idiv, 1))
    (kk : hh_V X (pc + 1) loc (.int (x / y) :: st) z k h) : hh_V X pc loc (.int y :: .int x :: st) z k h := by
  obtain ⟨p, l, e, R, s, m, args, below, meth, c, G, A, φ0, n0, nL, Q⟩ := X
  intro φ H locs ls h1 h2 h3 h4 h5 h6 h7 h8
  exact lv_idiv hX.1 hX.2.1 hd hne (kk φ H locs ls h1 h2 h3 h4 h5 h6 h7 ⟨trivial, h8.2.2⟩)

theorem hv_irem {X : hh_CX} {cc : ByteArray} {own : String} {rm : Room} {pc : Nat} {loc : List (Nat × Value)} {st : List Value} {z k : Nat} {h : hh_T} (hX : hh_C X cc own rm) {x y : Int32} (hne : ¬ y = 0) (hd : decode cc pc = .ok (.irem, 1))
    (kk : hh_V X (pc + 1) loc (.int (x - x / y * y) :: st) z k h) : hh_V X pc loc (.int y :: .int x :: st) z k h := by
  obtain ⟨p, l, e, R, s, m, args, below, meth, c, G, A, φ0, n0, nL, Q⟩ := X
  intro φ H locs ls h1 h2 h3 h4 h5 h6 h7 h8
  exact lv_irem hX.1 hX.2.1 hd hne (kk φ H locs ls h1 h2 h3 h4 h5 h6 h7 ⟨trivial, h8.2.2⟩)

theorem hv_ldiv {X : hh_CX} {cc : ByteArray} {own : String} {rm : Room} {pc : Nat} {loc : List (Nat × Value)} {st : List Value} {z k : Nat} {h : hh_T} (hX : hh_C X cc own rm) {x y : Int64} (hne : ¬ y = 0) (hd : decode cc pc = .ok (.ldiv, 1))
    (kk : hh_V X (pc + 1) loc (.long (x / y) :: st) z k h) : hh_V X pc loc (.long y :: .long x :: st) z k h := by
  obtain ⟨p, l, e, R, s, m, args, below, meth, c, G, A, φ0, n0, nL, Q⟩ := X
  intro φ H locs ls h1 h2 h3 h4 h5 h6 h7 h8
  exact lv_ldiv hX.1 hX.2.1 hd hne (kk φ H locs ls h1 h2 h3 h4 h5 h6 h7 ⟨trivial, h8.2.2⟩)

theorem hv_lrem {X : hh_CX} {cc : ByteArray} {own : String} {rm : Room} {pc : Nat} {loc : List (Nat × Value)} {st : List Value} {z k : Nat} {h : hh_T} (hX : hh_C X cc own rm) {x y : Int64} (hne : ¬ y = 0) (hd : decode cc pc = .ok (.lrem, 1))
    (kk : hh_V X (pc + 1) loc (.long (x - x / y * y) :: st) z k h) : hh_V X pc loc (.long y :: .long x :: st) z k h := by
  obtain ⟨p, l, e, R, s, m, args, below, meth, c, G, A, φ0, n0, nL, Q⟩ := X
  intro φ H locs ls h1 h2 h3 h4 h5 h6 h7 h8
  exact lv_lrem hX.1 hX.2.1 hd hne (kk φ H locs ls h1 h2 h3 h4 h5 h6 h7 ⟨trivial, h8.2.2⟩)

theorem hv_ineg {X : hh_CX} {cc : ByteArray} {own : String} {rm : Room} {pc : Nat} {loc : List (Nat × Value)} {st : List Value} {z k : Nat} {h : hh_T} (hX : hh_C X cc own rm) {x : Int32} (hd : decode cc pc = .ok (.ineg, 1))
    (kk : hh_V X (pc + 1) loc (.int (-x) :: st) z k h) : hh_V X pc loc (.int x :: st) z k h := by
  obtain ⟨p, l, e, R, s, m, args, below, meth, c, G, A, φ0, n0, nL, Q⟩ := X
  intro φ H locs ls h1 h2 h3 h4 h5 h6 h7 h8
  exact lv_ineg hX.1 hX.2.1 hd  (kk φ H locs ls h1 h2 h3 h4 h5 h6 h7 ⟨trivial, h8.2⟩)

theorem hv_lneg {X : hh_CX} {cc : ByteArray} {own : String} {rm : Room} {pc : Nat} {loc : List (Nat × Value)} {st : List Value} {z k : Nat} {h : hh_T} (hX : hh_C X cc own rm) {x : Int64} (hd : decode cc pc = .ok (.lneg, 1))
    (kk : hh_V X (pc + 1) loc (.long (-x) :: st) z k h) : hh_V X pc loc (.long x :: st) z k h := by
  obtain ⟨p, l, e, R, s, m, args, below, meth, c, G, A, φ0, n0, nL, Q⟩ := X
  intro φ H locs ls h1 h2 h3 h4 h5 h6 h7 h8
  exact lv_lneg hX.1 hX.2.1 hd  (kk φ H locs ls h1 h2 h3 h4 h5 h6 h7 ⟨trivial, h8.2⟩)

theorem hv_iushr {X : hh_CX} {cc : ByteArray} {own : String} {rm : Room} {pc : Nat} {loc : List (Nat × Value)} {st : List Value} {z k : Nat} {h : hh_T} (hX : hh_C X cc own rm) {x y : Int32} (hd : decode cc pc = .ok (.iushr, 1))
    (kk : hh_V X (pc + 1) loc (.int ((x.toUInt32 >>> (y.toUInt32 &&& Int32.toUInt32 31)).toInt32) :: st) z k h) : hh_V X pc loc (.int y :: .int x :: st) z k h := by
  obtain ⟨p, l, e, R, s, m, args, below, meth, c, G, A, φ0, n0, nL, Q⟩ := X
  intro φ H locs ls h1 h2 h3 h4 h5 h6 h7 h8
  exact lv_iushr hX.1 hX.2.1 hd rfl (kk φ H locs ls h1 h2 h3 h4 h5 h6 h7 ⟨trivial, h8.2.2⟩)

theorem hv_lushr {X : hh_CX} {cc : ByteArray} {own : String} {rm : Room} {pc : Nat} {loc : List (Nat × Value)} {st : List Value} {z k : Nat} {h : hh_T} (hX : hh_C X cc own rm) {x : Int64} {y : Int32} (hd : decode cc pc = .ok (.lushr, 1))
    (kk : hh_V X (pc + 1) loc (.long ((x.toUInt64 >>> (y.toInt64.toUInt64 &&& Int64.toUInt64 63)).toInt64) :: st) z k h) : hh_V X pc loc (.int y :: .long x :: st) z k h := by
  obtain ⟨p, l, e, R, s, m, args, below, meth, c, G, A, φ0, n0, nL, Q⟩ := X
  intro φ H locs ls h1 h2 h3 h4 h5 h6 h7 h8
  exact lv_lushr hX.1 hX.2.1 hd rfl (kk φ H locs ls h1 h2 h3 h4 h5 h6 h7 ⟨trivial, h8.2.2⟩)

theorem hv_lshl {X : hh_CX} {cc : ByteArray} {own : String} {rm : Room} {pc : Nat} {loc : List (Nat × Value)} {st : List Value} {z k : Nat} {h : hh_T} (hX : hh_C X cc own rm) {x : Int64} {y : Int32} (hd : decode cc pc = .ok (.lshl, 1))
    (kk : hh_V X (pc + 1) loc (.long (x <<< (y.toInt64 &&& 63)) :: st) z k h) : hh_V X pc loc (.int y :: .long x :: st) z k h := by
  obtain ⟨p, l, e, R, s, m, args, below, meth, c, G, A, φ0, n0, nL, Q⟩ := X
  intro φ H locs ls h1 h2 h3 h4 h5 h6 h7 h8
  exact lv_lshl hX.1 hX.2.1 hd rfl (kk φ H locs ls h1 h2 h3 h4 h5 h6 h7 ⟨trivial, h8.2.2⟩)

theorem hv_lshr {X : hh_CX} {cc : ByteArray} {own : String} {rm : Room} {pc : Nat} {loc : List (Nat × Value)} {st : List Value} {z k : Nat} {h : hh_T} (hX : hh_C X cc own rm) {x : Int64} {y : Int32} (hd : decode cc pc = .ok (.lshr, 1))
    (kk : hh_V X (pc + 1) loc (.long (x >>> (y.toInt64 &&& 63)) :: st) z k h) : hh_V X pc loc (.int y :: .long x :: st) z k h := by
  obtain ⟨p, l, e, R, s, m, args, below, meth, c, G, A, φ0, n0, nL, Q⟩ := X
  intro φ H locs ls h1 h2 h3 h4 h5 h6 h7 h8
  exact lv_lshr hX.1 hX.2.1 hd rfl (kk φ H locs ls h1 h2 h3 h4 h5 h6 h7 ⟨trivial, h8.2.2⟩)

theorem hv_i2l {X : hh_CX} {cc : ByteArray} {own : String} {rm : Room} {pc : Nat} {loc : List (Nat × Value)} {st : List Value} {z k : Nat} {h : hh_T} (hX : hh_C X cc own rm) {x : Int32} (hd : decode cc pc = .ok (.i2l, 1))
    (kk : hh_V X (pc + 1) loc (.long x.toInt64 :: st) z k h) : hh_V X pc loc (.int x :: st) z k h := by
  obtain ⟨p, l, e, R, s, m, args, below, meth, c, G, A, φ0, n0, nL, Q⟩ := X
  intro φ H locs ls h1 h2 h3 h4 h5 h6 h7 h8
  exact lv_i2l hX.1 hX.2.1 hd rfl (kk φ H locs ls h1 h2 h3 h4 h5 h6 h7 ⟨trivial, h8.2⟩)

theorem hv_l2i {X : hh_CX} {cc : ByteArray} {own : String} {rm : Room} {pc : Nat} {loc : List (Nat × Value)} {st : List Value} {z k : Nat} {h : hh_T} (hX : hh_C X cc own rm) {x : Int64} (hd : decode cc pc = .ok (.l2i, 1))
    (kk : hh_V X (pc + 1) loc (.int x.toInt32 :: st) z k h) : hh_V X pc loc (.long x :: st) z k h := by
  obtain ⟨p, l, e, R, s, m, args, below, meth, c, G, A, φ0, n0, nL, Q⟩ := X
  intro φ H locs ls h1 h2 h3 h4 h5 h6 h7 h8
  exact lv_l2i hX.1 hX.2.1 hd rfl (kk φ H locs ls h1 h2 h3 h4 h5 h6 h7 ⟨trivial, h8.2⟩)

theorem hv_i2b {X : hh_CX} {cc : ByteArray} {own : String} {rm : Room} {pc : Nat} {loc : List (Nat × Value)} {st : List Value} {z k : Nat} {h : hh_T} (hX : hh_C X cc own rm) {x : Int32} (hd : decode cc pc = .ok (.i2b, 1))
    (kk : hh_V X (pc + 1) loc (.int x.toInt8.toInt32 :: st) z k h) : hh_V X pc loc (.int x :: st) z k h := by
  obtain ⟨p, l, e, R, s, m, args, below, meth, c, G, A, φ0, n0, nL, Q⟩ := X
  intro φ H locs ls h1 h2 h3 h4 h5 h6 h7 h8
  exact lv_i2b hX.1 hX.2.1 hd rfl (kk φ H locs ls h1 h2 h3 h4 h5 h6 h7 ⟨trivial, h8.2⟩)

theorem hv_i2s {X : hh_CX} {cc : ByteArray} {own : String} {rm : Room} {pc : Nat} {loc : List (Nat × Value)} {st : List Value} {z k : Nat} {h : hh_T} (hX : hh_C X cc own rm) {x : Int32} (hd : decode cc pc = .ok (.i2s, 1))
    (kk : hh_V X (pc + 1) loc (.int x.toInt16.toInt32 :: st) z k h) : hh_V X pc loc (.int x :: st) z k h := by
  obtain ⟨p, l, e, R, s, m, args, below, meth, c, G, A, φ0, n0, nL, Q⟩ := X
  intro φ H locs ls h1 h2 h3 h4 h5 h6 h7 h8
  exact lv_i2s hX.1 hX.2.1 hd rfl (kk φ H locs ls h1 h2 h3 h4 h5 h6 h7 ⟨trivial, h8.2⟩)

theorem hv_lcmp {X : hh_CX} {cc : ByteArray} {own : String} {rm : Room} {pc : Nat} {loc : List (Nat × Value)} {st : List Value} {z k : Nat} {h : hh_T} (hX : hh_C X cc own rm) {x y : Int64} (hd : decode cc pc = .ok (.lcmp, 1))
    (kk : hh_V X (pc + 1) loc (.int (lg_cmp x y) :: st) z k h) : hh_V X pc loc (.long y :: .long x :: st) z k h := by
  obtain ⟨p, l, e, R, s, m, args, below, meth, c, G, A, φ0, n0, nL, Q⟩ := X
  intro φ H locs ls h1 h2 h3 h4 h5 h6 h7 h8
  exact W.lcmp hX.1 hX.2.1 hd  (kk φ H locs ls h1 h2 h3 h4 h5 h6 h7 ⟨trivial, h8.2.2⟩)

theorem hv_iconst {X : hh_CX} {cc : ByteArray} {own : String} {rm : Room} {pc : Nat} {loc : List (Nat × Value)} {st : List Value} {z k : Nat} {h : hh_T} (hX : hh_C X cc own rm) {n : Int} {v : Int32} (hv : Int32.ofInt n = v) (hd : decode cc pc = .ok (.iconst n, 1))
    (kk : hh_V X (pc + 1) loc (.int v :: st) z k h) : hh_V X pc loc (st) z k h := by
  obtain ⟨p, l, e, R, s, m, args, below, meth, c, G, A, φ0, n0, nL, Q⟩ := X
  intro φ H locs ls h1 h2 h3 h4 h5 h6 h7 h8
  exact lv_iconst hX.1 hX.2.1 hd hv (kk φ H locs ls h1 h2 h3 h4 h5 h6 h7 ⟨trivial, h8⟩)

theorem hv_lconst {X : hh_CX} {cc : ByteArray} {own : String} {rm : Room} {pc : Nat} {loc : List (Nat × Value)} {st : List Value} {z k : Nat} {h : hh_T} (hX : hh_C X cc own rm) {n : Fin 2} {v : Int64} (hv : Int64.ofNat n = v) (hd : decode cc pc = .ok (.lconst n, 1))
    (kk : hh_V X (pc + 1) loc (.long v :: st) z k h) : hh_V X pc loc (st) z k h := by
  obtain ⟨p, l, e, R, s, m, args, below, meth, c, G, A, φ0, n0, nL, Q⟩ := X
  intro φ H locs ls h1 h2 h3 h4 h5 h6 h7 h8
  exact lv_lconst hX.1 hX.2.1 hd hv (kk φ H locs ls h1 h2 h3 h4 h5 h6 h7 ⟨trivial, h8⟩)

theorem hv_bipush {X : hh_CX} {cc : ByteArray} {own : String} {rm : Room} {pc : Nat} {loc : List (Nat × Value)} {st : List Value} {z k : Nat} {h : hh_T} (hX : hh_C X cc own rm) {n : Int} {v : Int32} (hv : (Int8.ofInt n).toInt32 = v) (hd : decode cc pc = .ok (.bipush n, 2))
    (kk : hh_V X (pc + 2) loc (.int v :: st) z k h) : hh_V X pc loc (st) z k h := by
  obtain ⟨p, l, e, R, s, m, args, below, meth, c, G, A, φ0, n0, nL, Q⟩ := X
  intro φ H locs ls h1 h2 h3 h4 h5 h6 h7 h8
  exact lv_bipush hX.1 hX.2.1 hd hv (kk φ H locs ls h1 h2 h3 h4 h5 h6 h7 ⟨trivial, h8⟩)

theorem hv_sipush {X : hh_CX} {cc : ByteArray} {own : String} {rm : Room} {pc : Nat} {loc : List (Nat × Value)} {st : List Value} {z k : Nat} {h : hh_T} (hX : hh_C X cc own rm) {n : Int} {v : Int32} (hv : (Int16.ofInt n).toInt32 = v) (hd : decode cc pc = .ok (.sipush n, 3))
    (kk : hh_V X (pc + 3) loc (.int v :: st) z k h) : hh_V X pc loc (st) z k h := by
  obtain ⟨p, l, e, R, s, m, args, below, meth, c, G, A, φ0, n0, nL, Q⟩ := X
  intro φ H locs ls h1 h2 h3 h4 h5 h6 h7 h8
  exact lv_sipush hX.1 hX.2.1 hd hv (kk φ H locs ls h1 h2 h3 h4 h5 h6 h7 ⟨trivial, h8⟩)

theorem hv_null {X : hh_CX} {cc : ByteArray} {own : String} {rm : Room} {pc : Nat} {loc : List (Nat × Value)} {st : List Value} {z k : Nat} {h : hh_T} (hX : hh_C X cc own rm)  (hd : decode cc pc = .ok (.aconst_null, 1))
    (kk : hh_V X (pc + 1) loc (.null :: st) z k h) : hh_V X pc loc (st) z k h := by
  obtain ⟨p, l, e, R, s, m, args, below, meth, c, G, A, φ0, n0, nL, Q⟩ := X
  intro φ H locs ls h1 h2 h3 h4 h5 h6 h7 h8
  exact lv_null hX.1 hX.2.1 hd  (kk φ H locs ls h1 h2 h3 h4 h5 h6 h7 ⟨trivial, h8⟩)

theorem hv_dup {X : hh_CX} {cc : ByteArray} {own : String} {rm : Room} {pc : Nat} {loc : List (Nat × Value)} {st : List Value} {z k : Nat} {h : hh_T} (hX : hh_C X cc own rm) {a : Value} (ha : a.category = 1) (hd : decode cc pc = .ok (.dup, 1))
    (kk : hh_V X (pc + 1) loc (a :: a :: st) z k h) : hh_V X pc loc (a :: st) z k h := by
  obtain ⟨p, l, e, R, s, m, args, below, meth, c, G, A, φ0, n0, nL, Q⟩ := X
  intro φ H locs ls h1 h2 h3 h4 h5 h6 h7 h8
  exact lv_dup hX.1 hX.2.1 hd ((hh_tv_cat φ a).trans ha) (kk φ H locs ls h1 h2 h3 h4 h5 h6 h7 ⟨h8.1, h8⟩)

theorem hv_pop {X : hh_CX} {cc : ByteArray} {own : String} {rm : Room} {pc : Nat} {loc : List (Nat × Value)} {st : List Value} {z k : Nat} {h : hh_T} (hX : hh_C X cc own rm) {a : Value} (ha : a.category = 1) (hd : decode cc pc = .ok (.pop, 1))
    (kk : hh_V X (pc + 1) loc (st) z k h) : hh_V X pc loc (a :: st) z k h := by
  obtain ⟨p, l, e, R, s, m, args, below, meth, c, G, A, φ0, n0, nL, Q⟩ := X
  intro φ H locs ls h1 h2 h3 h4 h5 h6 h7 h8
  exact lv_pop hX.1 hX.2.1 hd ((hh_tv_cat φ a).trans ha) (kk φ H locs ls h1 h2 h3 h4 h5 h6 h7 h8.2)

theorem hv_dup_x1 {X : hh_CX} {cc : ByteArray} {own : String} {rm : Room} {pc : Nat} {loc : List (Nat × Value)} {st : List Value} {z k : Nat} {h : hh_T} (hX : hh_C X cc own rm) {a b : Value} (ha : a.category = 1) (hb : b.category = 1) (hd : decode cc pc = .ok (.dup_x1, 1))
    (kk : hh_V X (pc + 1) loc (a :: b :: a :: st) z k h) : hh_V X pc loc (a :: b :: st) z k h := by
  obtain ⟨p, l, e, R, s, m, args, below, meth, c, G, A, φ0, n0, nL, Q⟩ := X
  intro φ H locs ls h1 h2 h3 h4 h5 h6 h7 h8
  exact lv_dup_x1 hX.1 hX.2.1 hd ((hh_tv_cat φ a).trans ha) ((hh_tv_cat φ b).trans hb) (kk φ H locs ls h1 h2 h3 h4 h5 h6 h7 ⟨h8.1, h8.2.1, h8.1, h8.2.2⟩)

theorem hv_dup_x2 {X : hh_CX} {cc : ByteArray} {own : String} {rm : Room} {pc : Nat} {loc : List (Nat × Value)} {st : List Value} {z k : Nat} {h : hh_T} (hX : hh_C X cc own rm) {a b d : Value} (ha : a.category = 1) (hb : b.category = 1) (hd3 : d.category = 1) (hd : decode cc pc = .ok (.dup_x2, 1))
    (kk : hh_V X (pc + 1) loc (a :: b :: d :: a :: st) z k h) : hh_V X pc loc (a :: b :: d :: st) z k h := by
  obtain ⟨p, l, e, R, s, m, args, below, meth, c, G, A, φ0, n0, nL, Q⟩ := X
  intro φ H locs ls h1 h2 h3 h4 h5 h6 h7 h8
  exact lv_dup_x2 hX.1 hX.2.1 hd ((hh_tv_cat φ a).trans ha) ((hh_tv_cat φ b).trans hb) ((hh_tv_cat φ d).trans hd3) (kk φ H locs ls h1 h2 h3 h4 h5 h6 h7 ⟨h8.1, h8.2.1, h8.2.2.1, h8.1, h8.2.2.2⟩)

theorem hv_dup2_11 {X : hh_CX} {cc : ByteArray} {own : String} {rm : Room} {pc : Nat} {loc : List (Nat × Value)} {st : List Value} {z k : Nat} {h : hh_T} (hX : hh_C X cc own rm) {a b : Value} (ha : a.category = 1) (hb : b.category = 1) (hd : decode cc pc = .ok (.dup2, 1))
    (kk : hh_V X (pc + 1) loc (a :: b :: a :: b :: st) z k h) : hh_V X pc loc (a :: b :: st) z k h := by
  obtain ⟨p, l, e, R, s, m, args, below, meth, c, G, A, φ0, n0, nL, Q⟩ := X
  intro φ H locs ls h1 h2 h3 h4 h5 h6 h7 h8
  exact lv_dup2_11 hX.1 hX.2.1 hd ((hh_tv_cat φ a).trans ha) ((hh_tv_cat φ b).trans hb) (kk φ H locs ls h1 h2 h3 h4 h5 h6 h7 ⟨h8.1, h8.2.1, h8⟩)

theorem hv_dup2_2 {X : hh_CX} {cc : ByteArray} {own : String} {rm : Room} {pc : Nat} {loc : List (Nat × Value)} {st : List Value} {z k : Nat} {h : hh_T} (hX : hh_C X cc own rm) {a : Value} (ha : a.category = 2) (hd : decode cc pc = .ok (.dup2, 1))
    (kk : hh_V X (pc + 1) loc (a :: a :: st) z k h) : hh_V X pc loc (a :: st) z k h := by
  obtain ⟨p, l, e, R, s, m, args, below, meth, c, G, A, φ0, n0, nL, Q⟩ := X
  intro φ H locs ls h1 h2 h3 h4 h5 h6 h7 h8
  exact lv_dup2_2 hX.1 hX.2.1 hd ((hh_tv_cat φ a).trans ha) (kk φ H locs ls h1 h2 h3 h4 h5 h6 h7 ⟨h8.1, h8⟩)

theorem hv_pop2_2 {X : hh_CX} {cc : ByteArray} {own : String} {rm : Room} {pc : Nat} {loc : List (Nat × Value)} {st : List Value} {z k : Nat} {h : hh_T} (hX : hh_C X cc own rm) {a : Value} (ha : a.category = 2) (hd : decode cc pc = .ok (.pop2, 1))
    (kk : hh_V X (pc + 1) loc (st) z k h) : hh_V X pc loc (a :: st) z k h := by
  obtain ⟨p, l, e, R, s, m, args, below, meth, c, G, A, φ0, n0, nL, Q⟩ := X
  intro φ H locs ls h1 h2 h3 h4 h5 h6 h7 h8
  exact lv_pop2_2 hX.1 hX.2.1 hd ((hh_tv_cat φ a).trans ha) (kk φ H locs ls h1 h2 h3 h4 h5 h6 h7 h8.2)

theorem hv_iload_n {X : hh_CX} {cc : ByteArray} {own : String} {rm : Room} {pc : Nat} {loc : List (Nat × Value)} {st : List Value} {z k : Nat} {h : hh_T} (hX : hh_C X cc own rm) {f : Fin 4} {i : Nat} {x : Int32} (hd : decode cc pc = .ok (.iload_n f, 1)) (hi : (f : Nat) = i) (j : Nat) (hl : loc[j]? = some (i, .int x))
    (kk : hh_V X (pc + 1) loc (.int x :: st) z k h) : hh_V X pc loc st z k h := by
  obtain ⟨p, l, e, R, s, m, args, below, meth, c, G, A, φ0, n0, nL, Q⟩ := X
  intro φ H locs ls h1 h2 h3 h4 h5 h6 h7 h8
  exact lv_iload_n hX.1 hX.2.1 hd hi (lv_at h6 j (hh_tl_at hl)) (kk φ H locs ls h1 h2 h3 h4 h5 h6 h7 ⟨h7 _ (List.mem_of_getElem? hl), h8⟩)

theorem hv_iload {X : hh_CX} {cc : ByteArray} {own : String} {rm : Room} {pc : Nat} {loc : List (Nat × Value)} {st : List Value} {z k : Nat} {h : hh_T} (hX : hh_C X cc own rm) {i : Nat} {x : Int32} (hd : decode cc pc = .ok (.iload i, 2)) (j : Nat) (hl : loc[j]? = some (i, .int x))
    (kk : hh_V X (pc + 2) loc (.int x :: st) z k h) : hh_V X pc loc st z k h := by
  obtain ⟨p, l, e, R, s, m, args, below, meth, c, G, A, φ0, n0, nL, Q⟩ := X
  intro φ H locs ls h1 h2 h3 h4 h5 h6 h7 h8
  exact lv_iload hX.1 hX.2.1 hd (lv_at h6 j (hh_tl_at hl)) (kk φ H locs ls h1 h2 h3 h4 h5 h6 h7 ⟨h7 _ (List.mem_of_getElem? hl), h8⟩)

theorem hv_lload_n {X : hh_CX} {cc : ByteArray} {own : String} {rm : Room} {pc : Nat} {loc : List (Nat × Value)} {st : List Value} {z k : Nat} {h : hh_T} (hX : hh_C X cc own rm) {f : Fin 4} {i : Nat} {x : Int64} (hd : decode cc pc = .ok (.lload_n f, 1)) (hi : (f : Nat) = i) (j : Nat) (hl : loc[j]? = some (i, .long x))
    (kk : hh_V X (pc + 1) loc (.long x :: st) z k h) : hh_V X pc loc st z k h := by
  obtain ⟨p, l, e, R, s, m, args, below, meth, c, G, A, φ0, n0, nL, Q⟩ := X
  intro φ H locs ls h1 h2 h3 h4 h5 h6 h7 h8
  exact lv_lload_n hX.1 hX.2.1 hd hi (lv_at h6 j (hh_tl_at hl)) (kk φ H locs ls h1 h2 h3 h4 h5 h6 h7 ⟨h7 _ (List.mem_of_getElem? hl), h8⟩)

theorem hv_lload {X : hh_CX} {cc : ByteArray} {own : String} {rm : Room} {pc : Nat} {loc : List (Nat × Value)} {st : List Value} {z k : Nat} {h : hh_T} (hX : hh_C X cc own rm) {i : Nat} {x : Int64} (hd : decode cc pc = .ok (.lload i, 2)) (j : Nat) (hl : loc[j]? = some (i, .long x))
    (kk : hh_V X (pc + 2) loc (.long x :: st) z k h) : hh_V X pc loc st z k h := by
  obtain ⟨p, l, e, R, s, m, args, below, meth, c, G, A, φ0, n0, nL, Q⟩ := X
  intro φ H locs ls h1 h2 h3 h4 h5 h6 h7 h8
  exact lv_lload hX.1 hX.2.1 hd (lv_at h6 j (hh_tl_at hl)) (kk φ H locs ls h1 h2 h3 h4 h5 h6 h7 ⟨h7 _ (List.mem_of_getElem? hl), h8⟩)

theorem hv_aload_n {X : hh_CX} {cc : ByteArray} {own : String} {rm : Room} {pc : Nat} {loc : List (Nat × Value)} {st : List Value} {z k : Nat} {h : hh_T} (hX : hh_C X cc own rm) {f : Fin 4} {i : Nat} {x : Nat} (hd : decode cc pc = .ok (.aload_n f, 1)) (hi : (f : Nat) = i) (j : Nat) (hl : loc[j]? = some (i, .ref x))
    (kk : hh_V X (pc + 1) loc (.ref x :: st) z k h) : hh_V X pc loc st z k h := by
  obtain ⟨p, l, e, R, s, m, args, below, meth, c, G, A, φ0, n0, nL, Q⟩ := X
  intro φ H locs ls h1 h2 h3 h4 h5 h6 h7 h8
  exact lv_aload_n hX.1 hX.2.1 hd hi (lv_at h6 j (hh_tl_at hl)) (kk φ H locs ls h1 h2 h3 h4 h5 h6 h7 ⟨h7 _ (List.mem_of_getElem? hl), h8⟩)

theorem hv_aload {X : hh_CX} {cc : ByteArray} {own : String} {rm : Room} {pc : Nat} {loc : List (Nat × Value)} {st : List Value} {z k : Nat} {h : hh_T} (hX : hh_C X cc own rm) {i : Nat} {x : Nat} (hd : decode cc pc = .ok (.aload i, 2)) (j : Nat) (hl : loc[j]? = some (i, .ref x))
    (kk : hh_V X (pc + 2) loc (.ref x :: st) z k h) : hh_V X pc loc st z k h := by
  obtain ⟨p, l, e, R, s, m, args, below, meth, c, G, A, φ0, n0, nL, Q⟩ := X
  intro φ H locs ls h1 h2 h3 h4 h5 h6 h7 h8
  exact lv_aload hX.1 hX.2.1 hd (lv_at h6 j (hh_tl_at hl)) (kk φ H locs ls h1 h2 h3 h4 h5 h6 h7 ⟨h7 _ (List.mem_of_getElem? hl), h8⟩)

theorem hv_istore_n {X : hh_CX} {cc : ByteArray} {own : String} {rm : Room} {pc : Nat} {loc loc2 : List (Nat × Value)} {st : List Value} {z k : Nat} {h : hh_T} (hX : hh_C X cc own rm) {f : Fin 4} {i nX : Nat} {x : Int32} (hd : decode cc pc = .ok (.istore_n f, 1)) (hi : (f : Nat) = i) (hN : hh_nL X = nX) (hn : i < nX) (hl : hh_st loc i (.int x) = loc2)
    (kk : hh_V X (pc + 1) loc2 st z k h) : hh_V X pc loc (.int x :: st) z k h := by
  obtain ⟨p, l, e, R, s, m, args, below, meth, c, G, A, φ0, n0, nL, Q⟩ := X
  intro φ H locs ls h1 h2 h3 h4 h5 h6 h7 h8
  subst hl
  subst hN
  exact lv_istore_n hX.1 hX.2.1 hd hi h6 hn (hh_tl_st (v := .int x)) (fun ls h6 => kk φ H locs ls h1 h2 h3 h4 h5 h6 (okl_st h7 h8.1) h8.2)

theorem hv_istore {X : hh_CX} {cc : ByteArray} {own : String} {rm : Room} {pc : Nat} {loc loc2 : List (Nat × Value)} {st : List Value} {z k : Nat} {h : hh_T} (hX : hh_C X cc own rm) {i nX : Nat} {x : Int32} (hd : decode cc pc = .ok (.istore i, 2)) (hN : hh_nL X = nX) (hn : i < nX) (hl : hh_st loc i (.int x) = loc2)
    (kk : hh_V X (pc + 2) loc2 st z k h) : hh_V X pc loc (.int x :: st) z k h := by
  obtain ⟨p, l, e, R, s, m, args, below, meth, c, G, A, φ0, n0, nL, Q⟩ := X
  intro φ H locs ls h1 h2 h3 h4 h5 h6 h7 h8
  subst hl
  subst hN
  exact lv_istore hX.1 hX.2.1 hd h6 hn (hh_tl_st (v := .int x)) (fun ls h6 => kk φ H locs ls h1 h2 h3 h4 h5 h6 (okl_st h7 h8.1) h8.2)

theorem hv_lstore_n {X : hh_CX} {cc : ByteArray} {own : String} {rm : Room} {pc : Nat} {loc loc2 : List (Nat × Value)} {st : List Value} {z k : Nat} {h : hh_T} (hX : hh_C X cc own rm) {f : Fin 4} {i nX : Nat} {x : Int64} (hd : decode cc pc = .ok (.lstore_n f, 1)) (hi : (f : Nat) = i) (hN : hh_nL X = nX) (hn : i + 1 < nX) (hl : hh_st2 loc i (.long x) = loc2)
    (kk : hh_V X (pc + 1) loc2 st z k h) : hh_V X pc loc (.long x :: st) z k h := by
  obtain ⟨p, l, e, R, s, m, args, below, meth, c, G, A, φ0, n0, nL, Q⟩ := X
  intro φ H locs ls h1 h2 h3 h4 h5 h6 h7 h8
  subst hl
  subst hN
  exact lv_lstore_n hX.1 hX.2.1 hd hi h6 hn (hh_tl_st2 (v := .long x)) (fun ls h6 => kk φ H locs ls h1 h2 h3 h4 h5 h6 (okl_st2 h7 h8.1) h8.2)

theorem hv_lstore {X : hh_CX} {cc : ByteArray} {own : String} {rm : Room} {pc : Nat} {loc loc2 : List (Nat × Value)} {st : List Value} {z k : Nat} {h : hh_T} (hX : hh_C X cc own rm) {i nX : Nat} {x : Int64} (hd : decode cc pc = .ok (.lstore i, 2)) (hN : hh_nL X = nX) (hn : i + 1 < nX) (hl : hh_st2 loc i (.long x) = loc2)
    (kk : hh_V X (pc + 2) loc2 st z k h) : hh_V X pc loc (.long x :: st) z k h := by
  obtain ⟨p, l, e, R, s, m, args, below, meth, c, G, A, φ0, n0, nL, Q⟩ := X
  intro φ H locs ls h1 h2 h3 h4 h5 h6 h7 h8
  subst hl
  subst hN
  exact lv_lstore hX.1 hX.2.1 hd h6 hn (hh_tl_st2 (v := .long x)) (fun ls h6 => kk φ H locs ls h1 h2 h3 h4 h5 h6 (okl_st2 h7 h8.1) h8.2)

theorem hv_astore_n {X : hh_CX} {cc : ByteArray} {own : String} {rm : Room} {pc : Nat} {loc loc2 : List (Nat × Value)} {st : List Value} {z k : Nat} {h : hh_T} (hX : hh_C X cc own rm) {f : Fin 4} {i nX : Nat} {x : Nat} (hd : decode cc pc = .ok (.astore_n f, 1)) (hi : (f : Nat) = i) (hN : hh_nL X = nX) (hn : i < nX) (hl : hh_st loc i (.ref x) = loc2)
    (kk : hh_V X (pc + 1) loc2 st z k h) : hh_V X pc loc (.ref x :: st) z k h := by
  obtain ⟨p, l, e, R, s, m, args, below, meth, c, G, A, φ0, n0, nL, Q⟩ := X
  intro φ H locs ls h1 h2 h3 h4 h5 h6 h7 h8
  subst hl
  subst hN
  exact lv_astore_n hX.1 hX.2.1 hd hi h6 hn (hh_tl_st (v := .ref x)) (fun ls h6 => kk φ H locs ls h1 h2 h3 h4 h5 h6 (okl_st h7 h8.1) h8.2)

theorem hv_astore {X : hh_CX} {cc : ByteArray} {own : String} {rm : Room} {pc : Nat} {loc loc2 : List (Nat × Value)} {st : List Value} {z k : Nat} {h : hh_T} (hX : hh_C X cc own rm) {i nX : Nat} {x : Nat} (hd : decode cc pc = .ok (.astore i, 2)) (hN : hh_nL X = nX) (hn : i < nX) (hl : hh_st loc i (.ref x) = loc2)
    (kk : hh_V X (pc + 2) loc2 st z k h) : hh_V X pc loc (.ref x :: st) z k h := by
  obtain ⟨p, l, e, R, s, m, args, below, meth, c, G, A, φ0, n0, nL, Q⟩ := X
  intro φ H locs ls h1 h2 h3 h4 h5 h6 h7 h8
  subst hl
  subst hN
  exact lv_astore hX.1 hX.2.1 hd h6 hn (hh_tl_st (v := .ref x)) (fun ls h6 => kk φ H locs ls h1 h2 h3 h4 h5 h6 (okl_st h7 h8.1) h8.2)

theorem hv_iinc {X : hh_CX} {cc : ByteArray} {own : String} {rm : Room} {pc : Nat} {loc loc2 : List (Nat × Value)} {st : List Value} {z k : Nat} {h : hh_T} (hX : hh_C X cc own rm) {i nX : Nat} {n : Int} {x v : Int32} (hd : decode cc pc = .ok (.iinc i n, 3)) (j : Nat) (hj : loc[j]? = some (i, .int x)) (hv : x + Int32.ofInt n = v) (hN : hh_nL X = nX) (hn : i < nX) (hl : hh_st loc i (.int v) = loc2)
    (kk : hh_V X (pc + 3) loc2 st z k h) : hh_V X pc loc st z k h := by
  obtain ⟨p, l, e, R, s, m, args, below, meth, c, G, A, φ0, n0, nL, Q⟩ := X
  intro φ H locs ls h1 h2 h3 h4 h5 h6 h7 h8
  subst hl
  subst hN
  exact lv_iinc hX.1 hX.2.1 hd h6 (hh_tl_at hj) hv hn (hh_tl_st (v := .int v)) (fun ls h6 => kk φ H locs ls h1 h2 h3 h4 h5 h6 (okl_st h7 trivial) h8)

theorem hv_if_eq {X : hh_CX} {cc : ByteArray} {own : String} {rm : Room} {pc : Nat} {loc : List (Nat × Value)} {st : List Value} {z k : Nat} {h : hh_T} (hX : hh_C X cc own rm) {x : Int32} {off : Int} {tgt : Nat} (hd : decode cc pc = .ok (.ifCond .eq off, 3)) (ht : (pc : Int) + off = (tgt : Int))
    (kt : x = 0 → hh_V X tgt loc st z k h) (kf : ¬ x = 0 → hh_V X (pc + 3) loc st z k h) : hh_V X pc loc (.int x :: st) z k h := by
  obtain ⟨p, l, e, R, s, m, args, below, meth, c, G, A, φ0, n0, nL, Q⟩ := X
  intro φ H locs ls h1 h2 h3 h4 h5 h6 h7 h8
  exact lv_if_eq hX.1 hX.2.1 hd ht (fun q => kt q φ H locs ls h1 h2 h3 h4 h5 h6 h7 h8.2) (fun q => kf q φ H locs ls h1 h2 h3 h4 h5 h6 h7 h8.2)

theorem hv_icmp_eq {X : hh_CX} {cc : ByteArray} {own : String} {rm : Room} {pc : Nat} {loc : List (Nat × Value)} {st : List Value} {z k : Nat} {h : hh_T} (hX : hh_C X cc own rm) {x y : Int32} {off : Int} {tgt : Nat} (hd : decode cc pc = .ok (.if_icmp .eq off, 3)) (ht : (pc : Int) + off = (tgt : Int))
    (kt : x = y → hh_V X tgt loc st z k h) (kf : ¬ x = y → hh_V X (pc + 3) loc st z k h) : hh_V X pc loc (.int y :: .int x :: st) z k h := by
  obtain ⟨p, l, e, R, s, m, args, below, meth, c, G, A, φ0, n0, nL, Q⟩ := X
  intro φ H locs ls h1 h2 h3 h4 h5 h6 h7 h8
  exact lv_icmp_eq hX.1 hX.2.1 hd ht (fun q => kt q φ H locs ls h1 h2 h3 h4 h5 h6 h7 h8.2.2) (fun q => kf q φ H locs ls h1 h2 h3 h4 h5 h6 h7 h8.2.2)

theorem hv_if_ne {X : hh_CX} {cc : ByteArray} {own : String} {rm : Room} {pc : Nat} {loc : List (Nat × Value)} {st : List Value} {z k : Nat} {h : hh_T} (hX : hh_C X cc own rm) {x : Int32} {off : Int} {tgt : Nat} (hd : decode cc pc = .ok (.ifCond .ne off, 3)) (ht : (pc : Int) + off = (tgt : Int))
    (kt : ¬ x = 0 → hh_V X tgt loc st z k h) (kf : x = 0 → hh_V X (pc + 3) loc st z k h) : hh_V X pc loc (.int x :: st) z k h := by
  obtain ⟨p, l, e, R, s, m, args, below, meth, c, G, A, φ0, n0, nL, Q⟩ := X
  intro φ H locs ls h1 h2 h3 h4 h5 h6 h7 h8
  exact lv_if_ne hX.1 hX.2.1 hd ht (fun q => kt q φ H locs ls h1 h2 h3 h4 h5 h6 h7 h8.2) (fun q => kf q φ H locs ls h1 h2 h3 h4 h5 h6 h7 h8.2)

theorem hv_icmp_ne {X : hh_CX} {cc : ByteArray} {own : String} {rm : Room} {pc : Nat} {loc : List (Nat × Value)} {st : List Value} {z k : Nat} {h : hh_T} (hX : hh_C X cc own rm) {x y : Int32} {off : Int} {tgt : Nat} (hd : decode cc pc = .ok (.if_icmp .ne off, 3)) (ht : (pc : Int) + off = (tgt : Int))
    (kt : ¬ x = y → hh_V X tgt loc st z k h) (kf : x = y → hh_V X (pc + 3) loc st z k h) : hh_V X pc loc (.int y :: .int x :: st) z k h := by
  obtain ⟨p, l, e, R, s, m, args, below, meth, c, G, A, φ0, n0, nL, Q⟩ := X
  intro φ H locs ls h1 h2 h3 h4 h5 h6 h7 h8
  exact lv_icmp_ne hX.1 hX.2.1 hd ht (fun q => kt q φ H locs ls h1 h2 h3 h4 h5 h6 h7 h8.2.2) (fun q => kf q φ H locs ls h1 h2 h3 h4 h5 h6 h7 h8.2.2)

theorem hv_if_lt {X : hh_CX} {cc : ByteArray} {own : String} {rm : Room} {pc : Nat} {loc : List (Nat × Value)} {st : List Value} {z k : Nat} {h : hh_T} (hX : hh_C X cc own rm) {x : Int32} {off : Int} {tgt : Nat} (hd : decode cc pc = .ok (.ifCond .lt off, 3)) (ht : (pc : Int) + off = (tgt : Int))
    (kt : x < 0 → hh_V X tgt loc st z k h) (kf : ¬ x < 0 → hh_V X (pc + 3) loc st z k h) : hh_V X pc loc (.int x :: st) z k h := by
  obtain ⟨p, l, e, R, s, m, args, below, meth, c, G, A, φ0, n0, nL, Q⟩ := X
  intro φ H locs ls h1 h2 h3 h4 h5 h6 h7 h8
  exact lv_if_lt hX.1 hX.2.1 hd ht (fun q => kt q φ H locs ls h1 h2 h3 h4 h5 h6 h7 h8.2) (fun q => kf q φ H locs ls h1 h2 h3 h4 h5 h6 h7 h8.2)

theorem hv_icmp_lt {X : hh_CX} {cc : ByteArray} {own : String} {rm : Room} {pc : Nat} {loc : List (Nat × Value)} {st : List Value} {z k : Nat} {h : hh_T} (hX : hh_C X cc own rm) {x y : Int32} {off : Int} {tgt : Nat} (hd : decode cc pc = .ok (.if_icmp .lt off, 3)) (ht : (pc : Int) + off = (tgt : Int))
    (kt : x < y → hh_V X tgt loc st z k h) (kf : ¬ x < y → hh_V X (pc + 3) loc st z k h) : hh_V X pc loc (.int y :: .int x :: st) z k h := by
  obtain ⟨p, l, e, R, s, m, args, below, meth, c, G, A, φ0, n0, nL, Q⟩ := X
  intro φ H locs ls h1 h2 h3 h4 h5 h6 h7 h8
  exact lv_icmp_lt hX.1 hX.2.1 hd ht (fun q => kt q φ H locs ls h1 h2 h3 h4 h5 h6 h7 h8.2.2) (fun q => kf q φ H locs ls h1 h2 h3 h4 h5 h6 h7 h8.2.2)

theorem hv_if_ge {X : hh_CX} {cc : ByteArray} {own : String} {rm : Room} {pc : Nat} {loc : List (Nat × Value)} {st : List Value} {z k : Nat} {h : hh_T} (hX : hh_C X cc own rm) {x : Int32} {off : Int} {tgt : Nat} (hd : decode cc pc = .ok (.ifCond .ge off, 3)) (ht : (pc : Int) + off = (tgt : Int))
    (kt : 0 ≤ x → hh_V X tgt loc st z k h) (kf : ¬ 0 ≤ x → hh_V X (pc + 3) loc st z k h) : hh_V X pc loc (.int x :: st) z k h := by
  obtain ⟨p, l, e, R, s, m, args, below, meth, c, G, A, φ0, n0, nL, Q⟩ := X
  intro φ H locs ls h1 h2 h3 h4 h5 h6 h7 h8
  exact lv_if_ge hX.1 hX.2.1 hd ht (fun q => kt q φ H locs ls h1 h2 h3 h4 h5 h6 h7 h8.2) (fun q => kf q φ H locs ls h1 h2 h3 h4 h5 h6 h7 h8.2)

theorem hv_icmp_ge {X : hh_CX} {cc : ByteArray} {own : String} {rm : Room} {pc : Nat} {loc : List (Nat × Value)} {st : List Value} {z k : Nat} {h : hh_T} (hX : hh_C X cc own rm) {x y : Int32} {off : Int} {tgt : Nat} (hd : decode cc pc = .ok (.if_icmp .ge off, 3)) (ht : (pc : Int) + off = (tgt : Int))
    (kt : y ≤ x → hh_V X tgt loc st z k h) (kf : ¬ y ≤ x → hh_V X (pc + 3) loc st z k h) : hh_V X pc loc (.int y :: .int x :: st) z k h := by
  obtain ⟨p, l, e, R, s, m, args, below, meth, c, G, A, φ0, n0, nL, Q⟩ := X
  intro φ H locs ls h1 h2 h3 h4 h5 h6 h7 h8
  exact lv_icmp_ge hX.1 hX.2.1 hd ht (fun q => kt q φ H locs ls h1 h2 h3 h4 h5 h6 h7 h8.2.2) (fun q => kf q φ H locs ls h1 h2 h3 h4 h5 h6 h7 h8.2.2)

theorem hv_if_gt {X : hh_CX} {cc : ByteArray} {own : String} {rm : Room} {pc : Nat} {loc : List (Nat × Value)} {st : List Value} {z k : Nat} {h : hh_T} (hX : hh_C X cc own rm) {x : Int32} {off : Int} {tgt : Nat} (hd : decode cc pc = .ok (.ifCond .gt off, 3)) (ht : (pc : Int) + off = (tgt : Int))
    (kt : 0 < x → hh_V X tgt loc st z k h) (kf : ¬ 0 < x → hh_V X (pc + 3) loc st z k h) : hh_V X pc loc (.int x :: st) z k h := by
  obtain ⟨p, l, e, R, s, m, args, below, meth, c, G, A, φ0, n0, nL, Q⟩ := X
  intro φ H locs ls h1 h2 h3 h4 h5 h6 h7 h8
  exact lv_if_gt hX.1 hX.2.1 hd ht (fun q => kt q φ H locs ls h1 h2 h3 h4 h5 h6 h7 h8.2) (fun q => kf q φ H locs ls h1 h2 h3 h4 h5 h6 h7 h8.2)

theorem hv_icmp_gt {X : hh_CX} {cc : ByteArray} {own : String} {rm : Room} {pc : Nat} {loc : List (Nat × Value)} {st : List Value} {z k : Nat} {h : hh_T} (hX : hh_C X cc own rm) {x y : Int32} {off : Int} {tgt : Nat} (hd : decode cc pc = .ok (.if_icmp .gt off, 3)) (ht : (pc : Int) + off = (tgt : Int))
    (kt : y < x → hh_V X tgt loc st z k h) (kf : ¬ y < x → hh_V X (pc + 3) loc st z k h) : hh_V X pc loc (.int y :: .int x :: st) z k h := by
  obtain ⟨p, l, e, R, s, m, args, below, meth, c, G, A, φ0, n0, nL, Q⟩ := X
  intro φ H locs ls h1 h2 h3 h4 h5 h6 h7 h8
  exact lv_icmp_gt hX.1 hX.2.1 hd ht (fun q => kt q φ H locs ls h1 h2 h3 h4 h5 h6 h7 h8.2.2) (fun q => kf q φ H locs ls h1 h2 h3 h4 h5 h6 h7 h8.2.2)

theorem hv_if_le {X : hh_CX} {cc : ByteArray} {own : String} {rm : Room} {pc : Nat} {loc : List (Nat × Value)} {st : List Value} {z k : Nat} {h : hh_T} (hX : hh_C X cc own rm) {x : Int32} {off : Int} {tgt : Nat} (hd : decode cc pc = .ok (.ifCond .le off, 3)) (ht : (pc : Int) + off = (tgt : Int))
    (kt : x ≤ 0 → hh_V X tgt loc st z k h) (kf : ¬ x ≤ 0 → hh_V X (pc + 3) loc st z k h) : hh_V X pc loc (.int x :: st) z k h := by
  obtain ⟨p, l, e, R, s, m, args, below, meth, c, G, A, φ0, n0, nL, Q⟩ := X
  intro φ H locs ls h1 h2 h3 h4 h5 h6 h7 h8
  exact lv_if_le hX.1 hX.2.1 hd ht (fun q => kt q φ H locs ls h1 h2 h3 h4 h5 h6 h7 h8.2) (fun q => kf q φ H locs ls h1 h2 h3 h4 h5 h6 h7 h8.2)

theorem hv_icmp_le {X : hh_CX} {cc : ByteArray} {own : String} {rm : Room} {pc : Nat} {loc : List (Nat × Value)} {st : List Value} {z k : Nat} {h : hh_T} (hX : hh_C X cc own rm) {x y : Int32} {off : Int} {tgt : Nat} (hd : decode cc pc = .ok (.if_icmp .le off, 3)) (ht : (pc : Int) + off = (tgt : Int))
    (kt : x ≤ y → hh_V X tgt loc st z k h) (kf : ¬ x ≤ y → hh_V X (pc + 3) loc st z k h) : hh_V X pc loc (.int y :: .int x :: st) z k h := by
  obtain ⟨p, l, e, R, s, m, args, below, meth, c, G, A, φ0, n0, nL, Q⟩ := X
  intro φ H locs ls h1 h2 h3 h4 h5 h6 h7 h8
  exact lv_icmp_le hX.1 hX.2.1 hd ht (fun q => kt q φ H locs ls h1 h2 h3 h4 h5 h6 h7 h8.2.2) (fun q => kf q φ H locs ls h1 h2 h3 h4 h5 h6 h7 h8.2.2)

theorem hv_goto {X : hh_CX} {cc : ByteArray} {own : String} {rm : Room} {pc : Nat} {loc : List (Nat × Value)} {st : List Value} {z k : Nat} {h : hh_T} (hX : hh_C X cc own rm) {off : Int} {tgt : Nat} (hd : decode cc pc = .ok (.goto off, 3)) (ht : (pc : Int) + off = (tgt : Int))
    (kk : hh_V X tgt loc st z k h) : hh_V X pc loc st z k h := by
  obtain ⟨p, l, e, R, s, m, args, below, meth, c, G, A, φ0, n0, nL, Q⟩ := X
  intro φ H locs ls h1 h2 h3 h4 h5 h6 h7 h8
  exact lv_goto hX.1 hX.2.1 hd ht (kk φ H locs ls h1 h2 h3 h4 h5 h6 h7 h8)

