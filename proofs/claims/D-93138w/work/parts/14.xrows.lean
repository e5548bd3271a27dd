set_option maxRecDepth 100000
/-! MORE ROWS over the abstract heap: references, arrays of references, new cells, copies, nest mates -/
theorem hh_rf (φ : Nat → Nat) (o : Option Nat) : va_rf (o.map φ) = hh_rv φ o := by cases o <;> rfl
theorem hh_ac_q {φ : Nat → Nat} {h : hh_T} {i a : Nat} (ha : 20 ≤ a) : hh_ac φ h i a = .inr (.inr (.inr (.inr fun j => (hhR h i j).map φ))) := by
  unfold hh_ac
  rw [if_neg (by omega), if_neg (by omega)]
theorem hh_tys_at {dA : Nat → ClassId} {j a : Nat} (hj : hh_al[j]? = some a) : (hh_tys dA)[j]? = some (dA a, hh_ay a) := by
  simp only [hh_tys, List.getElem?_map, hj, Option.map_some]
theorem hv_aald {X : hh_CX} {cc : ByteArray} {own : String} {rm : Room} {pc : Nat} {loc : List (Nat × Value)} {st : List Value} {z k : Nat} {h : hh_T} (hX : hh_C X cc own rm) {r a : Nat} {i : Int32} (j : Nat) (hj : hh_al[j]? = some a) (hja : 20 ≤ a ∧ (hh_ay a).isReference = true) (hd : decode cc pc = .ok (.aaload, 1)) (hr : r < hhN h) (hK : hhK h r = 100 + a) (hi : vp_in i (hhL h r)) {v : Value} (hv : hh_av (hhR h r i.toNatClampNeg) = v)
    (kk : hh_V X (pc + 1) loc (v :: st) z k h) : hh_V X pc loc (.int i :: .ref r :: st) z k h := by
  obtain ⟨p, l, e, R, s, m, args, below, meth, c, G, A, φ0, n0, nL, Q⟩ := X
  intro φ H locs ls h1 h2 h3 h4 h5 h6 h7 h8
  subst hv
  have ho : okv h (hh_av (hhR h r i.toNatClampNeg)) := by
    cases q : hhR h r i.toNatClampNeg with
    | none => trivial
    | some y => exact h3.2.2 r _ y q
  have hlt : i.toNatClampNeg < hhL h r := Nat.not_le.mp fun q => hi (Or.inr q)
  have hc := h3.1 r _ (hh_ws_at hr)
  rw [hh_cell_a hK, hh_ac_q hja.1] at hc
  have hK0 := hX.2.2.2.2.2.1.1.2 j _ (hh_tys_at hj)
  have h9 := kk φ H locs ls h1 h2 h3 h4 h5 h6 h7 ⟨ho, h8.2.2⟩
  rw [List.map_cons, hh_tv_av] at h9
  exact W.aald (v := hh_rv φ (hhR h r i.toNatClampNeg)) (ty := hh_ay a) hX.1 hX.2.1 hc (hK0.1 (hhL h r) (fun q => va_rf ((hhR h r q).map φ))) hja.2 (fun q => by cases q) (by show ¬ (i < 0 ∨ (arrV _ _ _).slots.size ≤ _); rw [arrV_size]; exact hi) (by show (arrV _ _ _).slots[_]? = _; rw [arrV_read _ _ hlt, hh_rf]) rfl rfl hd h9
theorem hh_rowR (φ : Nat → Nat) (h : hh_T) (r i : Nat) (v : Option Nat) : (fun j => (hhR (hsR h r i v) r j).map φ) = va_up (fun j => (hhR h r j).map φ) i (v.map φ) := by
  funext b
  show (u2 (hhR h) r i v r b).map φ = va_up (fun j => (hhR h r j).map φ) i (v.map φ) b
  unfold u2 va_up
  split <;> simp
/-- storing an object of class ci in an array of its own class -/
theorem hv_aast {X : hh_CX} {cc : ByteArray} {own : String} {rm : Room} {pc : Nat} {loc : List (Nat × Value)} {st : List Value} {z k : Nat} {h : hh_T} (hX : hh_C X cc own rm) {r a w ci : Nat} {i : Int32} {q : vw_C} (j : Nat) (hj : hh_al[j]? = some a) (hja : 20 ≤ a) (hci : hh_cl[ci]? = some q) (hc1 : ci < 100) (hay : hh_ay a = .object q.1) (hd : decode cc pc = .ok (.aastore, 1)) (hr : r < hhN h) (hK : hhK h r = 100 + a) (hi : vp_in i (hhL h r)) (hw : w < hhN h) (hKw : hhK h w = ci)
    (kk : hh_V X (pc + 1) loc st z k (hsR h r i.toNatClampNeg (some w))) : hh_V X pc loc (.ref w :: .int i :: .ref r :: st) z k h := by
  obtain ⟨p, l, e, R, s, m, args, below, meth, c, G, A, φ0, n0, nL, Q⟩ := X
  intro φ H locs ls h1 h2 h3 h4 h5 h6 h7 h8
  refine va_astq hX.1 hX.2.1 hX.2.2.2.2.2.1.1 h3.1 h4 h5 r j w ci (by rw [hh_ws_at hr, hh_cell_a hK, hh_ac_q hja]) (by rw [hh_tys_at hj, hay]) (by rw [hh_ws_at hw, hh_cell_o hKw hc1]) hci hi hd (fun H1 locs1 hP1 hD1 hS1 => ?_)
  have e : (hh_ws G.2 φ h).set r (φ r, .inl (G.2 a, hhL h r, .inr (.inr (.inr (.inr (va_up (fun j => (hhR h r j).map φ) i.toNatClampNeg (some (φ w)))))))) = hh_ws G.2 φ (hsR h r i.toNatClampNeg (some w)) :=
    hh_set_ws (h := h) (h' := hsR h r i.toNatClampNeg (some w)) rfl hh_cell_R (by rw [hh_cell_a (h := hsR h r i.toNatClampNeg (some w)) hK, hh_ac_q hja, hh_rowR]; rfl)
  rw [e] at hP1 hD1
  exact kk φ H1 locs1 ls h1 h2 ⟨hP1, hh_ok_R (v := some w) h3.2 h8.1⟩ hD1 hS1 h6 (okl_mono (h := h) (by exact Nat.le_refl _) h7) (oks_mono (h := h) (by exact Nat.le_refl _) h8.2.2.2)
theorem hv_ifnull {X : hh_CX} {cc : ByteArray} {own : String} {rm : Room} {pc : Nat} {loc : List (Nat × Value)} {st : List Value} {z k : Nat} {h : hh_T} (hX : hh_C X cc own rm) {r tgt : Nat} {off : Int} (hd : decode cc pc = .ok (.ifnull off, 3))
    (kk : hh_V X (pc + 3) loc st z k h) : hh_V X pc loc (.ref r :: st) z k h := by
  obtain ⟨p, l, e, R, s, m, args, below, meth, c, G, A, φ0, n0, nL, Q⟩ := X
  intro φ H locs ls h1 h2 h3 h4 h5 h6 h7 h8
  exact lv_ifnull hX.1 hX.2.1 hd (kk φ H locs ls h1 h2 h3 h4 h5 h6 h7 h8.2)
theorem hv_ifnullN {X : hh_CX} {cc : ByteArray} {own : String} {rm : Room} {pc : Nat} {loc : List (Nat × Value)} {st : List Value} {z k : Nat} {h : hh_T} (hX : hh_C X cc own rm) {tgt : Nat} {off : Int} (hd : decode cc pc = .ok (.ifnull off, 3)) (ht : (pc : Int) + off = (tgt : Int))
    (kk : hh_V X tgt loc st z k h) : hh_V X pc loc (.null :: st) z k h := by
  obtain ⟨p, l, e, R, s, m, args, below, meth, c, G, A, φ0, n0, nL, Q⟩ := X
  intro φ H locs ls h1 h2 h3 h4 h5 h6 h7 h8
  exact lv_ifnullN hX.1 hX.2.1 hd ht (kk φ H locs ls h1 h2 h3 h4 h5 h6 h7 h8.2)
theorem hv_ifnonnull {X : hh_CX} {cc : ByteArray} {own : String} {rm : Room} {pc : Nat} {loc : List (Nat × Value)} {st : List Value} {z k : Nat} {h : hh_T} (hX : hh_C X cc own rm) {r tgt : Nat} {off : Int} (hd : decode cc pc = .ok (.ifnonnull off, 3)) (ht : (pc : Int) + off = (tgt : Int))
    (kk : hh_V X tgt loc st z k h) : hh_V X pc loc (.ref r :: st) z k h := by
  obtain ⟨p, l, e, R, s, m, args, below, meth, c, G, A, φ0, n0, nL, Q⟩ := X
  intro φ H locs ls h1 h2 h3 h4 h5 h6 h7 h8
  exact lv_ifnonnull hX.1 hX.2.1 hd ht (kk φ H locs ls h1 h2 h3 h4 h5 h6 h7 h8.2)
theorem hv_ifnonnullN {X : hh_CX} {cc : ByteArray} {own : String} {rm : Room} {pc : Nat} {loc : List (Nat × Value)} {st : List Value} {z k : Nat} {h : hh_T} (hX : hh_C X cc own rm) {off : Int} (hd : decode cc pc = .ok (.ifnonnull off, 3))
    (kk : hh_V X (pc + 3) loc st z k h) : hh_V X pc loc (.null :: st) z k h := by
  obtain ⟨p, l, e, R, s, m, args, below, meth, c, G, A, φ0, n0, nL, Q⟩ := X
  intro φ H locs ls h1 h2 h3 h4 h5 h6 h7 h8
  exact lv_ifnonnullN hX.1 hX.2.1 hd (kk φ H locs ls h1 h2 h3 h4 h5 h6 h7 h8.2)
theorem hh_cell_new {dA : Nat → ClassId} {φ : Nat → Nat} {h : hh_T} {K L q i : Nat} (ho : hh_ok h) (hn : hhN h < 1000000) (hi : i < hhN h) : hh_cell dA (u1 φ (hhN h) q) (hnew h K L) i = hh_cell dA φ h i := by
  have hne : i ≠ hhN h := Nat.ne_of_lt hi
  have eK : hhK (hnew h K L) i = hhK h i := by show u1 (hhK h) (hhN h) K i = _; simp [u1, hne]
  have eL : hhL (hnew h K L) i = hhL h i := by show u1 (hhL h) (hhN h) L i = _; simp [u1, hne]
  have eI : hhI (hnew h K L) i = hhI h i := by funext b; show ur (hhI h) (hhN h) (fun _ => 0) i b = _; simp [ur, hne]
  have eJ : hhJ (hnew h K L) i = hhJ h i := by funext b; show ur (hhJ h) (hhN h) (fun _ => 0) i b = _; simp [ur, hne]
  have eR : hhR (hnew h K L) i = hhR h i := by funext b; show ur (hhR h) (hhN h) (fun _ => none) i b = _; simp [ur, hne]
  have eφ : ∀ b, (hhR h i b).map (u1 φ (hhN h) q) = (hhR h i b).map φ := by
    intro b
    cases e : hhR h i b with
    | none => rfl
    | some y =>
      have hy := ho.2 i b y e
      have : y ≠ hhN h := by omega
      simp [u1, this]
  have erv : ∀ b, hh_rv (u1 φ (hhN h) q) (hhR h i b) = hh_rv φ (hhR h i b) := by
    intro b
    rw [← hh_rf, ← hh_rf, eφ]
  have efs : hh_fs (u1 φ (hhN h) q) (hnew h K L) i (hhK h i) = hh_fs φ h i (hhK h i) := by
    unfold hh_fs
    congr 1
    funext b t
    unfold hh_fv
    rw [eI, eJ, eR, erv]
  unfold hh_cell
  rw [eK, eL, efs]
  unfold hh_ac
  rw [eI, eJ, eR]
  simp only [eφ]
theorem hh_ws_new {dA : Nat → ClassId} {φ : Nat → Nat} {h : hh_T} {K L q : Nat} (ho : hh_ok h) (hn : hhN h < 1000000) : hh_ws dA (u1 φ (hhN h) q) (hnew h K L) = hh_ws dA φ h ++ [(q, hh_cell dA (u1 φ (hhN h) q) (hnew h K L) (hhN h))] := by
  show (List.range (hhN h + 1)).map _ = _
  rw [List.range_succ, List.map_append, List.map_singleton]
  congr 1
  · apply List.map_congr_left
    intro i hi
    have hi := List.mem_range.mp hi
    rw [hh_cell_new ho hn hi]
    simp [u1, Nat.ne_of_lt hi]
  · simp [u1]
theorem hh_ok_new {h : hh_T} {K L : Nat} (ho : hh_ok h) (hn : hhN h < 1000000) : hh_ok (hnew h K L) := by
  refine ⟨hn, fun i b y hy => ?_⟩
  have hy : ur (hhR h) (hhN h) (fun _ => none) i b = some y := hy
  unfold ur at hy
  split at hy
  · cases hy
  · rcases ho.2 i b y hy with g | g
    · exact Or.inl (Nat.lt_succ_of_lt g)
    · exact Or.inr g
/-- a new cell is there: the goal with one more number -/
theorem hh_made {p : Program} {l : Launch} {e : Env} {R : Room} {s : State} {m : MethodId} {args : Array Value} {below : List Frame} {meth : Method} {c : Code} {G : hh_G} {A : Nat → Prop} {φ0 : Nat → Nat} {n0 nL : Nat} {Q : State → Prop} {φ : Nat → Nat} {H1 : Heap} {locs : List Loc} {ls : Array Slot} {loc : List (Nat × Value)} {st : List Value} {z k pc K L q : Nat} {h : hh_T} {w : va_E} (hn : hhN h < 1000000) (h1 : ∀ i, i < n0 ∨ 1000000 ≤ i → φ i = φ0 i) (h2 : n0 ≤ hhN h) (ho : hh_ok h) (h6 : lv_has ls nL (hh_tl φ loc)) (h7 : okl h loc) (h8 : oks h st) (hw : hh_cell G.2 (u1 φ (hhN h) q) (hnew h K L) (hhN h) = w) (hP : va_P G.1 hh_cl (hh_ws G.2 φ h ++ [(q, w)]) H1) (hD : va_D A (hh_ws G.2 φ h ++ [(q, w)])) (hS : va_S A s.heap H1 locs)
    (kk : hh_V (p, l, e, R, s, m, args, below, meth, c, G, A, φ0, n0, nL, Q) pc loc (.ref (hhN h) :: st) z k (hnew h K L)) : W p l e R s m args below meth c H1 locs z k Q (F0 m pc ls (.ref q :: st.map (hh_tv φ))) := by
  subst hw
  rw [← hh_ws_new ho hn] at hP hD
  have eφ : ∀ w : Value, okv h w → hh_tv (u1 φ (hhN h) q) w = hh_tv φ w := by
    intro w hw
    cases w with
    | ref r =>
      have : r ≠ hhN h := by
        rcases hw with g | g
        · exact Nat.ne_of_lt g
        · intro e9
          rw [e9] at g
          exact absurd g (Nat.not_le.mpr hn)
      simp [hh_tv, u1, this]
    | _ => rfl
  have est : st.map (hh_tv (u1 φ (hhN h) q)) = st.map (hh_tv φ) := List.map_congr_left fun w hw => eφ w (oks_mem.mp h8 w hw)
  have eloc : hh_tl (u1 φ (hhN h) q) loc = hh_tl φ loc := List.map_congr_left fun w hw => by rw [eφ w.2 (h7 w hw)]
  have K9 := kk (u1 φ (hhN h) q) H1 locs ls (fun i hi => by
    have : i ≠ hhN h := by omega
    rw [← h1 i hi]
    simp [u1, this]) (Nat.le_succ_of_le h2) ⟨hP, hh_ok_new ho hn⟩ hD hS (by rw [eloc]; exact h6) (okl_mono (Nat.le_succ _) h7) ⟨Or.inl (Nat.lt_succ_self _), oks_mono (Nat.le_succ _) h8⟩
  have e9 : (Value.ref (hhN h) :: st).map (hh_tv (u1 φ (hhN h) q)) = .ref q :: st.map (hh_tv φ) := by
    rw [List.map_cons, est]
    simp [hh_tv, u1]
  rw [e9] at K9
  exact K9
/-- what the tables say of a class that is made: own makes it by its entry idx -/
def hh_NL (own : String) (idx ci N : Nat) : Prop := ∃ (C : String) (T : u_T) (ty : Nat → FieldType), ci < 100 ∧ hh_cl[ci]? = some (C, T, N) ∧ (∀ w ∈ u_ws C T N, w ∈ lw_all) ∧ (∀ j, j < N → parseFieldDescriptor (T j).2.2.1 = some (ty j)) ∧ (hh_ft ci).length = N ∧ (∀ j, j < N → (hh_ft ci)[j]? = some (hh_code (ty j)) ∧ hh_code (ty j) < 9) ∧ Cond.classLink own idx C ∈ lw_all ∧ Cond.instantiable C N ∈ lw_all ∧ Cond.initialized C ∈ lw_all
theorem hv_new {X : hh_CX} {cc : ByteArray} {own : String} {rm : Room} {pc : Nat} {loc : List (Nat × Value)} {st : List Value} {z k : Nat} {h : hh_T} (hX : hh_C X cc own rm) {idx ci N : Nat} (hd : decode cc pc = .ok (.new idx, 3)) (hN : hh_NL own idx ci N) (hn : hhN h < 1000000) (hz : z + 1 ≤ rm.cells ∧ k + N ≤ rm.slots)
    (kk : hh_V X (pc + 3) loc (.ref (hhN h) :: st) (z + 1) (k + N) (hnew h ci N)) : hh_V X pc loc st z k h := by
  obtain ⟨p, l, e, R, s, m, args, below, meth, c, G, A, φ0, n0, nL, Q⟩ := X
  intro φ H locs ls h1 h2 h3 h4 h5 h6 h7 h8
  have hRR : R = rm := hX.2.2.2.2.2.2.2.1
  subst hRR
  obtain ⟨C, T, ty, hci, hcl, hin, hty, hlen, hft, g1, g2, g3⟩ := hN
  have ec : ∀ q, hh_cell G.2 (u1 φ (hhN h) q) (hnew h ci N) (hhN h) = .inr (ci, hh_fs φ (hnew h ci N) (hhN h) ci) := by
    intro q
    rw [hh_cell_o (ci := ci) (by show u1 (hhK h) (hhN h) ci (hhN h) = ci; simp [u1]) hci]
    congr 2
    unfold hh_fs
    congr 1
    funext b t
    unfold hh_fv
    have : hhR (hnew h ci N) (hhN h) b = none := by show ur (hhR h) (hhN h) (fun _ => none) (hhN h) b = none; simp [ur]
    rw [this]
    rfl
  refine va_new (ci := ci) hX.1 hX.2.1 hX.2.2.2.2.1 hin ty hty hX.2.2.2.1 (hX.2.2.2.2.1 _ g1) (hX.2.2.2.2.1 _ g2) (hX.2.2.2.2.1 _ g3) hX.2.2.2.2.2.1.1 h3.1 h4 h5 hX.2.2.2.2.2.2.1 hcl (fs := hh_fs φ (hnew h ci N) (hhN h) ci) (fun j hj => ?_) hz.1 hz.2 hd (fun q H1 hP1 hD1 hS1 => ?_)
  · show _ = (hh_fs φ (hnew h ci N) (hhN h) ci).getD j .null
    rw [List.getD_eq_getElem?_getD, hh_fs_at (hft j hj).1]
    have eI : hhI (hnew h ci N) (hhN h) j = 0 := by show ur (hhI h) (hhN h) (fun _ => 0) (hhN h) j = 0; simp [ur]
    have eJ : hhJ (hnew h ci N) (hhN h) j = 0 := by show ur (hhJ h) (hhN h) (fun _ => 0) (hhN h) j = 0; simp [ur]
    have eR : hhR (hnew h ci N) (hhN h) j = none := by show ur (hhR h) (hhN h) (fun _ => none) (hhN h) j = none; simp [ur]
    have hc := (hft j hj).2
    cases e : ty j <;> rw [e] at hc <;> simp [hh_code, hh_fv, eI, eJ, eR, hh_rv, defaultValue] at hc ⊢
  · exact hh_made hn h1 h2 h3.2 h6 h7 h8 (ec q) hP1 hD1 hS1 kk
/-- the class of an array of a kind -/
theorem hh_dA {G : hh_G} {s : State} {j a : Nat} {cA : ClassId} (hS : hh_S G s) (hj : hh_al[j]? = some a) (h : va_RA s cA (hh_ay a)) : cA = G.2 a := by
  have h2 := (hS.1.2 j _ (hh_tys_at hj)).2
  cases e : hh_ay a <;> rw [e] at h h2
  case object C =>
    obtain ⟨_, _, _, _, _, g⟩ := h
    obtain ⟨_, _, _, _, _, g2⟩ := h2
    exact Option.some.inj (g.symm.trans g2)
  all_goals exact Option.some.inj ((show s.vm.findClass _ = some cA from h).symm.trans (show s.vm.findClass _ = some (G.2 a) from h2))
theorem hv_newA {X : hh_CX} {cc : ByteArray} {own : String} {rm : Room} {pc : Nat} {loc : List (Nat × Value)} {st : List Value} {z k : Nat} {h : hh_T} (hX : hh_C X cc own rm) {a N : Nat} {atype : ArrayType} {n : Int32} (j : Nat) (hj : hh_al[j]? = some a) (ha : a < 20) (hty : newarray.typeOf atype = hh_ay a) (ha2 : a = 10 ∨ (a < 10 ∧ hh_ay a ≠ .long)) (hda : defaultValue (hh_ay a) = if a < 10 then .int 0 else .long 0) (hw : Cond.arrayClass (newarray.typeOf atype) ∈ lw_all) (hd : decode cc pc = .ok (.newarray atype, 2)) (hn0 : ¬ n < 0) (hN : n.toNatClampNeg = N) (hby : N * componentBytes (hh_ay a) ≤ 536870912) (hn : hhN h < 1000000) (hz : z + 1 ≤ rm.cells ∧ k + N ≤ rm.slots)
    (kk : hh_V X (pc + 2) loc (.ref (hhN h) :: st) (z + 1) (k + N) (hnew h (100 + a) N)) : hh_V X pc loc (.int n :: st) z k h := by
  obtain ⟨p, l, e, R, s, m, args, below, meth, c, G, A, φ0, n0, nL, Q⟩ := X
  intro φ H locs ls h1 h2 h3 h4 h5 h6 h7 h8
  have hRR : R = rm := hX.2.2.2.2.2.2.2.1
  subst hRR
  have ec : ∀ q, hh_cell G.2 (u1 φ (hhN h) q) (hnew h (100 + a) N) (hhN h) = .inl (G.2 a, N, if a < 10 then .inl (fun _ => 0) else .inr (.inl (fun _ => 0))) := by
    intro q
    rw [hh_cell_a (a := a) (by show u1 (hhK h) (hhN h) (100 + a) (hhN h) = 100 + a; simp [u1])]
    have eL : hhL (hnew h (100 + a) N) (hhN h) = N := by show u1 (hhL h) (hhN h) N (hhN h) = N; simp [u1]
    have eI : hhI (hnew h (100 + a) N) (hhN h) = fun _ => 0 := by funext b; show ur (hhI h) (hhN h) (fun _ => 0) (hhN h) b = 0; simp [ur]
    have eJ : hhJ (hnew h (100 + a) N) (hhN h) = fun _ => 0 := by funext b; show ur (hhJ h) (hhN h) (fun _ => 0) (hhN h) b = 0; simp [ur]
    rw [eL]
    unfold hh_ac
    rw [eI, eJ, if_pos ha]
  refine va_newa (a0 := (N, if a < 10 then .inl (fun _ => 0) else .inr (.inl (fun _ => 0)))) hX.1 hX.2.1 (hX.2.2.2.2.1 _ hw) hty hX.2.2.2.2.2.1.1 h3.1 h4 h5 hX.2.2.2.2.2.2.1 (N' := N) (fun cA => ?_) hn0 hN hby hz.1 hz.2 hd (fun q cA H1 hK1 hP1 hD1 hS1 => ?_)
  · rw [hda]
    split <;> rfl
  · have hcA : cA = G.2 a := hh_dA hX.2.2.2.2.2.1 hj (hK1.2 hh_al.length (cA, hh_ay a) (by rw [List.getElem?_append_right (by simp [hh_tys])]; simp [hh_tys])).2
    subst hcA
    exact hh_made hn h1 h2 h3.2 h6 h7 h8.2 (ec q) hP1 hD1 hS1 kk
theorem hv_newQ {X : hh_CX} {cc : ByteArray} {own : String} {rm : Room} {pc : Nat} {loc : List (Nat × Value)} {st : List Value} {z k : Nat} {h : hh_T} (hX : hh_C X cc own rm) {a N idx : Nat} {n : Int32} {C : String} (j : Nat) (hj : hh_al[j]? = some a) (ha : 20 ≤ a) (hay : hh_ay a = .object C) (hC : C ∈ hh_aos) (hl : Cond.classLink own idx C ∈ lw_all) (hd : decode cc pc = .ok (.anewarray idx, 3)) (hn0 : ¬ n < 0) (hN : n.toNatClampNeg = N) (hby : N * 4 ≤ 536870912) (hn : hhN h < 1000000) (hz : z + 1 ≤ rm.cells ∧ k + N ≤ rm.slots)
    (kk : hh_V X (pc + 3) loc (.ref (hhN h) :: st) (z + 1) (k + N) (hnew h (100 + a) N)) : hh_V X pc loc (.int n :: st) z k h := by
  obtain ⟨p, l, e, R, s, m, args, below, meth, c, G, A, φ0, n0, nL, Q⟩ := X
  intro φ H locs ls h1 h2 h3 h4 h5 h6 h7 h8
  have hRR : R = rm := hX.2.2.2.2.2.2.2.1
  subst hRR
  have ec : ∀ q, hh_cell G.2 (u1 φ (hhN h) q) (hnew h (100 + a) N) (hhN h) = .inl (G.2 a, N, .inr (.inr (.inr (.inr fun _ => none)))) := by
    intro q
    rw [hh_cell_a (a := a) (by show u1 (hhK h) (hhN h) (100 + a) (hhN h) = 100 + a; simp [u1])]
    have eL : hhL (hnew h (100 + a) N) (hhN h) = N := by show u1 (hhL h) (hhN h) N (hhN h) = N; simp [u1]
    have eR : ∀ b, hhR (hnew h (100 + a) N) (hhN h) b = none := by intro b; show ur (hhR h) (hhN h) (fun _ => none) (hhN h) b = none; simp [ur]
    rw [eL, hh_ac_q ha]
    simp only [eR]
    rfl
  refine va_newq hX.1 hX.2.1 hX.2.2.2.1 (hX.2.2.2.2.1 _ hl) (hX.2.2.2.2.2.1.2.2.1 C hC) hX.2.2.2.2.2.1.1 h3.1 h4 h5 hX.2.2.2.2.2.2.1 hn0 hN hby hz.1 hz.2 hd (fun q cA H1 hK1 hP1 hD1 hS1 => ?_)
  have hcA : cA = G.2 a := hh_dA hX.2.2.2.2.2.1 hj (by rw [hay]; exact (hK1.2 hh_al.length (cA, .object C) (by rw [List.getElem?_append_right (by simp [hh_tys])]; simp [hh_tys])).2)
  subst hcA
  exact hh_made hn h1 h2 h3.2 h6 h7 h8.2 (ec q) hP1 hD1 hS1 kk
theorem hv_mmin {X : hh_CX} {cc : ByteArray} {own : String} {rm : Room} {pc : Nat} {loc : List (Nat × Value)} {st : List Value} {z k : Nat} {h : hh_T} (hX : hh_C X cc own rm) {idx : Nat} {x y : Int32} (hd : decode cc pc = .ok (.invokestatic idx, 3)) (h9 : Cond.methodLink own idx Lib.Math.min.name ∈ lw_all) (h10 : Cond.static Lib.Math.min.name ∈ lw_all) (h11 : Cond.initialized "java/lang/Math" ∈ lw_all) (h12 : Cond.code Lib.Math.min.name Lib.Math.min.code 2 (some .int) ∈ lw_all) (hr : 1 ≤ rm.frames ∧ (st.map fun v => v.category).sum + 13 ≤ rm.locals) (hz : z ≤ rm.cells ∧ k ≤ rm.slots)
    (kk : hh_V X (pc + 3) loc (.int (if y < x then y else x) :: st) z k h) : hh_V X pc loc (.int y :: .int x :: st) z k h := by
  obtain ⟨p, l, e, R, s, m, args, below, meth, c, G, A, φ0, n0, nL, Q⟩ := X
  intro φ H locs ls h1 h2 h3 h4 h5 h6 h7 h8
  have hRR : R = rm := hX.2.2.2.2.2.2.2.1
  subst hRR
  exact va_mmin hX.1 hX.2.1 (hX.2.2.1.trans h6.1.symm) hX.2.2.2.1 (hX.2.2.2.2.1 _ h9) (hX.2.2.2.2.1 _ h10) (hX.2.2.2.2.1 _ h11) (hX.2.2.2.2.1 _ h12) hr.1 (by rw [List.map_map]; simp only [Function.comp_def, hh_tv_cat]; exact hr.2) hz.1 hz.2 hd (kk φ H locs ls h1 h2 h3 h4 h5 h6 h7 ⟨trivial, h8.2.2⟩)
theorem hv_mmaxl {X : hh_CX} {cc : ByteArray} {own : String} {rm : Room} {pc : Nat} {loc : List (Nat × Value)} {st : List Value} {z k : Nat} {h : hh_T} (hX : hh_C X cc own rm) {idx : Nat} {x y : Int64} (hd : decode cc pc = .ok (.invokestatic idx, 3)) (h9 : Cond.methodLink own idx Lib.MathLoose.max_long.x ∈ lw_all) (h10 : Cond.static Lib.MathLoose.max_long.x ∈ lw_all) (h11 : Cond.initialized "java/lang/Math" ∈ lw_all) (h12 : Cond.code Lib.MathLoose.max_long.x Lib.MathLoose.max_long.code 4 (some .long) ∈ lw_all) (hr : 1 ≤ rm.frames ∧ (st.map fun v => v.category).sum + 15 ≤ rm.locals) (hz : z ≤ rm.cells ∧ k ≤ rm.slots)
    (kk : hh_V X (pc + 3) loc (.long (if y < x then x else y) :: st) z k h) : hh_V X pc loc (.long y :: .long x :: st) z k h := by
  obtain ⟨p, l, e, R, s, m, args, below, meth, c, G, A, φ0, n0, nL, Q⟩ := X
  intro φ H locs ls h1 h2 h3 h4 h5 h6 h7 h8
  have hRR : R = rm := hX.2.2.2.2.2.2.2.1
  subst hRR
  exact va_mmax_long hX.1 hX.2.1 (hX.2.2.1.trans h6.1.symm) hX.2.2.2.1 (hX.2.2.2.2.1 _ h9) (hX.2.2.2.2.1 _ h10) (hX.2.2.2.2.1 _ h11) (hX.2.2.2.2.1 _ h12) hr.1 (by rw [List.map_map]; simp only [Function.comp_def, hh_tv_cat]; exact hr.2) hz.1 hz.2 hd (kk φ H locs ls h1 h2 h3 h4 h5 h6 h7 ⟨trivial, h8.2.2⟩)
theorem hh_nfw : nativeFrameWords "java/lang/System" "arraycopy" 5 = 7 := by decide +kernel
theorem hh_set_row {dA : Nat → ClassId} {φ : Nat → Nat} {h h' : hh_T} {i : Nat} (hn : hhN h' = hhN h) (hK : hhK h' = hhK h) (hL : hhL h' = hhL h) (hI : ∀ j, j ≠ i → ∀ b, hhI h' j b = hhI h j b) (hJ : ∀ j, j ≠ i → ∀ b, hhJ h' j b = hhJ h j b) (hR : ∀ j, j ≠ i → ∀ b, hhR h' j b = hhR h j b) {c : va_E} (hc : hh_cell dA φ h' i = c) : (hh_ws dA φ h).set i (φ i, c) = hh_ws dA φ h' :=
  hh_set_ws hn (fun j hj => hh_cell_far (by rw [hK]) (by rw [hL]) (hI j hj) (hJ j hj) (hR j hj)) hc
abbrev hcI (h : hh_T) (src dst sp dp n : Nat) : hh_T := (hhN h, hhK h, hhL h, ur (hhI h) dst (va_cpy (hhI h src) (hhI h dst) sp dp n), hhJ h, hhR h)
abbrev hcR (h : hh_T) (src dst sp dp n : Nat) : hh_T := (hhN h, hhK h, hhL h, hhI h, hhJ h, ur (hhR h) dst (va_cpy (hhR h src) (hhR h dst) sp dp n))
theorem hv_copyI {X : hh_CX} {cc : ByteArray} {own : String} {rm : Room} {pc : Nat} {loc : List (Nat × Value)} {st : List Value} {z k : Nat} {h : hh_T} (hX : hh_C X cc own rm) {idx src dst : Nat} {sp dp n : Int32} (hd : decode cc pc = .ok (.invokestatic idx, 3)) (h9 : Cond.methodLink own idx arraycopyName ∈ lw_all) (h10 : Cond.native arraycopyName ∈ lw_all) (h11 : Cond.static arraycopyName ∈ lw_all) (h12 : Cond.initialized "java/lang/System" ∈ lw_all) (hs : src < hhN h ∧ hhK h src = 100) (ht : dst < hhN h ∧ hhK h dst = 100) (hb : ¬ sp < 0 ∧ ¬ dp < 0 ∧ ¬ n < 0 ∧ sp.toNatClampNeg + n.toNatClampNeg ≤ hhL h src ∧ dp.toNatClampNeg + n.toNatClampNeg ≤ hhL h dst) (hr : 1 ≤ rm.frames ∧ (st.map fun v => v.category).sum + 18 ≤ rm.locals)
    (kk : hh_V X (pc + 3) loc st z k (hcI h src dst sp.toNatClampNeg dp.toNatClampNeg n.toNatClampNeg)) : hh_V X pc loc (.int n :: .int dp :: .ref dst :: .int sp :: .ref src :: st) z k h := by
  obtain ⟨p, l, e, R, s, m, args, below, meth, c, G, A, φ0, n0, nL, Q⟩ := X
  intro φ H locs ls h1 h2 h3 h4 h5 h6 h7 h8
  have hRR : R = rm := hX.2.2.2.2.2.2.2.1
  subst hRR
  refine va_copyi hX.1 hX.2.1 (hX.2.2.1.trans h6.1.symm) hX.2.2.2.1 (hX.2.2.2.2.1 _ h9) (hX.2.2.2.2.1 _ h10) (hX.2.2.2.2.1 _ h11) (hX.2.2.2.2.1 _ h12) hX.2.2.2.2.2.1.1 h3.1 h4 h5 src dst 0 0 (by rw [hh_ws_at hs.1, hh_cell_a (a := 0) hs.2]; rfl) (by rw [hh_ws_at ht.1, hh_cell_a (a := 0) ht.2]; rfl) (hh_tys_at (j := 0) rfl) (hh_tys_at (j := 0) rfl) rfl hb.1 hb.2.1 hb.2.2.1 hb.2.2.2.1 hb.2.2.2.2 (fun _ _ => rfl) hr.1 (by rw [hh_nfw, List.map_map]; simp only [Function.comp_def, hh_tv_cat]; exact hr.2) hd (fun H1 locs1 hP1 hD1 hS1 => ?_)
  have e : (hh_ws G.2 φ h).set dst (φ dst, .inl (G.2 0, hhL h dst, .inl (va_cpy (hhI h src) (hhI h dst) sp.toNatClampNeg dp.toNatClampNeg n.toNatClampNeg))) = hh_ws G.2 φ (hcI h src dst sp.toNatClampNeg dp.toNatClampNeg n.toNatClampNeg) := by
    refine hh_set_row (h := h) (h' := hcI h src dst sp.toNatClampNeg dp.toNatClampNeg n.toNatClampNeg) rfl rfl rfl (fun j hj b => ?_) (fun _ _ _ => rfl) (fun _ _ _ => rfl) ?_
    · show ur (hhI h) dst _ j b = hhI h j b
      simp [ur, hj]
    · rw [hh_cell_a (h := hcI h src dst sp.toNatClampNeg dp.toNatClampNeg n.toNatClampNeg) (a := 0) ht.2]
      have : hhI (hcI h src dst sp.toNatClampNeg dp.toNatClampNeg n.toNatClampNeg) dst = va_cpy (hhI h src) (hhI h dst) sp.toNatClampNeg dp.toNatClampNeg n.toNatClampNeg := by
        funext b
        show ur (hhI h) dst _ dst b = _
        simp [ur]
      unfold hh_ac
      rw [this]
      rfl
  rw [e] at hP1 hD1
  exact kk φ H1 locs1 ls h1 h2 ⟨hP1, h3.2⟩ hD1 hS1 h6 (okl_mono (h := h) (by exact Nat.le_refl _) h7) (oks_mono (h := h) (by exact Nat.le_refl _) h8.2.2.2.2.2)
theorem hv_copyR {X : hh_CX} {cc : ByteArray} {own : String} {rm : Room} {pc : Nat} {loc : List (Nat × Value)} {st : List Value} {z k : Nat} {h : hh_T} (hX : hh_C X cc own rm) {idx src dst a ci : Nat} {sp dp n : Int32} {q : vw_C} (j : Nat) (hj : hh_al[j]? = some a) (ha : 20 ≤ a) (hci : hh_cl[ci]? = some q) (hc1 : ci < 100) (hay : hh_ay a = .object q.1) (hd : decode cc pc = .ok (.invokestatic idx, 3)) (h9 : Cond.methodLink own idx arraycopyName ∈ lw_all) (h10 : Cond.native arraycopyName ∈ lw_all) (h11 : Cond.static arraycopyName ∈ lw_all) (h12 : Cond.initialized "java/lang/System" ∈ lw_all) (hs : src < hhN h ∧ hhK h src = 100 + a) (ht : dst < hhN h ∧ hhK h dst = 100 + a) (hb : ¬ sp < 0 ∧ ¬ dp < 0 ∧ ¬ n < 0 ∧ sp.toNatClampNeg + n.toNatClampNeg ≤ hhL h src ∧ dp.toNatClampNeg + n.toNatClampNeg ≤ hhL h dst) (hel : ∀ i, i < n.toNatClampNeg → ∀ y, hhR h src (sp.toNatClampNeg + i) = some y → y < hhN h ∧ hhK h y = ci) (hr : 1 ≤ rm.frames ∧ (st.map fun v => v.category).sum + 18 ≤ rm.locals)
    (kk : hh_V X (pc + 3) loc st z k (hcR h src dst sp.toNatClampNeg dp.toNatClampNeg n.toNatClampNeg)) : hh_V X pc loc (.int n :: .int dp :: .ref dst :: .int sp :: .ref src :: st) z k h := by
  obtain ⟨p, l, e, R, s, m, args, below, meth, c, G, A, φ0, n0, nL, Q⟩ := X
  intro φ H locs ls h1 h2 h3 h4 h5 h6 h7 h8
  have hRR : R = rm := hX.2.2.2.2.2.2.2.1
  subst hRR
  have hcls := (hX.2.2.2.2.2.1.1.1 ci q hci).2
  have ecpy : (fun b => (va_cpy (hhR h src) (hhR h dst) sp.toNatClampNeg dp.toNatClampNeg n.toNatClampNeg b).map φ) = va_cpy (fun b => (hhR h src b).map φ) (fun b => (hhR h dst b).map φ) sp.toNatClampNeg dp.toNatClampNeg n.toNatClampNeg := by
    funext b
    unfold va_cpy
    split <;> rfl
  refine va_copyq (C := q.1) hX.1 hX.2.1 (hX.2.2.1.trans h6.1.symm) hX.2.2.2.1 (hX.2.2.2.2.1 _ h9) (hX.2.2.2.2.1 _ h10) (hX.2.2.2.2.1 _ h11) (hX.2.2.2.2.1 _ h12) hX.2.2.2.2.2.1.1 h3.1 h4 h5 src dst j j (by rw [hh_ws_at hs.1, hh_cell_a hs.2, hh_ac_q ha]) (by rw [hh_ws_at ht.1, hh_cell_a ht.2, hh_ac_q ha]) (by rw [hh_tys_at hj, hay]) (by rw [hh_tys_at hj, hay]) hb.1 hb.2.1 hb.2.2.1 hb.2.2.2.1 hb.2.2.2.2 (fun i hi y hy => ?_) (fun comp c0 f1 f2 => ?_) hr.1 (by rw [hh_nfw, List.map_map]; simp only [Function.comp_def, hh_tv_cat]; exact hr.2) hd (fun H1 locs1 hP1 hD1 hS1 => ?_)
  · obtain ⟨y0, g1, g2⟩ := Option.map_eq_some_iff.mp hy
    subst g2
    have g3 := hel i hi y0 g1
    exact va_recv hX.2.2.2.2.2.1.1 h3.1 (q0 := y0) hci (by rw [hh_ws_at g3.1, hh_cell_o g3.2 hc1])
  · cases f1.symm.trans f2
    cases f1.symm.trans hcls.1
    exact va_assign hcls
  have e : (hh_ws G.2 φ h).set dst (φ dst, .inl (G.2 a, hhL h dst, .inr (.inr (.inr (.inr (va_cpy (fun b => (hhR h src b).map φ) (fun b => (hhR h dst b).map φ) sp.toNatClampNeg dp.toNatClampNeg n.toNatClampNeg)))))) = hh_ws G.2 φ (hcR h src dst sp.toNatClampNeg dp.toNatClampNeg n.toNatClampNeg) := by
    refine hh_set_row (h := h) (h' := hcR h src dst sp.toNatClampNeg dp.toNatClampNeg n.toNatClampNeg) rfl rfl rfl (fun _ _ _ => rfl) (fun _ _ _ => rfl) (fun j hj b => ?_) ?_
    · show ur (hhR h) dst _ j b = hhR h j b
      simp [ur, hj]
    · rw [hh_cell_a (h := hcR h src dst sp.toNatClampNeg dp.toNatClampNeg n.toNatClampNeg) ht.2, hh_ac_q ha]
      have : (fun b => (hhR (hcR h src dst sp.toNatClampNeg dp.toNatClampNeg n.toNatClampNeg) dst b).map φ) = va_cpy (fun b => (hhR h src b).map φ) (fun b => (hhR h dst b).map φ) sp.toNatClampNeg dp.toNatClampNeg n.toNatClampNeg := by
        rw [← ecpy]
        funext b
        show (ur (hhR h) dst _ dst b).map φ = _
        simp [ur]
      rw [this]
  rw [e] at hP1 hD1
  refine kk φ H1 locs1 ls h1 h2 ⟨hP1, h3.2.1, fun i b y hy => ?_⟩ hD1 hS1 h6 (okl_mono (h := h) (by exact Nat.le_refl _) h7) (oks_mono (h := h) (by exact Nat.le_refl _) h8.2.2.2.2.2)
  have hy : ur (hhR h) dst (va_cpy (hhR h src) (hhR h dst) sp.toNatClampNeg dp.toNatClampNeg n.toNatClampNeg) i b = some y := hy
  unfold ur at hy
  split at hy
  · unfold va_cpy at hy
    split at hy
    · exact h3.2.2 _ _ y hy
    · exact h3.2.2 _ _ y hy
  · exact h3.2.2 i b y hy
theorem hv_callVN {X : hh_CX} {cc : ByteArray} {own : String} {rm : Room} {pc : Nat} {loc : List (Nat × Value)} {st : List Value} {z k : Nat} {h : hh_T} (hX : hh_C X cc own rm) {y : MethodName} {cy : ByteArray} {nY idx fr lo mc ms r ci n : Nat} {ret : Option FieldType} {al st0 : List Value} {Qp : Option Value → hh_T → Prop} {q : vw_C} {host : String} (hd : decode cc pc = .ok (.invokevirtual idx, 3)) (hM : hh_Ct y cy nY ret fr lo (.ref r :: al) h Qp mc ms) (hl : Cond.methodLinkNest own idx y host ∈ hh_nw) (hcode : Cond.code y cy nY ret ∈ lw_all) (hini : Cond.initialized y.cls ∈ lw_all) (hin : Cond.instanceMethod y ∈ lw_all) (hsel : Cond.selects q.1 y y ∈ lw_all) (hci : hh_cl[ci]? = some q) (hc1 : ci < 100)
    (hn : y.cls ≠ "java/lang/invoke/MethodHandle" ∧ y.cls ≠ "java/lang/invoke/VarHandle" ∧ (parseMethodDescriptor y.desc).map (fun d => d.parameters.length) = some n) (hlen : al.length = n) (hrr : r < hhN h) (hK : hhK h r = ci) (hst : st0 = al.reverse ++ .ref r :: st) (hr : fr + 1 ≤ rm.frames ∧ 8 + (nY + 11) + lo ≤ rm.locals) (hz : z + mc ≤ rm.cells ∧ k + ms ≤ rm.slots) (h8w : (st.map fun v => v.category).sum ≤ 8)
    (kk : ∀ (v : Option Value) (h' : hh_T), Qp v h' → hh_V X (pc + 3) loc (v.toList ++ st) (z + mc) (k + ms) h') : hh_V X pc loc st0 z k h := by
  obtain ⟨p, l, e, R, s, m, args, below, meth, c, G, A, φ0, n0, nL, Q⟩ := X
  intro φ H locs ls h1 h2 h3 h4 h5 h6 h7 h8
  have hRR : R = rm := hX.2.2.2.2.2.2.2.1
  subst hRR
  subst hst
  have ho := oks_append.mp h8
  have hal : oks h (.ref r :: al) := ⟨ho.2.1, oks_mem.mpr fun w hw => oks_mem.mp ho.1 w (List.mem_reverse.mpr hw)⟩
  have hS := hX.2.2.2.2.2.1
  refine hh_after (va_runVN (As := al.map (hh_tv φ)) (rest := st.map (hh_tv φ)) ⟨hX.1, hX.2.1, hX.2.2.1, hX.2.2.2.1, hX.2.2.2.2.1⟩ (hM l G φ H.size hX.2.2.2.2.2.2.2.2.2.2) ⟨va_cnB n hX.2.2.2.2.1 (lw_meth hcode) rfl rfl rfl (hS.2.1 _ hl) (hX.2.2.2.2.1 _ hini) hn hr, hX.2.2.2.2.1 _ hin, hX.2.2.2.2.1 _ hsel⟩ ⟨hh_Pc.blind, va_recv hS.1 h3.1 (q0 := r) hci (by rw [hh_ws_at hrr, hh_cell_o hK hc1]), hh_start h3 h4 hal hS h1 h5 hX.2.2.2.2.2.2.1 hX.2.2.2.2.2.2.2.2.2.1⟩ rfl (by rw [List.length_map, hlen]) h6.1 (by simp [List.map_reverse, hh_tv]) (lv_room (by rw [List.map_map]; simp only [Function.comp_def, hh_tv_cat]; exact h8w)) hd hz) h1 h2 h3 h4 h5 h6 h7 ho.2.2 hX.2.2.2.2.2.2.1 kk
theorem hv_callI {X : hh_CX} {cc : ByteArray} {own : String} {rm : Room} {pc : Nat} {loc : List (Nat × Value)} {st : List Value} {z k : Nat} {h : hh_T} (hX : hh_C X cc own rm) {y : MethodName} {cy : ByteArray} {nY idx fr lo mc ms r ci n : Nat} {ret : Option FieldType} {al st0 : List Value} {Qp : Option Value → hh_T → Prop} {q : vw_C} {host : String} (hd : decode cc pc = .ok (.invokespecial idx, 3)) (hM : hh_Ct y cy nY none fr lo (.ref r :: al) h Qp mc ms) (hl : Cond.methodLink own idx y ∈ lw_all) (hnm : y.name = "<init>") (hcode : Cond.code y cy nY none ∈ lw_all) (hini : Cond.initialized y.cls ∈ lw_all) (hin : Cond.instanceMethod y ∈ lw_all) (hci : hh_cl[ci]? = some q) (hc1 : ci < 100)
    (hn : y.cls ≠ "java/lang/invoke/MethodHandle" ∧ y.cls ≠ "java/lang/invoke/VarHandle" ∧ (parseMethodDescriptor y.desc).map (fun d => d.parameters.length) = some n) (hlen : al.length = n) (hrr : r < hhN h) (hK : hhK h r = ci) (hst : st0 = al.reverse ++ .ref r :: st) (hr : fr + 1 ≤ rm.frames ∧ 8 + (nY + 11) + lo ≤ rm.locals) (hz : z + mc ≤ rm.cells ∧ k + ms ≤ rm.slots) (h8w : (st.map fun v => v.category).sum ≤ 8)
    (kk : ∀ (v : Option Value) (h' : hh_T), Qp v h' → hh_V X (pc + 3) loc (v.toList ++ st) (z + mc) (k + ms) h') : hh_V X pc loc st0 z k h := by
  obtain ⟨p, l, e, R, s, m, args, below, meth, c, G, A, φ0, n0, nL, Q⟩ := X
  intro φ H locs ls h1 h2 h3 h4 h5 h6 h7 h8
  have hRR : R = rm := hX.2.2.2.2.2.2.2.1
  subst hRR
  subst hst
  have ho := oks_append.mp h8
  have hal : oks h (.ref r :: al) := ⟨ho.2.1, oks_mem.mpr fun w hw => oks_mem.mp ho.1 w (List.mem_reverse.mpr hw)⟩
  have hS := hX.2.2.2.2.2.1
  refine hh_after (va_runI (As := al.map (hh_tv φ)) (rest := st.map (hh_tv φ)) ⟨hX.1, hX.2.1, hX.2.2.1, hX.2.2.2.1, hX.2.2.2.2.1⟩ (hM l G φ H.size hX.2.2.2.2.2.2.2.2.2.2) (cwI n hX.2.2.2.2.1 (lw_meth hcode) rfl rfl rfl (hX.2.2.2.2.1 _ hini) (hX.2.2.2.2.1 _ hl) (hX.2.2.2.2.1 _ hin) hnm hn hr) ⟨hh_Pc.blind, hh_start h3 h4 hal hS h1 h5 hX.2.2.2.2.2.2.1 hX.2.2.2.2.2.2.2.2.2.1⟩ rfl (by rw [List.length_map, hlen]) h6.1 (by simp [List.map_reverse, hh_tv]) (lv_room (by rw [List.map_map]; simp only [Function.comp_def, hh_tv_cat]; exact h8w)) hd hz) h1 h2 h3 h4 h5 h6 h7 ho.2.2 hX.2.2.2.2.2.2.1 kk
theorem hv_callIN {X : hh_CX} {cc : ByteArray} {own : String} {rm : Room} {pc : Nat} {loc : List (Nat × Value)} {st : List Value} {z k : Nat} {h : hh_T} (hX : hh_C X cc own rm) {y : MethodName} {cy : ByteArray} {nY idx fr lo mc ms r ci n : Nat} {ret : Option FieldType} {al st0 : List Value} {Qp : Option Value → hh_T → Prop} {q : vw_C} {host : String} (hd : decode cc pc = .ok (.invokespecial idx, 3)) (hM : hh_Ct y cy nY none fr lo (.ref r :: al) h Qp mc ms) (hl : Cond.methodLinkNest own idx y host ∈ hh_nw) (hnm : y.name = "<init>") (hcode : Cond.code y cy nY none ∈ lw_all) (hini : Cond.initialized y.cls ∈ lw_all) (hin : Cond.instanceMethod y ∈ lw_all) (hci : hh_cl[ci]? = some q) (hc1 : ci < 100)
    (hn : y.cls ≠ "java/lang/invoke/MethodHandle" ∧ y.cls ≠ "java/lang/invoke/VarHandle" ∧ (parseMethodDescriptor y.desc).map (fun d => d.parameters.length) = some n) (hlen : al.length = n) (hrr : r < hhN h) (hK : hhK h r = ci) (hst : st0 = al.reverse ++ .ref r :: st) (hr : fr + 1 ≤ rm.frames ∧ 8 + (nY + 11) + lo ≤ rm.locals) (hz : z + mc ≤ rm.cells ∧ k + ms ≤ rm.slots) (h8w : (st.map fun v => v.category).sum ≤ 8)
    (kk : ∀ (v : Option Value) (h' : hh_T), Qp v h' → hh_V X (pc + 3) loc (v.toList ++ st) (z + mc) (k + ms) h') : hh_V X pc loc st0 z k h := by
  obtain ⟨p, l, e, R, s, m, args, below, meth, c, G, A, φ0, n0, nL, Q⟩ := X
  intro φ H locs ls h1 h2 h3 h4 h5 h6 h7 h8
  have hRR : R = rm := hX.2.2.2.2.2.2.2.1
  subst hRR
  subst hst
  have ho := oks_append.mp h8
  have hal : oks h (.ref r :: al) := ⟨ho.2.1, oks_mem.mpr fun w hw => oks_mem.mp ho.1 w (List.mem_reverse.mpr hw)⟩
  have hS := hX.2.2.2.2.2.1
  refine hh_after (va_runIN (As := al.map (hh_tv φ)) (rest := st.map (hh_tv φ)) ⟨hX.1, hX.2.1, hX.2.2.1, hX.2.2.2.1, hX.2.2.2.2.1⟩ (hM l G φ H.size hX.2.2.2.2.2.2.2.2.2.2) ⟨va_cnB n hX.2.2.2.2.1 (lw_meth hcode) rfl rfl rfl (hS.2.1 _ hl) (hX.2.2.2.2.1 _ hini) hn hr, hnm, hX.2.2.2.2.1 _ hin⟩ ⟨hh_Pc.blind, hh_start h3 h4 hal hS h1 h5 hX.2.2.2.2.2.2.1 hX.2.2.2.2.2.2.2.2.2.1⟩ rfl (by rw [List.length_map, hlen]) h6.1 (by simp [List.map_reverse, hh_tv]) (lv_room (by rw [List.map_map]; simp only [Function.comp_def, hh_tv_cat]; exact h8w)) hd hz) h1 h2 h3 h4 h5 h6 h7 ho.2.2 hX.2.2.2.2.2.2.1 kk
theorem hh_after5 {p : Program} {l : Launch} {e : Env} {R : Room} {s : State} {m : MethodId} {args : Array Value} {below : List Frame} {meth : Method} {c : Code} {G : hh_G} {A : Nat → Prop} {φ0 : Nat → Nat} {n0 nL : Nat} {Q : State → Prop} {φ : Nat → Nat} {H : Heap} {locs : List Loc} {ls : Array Slot} {loc : List (Nat × Value)} {st st0 : List Value} {z k mc ms pc : Nat} {h : hh_T} {Qp : Option Value → hh_T → Prop} {a : Array Value}
    (hr : va_Run5 p l e R s m args below meth c H locs z k mc ms (F0 m pc ls st0) (st.map (hh_tv φ)) (hh_QM G (va_A (hh_ws G.2 φ h) H.size) φ (hhN h) Qp a) (va_A (hh_ws G.2 φ h) H.size)) (h1 : ∀ i, i < n0 ∨ 1000000 ≤ i → φ i = φ0 i) (h2 : n0 ≤ hhN h) (h3 : hh_W G φ h H) (h4 : va_D A (hh_ws G.2 φ h)) (h5 : va_S A s.heap H locs) (h6 : lv_has ls nL (hh_tl φ loc)) (h7 : okl h loc) (h8 : oks h st) (hA : ∀ q, s.heap.size ≤ q → A q)
    (kk : ∀ (v : Option Value) (h' : hh_T), Qp v h' → hh_V (p, l, e, R, s, m, args, below, meth, c, G, A, φ0, n0, nL, Q) (pc + 5) loc (v.toList ++ st) (z + mc) (k + ms) h') :
    W p l e R s m args below meth c H locs z k Q (F0 m pc ls st0) := by
  intro T hT X
  obtain ⟨v, st₀, t, T', L, e0, X', hL, e1, e2, ⟨⟨v', h', φ', ev, hQ, hφ, hn, hW, hD, hok⟩, hz, hk⟩, stp⟩ := hr T hT X
  have ev := Outcome.returned.inj ev
  rw [e0] at hz hk
  have hfree : ∀ q, va_A (hh_ws G.2 φ h) H.size q → A q := by
    intro q hq
    rcases hq with ⟨j, w, hj⟩ | hq
    · exact h4.2 j (q, w) hj
    · exact hA q (Nat.le_trans h5.1 hq)
  have eφ : ∀ w : Value, okv h w → hh_tv φ' w = hh_tv φ w := by
    intro w hw
    cases w with
    | ref r => exact congrArg Value.ref (hφ r hw)
    | _ => rfl
  have est : st.map (hh_tv φ') = st.map (hh_tv φ) := List.map_congr_left fun w hw => eφ w (oks_mem.mp h8 w hw)
  have eloc : hh_tl φ' loc = hh_tl φ loc := List.map_congr_left fun w hw => by rw [eφ w.2 (h7 w hw)]
  have hD' : va_D A (hh_ws G.2 φ' h') := hD.weaken fun _ _ _ q => hfree _ q
  have hS' : va_S A s.heap T'.heap (locs ++ L) := ⟨Nat.le_trans h5.1 (by rw [e1]; exact hz), fun q g1 g2 => by rw [e1, hk q (Nat.lt_of_lt_of_le g1 h5.1) (fun y => g2 (hfree q y))]; exact h5.2.1 q g1 g2, fun q hq => by
    rcases List.mem_append.mp hq with y | y
    · exact h5.2.2 q y
    · exact hfree _ (hL q y)⟩
  have hok2 : oks h' (v'.toList ++ st) := by
    refine oks_append.mpr ⟨?_, oks_mono hn h8⟩
    cases v' with
    | none => trivial
    | some w => exact ⟨hok w rfl, trivial⟩
  have K := kk v' h' hQ φ' T'.heap (locs ++ L) ls (fun i hi => by
    rcases hi with y | y
    · rw [hφ i (Or.inl (Nat.lt_of_lt_of_le y h2)), h1 i (Or.inl y)]
    · rw [hφ i (Or.inr y), h1 i (Or.inr y)]) (Nat.le_trans h2 hn) (by rw [e1]; exact hW) hD' hS' (by rw [eloc]; exact h6) (okl_mono hn h7) hok2 T' rfl X'
  obtain ⟨t2, a1, b1⟩ := K
  refine ⟨t2, stp t2 ?_, b1⟩
  have e9 : v.toList ++ st.map (hh_tv φ) = (v'.toList ++ st).map (hh_tv φ') := by
    rw [List.map_append, est, ev]
    cases v' <;> rfl
  show Steps p.tables e below (T'.setTop { F0 m pc ls st0 with pc := pc + 5, stack := v.toList ++ st.map (hh_tv φ) }) t2
  rw [e9]
  exact a1
/-- a method called by an interface: which it is, by the receiver's class -/
def hh_IC (x : MethodName) (ret : Option FieldType) (fr lo r : Nat) (al : List Value) (h : hh_T) (Qp : Option Value → hh_T → Prop) (mc ms : Nat) : Prop := ∃ (ci : Nat) (q : vw_C) (y : MethodName) (cy : ByteArray) (nY : Nat), hh_cl[ci]? = some q ∧ ci < 100 ∧ r < hhN h ∧ hhK h r = ci ∧ nY ≤ 10 ∧ hh_Ct y cy nY ret fr lo (.ref r :: al) h Qp mc ms ∧ Cond.selects q.1 x y ∈ lw_all ∧ Cond.instanceMethod y ∈ lw_all ∧ Cond.initialized y.cls ∈ lw_all ∧ Cond.code y cy nY ret ∈ lw_all ∧ (q.1, x, y) ∈ hh_fws
theorem hv_callF {X : hh_CX} {cc : ByteArray} {own : String} {rm : Room} {pc : Nat} {loc : List (Nat × Value)} {st : List Value} {z k : Nat} {h : hh_T} (hX : hh_C X cc own rm) {x : MethodName} {idx count fr lo mc ms r n : Nat} {ret : Option FieldType} {al st0 : List Value} {Qp : Option Value → hh_T → Prop} (hd : decode cc pc = .ok (.invokeinterface idx count, 5)) (hM : hh_IC x ret fr lo r al h Qp mc ms) (hl : Cond.methodLink own idx x ∈ lw_all)
    (hn : x.cls ≠ "java/lang/invoke/MethodHandle" ∧ x.cls ≠ "java/lang/invoke/VarHandle" ∧ (parseMethodDescriptor x.desc).map (fun d => d.parameters.length) = some n) (hlen : al.length = n) (hst : st0 = al.reverse ++ .ref r :: st) (hr : fr + 1 ≤ rm.frames ∧ 29 + lo ≤ rm.locals) (hz : z + mc ≤ rm.cells ∧ k + ms ≤ rm.slots) (h8w : (st.map fun v => v.category).sum ≤ 8)
    (kk : ∀ (v : Option Value) (h' : hh_T), Qp v h' → hh_V X (pc + 5) loc (v.toList ++ st) (z + mc) (k + ms) h') : hh_V X pc loc st0 z k h := by
  obtain ⟨p, l, e, R, s, m, args, below, meth, c, G, A, φ0, n0, nL, Q⟩ := X
  intro φ H locs ls h1 h2 h3 h4 h5 h6 h7 h8
  have hRR : R = rm := hX.2.2.2.2.2.2.2.1
  subst hRR
  subst hst
  obtain ⟨ci, q, y, cy, nY, hci, hc1, hrr, hK, hnY, hCt, g1, g2, g3, g4, g5⟩ := hM
  have ho := oks_append.mp h8
  have hal : oks h (.ref r :: al) := ⟨ho.2.1, oks_mem.mpr fun w hw => oks_mem.mp ho.1 w (List.mem_reverse.mpr hw)⟩
  have hS := hX.2.2.2.2.2.1
  have hcls := (hS.1.1 ci q hci).2
  have hgood : GoodIn lw_all (va_wsF own idx q.1 x y (ws_ y cy nY ret)) := by
    refine lw_app ?_ (lw_meth g4)
    intro w hw
    simp only [List.mem_cons, List.not_mem_nil, or_false] at hw
    rcases hw with e | e | e | e
    · rw [e]; exact hl
    · rw [e]; exact g1
    · rw [e]; exact g2
    · rw [e]; exact g3
  refine hh_after5 (va_runF (As := al.map (hh_tv φ)) (rest := st.map (hh_tv φ)) hcls ⟨hX.1, hX.2.1, hX.2.2.1, hX.2.2.2.1, hX.2.2.2.2.1⟩ (hCt l G φ H.size hX.2.2.2.2.2.2.2.2.2.2) (va_cwF n hX.2.2.2.2.1 hgood rfl rfl rfl (hS.2.2.2.1 _ g5) hn ⟨hr.1, Nat.le_trans (show 8 + (nY + 11) + lo ≤ 29 + lo by omega) hr.2⟩) ⟨hh_Pc.blind, va_recv hS.1 h3.1 (q0 := r) hci (by rw [hh_ws_at hrr, hh_cell_o hK hc1]), hh_start h3 h4 hal hS h1 h5 hX.2.2.2.2.2.2.1 hX.2.2.2.2.2.2.2.2.2.1⟩ rfl (by rw [List.length_map, hlen]) h6.1 (by simp [List.map_reverse, hh_tv]) (lv_room (by rw [List.map_map]; simp only [Function.comp_def, hh_tv_cat]; exact h8w)) hd hz) h1 h2 h3 h4 h5 h6 h7 ho.2.2 hX.2.2.2.2.2.2.1 kk
