set_option maxRecDepth 100000
set_option maxHeartbeats 4000000
/-! ROWS OF CONSTRUCTORS -/
theorem hv_gets {X : hh_CX} {cc : ByteArray} {own : String} {rm : Room} {pc : Nat} {loc : List (Nat × Value)} {st : List Value} {z k : Nat} {h : hh_T} (hX : hh_C X cc own rm) {idx : Nat} {q : Nat × String × String} (hq : q ∈ hh_st2s) (hl : Cond.fieldLink own idx "java/lang/Throwable" q.2.1 q.2.2 ∈ lw_all) (hd : decode cc pc = .ok (.getstatic idx, 3))
    (kk : ∀ v : Option Nat, hh_V X (pc + 3) loc (hh_av v :: st) z k h) : hh_V X pc loc st z k h := by
  obtain ⟨p, l, e, R, s, m, args, below, meth, c, G, A, φ0, n0, nL, Q⟩ := X
  intro φ H locs ls h1 h2 h3 h4 h5 h6 h7 h8
  have hXx := hX.2.2.2.2.2.2.2.2.2.1
  have big := hh_st2s_big q hq
  rcases (hXx.2.2.1 q hq).1 with hZ | hZ
  · exact va_gets hX.1 hX.2.1 hZ h5 hX.2.2.2.1 (hX.2.2.2.2.1 _ hl) (fun _ h => h) hd (kk none φ H locs ls h1 h2 h3 h4 h5 h6 h7 ⟨trivial, h8⟩)
  · have K := kk (some q.1) φ H locs ls h1 h2 h3 h4 h5 h6 h7 ⟨.inr big, h8⟩
    have e1 : φ q.1 = φ0 q.1 := h1 q.1 (.inr big)
    rw [← e1] at hZ
    exact va_gets hX.1 hX.2.1 hZ h5 hX.2.2.2.1 (hX.2.2.2.2.1 _ hl) (fun _ h => h) hd K
/-- an object from outside of the world is stored in an array of its class -/
theorem cx_ast {p : Program} {l : Launch} {e : Env} {R : Room} {s : State} {m : MethodId} {args : Array Value} {below : List Frame} {meth : Method} {c : Code} {H : Heap} {locs : List Loc} {cells slots : Nat} {Q : State → Prop} {cc : ByteArray} {pc : Nat} {ls : Array Slot} {rest : List Value} {D : va_G} {cl : List vw_C} {A : Nat → Prop} {a : Nat} {tys : List (ClassId × FieldType)} {ws : va_W} {H0 : Heap} (hexec : p.tables.exec = Jvm.exec) (hb : c.code = cc) (hK : va_K D cl tys s) (hP : va_P D cl ws H) (hD : va_D A ws) (hS : va_S A H0 H locs) (q0 t0 : Nat) {cA : ClassId} {C : String} {n v : Nat} {cv : Cell} {f : Nat → Option Nat} (ha : ws[q0]? = some (a, .inl (cA, n, .inr (.inr (.inr (.inr f)))))) (ht : tys[t0]? = some (cA, .object C)) (hv : H[v]? = some cv) (hvs : cv.vm.isStatics = false) (hvc : s.vm.findClass C = some cv.cls) {i : Int32} (hin : vp_in i n) (hdg : decode cc pc = .ok (.aastore, 1))
    (kk : ∀ (H1 : Heap) (locs1 : List Loc), va_P D cl (ws.set q0 (a, .inl (cA, n, .inr (.inr (.inr (.inr (va_up f i.toNatClampNeg (some v)))))))) H1 → va_D A (ws.set q0 (a, .inl (cA, n, .inr (.inr (.inr (.inr (va_up f i.toNatClampNeg (some v)))))))) → va_S A H0 H1 locs1 → W p l e R s m args below meth c H1 locs1 cells slots Q (F0 m (pc + 1) ls rest)) : W p l e R s m args below meth c H locs cells slots Q (F0 m pc ls (.ref v :: .int i :: .ref a :: rest)) := by
  have hlt : i.toNatClampNeg < n := Nat.not_le.mp fun q => hin (Or.inr q)
  have h0 : ¬ i < 0 := fun q => hin (Or.inl q)
  obtain ⟨kA, comp, k1, k2, k3, -⟩ := (hK.2 t0 _ ht).2
  have hcomp : comp = cv.cls := Option.some.inj (k3.symm.trans hvc)
  subst hcomp
  obtain ⟨kC, hkC, -⟩ := Vm.findClass_spec hvc
  refine W.aast hexec hb (hP q0 _ ha) (fun q h => by cases h) (fun h => by cases h) k1 k2 rfl hkC ⟨h0, by show _ < (arrV _ _ _).slots.size; rw [arrV_size]; exact hlt⟩ hv (fun q h => by rw [h] at hvs; cases hvs) hkC (hh_asg _ _) rfl rfl hdg fun H1 e z oq => ?_
  refine kk H1 _ (hP.set hD ha ?_ oq) (hD.set ha) (hS.put z oq (hD.2 q0 _ ha))
  show H1[a]? = some (vp_cell _ _)
  rw [e]
  rw [vp_cell_q, vp_cell_q, arrV_store]
  congr 2
  funext q
  by_cases hq : q = i.toNatClampNeg
  · subst hq
    simp [updV, va_up, va_rf]
  · simp [updV, va_up, hq]
/-- a String constant is stored in an array of Strings -/
theorem hv_aastS {X : hh_CX} {cc : ByteArray} {own : String} {rm : Room} {pc : Nat} {loc : List (Nat × Value)} {st : List Value} {z k : Nat} {h : hh_T} (hX : hh_C X cc own rm) {r w : Nat} {i : Int32} (hw : w < 13) (hd : decode cc pc = .ok (.aastore, 1)) (hr : r < hhN h) (hK : hhK h r = 126) (hi : vp_in i (hhL h r))
    (kk : hh_V X (pc + 1) loc st z k (hsR h r i.toNatClampNeg (some (1000000 + w)))) : hh_V X pc loc (.ref (1000000 + w) :: .int i :: .ref r :: st) z k h := by
  obtain ⟨p, l, e, R, s, m, args, below, meth, c, G, A, φ0, n0, nL, Q⟩ := X
  intro φ H locs ls h1 h2 h3 h4 h5 h6 h7 h8
  have hXx := hX.2.2.2.2.2.2.2.2.2.1
  obtain ⟨cv, c1, c2, c3, c4⟩ := (hXx.1.1 w hw).1
  have eφ : φ (1000000 + w) = φ0 (1000000 + w) := h1 _ (.inr (Nat.le_add_right _ _))
  have hv : H[φ (1000000 + w)]? = some cv := by rw [eφ, h5.2.1 _ (Array.getElem?_eq_some_iff.mp c1).1 c4]; exact c1
  refine cx_ast (C := "java/lang/String") hX.1 hX.2.1 hX.2.2.2.2.2.1.1 h3.1 h4 h5 r 10 (by rw [hh_ws_at hr, hh_cell_a (a := 26) hK, hh_ac_q (by decide)]) (by rw [hh_tys_at (show hh_al[10]? = some 26 from rfl)]; rfl) hv c2 c3 hi hd (fun H1 locs1 hP1 hD1 hS1 => ?_)
  have e : (hh_ws G.2 φ h).set r (φ r, .inl (G.2 26, hhL h r, .inr (.inr (.inr (.inr (va_up (fun j => (hhR h r j).map φ) i.toNatClampNeg (some (φ (1000000 + w))))))))) = hh_ws G.2 φ (hsR h r i.toNatClampNeg (some (1000000 + w))) :=
    hh_set_ws (h := h) (h' := hsR h r i.toNatClampNeg (some (1000000 + w))) rfl hh_cell_R (by rw [hh_cell_a (h := hsR h r i.toNatClampNeg (some (1000000 + w))) (a := 26) hK, hh_ac_q (by decide), hh_rowR]; rfl)
  rw [e] at hP1 hD1
  exact kk φ H1 locs1 ls h1 h2 ⟨hP1, hh_ok_R (v := some (1000000 + w)) h3.2 (.inr (Nat.le_add_right _ _))⟩ hD1 hS1 h6 (okl_mono (h := h) (by exact Nat.le_refl _) h7) (oks_mono (h := h) (by exact Nat.le_refl _) h8.2.2.2)
/-! a heap that is being made: the kinds and lengths are those of the end -/
abbrev hg (K L : Nat → Nat) (n : Nat) (R : xRd) (J : mJ) (I : mI) : hh_T := (n, K, L, I, J, R)
/-- nothing stands from n on -/
def Cln (n : Nat) (R : xRd) (J : mJ) (I : mI) : Prop := ∀ r, n ≤ r → (∀ k, I r k = 0) ∧ (∀ k, J r k = 0) ∧ ∀ k, R r k = none
theorem Cln.up {n : Nat} {R : xRd} {J : mJ} {I : mI} (h : Cln n R J I) {m : Nat} (hm : n ≤ m) : Cln m R J I := fun r hr => h r (Nat.le_trans hm hr)
theorem Cln.I {n q k : Nat} {v : Int32} {R : xRd} {J : mJ} {I : mI} (h : Cln n R J I) (hq : q < n) : Cln n R J (u2 I q k v) := fun r hr => ⟨fun j => by rw [u2_ne _ _ (.inl (by omega))]; exact (h r hr).1 j, (h r hr).2⟩
theorem Cln.R {n q k : Nat} {v : Option Nat} {R : xRd} {J : mJ} {I : mI} (h : Cln n R J I) (hq : q < n) : Cln n (u2 R q k v) J I := fun r hr => ⟨(h r hr).1, (h r hr).2.1, fun j => by rw [u2_ne _ _ (.inl (by omega))]; exact (h r hr).2.2 j⟩
theorem hg_made {K L : Nat → Nat} {n ci N : Nat} {R : xRd} {J : mJ} {I : mI} (hc : Cln n R J I) (hk : K n = ci) (hl : L n = N) : hnew (hg K L n R J I) ci N = hg K L (n + 1) R J I := by
  have e1 : u1 K n ci = K := by
    funext i
    unfold u1
    split
    · next h => rw [h, hk]
    · rfl
  have e2 : u1 L n N = L := by
    funext i
    unfold u1
    split
    · next h => rw [h, hl]
    · rfl
  have e3 : ur I n (fun _ => 0) = I := by
    funext i j
    unfold ur
    split
    · next h => rw [h]; exact ((hc n (Nat.le_refl _)).1 j).symm
    · rfl
  have e4 : ur J n (fun _ => 0) = J := by
    funext i j
    unfold ur
    split
    · next h => rw [h]; exact ((hc n (Nat.le_refl _)).2.1 j).symm
    · rfl
  have e5 : ur R n (fun _ => none) = R := by
    funext i j
    unfold ur
    split
    · next h => rw [h]; exact ((hc n (Nat.le_refl _)).2.2 j).symm
    · rfl
  show (n + 1, u1 K n ci, u1 L n N, ur I n (fun _ => 0), ur J n (fun _ => 0), ur R n (fun _ => none)) = _
  rw [e1, e2, e3, e4, e5]
theorem hg_new {X : hh_CX} {cc : ByteArray} {own : String} {rm : Room} {pc : Nat} {loc : List (Nat × Value)} {st : List Value} {z k : Nat} {K L : Nat → Nat} {n : Nat} {R : xRd} {J : mJ} {I : mI} (hX : hh_C X cc own rm) {idx ci N : Nat} (hd : decode cc pc = .ok (.new idx, 3)) (hN : hh_NL own idx ci N) (hn : n < 1000000) (hk : K n = ci) (hl : L n = N) (hc : Cln n R J I) (hz : z + 1 ≤ rm.cells ∧ k + N ≤ rm.slots)
    (kk : hh_V X (pc + 3) loc (.ref n :: st) (z + 1) (k + N) (hg K L (n + 1) R J I)) : hh_V X pc loc st z k (hg K L n R J I) := hv_new hX hd hN hn hz (by rw [hg_made hc hk hl]; exact kk)
theorem hg_newA {X : hh_CX} {cc : ByteArray} {own : String} {rm : Room} {pc : Nat} {loc : List (Nat × Value)} {st : List Value} {z k : Nat} {K L : Nat → Nat} {n : Nat} {R : xRd} {J : mJ} {I : mI} (hX : hh_C X cc own rm) {a N : Nat} {atype : ArrayType} {x : Int32} (j : Nat) (hj : hh_al[j]? = some a) (ha : a < 20) (hty : newarray.typeOf atype = hh_ay a) (ha2 : a = 10 ∨ (a < 10 ∧ hh_ay a ≠ .long)) (hda : defaultValue (hh_ay a) = if a < 10 then .int 0 else .long 0) (hw : Cond.arrayClass (newarray.typeOf atype) ∈ lw_all) (hd : decode cc pc = .ok (.newarray atype, 2)) (hn0 : ¬ x < 0) (hN : x.toNatClampNeg = N) (hby : N * componentBytes (hh_ay a) ≤ 536870912) (hn : n < 1000000) (hk : K n = 100 + a) (hl : L n = N) (hc : Cln n R J I) (hz : z + 1 ≤ rm.cells ∧ k + N ≤ rm.slots)
    (kk : hh_V X (pc + 2) loc (.ref n :: st) (z + 1) (k + N) (hg K L (n + 1) R J I)) : hh_V X pc loc (.int x :: st) z k (hg K L n R J I) := hv_newA hX j hj ha hty ha2 hda hw hd hn0 hN hby hn hz (by rw [hg_made hc hk hl]; exact kk)
theorem hg_newQ {X : hh_CX} {cc : ByteArray} {own : String} {rm : Room} {pc : Nat} {loc : List (Nat × Value)} {st : List Value} {z k : Nat} {K L : Nat → Nat} {n : Nat} {R : xRd} {J : mJ} {I : mI} (hX : hh_C X cc own rm) {a N idx : Nat} {x : Int32} {C : String} (j : Nat) (hj : hh_al[j]? = some a) (ha : 20 ≤ a) (hay : hh_ay a = .object C) (hC : C ∈ hh_aos) (hl0 : Cond.classLink own idx C ∈ lw_all) (hd : decode cc pc = .ok (.anewarray idx, 3)) (hn0 : ¬ x < 0) (hN : x.toNatClampNeg = N) (hby : N * 4 ≤ 536870912) (hn : n < 1000000) (hk : K n = 100 + a) (hl : L n = N) (hc : Cln n R J I) (hz : z + 1 ≤ rm.cells ∧ k + N ≤ rm.slots)
    (kk : hh_V X (pc + 3) loc (.ref n :: st) (z + 1) (k + N) (hg K L (n + 1) R J I)) : hh_V X pc loc (.int x :: st) z k (hg K L n R J I) := hv_newQ hX j hj ha hay hC hl0 hd hn0 hN hby hn hz (by rw [hg_made hc hk hl]; exact kk)
/-! multianewarray, of two dimensions of longs -/
theorem outer_eq (c : ClassId) (N h0 : Nat) : ∀ i, Jvm.Free.Multi.outerC c N h0 i = ({ cls := c, slots := (Jvm.Free.Multi.outerC c N h0 i).slots, vm := .none } : Cell) := by
  intro i
  induction i with
  | zero => rfl
  | succ i ih =>
    show (Jvm.Free.Multi.outerC c N h0 i).setSlot i (.ref (h0 + 1 + i)) = _
    conv => lhs; rw [ih]
    conv => rhs; rw [show (Jvm.Free.Multi.outerC c N h0 (i + 1)).slots = ((Jvm.Free.Multi.outerC c N h0 i).setSlot i (.ref (h0 + 1 + i))).slots from rfl, ih]
    rfl
/-- the heap behind it: the outer array, then the inner ones -/
def hmul (N : Nat) (n : Nat) (R : xRd) : xRd := fun i b => if i = n then (if b < N then some (n + 1 + b) else none) else R i b
theorem hg_multi {X : hh_CX} {cc : ByteArray} {own : String} {rm : Room} {pc : Nat} {loc : List (Nat × Value)} {st : List Value} {z k : Nat} {K L : Nat → Nat} {n : Nat} {R : xRd} {J : mJ} {I : mI} (hX : hh_C X cc own rm) {idx N M : Nat} {x y : Int32} (hl0 : Cond.classLink own idx "[[J" ∈ lw_all) (hac : Cond.arrayClass .long ∈ lw_all) (hd : decode cc pc = .ok (.multianewarray idx 2, 4)) (hx : ¬ x < 0 ∧ x.toNatClampNeg = N) (hy : ¬ y < 0 ∧ y.toNatClampNeg = M) (hb1 : N * 4 ≤ 536870912) (hb2 : M * 8 ≤ 536870912) (hn : n + N < 1000000) (hk : K n = 127) (hl : L n = N) (hki : ∀ i, n < i → i ≤ n + N → K i = 110 ∧ L i = M) (hc : Cln n R J I) (hz : z + (1 + N) ≤ rm.cells ∧ k + (N + N * M) ≤ rm.slots)
    (kk : hh_V X (pc + 4) loc (.ref n :: st) (z + 1 + N) (k + N + N * M) (hg K L (n + 1 + N) (hmul N n R) J I)) : hh_V X pc loc (.int y :: .int x :: st) z k (hg K L n R J I) := by
  obtain ⟨p, l, e, Rm, s, m, args, below, meth, c, G, A, φ0, n0, nL, Q⟩ := X
  intro φ H locs ls h1 h2 h3 h4 h5 h6 h7 h8 T hT Y
  have hRR : Rm = rm := hX.2.2.2.2.2.2.2.1
  subst hRR
  have hSS := hX.2.2.2.2.2.1
  have hA := hX.2.2.2.2.2.2.1
  have hover : (Cond.arrayOver (.array .long)).before args s = true := hSS.2.2.2.2.2.2 (.arrayOver (.array .long)) (List.mem_of_getElem? (i := 8) rfl)
  obtain ⟨vm₁, cA, comp, hW9, fA, fC, -, -, X1, step⟩ := Y.multianewarray2F hX.1 (ty := .long) hX.2.2.2.1 (hX.2.2.2.2.1 _ hl0) hover (hX.2.2.2.2.1 _ hac) (g := F0 m pc ls ((Value.int y :: .int x :: st).map (hh_tv φ))) rfl (by rw [hX.2.1]; exact hd) (n := x) (k := y) (rest := st.map (hh_tv φ)) rfl hx.1 hy.1 (by rw [hx.2]; exact hb1) (by rw [hy.2]; exact hb2) (by rw [hy.2]; omega) rfl rfl (by rw [hx.2]; exact hz.1) (by rw [hx.2, hy.2]; exact hz.2)
  rw [hx.2, hy.2] at X1 step
  have hcA : cA = G.2 27 := Option.some.inj (fA.symm.trans (hSS.1.2 11 _ (hh_tys_at (show hh_al[11]? = some 27 from rfl))).2)
  have hcomp : comp = G.2 10 := Option.some.inj (fC.symm.trans (hSS.1.2 3 _ (hh_tys_at (show hh_al[3]? = some 10 from rfl))).2)
  generalize eF : Jvm.Free.Multi.fill (T.setVm vm₁) cA comp N M (defaultValue FieldType.long) N = F at X1 step
  obtain ⟨f1, f2, -, -⟩ := Jvm.Free.Multi.fill_facts (T.setVm vm₁) cA comp N M (defaultValue FieldType.long) N
  have f3 := fun a (ha : a < (T.setVm vm₁).heap.size) => Jvm.Free.Multi.fill_old (T.setVm vm₁) cA comp N M (defaultValue FieldType.long) ha N
  have f4 := Jvm.Free.Multi.fill_inner (T.setVm vm₁) cA comp N M (defaultValue FieldType.long) N
  rw [eF] at f1 f2 f4
  simp only [eF] at f3
  have eH : (T.setVm vm₁).heap = H := hT
  rw [eH] at f1 f2 f4
  simp only [eH] at f3
  -- the places
  let φ2 : Nat → Nat := fun i => if n ≤ i ∧ i ≤ n + N then H.size + (i - n) else φ i
  have φo : ∀ i, (i < n ∨ 1000000 ≤ i) → φ2 i = φ i := fun i hi => if_neg (by omega)
  have φn : φ2 n = H.size := by show (if n ≤ n ∧ n ≤ n + N then H.size + (n - n) else φ n) = _; rw [if_pos (by omega)]; omega
  have φi : ∀ j, j < N → φ2 (n + 1 + j) = H.size + 1 + j := fun j hj => by show (if n ≤ n + 1 + j ∧ n + 1 + j ≤ n + N then H.size + (n + 1 + j - n) else φ (n + 1 + j)) = _; rw [if_pos (by omega)]; omega
  have ok0 := h3.2
  have eφ : ∀ w : Value, okv (hg K L n R J I) w → hh_tv φ2 w = hh_tv φ w := by
    intro w hw
    cases w with
    | ref r => exact congrArg Value.ref (φo r hw)
    | _ => rfl
  have est : st.map (hh_tv φ2) = st.map (hh_tv φ) := List.map_congr_left fun w hw => eφ w (oks_mem.mp h8.2.2 w hw)
  have eloc : hh_tl φ2 loc = hh_tl φ loc := List.map_congr_left fun w hw => by rw [eφ w.2 (h7 w hw)]
  -- the cells
  have cold : ∀ i, i < n → hh_cell G.2 φ2 (hg K L (n + 1 + N) (hmul N n R) J I) i = hh_cell G.2 φ (hg K L n R J I) i := by
    intro i hi
    have eR : hhR (hg K L (n + 1 + N) (hmul N n R) J I) i = hhR (hg K L n R J I) i := funext fun b => if_neg (by omega)
    have em : ∀ b, (hhR (hg K L n R J I) i b).map φ2 = (hhR (hg K L n R J I) i b).map φ := by
      intro b
      cases e9 : hhR (hg K L n R J I) i b with
      | none => rfl
      | some y9 => exact congrArg some (φo y9 (ok0.2 i b y9 e9))
    have erv : ∀ b, hh_rv φ2 (hhR (hg K L n R J I) i b) = hh_rv φ (hhR (hg K L n R J I) i b) := by
      intro b
      rw [← hh_rf, ← hh_rf, em]
    have efs : hh_fs φ2 (hg K L (n + 1 + N) (hmul N n R) J I) i (K i) = hh_fs φ (hg K L n R J I) i (K i) := by
      unfold hh_fs
      congr 1
      funext b t
      unfold hh_fv
      rw [eR, erv]
    have ef : (fun j => (hhR (hg K L (n + 1 + N) (hmul N n R) J I) i j).map φ2) = fun j => (hhR (hg K L n R J I) i j).map φ := by
      funext b
      rw [eR]
      exact em b
    have eac : hh_ac φ2 (hg K L (n + 1 + N) (hmul N n R) J I) i (K i - 100) = hh_ac φ (hg K L n R J I) i (K i - 100) := by
      unfold hh_ac
      exact congrArg (fun f : Nat → Option Nat => ((if K i - 100 < 10 then .inl (I i) else if K i - 100 < 20 then .inr (.inl (J i)) else .inr (.inr (.inr (.inr f)))) : (Nat → Int32) ⊕ (Nat → Int64) ⊕ (Nat → UInt32) ⊕ (Nat → UInt64) ⊕ (Nat → Option Nat))) ef
    unfold hh_cell
    show (if K i < 100 then Sum.inr (K i, hh_fs φ2 (hg K L (n + 1 + N) (hmul N n R) J I) i (K i)) else Sum.inl (G.2 (K i - 100), L i, hh_ac φ2 (hg K L (n + 1 + N) (hmul N n R) J I) i (K i - 100))) = (if K i < 100 then Sum.inr (K i, hh_fs φ (hg K L n R J I) i (K i)) else Sum.inl (G.2 (K i - 100), L i, hh_ac φ (hg K L n R J I) i (K i - 100)))
    rw [efs, eac]
  have c27 : hh_cell G.2 φ2 (hg K L (n + 1 + N) (hmul N n R) J I) n = .inl (G.2 27, N, .inr (.inr (.inr (.inr fun b => if b < N then some (H.size + 1 + b) else none)))) := by
    rw [hh_cell_a (a := 27) (show K n = 100 + 27 from hk), hh_ac_q (by decide)]
    show Sum.inl (G.2 27, L n, _) = _
    rw [hl]
    congr 7
    funext b
    show (if n = n then (if b < N then some (n + 1 + b) else none) else R n b).map φ2 = _
    rw [if_pos rfl]
    split
    · next hb => exact congrArg some (φi b hb)
    · rfl
  have c10 : ∀ j, j < N → hh_cell G.2 φ2 (hg K L (n + 1 + N) (hmul N n R) J I) (n + 1 + j) = .inl (G.2 10, M, .inr (.inl fun _ => 0)) := by
    intro j hj
    obtain ⟨a1, a2⟩ := hki (n + 1 + j) (by omega) (by omega)
    rw [hh_cell_a (a := 10) (show K (n + 1 + j) = 100 + 10 from a1)]
    show Sum.inl (G.2 10, L (n + 1 + j), _) = _
    rw [a2]
    unfold hh_ac
    rw [if_neg (by decide), if_pos (by decide)]
    have eJ : hhJ (hg K L (n + 1 + N) (hmul N n R) J I) (n + 1 + j) = fun _ => 0 := funext fun b => (hc (n + 1 + j) (by omega)).2.1 b
    rw [eJ]
  have lt0 : ∀ (i : Nat) (q : Nat × va_E), (hh_ws G.2 φ (hg K L n R J I))[i]? = some q → q.1 < H.size := fun i q hq => vx_lt h3.1 hq
  have hP : va_P G.1 hh_cl (hh_ws G.2 φ2 (hg K L (n + 1 + N) (hmul N n R) J I)) F.heap := by
    intro i q hq
    have hi : i < n + 1 + N := by
      have := (List.getElem?_eq_some_iff.mp hq).1
      rwa [hh_ws_len] at this
    rw [hh_ws_at hi] at hq
    cases hq
    by_cases e1 : i < n
    · rw [φo i (.inl e1), cold i e1]
      exact (h3.1.kept (fun j q hj => f3 q.1 (lt0 j q hj))) i _ (hh_ws_at e1)
    · by_cases e2 : i = n
      · subst e2
        rw [φn, c27]
        show F.heap[H.size]? = some (vp_cell _ _)
        rw [f2, outer_eq, hcA, vp_cell_q]
        unfold arrV
        congr 2
        apply Array.ext_getElem?
        intro j
        by_cases hj : j < N
        · rw [Jvm.Free.Multi.outerC_slot _ N H.size N j hj, if_pos hj]
          simp [hj, va_rf]
        · rw [Array.getElem?_eq_none (by rw [(Jvm.Free.Multi.outerC_facts _ N H.size N).2.2]; omega), Array.getElem?_eq_none (by simp; omega)]
      · obtain ⟨j, rfl⟩ : ∃ j, i = n + 1 + j := ⟨i - (n + 1), by omega⟩
        have hj : j < N := by omega
        rw [φi j hj, c10 j hj]
        show F.heap[H.size + 1 + j]? = some (vp_cell _ _)
        rw [f4 j hj, hcomp, vp_cell_l]
        exact congrArg some (arrV_new (G.2 10) M (.long 0))
  have hD : va_D A (hh_ws G.2 φ2 (hg K L (n + 1 + N) (hmul N n R) J I)) := by
    have val : ∀ (i : Nat) (q : Nat × va_E), (hh_ws G.2 φ2 (hg K L (n + 1 + N) (hmul N n R) J I))[i]? = some q → i < n + 1 + N ∧ q.1 = φ2 i := by
      intro i q hq
      have hi : i < n + 1 + N := by
        have := (List.getElem?_eq_some_iff.mp hq).1
        rwa [hh_ws_len] at this
      rw [hh_ws_at hi] at hq
      cases hq
      exact ⟨hi, rfl⟩
    have lo : ∀ i, i < n → φ2 i = φ i ∧ φ i < H.size := fun i hi => ⟨φo i (.inl hi), lt0 i _ (hh_ws_at hi)⟩
    have up : ∀ i, n ≤ i → i < n + 1 + N → φ2 i = H.size + (i - n) := fun i h9 h8 => if_pos ⟨h9, by omega⟩
    refine ⟨fun i j p q hp hq hpq => ?_, fun i q hq => ?_⟩
    · obtain ⟨p1, p2⟩ := val i p hp
      obtain ⟨q1, q2⟩ := val j q hq
      rw [p2, q2] at hpq
      by_cases e1 : i < n
      · by_cases e2 : j < n
        · rw [(lo i e1).1, (lo j e2).1] at hpq
          exact h4.1 i j _ _ (hh_ws_at (h := hg K L n R J I) e1) (hh_ws_at (h := hg K L n R J I) e2) hpq
        · rw [(lo i e1).1, up j (by omega) q1] at hpq
          have := (lo i e1).2
          omega
      · by_cases e2 : j < n
        · rw [(lo j e2).1, up i (by omega) p1] at hpq
          have := (lo j e2).2
          omega
        · rw [up i (by omega) p1, up j (by omega) q1] at hpq
          omega
    · obtain ⟨p1, p2⟩ := val i q hq
      rw [p2]
      by_cases e1 : i < n
      · rw [(lo i e1).1]
        exact h4.2 i _ (hh_ws_at (h := hg K L n R J I) e1)
      · rw [up i (by omega) p1]
        exact hA _ (Nat.le_trans h5.1 (by omega))
  have hS : va_S A s.heap F.heap locs := ⟨Nat.le_trans h5.1 (by rw [f1]; omega), fun q g1 g2 => by rw [f3 q (Nat.lt_of_lt_of_le g1 h5.1)]; exact h5.2.1 q g1 g2, h5.2.2⟩
  have hok : hh_ok (hg K L (n + 1 + N) (hmul N n R) J I) := by
    refine ⟨by show n + 1 + N ≤ 1000000; omega, fun i b y9 hy9 => ?_⟩
    have hy9 : (if i = n then (if b < N then some (n + 1 + b) else none) else R i b) = some y9 := hy9
    show y9 < n + 1 + N ∨ _
    split at hy9
    · split at hy9
      · cases hy9; exact .inl (by omega)
      · cases hy9
    · rcases ok0.2 i b y9 hy9 with g | g
      · exact .inl (show y9 < n + 1 + N from Nat.lt_of_lt_of_le g (by show n ≤ _; omega))
      · exact .inr g
  have hnn : hhN (hg K L n R J I) ≤ hhN (hg K L (n + 1 + N) (hmul N n R) J I) := by show n ≤ n + 1 + N; omega
  have h2' : n0 ≤ n := h2
  obtain ⟨t, a1, b1⟩ := kk φ2 F.heap locs ls (fun i hi => by rw [φo i (by omega)]; exact h1 i hi) (by show n0 ≤ n + 1 + N; omega) ⟨hP, hok⟩ hD hS (by rw [eloc]; exact h6) (okl_mono hnn h7) ⟨.inl (by show n < n + 1 + N; omega), oks_mono hnn h8.2.2⟩ F rfl X1
  refine ⟨t, step t ?_, b1⟩
  have e9 : (Value.ref n :: st).map (hh_tv φ2) = .ref T.heap.size :: st.map (hh_tv φ) := by
    rw [List.map_cons, est, hT, ← φn]
    rfl
  rw [e9] at a1
  exact a1
