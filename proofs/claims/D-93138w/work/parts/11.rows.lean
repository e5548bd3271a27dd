set_option maxRecDepth 100000
/-! FIELDS, ARRAYS, CALLS -/
/-! fields of one name in a line of classes: final fields of different owners lie apart -/
theorem tw_apart {args : Array Value} {s : State} {C O f d O' f' d' : String} (h : (Cond.laysFinal C O f d).before args s = true) (h' : (Cond.laysFinal C O' f' d').before args s = true)
    {cf kf fi fd cf' kf' fi' fd'} (hi : s.fieldFound? O f d = some (cf, kf, fi, fd)) (hi' : s.fieldFound? O' f' d' = some (cf', kf', fi', fd')) (hne : O ≠ O') : fd.slot ≠ fd'.slot := by
  obtain ⟨c, k, c1, k1, i1, f1, hc, hk, hf, -, -, -, hown, -, dd, hd, hdn, -, -⟩ := Cond.laysFinal_spec h
  obtain ⟨c2, k2, c3, k3, i3, f3, hc2, hk2, hf2, -, -, -, hown2, -, dd2, hd2, hdn2, -, -⟩ := Cond.laysFinal_spec h'
  cases hi.symm.trans hf
  cases hi'.symm.trans hf2
  cases hc.symm.trans hc2
  intro e
  rw [e] at hd
  have ed := Option.some.inj (hd.symm.trans hd2)
  obtain ⟨ka, hka, hna⟩ := Vm.findClass_spec hown
  obtain ⟨kb, hkb, hnb⟩ := Vm.findClass_spec hown2
  have ha := (State.fieldFound?_spec hf).1
  have hb := (State.fieldFound?_spec hf2).1
  cases hka.symm.trans ha
  cases hkb.symm.trans hb
  exact hne (hna.symm.trans (hdn.symm.trans ((congrArg (fun z => z.1.name) ed).trans (hdn2.trans hnb))))
def tw_nm (T : u_T) (N : Nat) : Prop := ∀ a, a < N → ∀ b, b < N → a ≠ b → (T a).2.1 ≠ (T b).2.1 ∨ ((T a).1 ≠ (T b).1 ∧ (T a).2.2.2 = true ∧ (T b).2.2.2 = true)
theorem tw_hap {s : State} {args : Array Value} {C : String} {T : u_T} {N ci : Nat} {Ts : List Cond} {D : va_G} {cl : List vw_C} {tys : List (ClassId × FieldType)} (hts : ∀ w ∈ Ts, w.before args s = true) (hin : ∀ w ∈ u_ws C T N, w ∈ Ts) (ty : Nat → FieldType) (hty : ∀ k, k < N → parseFieldDescriptor (T k).2.2.1 = some (ty k)) (hnm : tw_nm T N) (hK : va_K D cl tys s) (hc : cl[ci]? = some (C, T, N)) : ∀ x y, x < N → y < N → x ≠ y → (D.2 ci) x ≠ (D.2 ci) y := by
  intro x y hx hy hne
  obtain ⟨hS, -⟩ := hK.1 ci _ hc
  obtain ⟨_, _, _, fa, hia, ea⟩ := hS x hx
  obtain ⟨_, _, _, fb, hib, eb⟩ := hS y hy
  rw [← ea, ← eb]
  rcases hnm x hx y hy hne with h | ⟨h1, h2, h3⟩
  · refine u_apart (u_lays hts hin hx) (u_lays hts hin hy) hia hib ?_
    rw [(State.fieldFound?_type hia (hty x hx)).1, (State.fieldFound?_type hib (hty y hy)).1]
    exact h
  · have lx := hts _ (hin _ (u_in_lay hx))
    have ly := hts _ (hin _ (u_in_lay hy))
    unfold u_lay at lx ly
    rw [if_pos h2] at lx
    rw [if_pos h3] at ly
    exact tw_apart lx ly hia hib h1
theorem tw_putF {p : Program} {l : Launch} {e : Env} {R : Room} {s : State} {m : MethodId} {args : Array Value} {below : List Frame} {meth : Method} {c : Code} {H : Heap} {locs : List Loc} {cells slots : Nat} {Q : State → Prop} {cc : ByteArray} {pc : Nat} {ls : Array Slot} {rest : List Value} {D : va_G} {cl : List vw_C} {A : Nat → Prop} {a : Nat} {tys : List (ClassId × FieldType)} {ws : va_W} {H0 : Heap} (hexec : p.tables.exec = Jvm.exec) (hb : c.code = cc) {own ref C : String} {T : u_T} {N ci index : Nat} {Ts : List Cond} (hts : ∀ w ∈ Ts, w.before args s = true) (hin : ∀ w ∈ u_ws C T N, w ∈ Ts) (hap : ∀ x y, x < N → y < N → x ≠ y → (D.2 ci) x ≠ (D.2 ci) y) (hown : s.vm.findClass own = some m.cls) (hK : va_K D cl tys s) (hP : va_P D cl ws H) (hD : va_D A ws) (hS0 : va_S A H0 H locs) (q0 : Nat) {fs : List Value} (he : ws[q0]? = some (a, .inr (ci, fs))) (hc : cl[ci]? = some (C, T, N)) (k : Nat) (hk : k < N) (hlink : (Cond.fieldLink own index ref (T k).2.1 (T k).2.2.1).before args s = true) (hsame : ∀ x, s.fieldFound? (T k).1 (T k).2.1 (T k).2.2.1 = some x → s.fieldFound? ref (T k).2.1 (T k).2.2.1 = some x) (hfin : (T k).2.2.2 = true) (hin2 : meth.name = "<init>") (hdecl : (T k).1 = own) {ty : FieldType} {v : Value} (hd : parseFieldDescriptor (T k).2.2.1 = some ty) (hn : narrow ty v = v) (hfit : fits ty v = true) (hl : k < fs.length)
    (hdg : decode cc pc = .ok (.putfield index, 3)) (kk : ∀ (H1 : Heap) (locs1 : List Loc), va_P D cl (ws.set q0 (a, .inr (ci, fs.set k v))) H1 → va_D A (ws.set q0 (a, .inr (ci, fs.set k v))) → va_S A H0 H1 locs1 → W p l e R s m args below meth c H1 locs1 cells slots Q (F0 m (pc + 3) ls rest)) : W p l e R s m args below meth c H locs cells slots Q (F0 m pc ls (v :: .ref a :: rest)) := by
  obtain ⟨r, h1, cell, q1, q2, q3, q4⟩ := hP q0 _ he
  have hr : r = (C, T, N) := Option.some.inj (h1.symm.trans hc)
  subst hr
  obtain ⟨hS, hfc, kC, hkC, hkind⟩ := hK.1 ci _ hc
  obtain ⟨cf, kf, fi, f, hi, hsl⟩ := hS k hk
  have hlay := hts _ (hin _ (u_in_lay hk))
  unfold u_lay at hlay
  rw [if_pos hfin] at hlay
  have hst := (u_facts hfc hkC (u_lays hts hin hk) hi).1
  have hcf : m.cls = cf := by
    obtain ⟨_, _, c', _, _, _, -, -, hf', -, -, -, hown2, -⟩ := Cond.laysFinal_spec hlay
    have e1 : c' = cf := by have := hi.symm.trans hf'; simp at this; exact this.1.symm
    rw [hdecl] at hown2
    rw [← e1]; exact Option.some.inj (hown.symm.trans hown2)
  have h6 := u_fits hfc hkC hkind (Or.inr hlay) hi hd hn hfit
  refine W.putFinK hexec hb hown hlink (hsame _ hi) hst hcf hin2 (by rw [q2]; exact h6) q1 q3 (by rw [hsl]; exact k2_hasslot (q4 k hk)) rfl rfl hdg fun H' e1 e2 e3 => ?_
  rw [hsl] at e1 ⊢
  exact kk H' _ (hP.set hD he ⟨_, hc, t_OB.to (V := updV (vp_V fs) k v) ⟨_, e1, q2, q3, t_set q4 hap hk v⟩ (fun j _ => vp_updV_set hl v j)⟩ e3) (hD.set he) (hS0.put e2 e3 (hD.2 q0 _ he))
theorem hh_fs_len {φ : Nat → Nat} {h : hh_T} {i ci : Nat} : (hh_fs φ h i ci).length = (hh_ft ci).length := by simp [hh_fs]
/-- what a class file says of a field: the class own reads or writes, by its entry idx, the field k of class ci; its kind t (0 int, 1 long, 2 a reference, 3 boolean), final or not -/
def hh_FL (own : String) (idx ci k t : Nat) (fin : Bool) : Prop :=
  ∃ (C : String) (T : u_T) (N : Nat) (ty : Nat → FieldType) (ref : String), ci < 100 ∧ hh_cl[ci]? = some (C, T, N) ∧ (∀ w ∈ u_ws C T N, w ∈ lw_all) ∧ k < N ∧ (hh_ft ci)[k]? = some t ∧ (hh_ft ci).length = N ∧ ((Cond.fieldLink own idx ref (T k).2.1 (T k).2.2.1) ∈ lw_all ∨ ∃ host, (Cond.fieldLinkNest own idx ref (T k).2.1 (T k).2.2.1 host) ∈ hh_nw) ∧ (∀ j, j < N → parseFieldDescriptor (T j).2.2.1 = some (ty j)) ∧
    ((∀ a, a < N → ∀ b, b < N → a ≠ b → (T a).2.1 ≠ (T b).2.1) ∨ (fin = true ∧ tw_nm T N)) ∧ (T k).2.2.2 = fin ∧ hh_code (ty k) = t ∧ (ref = (T k).1 ∨ Cond.sameField ref (T k).1 (T k).2.1 (T k).2.2.1 ∈ lw_all)
theorem hh_same {s : State} {args : Array Value} {ref o n d : String} (hts : ∀ w ∈ lw_all, w.before args s = true) (h : ref = o ∨ Cond.sameField ref o n d ∈ lw_all) : ∀ x, s.fieldFound? o n d = some x → s.fieldFound? ref n d = some x := by
  intro x hx
  rcases h with rfl | h
  · exact hx
  · exact u_same (hts _ h) x hx
/-- reading a field, by either link -/
theorem hh_get {p : Program} {l : Launch} {e : Env} {R : Room} {s : State} {m : MethodId} {args : Array Value} {below : List Frame} {meth : Method} {c : Code} {H : Heap} {locs : List Loc} {cells slots : Nat} {Q : State → Prop} {cc : ByteArray} {pc : Nat} {ls : Array Slot} {rest : List Value} {G : hh_G} {own : String} {idx ci k t r : Nat} {fin : Bool} {φ : Nat → Nat} {h : hh_T} (hexec : p.tables.exec = Jvm.exec) (hb : c.code = cc) (hown : s.vm.findClass own = some m.cls) (hts : ∀ w ∈ lw_all, w.before args s = true) (hS : hh_S G s) (hW : hh_W G φ h H) (hF : hh_FL own idx ci k t fin) (hr : r < hhN h) (hK : hhK h r = ci) (hd : decode cc pc = .ok (.getfield idx, 3))
    (kk : W p l e R s m args below meth c H locs cells slots Q (F0 m (pc + 3) ls (hh_fv φ h r k t :: rest))) : W p l e R s m args below meth c H locs cells slots Q (F0 m pc ls (.ref (φ r) :: rest)) := by
  obtain ⟨C, T, N, ty, ref, hci, hcl, hin, hk, hft, hlen, hl, hty, hnm, hfin, hcode, href⟩ := hF
  rcases hl with hl | ⟨host, hl⟩
  · exact va_get hexec hb hts hin hown hS.1 hW.1 r (by rw [hh_ws_at hr, hh_cell_o hK hci]) hcl k hk (hts _ hl) (hh_same hts href) (hh_fs_at hft) hd kk
  · exact va_getN hexec hb hts hin hown hS.1 hW.1 r (by rw [hh_ws_at hr, hh_cell_o hK hci]) hcl k hk (va_Nw.use rfl (hS.2.1 _ hl)) (hh_same hts href) (hh_fs_at hft) hd kk
/-- writing a field that isn't final, by either link -/
theorem hh_put {p : Program} {l : Launch} {e : Env} {R : Room} {s : State} {m : MethodId} {args : Array Value} {below : List Frame} {meth : Method} {c : Code} {H : Heap} {locs : List Loc} {cells slots : Nat} {Q : State → Prop} {cc : ByteArray} {pc : Nat} {ls : Array Slot} {rest : List Value} {G : hh_G} {A : Nat → Prop} {own : String} {idx ci k t r : Nat} {φ : Nat → Nat} {h : hh_T} {v : Value} (hexec : p.tables.exec = Jvm.exec) (hb : c.code = cc) (hown : s.vm.findClass own = some m.cls) (hts : ∀ w ∈ lw_all, w.before args s = true) (hS : hh_S G s) (hW : hh_W G φ h H) (hD : va_D A (hh_ws G.2 φ h)) (h5 : va_S A s.heap H locs) (hF : hh_FL own idx ci k t false) (hr : r < hhN h) (hK : hhK h r = ci) (hd : decode cc pc = .ok (.putfield idx, 3)) (hv : ∀ ty : FieldType, hh_code ty = t → narrow ty v = v ∧ fits ty v = true)
    (kk : ci < 100 → (hh_ft ci)[k]? = some t → ∀ (H1 : Heap) (locs1 : List Loc), va_P G.1 hh_cl ((hh_ws G.2 φ h).set r (φ r, .inr (ci, (hh_fs φ h r ci).set k v))) H1 → va_D A ((hh_ws G.2 φ h).set r (φ r, .inr (ci, (hh_fs φ h r ci).set k v))) → va_S A s.heap H1 locs1 → W p l e R s m args below meth c H1 locs1 cells slots Q (F0 m (pc + 3) ls rest)) : W p l e R s m args below meth c H locs cells slots Q (F0 m pc ls (v :: .ref (φ r) :: rest)) := by
  obtain ⟨C, T, N, ty, ref, hci, hcl, hin, hk, hft, hlen, hl, hty, hnm0, hfin, hcode, href⟩ := hF
  have hnm := hnm0.resolve_right (fun z => absurd z.1 (by decide))
  have hlen2 : k < (hh_fs φ h r ci).length := by rw [hh_fs_len, hlen]; exact hk
  rcases hl with hl | ⟨host, hl⟩
  · exact va_put hexec hb hts hin ty hty hnm hown hS.1 hW.1 hD h5 r (by rw [hh_ws_at hr, hh_cell_o hK hci]) hcl k hk (hts _ hl) (hh_same hts href) hfin (hty k hk) (hv _ hcode).1 (hv _ hcode).2 hlen2 hd (kk hci hft)
  · exact va_putN hexec hb hts hin ty hty hnm hown hS.1 hW.1 hD h5 r (by rw [hh_ws_at hr, hh_cell_o hK hci]) hcl k hk (va_Nw.use rfl (hS.2.1 _ hl)) (hh_same hts href) hfin (hty k hk) (hv _ hcode).1 (hv _ hcode).2 hlen2 hd (kk hci hft)
theorem hh_set_ws {dA : Nat → ClassId} {φ : Nat → Nat} {h h' : hh_T} {i : Nat} (hn : hhN h' = hhN h) (ho : ∀ j, j ≠ i → hh_cell dA φ h' j = hh_cell dA φ h j) {c : va_E} (hc : hh_cell dA φ h' i = c) : (hh_ws dA φ h).set i (φ i, c) = hh_ws dA φ h' := by
  apply List.ext_getElem?
  intro j
  subst hc
  by_cases hj : j < hhN h
  · by_cases e : i = j
    · subst e
      rw [hh_ws_at (h := h') (by rw [hn]; exact hj), List.getElem?_set_self (by rw [hh_ws_len]; exact hj)]
    · rw [List.getElem?_set_ne e, hh_ws_at hj, hh_ws_at (h := h') (by rw [hn]; exact hj), ho j (fun q => e q.symm)]
  · rw [List.getElem?_eq_none (by rw [List.length_set, hh_ws_len]; omega), List.getElem?_eq_none (by rw [hh_ws_len]; omega)]
/-- the fields of a cell behind a write -/
theorem hh_fs_set {φ : Nat → Nat} {h h' : hh_T} {i ci k t : Nat} {v : Value} (hk : (hh_ft ci)[k]? = some t) (hv : hh_fv φ h' i k t = v) (ho : ∀ j u, j ≠ k → hh_fv φ h' i j u = hh_fv φ h i j u) : (hh_fs φ h i ci).set k v = hh_fs φ h' i ci := by
  apply List.ext_getElem?
  intro j
  subst hv
  by_cases e : k = j
  · subst e
    rw [hh_fs_at hk, List.getElem?_set_self (by rw [hh_fs_len]; exact (List.getElem?_eq_some_iff.mp hk).1)]
  · rw [List.getElem?_set_ne e]
    simp only [hh_fs, List.getElem?_mapIdx]
    congr 1
    funext u
    exact (ho j u (fun q => e q.symm)).symm
theorem hh_fv_I {φ : Nat → Nat} {h : hh_T} {i k : Nat} {v : Int32} (a b u : Nat) (hne : a ≠ i ∨ b ≠ k) : hh_fv φ (hsI h i k v) a b u = hh_fv φ h a b u := by
  unfold hh_fv
  split <;> try rfl
  show Value.int (u2 (hhI h) i k v a b) = _
  rw [u2_ne _ _ hne]
theorem hh_fv_J {φ : Nat → Nat} {h : hh_T} {i k : Nat} {v : Int64} (a b u : Nat) (hne : a ≠ i ∨ b ≠ k) : hh_fv φ (hsJ h i k v) a b u = hh_fv φ h a b u := by
  unfold hh_fv
  split <;> try rfl
  show Value.long (u2 (hhJ h) i k v a b) = _
  rw [u2_ne _ _ hne]
theorem hh_fv_R {φ : Nat → Nat} {h : hh_T} {i k : Nat} {v : Option Nat} (a b u : Nat) (hne : a ≠ i ∨ b ≠ k) : hh_fv φ (hsR h i k v) a b u = hh_fv φ h a b u := by
  unfold hh_fv
  split <;> try rfl
  show hh_rv φ (u2 (hhR h) i k v a b) = _
  rw [u2_ne _ _ hne]
/-- a cell elsewhere stays -/
theorem hh_cell_far {dA : Nat → ClassId} {φ : Nat → Nat} {h h' : hh_T} {j : Nat} (hK : hhK h' j = hhK h j) (hL : hhL h' j = hhL h j) (hI : ∀ k, hhI h' j k = hhI h j k) (hJ : ∀ k, hhJ h' j k = hhJ h j k) (hR : ∀ k, hhR h' j k = hhR h j k) : hh_cell dA φ h' j = hh_cell dA φ h j := by
  have eI : hhI h' j = hhI h j := funext hI
  have eJ : hhJ h' j = hhJ h j := funext hJ
  have eR : hhR h' j = hhR h j := funext hR
  unfold hh_cell hh_fs hh_ac
  rw [hK, hL, eI, eJ]
  simp only [hR]
  congr 1
  congr 1
  congr 1
  congr 1
  funext k t
  unfold hh_fv
  split <;> simp only [eI, eJ, eR]
theorem hh_cell_I {dA : Nat → ClassId} {φ : Nat → Nat} {h : hh_T} {i k : Nat} {v : Int32} (j : Nat) (hj : j ≠ i) : hh_cell dA φ (hsI h i k v) j = hh_cell dA φ h j := hh_cell_far rfl rfl (fun _ => u2_ne _ _ (Or.inl hj)) (fun _ => rfl) (fun _ => rfl)
theorem hh_cell_J {dA : Nat → ClassId} {φ : Nat → Nat} {h : hh_T} {i k : Nat} {v : Int64} (j : Nat) (hj : j ≠ i) : hh_cell dA φ (hsJ h i k v) j = hh_cell dA φ h j := hh_cell_far rfl rfl (fun _ => rfl) (fun _ => u2_ne _ _ (Or.inl hj)) (fun _ => rfl)
theorem hh_cell_R {dA : Nat → ClassId} {φ : Nat → Nat} {h : hh_T} {i k : Nat} {v : Option Nat} (j : Nat) (hj : j ≠ i) : hh_cell dA φ (hsR h i k v) j = hh_cell dA φ h j := hh_cell_far rfl rfl (fun _ => rfl) (fun _ => rfl) (fun _ => u2_ne _ _ (Or.inl hj))
/-- getfield: an int (a boolean) -/
theorem hv_getI {X : hh_CX} {cc : ByteArray} {own : String} {rm : Room} {pc : Nat} {loc : List (Nat × Value)} {st : List Value} {z k : Nat} {h : hh_T} (hX : hh_C X cc own rm) {idx ci f t r : Nat} {fin : Bool} (hd : decode cc pc = .ok (.getfield idx, 3)) (hF : hh_FL own idx ci f t fin) (ht : t = 0 ∨ t = 3) (hr : r < hhN h) (hK : hhK h r = ci)
    (kk : hh_V X (pc + 3) loc (.int (hhI h r f) :: st) z k h) : hh_V X pc loc (.ref r :: st) z k h := by
  obtain ⟨p, l, e, R, s, m, args, below, meth, c, G, A, φ0, n0, nL, Q⟩ := X
  intro φ H locs ls h1 h2 h3 h4 h5 h6 h7 h8
  refine hh_get hX.1 hX.2.1 hX.2.2.2.1 hX.2.2.2.2.1 hX.2.2.2.2.2.1 h3 hF hr hK hd ?_
  rcases ht with rfl | rfl <;> exact kk φ H locs ls h1 h2 h3 h4 h5 h6 h7 ⟨trivial, h8.2⟩
theorem hv_getJ {X : hh_CX} {cc : ByteArray} {own : String} {rm : Room} {pc : Nat} {loc : List (Nat × Value)} {st : List Value} {z k : Nat} {h : hh_T} (hX : hh_C X cc own rm) {idx ci f r : Nat} {fin : Bool} (hd : decode cc pc = .ok (.getfield idx, 3)) (hF : hh_FL own idx ci f 1 fin) (hr : r < hhN h) (hK : hhK h r = ci)
    (kk : hh_V X (pc + 3) loc (.long (hhJ h r f) :: st) z k h) : hh_V X pc loc (.ref r :: st) z k h := by
  obtain ⟨p, l, e, R, s, m, args, below, meth, c, G, A, φ0, n0, nL, Q⟩ := X
  intro φ H locs ls h1 h2 h3 h4 h5 h6 h7 h8
  exact hh_get hX.1 hX.2.1 hX.2.2.2.1 hX.2.2.2.2.1 hX.2.2.2.2.2.1 h3 hF hr hK hd (kk φ H locs ls h1 h2 h3 h4 h5 h6 h7 ⟨trivial, h8.2⟩)
/-- the value that a reference is -/
def hh_av : Option Nat → Value
  | none => .null
  | some r => .ref r
theorem hh_tv_av (φ : Nat → Nat) (o : Option Nat) : hh_tv φ (hh_av o) = hh_rv φ o := by cases o <;> rfl
theorem hv_getR {X : hh_CX} {cc : ByteArray} {own : String} {rm : Room} {pc : Nat} {loc : List (Nat × Value)} {st : List Value} {z k : Nat} {h : hh_T} (hX : hh_C X cc own rm) {idx ci f r : Nat} {fin : Bool} (hd : decode cc pc = .ok (.getfield idx, 3)) (hF : hh_FL own idx ci f 2 fin) (hr : r < hhN h) (hK : hhK h r = ci) {v : Value} (hv : hh_av (hhR h r f) = v)
    (kk : hh_V X (pc + 3) loc (v :: st) z k h) : hh_V X pc loc (.ref r :: st) z k h := by
  obtain ⟨p, l, e, R, s, m, args, below, meth, c, G, A, φ0, n0, nL, Q⟩ := X
  intro φ H locs ls h1 h2 h3 h4 h5 h6 h7 h8
  subst hv
  have ho : okv h (hh_av (hhR h r f)) := by
    cases q : hhR h r f with
    | none => trivial
    | some y => exact h3.2.2 r f y q
  refine hh_get hX.1 hX.2.1 hX.2.2.2.1 hX.2.2.2.2.1 hX.2.2.2.2.2.1 h3 hF hr hK hd ?_
  have h9 := kk φ H locs ls h1 h2 h3 h4 h5 h6 h7 ⟨ho, h8.2⟩
  rw [List.map_cons, hh_tv_av] at h9
  exact h9
theorem hh_ok_same {h : hh_T} (ho : hh_ok h) : hh_ok h := ho
/-- putfield -/
theorem hv_putI {X : hh_CX} {cc : ByteArray} {own : String} {rm : Room} {pc : Nat} {loc : List (Nat × Value)} {st : List Value} {z k : Nat} {h : hh_T} (hX : hh_C X cc own rm) {idx ci f r : Nat} {v : Int32} (hd : decode cc pc = .ok (.putfield idx, 3)) (hF : hh_FL own idx ci f 0 false) (hr : r < hhN h) (hK : hhK h r = ci)
    (kk : hh_V X (pc + 3) loc st z k (hsI h r f v)) : hh_V X pc loc (.int v :: .ref r :: st) z k h := by
  obtain ⟨p, l, e, R, s, m, args, below, meth, c, G, A, φ0, n0, nL, Q⟩ := X
  intro φ H locs ls h1 h2 h3 h4 h5 h6 h7 h8
  refine hh_put hX.1 hX.2.1 hX.2.2.2.1 hX.2.2.2.2.1 hX.2.2.2.2.2.1 h3 h4 h5 hF hr hK hd (v := .int v) (fun ty hc => by cases ty <;> first | exact ⟨rfl, rfl⟩ | cases hc) (fun hci hft H1 locs1 hP1 hD1 hS1 => ?_)
  have hset : (hh_ws G.2 φ h).set r (φ r, .inr (ci, (hh_fs φ h r ci).set f (.int v))) = hh_ws G.2 φ (hsI h r f v) := by
    rw [hh_fs_set (h' := hsI h r f v) hft (by show Value.int (u2 (hhI h) r f v r f) = _; rw [u2_self]) (fun j u hj => hh_fv_I _ _ _ (Or.inr hj))]
    exact hh_set_ws (h := h) (h' := hsI h r f v) rfl hh_cell_I (hh_cell_o hK hci)
  rw [hset] at hP1 hD1
  exact kk φ H1 locs1 ls h1 h2 ⟨hP1, h3.2⟩ hD1 hS1 h6 (okl_mono (h := h) (by exact Nat.le_refl _) h7) (oks_mono (h := h) (by exact Nat.le_refl _) h8.2.2)
theorem hv_putZ {X : hh_CX} {cc : ByteArray} {own : String} {rm : Room} {pc : Nat} {loc : List (Nat × Value)} {st : List Value} {z k : Nat} {h : hh_T} (hX : hh_C X cc own rm) {idx ci f r : Nat} {v : Int32} (hd : decode cc pc = .ok (.putfield idx, 3)) (hF : hh_FL own idx ci f 3 false) (h01 : v = 0 ∨ v = 1) (hr : r < hhN h) (hK : hhK h r = ci)
    (kk : hh_V X (pc + 3) loc st z k (hsI h r f v)) : hh_V X pc loc (.int v :: .ref r :: st) z k h := by
  obtain ⟨p, l, e, R, s, m, args, below, meth, c, G, A, φ0, n0, nL, Q⟩ := X
  intro φ H locs ls h1 h2 h3 h4 h5 h6 h7 h8
  refine hh_put hX.1 hX.2.1 hX.2.2.2.1 hX.2.2.2.2.1 hX.2.2.2.2.2.1 h3 h4 h5 hF hr hK hd (v := .int v) (fun ty hc => by cases ty <;> first | (rcases h01 with rfl | rfl <;> exact ⟨rfl, rfl⟩) | cases hc) (fun hci hft H1 locs1 hP1 hD1 hS1 => ?_)
  have hset : (hh_ws G.2 φ h).set r (φ r, .inr (ci, (hh_fs φ h r ci).set f (.int v))) = hh_ws G.2 φ (hsI h r f v) := by
    rw [hh_fs_set (h' := hsI h r f v) hft (by show Value.int (u2 (hhI h) r f v r f) = _; rw [u2_self]) (fun j u hj => hh_fv_I _ _ _ (Or.inr hj))]
    exact hh_set_ws (h := h) (h' := hsI h r f v) rfl hh_cell_I (hh_cell_o hK hci)
  rw [hset] at hP1 hD1
  exact kk φ H1 locs1 ls h1 h2 ⟨hP1, h3.2⟩ hD1 hS1 h6 (okl_mono (h := h) (by exact Nat.le_refl _) h7) (oks_mono (h := h) (by exact Nat.le_refl _) h8.2.2)
theorem hv_putJ {X : hh_CX} {cc : ByteArray} {own : String} {rm : Room} {pc : Nat} {loc : List (Nat × Value)} {st : List Value} {z k : Nat} {h : hh_T} (hX : hh_C X cc own rm) {idx ci f r : Nat} {v : Int64} (hd : decode cc pc = .ok (.putfield idx, 3)) (hF : hh_FL own idx ci f 1 false) (hr : r < hhN h) (hK : hhK h r = ci)
    (kk : hh_V X (pc + 3) loc st z k (hsJ h r f v)) : hh_V X pc loc (.long v :: .ref r :: st) z k h := by
  obtain ⟨p, l, e, R, s, m, args, below, meth, c, G, A, φ0, n0, nL, Q⟩ := X
  intro φ H locs ls h1 h2 h3 h4 h5 h6 h7 h8
  refine hh_put hX.1 hX.2.1 hX.2.2.2.1 hX.2.2.2.2.1 hX.2.2.2.2.2.1 h3 h4 h5 hF hr hK hd (v := .long v) (fun ty hc => by cases ty <;> first | exact ⟨rfl, rfl⟩ | cases hc) (fun hci hft H1 locs1 hP1 hD1 hS1 => ?_)
  have hset : (hh_ws G.2 φ h).set r (φ r, .inr (ci, (hh_fs φ h r ci).set f (.long v))) = hh_ws G.2 φ (hsJ h r f v) := by
    rw [hh_fs_set (h' := hsJ h r f v) hft (by show Value.long (u2 (hhJ h) r f v r f) = _; rw [u2_self]) (fun j u hj => hh_fv_J _ _ _ (Or.inr hj))]
    exact hh_set_ws (h := h) (h' := hsJ h r f v) rfl hh_cell_J (hh_cell_o hK hci)
  rw [hset] at hP1 hD1
  exact kk φ H1 locs1 ls h1 h2 ⟨hP1, h3.2⟩ hD1 hS1 h6 (okl_mono (h := h) (by exact Nat.le_refl _) h7) (oks_mono (h := h) (by exact Nat.le_refl _) h8.2.2)
/-- a reference is written: what it names is there -/
theorem hh_ok_R {h : hh_T} {r f : Nat} {v : Option Nat} (ho : hh_ok h) (hv : okv h (hh_av v)) : hh_ok (hsR h r f v) := by
  refine ⟨ho.1, fun i k y hy => ?_⟩
  have hy : u2 (hhR h) r f v i k = some y := hy
  by_cases e : i = r ∧ k = f
  · rw [e.1, e.2, u2_self] at hy
    rw [hy] at hv
    exact hv
  · rw [u2_ne _ _ (by
      by_cases e1 : i = r
      · exact Or.inr (fun e2 => e ⟨e1, e2⟩)
      · exact Or.inl e1)] at hy
    exact ho.2 i k y hy
theorem hv_putR {X : hh_CX} {cc : ByteArray} {own : String} {rm : Room} {pc : Nat} {loc : List (Nat × Value)} {st : List Value} {z k : Nat} {h : hh_T} (hX : hh_C X cc own rm) {idx ci f r : Nat} {v : Option Nat} (hd : decode cc pc = .ok (.putfield idx, 3)) (hF : hh_FL own idx ci f 2 false) (hr : r < hhN h) (hK : hhK h r = ci)
    (kk : hh_V X (pc + 3) loc st z k (hsR h r f v)) : hh_V X pc loc (hh_av v :: .ref r :: st) z k h := by
  obtain ⟨p, l, e, R, s, m, args, below, meth, c, G, A, φ0, n0, nL, Q⟩ := X
  intro φ H locs ls h1 h2 h3 h4 h5 h6 h7 h8
  show W p l e R s m args below meth c H locs z k Q (F0 m pc ls (hh_tv φ (hh_av v) :: .ref (φ r) :: st.map (hh_tv φ)))
  rw [hh_tv_av]
  refine hh_put hX.1 hX.2.1 hX.2.2.2.1 hX.2.2.2.2.1 hX.2.2.2.2.2.1 h3 h4 h5 hF hr hK hd (v := hh_rv φ v) (fun ty hc => by cases ty <;> first | (cases v <;> exact ⟨rfl, rfl⟩) | cases hc) (fun hci hft H1 locs1 hP1 hD1 hS1 => ?_)
  have hset : (hh_ws G.2 φ h).set r (φ r, .inr (ci, (hh_fs φ h r ci).set f (hh_rv φ v))) = hh_ws G.2 φ (hsR h r f v) := by
    rw [hh_fs_set (h' := hsR h r f v) hft (by show hh_rv φ (u2 (hhR h) r f v r f) = _; rw [u2_self]) (fun j u hj => hh_fv_R _ _ _ (Or.inr hj))]
    exact hh_set_ws (h := h) (h' := hsR h r f v) rfl hh_cell_R (hh_cell_o hK hci)
  rw [hset] at hP1 hD1
  exact kk φ H1 locs1 ls h1 h2 ⟨hP1, hh_ok_R h3.2 h8.1⟩ hD1 hS1 h6 (okl_mono (h := h) (by exact Nat.le_refl _) h7) (oks_mono (h := h) (by exact Nat.le_refl _) h8.2.2)
theorem hh_rowI (h : hh_T) (r i : Nat) (v : Int32) : hhI (hsI h r i v) r = upd (hhI h r) i v := by
  funext b
  show u2 (hhI h) r i v r b = upd (hhI h r) i v b
  unfold u2 upd
  split <;> simp
theorem hh_rowJ (h : hh_T) (r i : Nat) (v : Int64) : hhJ (hsJ h r i v) r = vp_updL (hhJ h r) i v := by
  funext b
  show u2 (hhJ h) r i v r b = vp_updL (hhJ h r) i v b
  unfold u2 vp_updL
  split <;> simp
theorem hv_iald {X : hh_CX} {cc : ByteArray} {own : String} {rm : Room} {pc : Nat} {loc : List (Nat × Value)} {st : List Value} {z k : Nat} {h : hh_T} (hX : hh_C X cc own rm) {r : Nat} {i : Int32} (hd : decode cc pc = .ok (.iaload, 1)) (hr : r < hhN h) (hK : hhK h r = 100) (hi : vp_in i (hhL h r))
    (kk : hh_V X (pc + 1) loc (.int (hhI h r i.toNatClampNeg) :: st) z k h) : hh_V X pc loc (.int i :: .ref r :: st) z k h := by
  obtain ⟨p, l, e, R, s, m, args, below, meth, c, G, A, φ0, n0, nL, Q⟩ := X
  intro φ H locs ls h1 h2 h3 h4 h5 h6 h7 h8
  exact va_iald hX.1 hX.2.1 hX.2.2.2.2.2.1.1 h3.1 r 0 (by rw [hh_ws_at hr, hh_cell_a (a := 0) hK]; rfl) rfl hi hd (kk φ H locs ls h1 h2 h3 h4 h5 h6 h7 ⟨trivial, h8.2.2⟩)

theorem hv_bald {X : hh_CX} {cc : ByteArray} {own : String} {rm : Room} {pc : Nat} {loc : List (Nat × Value)} {st : List Value} {z k : Nat} {h : hh_T} (hX : hh_C X cc own rm) {r : Nat} {i : Int32} (hd : decode cc pc = .ok (.baload, 1)) (hr : r < hhN h) (hK : hhK h r = 101) (hi : vp_in i (hhL h r))
    (kk : hh_V X (pc + 1) loc (.int (hhI h r i.toNatClampNeg) :: st) z k h) : hh_V X pc loc (.int i :: .ref r :: st) z k h := by
  obtain ⟨p, l, e, R, s, m, args, below, meth, c, G, A, φ0, n0, nL, Q⟩ := X
  intro φ H locs ls h1 h2 h3 h4 h5 h6 h7 h8
  exact va_bald hX.1 hX.2.1 hX.2.2.2.2.2.1.1 h3.1 r 1 (by rw [hh_ws_at hr, hh_cell_a (a := 1) hK]; rfl) rfl hi hd (kk φ H locs ls h1 h2 h3 h4 h5 h6 h7 ⟨trivial, h8.2.2⟩)

theorem hv_sald {X : hh_CX} {cc : ByteArray} {own : String} {rm : Room} {pc : Nat} {loc : List (Nat × Value)} {st : List Value} {z k : Nat} {h : hh_T} (hX : hh_C X cc own rm) {r : Nat} {i : Int32} (hd : decode cc pc = .ok (.saload, 1)) (hr : r < hhN h) (hK : hhK h r = 102) (hi : vp_in i (hhL h r))
    (kk : hh_V X (pc + 1) loc (.int (hhI h r i.toNatClampNeg) :: st) z k h) : hh_V X pc loc (.int i :: .ref r :: st) z k h := by
  obtain ⟨p, l, e, R, s, m, args, below, meth, c, G, A, φ0, n0, nL, Q⟩ := X
  intro φ H locs ls h1 h2 h3 h4 h5 h6 h7 h8
  exact va_sald hX.1 hX.2.1 hX.2.2.2.2.2.1.1 h3.1 r 2 (by rw [hh_ws_at hr, hh_cell_a (a := 2) hK]; rfl) rfl hi hd (kk φ H locs ls h1 h2 h3 h4 h5 h6 h7 ⟨trivial, h8.2.2⟩)

theorem hv_lald {X : hh_CX} {cc : ByteArray} {own : String} {rm : Room} {pc : Nat} {loc : List (Nat × Value)} {st : List Value} {z k : Nat} {h : hh_T} (hX : hh_C X cc own rm) {r : Nat} {i : Int32} (hd : decode cc pc = .ok (.laload, 1)) (hr : r < hhN h) (hK : hhK h r = 110) (hi : vp_in i (hhL h r))
    (kk : hh_V X (pc + 1) loc (.long (hhJ h r i.toNatClampNeg) :: st) z k h) : hh_V X pc loc (.int i :: .ref r :: st) z k h := by
  obtain ⟨p, l, e, R, s, m, args, below, meth, c, G, A, φ0, n0, nL, Q⟩ := X
  intro φ H locs ls h1 h2 h3 h4 h5 h6 h7 h8
  exact va_lald hX.1 hX.2.1 hX.2.2.2.2.2.1.1 h3.1 r 3 (by rw [hh_ws_at hr, hh_cell_a (a := 10) hK]; rfl) rfl hi hd (kk φ H locs ls h1 h2 h3 h4 h5 h6 h7 ⟨trivial, h8.2.2⟩)

theorem hv_iast {X : hh_CX} {cc : ByteArray} {own : String} {rm : Room} {pc : Nat} {loc : List (Nat × Value)} {st : List Value} {z k : Nat} {h : hh_T} (hX : hh_C X cc own rm) {r : Nat} {i : Int32} {x : Int32} (hd : decode cc pc = .ok (.iastore, 1)) (hr : r < hhN h) (hK : hhK h r = 100) (hi : vp_in i (hhL h r))
    (kk : hh_V X (pc + 1) loc st z k (hsI h r i.toNatClampNeg x)) : hh_V X pc loc (.int x :: .int i :: .ref r :: st) z k h := by
  obtain ⟨p, l, e, R, s, m, args, below, meth, c, G, A, φ0, n0, nL, Q⟩ := X
  intro φ H locs ls h1 h2 h3 h4 h5 h6 h7 h8
  refine va_iast hX.1 hX.2.1 hX.2.2.2.2.2.1.1 h3.1 h4 h5 r 0 (by rw [hh_ws_at hr, hh_cell_a (a := 0) hK]; rfl) rfl hi hd (fun H1 locs1 hP1 hD1 hS1 => ?_)
  rw [hh_set_ws (h := h) (h' := hsI h r i.toNatClampNeg x) rfl hh_cell_I (by rw [hh_cell_a (h := hsI h r i.toNatClampNeg x) (a := 0) hK]; exact congrArg (fun y => Sum.inl (G.2 0, hhL h r, Sum.inl y)) (hh_rowI h r _ _))] at hP1 hD1
  exact kk φ H1 locs1 ls h1 h2 ⟨hP1, h3.2⟩ hD1 hS1 h6 (okl_mono (h := h) (by exact Nat.le_refl _) h7) (oks_mono (h := h) (by exact Nat.le_refl _) h8.2.2.2)

theorem hv_bast {X : hh_CX} {cc : ByteArray} {own : String} {rm : Room} {pc : Nat} {loc : List (Nat × Value)} {st : List Value} {z k : Nat} {h : hh_T} (hX : hh_C X cc own rm) {r : Nat} {i : Int32} {x : Int32} (hd : decode cc pc = .ok (.bastore, 1)) (hr : r < hhN h) (hK : hhK h r = 101) (hi : vp_in i (hhL h r))
    (kk : hh_V X (pc + 1) loc st z k (hsI h r i.toNatClampNeg (vp_nar .byte x))) : hh_V X pc loc (.int x :: .int i :: .ref r :: st) z k h := by
  obtain ⟨p, l, e, R, s, m, args, below, meth, c, G, A, φ0, n0, nL, Q⟩ := X
  intro φ H locs ls h1 h2 h3 h4 h5 h6 h7 h8
  refine va_bast hX.1 hX.2.1 hX.2.2.2.2.2.1.1 h3.1 h4 h5 r 1 (by rw [hh_ws_at hr, hh_cell_a (a := 1) hK]; rfl) rfl hi hd (fun H1 locs1 hP1 hD1 hS1 => ?_)
  rw [hh_set_ws (h := h) (h' := hsI h r i.toNatClampNeg (vp_nar .byte x)) rfl hh_cell_I (by rw [hh_cell_a (h := hsI h r i.toNatClampNeg (vp_nar .byte x)) (a := 1) hK]; exact congrArg (fun y => Sum.inl (G.2 1, hhL h r, Sum.inl y)) (hh_rowI h r _ _))] at hP1 hD1
  exact kk φ H1 locs1 ls h1 h2 ⟨hP1, h3.2⟩ hD1 hS1 h6 (okl_mono (h := h) (by exact Nat.le_refl _) h7) (oks_mono (h := h) (by exact Nat.le_refl _) h8.2.2.2)

theorem hv_sast {X : hh_CX} {cc : ByteArray} {own : String} {rm : Room} {pc : Nat} {loc : List (Nat × Value)} {st : List Value} {z k : Nat} {h : hh_T} (hX : hh_C X cc own rm) {r : Nat} {i : Int32} {x : Int32} (hd : decode cc pc = .ok (.sastore, 1)) (hr : r < hhN h) (hK : hhK h r = 102) (hi : vp_in i (hhL h r))
    (kk : hh_V X (pc + 1) loc st z k (hsI h r i.toNatClampNeg (vp_nar .short x))) : hh_V X pc loc (.int x :: .int i :: .ref r :: st) z k h := by
  obtain ⟨p, l, e, R, s, m, args, below, meth, c, G, A, φ0, n0, nL, Q⟩ := X
  intro φ H locs ls h1 h2 h3 h4 h5 h6 h7 h8
  refine va_sast hX.1 hX.2.1 hX.2.2.2.2.2.1.1 h3.1 h4 h5 r 2 (by rw [hh_ws_at hr, hh_cell_a (a := 2) hK]; rfl) rfl hi hd (fun H1 locs1 hP1 hD1 hS1 => ?_)
  rw [hh_set_ws (h := h) (h' := hsI h r i.toNatClampNeg (vp_nar .short x)) rfl hh_cell_I (by rw [hh_cell_a (h := hsI h r i.toNatClampNeg (vp_nar .short x)) (a := 2) hK]; exact congrArg (fun y => Sum.inl (G.2 2, hhL h r, Sum.inl y)) (hh_rowI h r _ _))] at hP1 hD1
  exact kk φ H1 locs1 ls h1 h2 ⟨hP1, h3.2⟩ hD1 hS1 h6 (okl_mono (h := h) (by exact Nat.le_refl _) h7) (oks_mono (h := h) (by exact Nat.le_refl _) h8.2.2.2)

theorem hv_last {X : hh_CX} {cc : ByteArray} {own : String} {rm : Room} {pc : Nat} {loc : List (Nat × Value)} {st : List Value} {z k : Nat} {h : hh_T} (hX : hh_C X cc own rm) {r : Nat} {i : Int32} {x : Int64} (hd : decode cc pc = .ok (.lastore, 1)) (hr : r < hhN h) (hK : hhK h r = 110) (hi : vp_in i (hhL h r))
    (kk : hh_V X (pc + 1) loc st z k (hsJ h r i.toNatClampNeg x)) : hh_V X pc loc (.long x :: .int i :: .ref r :: st) z k h := by
  obtain ⟨p, l, e, R, s, m, args, below, meth, c, G, A, φ0, n0, nL, Q⟩ := X
  intro φ H locs ls h1 h2 h3 h4 h5 h6 h7 h8
  refine va_last hX.1 hX.2.1 hX.2.2.2.2.2.1.1 h3.1 h4 h5 r 3 (by rw [hh_ws_at hr, hh_cell_a (a := 10) hK]; rfl) rfl hi hd (fun H1 locs1 hP1 hD1 hS1 => ?_)
  rw [hh_set_ws (h := h) (h' := hsJ h r i.toNatClampNeg x) rfl hh_cell_J (by rw [hh_cell_a (h := hsJ h r i.toNatClampNeg x) (a := 10) hK]; exact congrArg (fun y => Sum.inl (G.2 10, hhL h r, Sum.inr (Sum.inl y))) (hh_rowJ h r _ _))] at hP1 hD1
  exact kk φ H1 locs1 ls h1 h2 ⟨hP1, h3.2⟩ hD1 hS1 h6 (okl_mono (h := h) (by exact Nat.le_refl _) h7) (oks_mono (h := h) (by exact Nat.le_refl _) h8.2.2.2)

theorem hv_alen {X : hh_CX} {cc : ByteArray} {own : String} {rm : Room} {pc : Nat} {loc : List (Nat × Value)} {st : List Value} {z k : Nat} {h : hh_T} (hX : hh_C X cc own rm) {r : Nat} {v : Int32} (j : Nat) {a : Nat} (hj : hh_al[j]? = some a) (hd : decode cc pc = .ok (.arraylength, 1)) (hr : r < hhN h) (hK : hhK h r = 100 + a) (hv : Int32.ofNat (hhL h r) = v)
    (kk : hh_V X (pc + 1) loc (.int v :: st) z k h) : hh_V X pc loc (.ref r :: st) z k h := by
  obtain ⟨p, l, e, R, s, m, args, below, meth, c, G, A, φ0, n0, nL, Q⟩ := X
  intro φ H locs ls h1 h2 h3 h4 h5 h6 h7 h8
  exact va_alen (ty := hh_ay a) (x := (hhL h r, hh_ac φ h r a)) hX.1 hX.2.1 hX.2.2.2.2.2.1.1 h3.1 r j (by rw [hh_ws_at hr, hh_cell_a hK]) (by simp only [hh_tys, List.getElem?_map, hj, Option.map_some]) hv hd (kk φ H locs ls h1 h2 h3 h4 h5 h6 h7 ⟨trivial, h8.2⟩)
theorem hv_ldc {X : hh_CX} {cc : ByteArray} {own : String} {rm : Room} {pc : Nat} {loc : List (Nat × Value)} {st : List Value} {z k : Nat} {h : hh_T} (hX : hh_C X cc own rm) {idx : Nat} {v : Int32} (hd : decode cc pc = .ok (.ldc idx, 2)) (hc : Cond.constant own idx v ∈ lw_all)
    (kk : hh_V X (pc + 2) loc (.int v :: st) z k h) : hh_V X pc loc st z k h := by
  obtain ⟨p, l, e, R, s, m, args, below, meth, c, G, A, φ0, n0, nL, Q⟩ := X
  intro φ H locs ls h1 h2 h3 h4 h5 h6 h7 h8
  exact lv_ldc hX.1 hX.2.1 hX.2.2.2.1 (hX.2.2.2.2.1 _ hc) hd (kk φ H locs ls h1 h2 h3 h4 h5 h6 h7 ⟨trivial, h8⟩)
theorem hv_ldc2 {X : hh_CX} {cc : ByteArray} {own : String} {rm : Room} {pc : Nat} {loc : List (Nat × Value)} {st : List Value} {z k : Nat} {h : hh_T} (hX : hh_C X cc own rm) {idx : Nat} {v : Int64} (hd : decode cc pc = .ok (.ldc2_w idx, 3)) (hc : Cond.constantLong own idx v ∈ lw_all)
    (kk : hh_V X (pc + 3) loc (.long v :: st) z k h) : hh_V X pc loc st z k h := by
  obtain ⟨p, l, e, R, s, m, args, below, meth, c, G, A, φ0, n0, nL, Q⟩ := X
  intro φ H locs ls h1 h2 h3 h4 h5 h6 h7 h8
  exact lv_ldc2 hX.1 hX.2.1 hX.2.2.2.1 (hX.2.2.2.2.1 _ hc) hd (kk φ H locs ls h1 h2 h3 h4 h5 h6 h7 ⟨trivial, h8⟩)
/-- a table switch, case by case: 'hs' gives the goal for each place of the table -/
theorem hv_tsw {X : hh_CX} {cc : ByteArray} {own : String} {rm : Room} {pc : Nat} {loc : List (Nat × Value)} {st : List Value} {z k : Nat} {h : hh_T} (hX : hh_C X cc own rm) {dflt lo hi : Int} {offs : Array Int} {len : Nat} {x : Int32} {tgtD : Nat} (hd : decode cc pc = .ok (.tableswitch dflt lo hi offs, len)) (htD : (pc : Int) + dflt = (tgtD : Int)) (hsz : offs.size = (hi - lo + 1).toNat)
    (hs : ∀ j : Nat, j < offs.size → x.toInt = lo + j → ∃ (off : Int) (tgt : Nat), offs[j]? = some off ∧ (pc : Int) + off = (tgt : Int) ∧ hh_V X tgt loc st z k h) (hD : (x.toInt < lo ∨ hi < x.toInt) → hh_V X tgtD loc st z k h) : hh_V X pc loc (.int x :: st) z k h := by
  obtain ⟨p, l, e, R, s, m, args, below, meth, c, G, A, φ0, n0, nL, Q⟩ := X
  intro φ H locs ls h1 h2 h3 h4 h5 h6 h7 h8
  by_cases q : x.toInt < lo ∨ hi < x.toInt
  · exact lv_tableOut hX.1 hX.2.1 hd q htD (hD q φ H locs ls h1 h2 h3 h4 h5 h6 h7 h8.2)
  · have q1 : ¬ x.toInt < lo := fun y => q (Or.inl y)
    have q2 : ¬ hi < x.toInt := fun y => q (Or.inr y)
    obtain ⟨off, tgt, e1, e2, kk⟩ := hs (x.toInt - lo).toNat (by rw [hsz]; omega) (by omega)
    exact lv_tableIn hX.1 hX.2.1 hd q1 q2 e1 e2 (kk φ H locs ls h1 h2 h3 h4 h5 h6 h7 h8.2)
theorem hv_mmax {X : hh_CX} {cc : ByteArray} {own : String} {rm : Room} {pc : Nat} {loc : List (Nat × Value)} {st : List Value} {z k : Nat} {h : hh_T} (hX : hh_C X cc own rm) {idx : Nat} {x y : Int32} (hd : decode cc pc = .ok (.invokestatic idx, 3)) (h9 : Cond.methodLink own idx Lib.Math.max.name ∈ lw_all) (h10 : Cond.static Lib.Math.max.name ∈ lw_all) (h11 : Cond.initialized "java/lang/Math" ∈ lw_all) (h12 : Cond.code Lib.Math.max.name Lib.Math.max.code 2 (some .int) ∈ lw_all) (hr : 1 ≤ rm.frames ∧ (st.map fun v => v.category).sum + 13 ≤ rm.locals) (hz : z ≤ rm.cells ∧ k ≤ rm.slots)
    (kk : hh_V X (pc + 3) loc (.int (if x < y then y else x) :: st) z k h) : hh_V X pc loc (.int y :: .int x :: st) z k h := by
  obtain ⟨p, l, e, R, s, m, args, below, meth, c, G, A, φ0, n0, nL, Q⟩ := X
  intro φ H locs ls h1 h2 h3 h4 h5 h6 h7 h8
  have hRR : R = rm := hX.2.2.2.2.2.2.2.1
  subst hRR
  exact va_mmax hX.1 hX.2.1 (hX.2.2.1.trans h6.1.symm) hX.2.2.2.1 (hX.2.2.2.2.1 _ h9) (hX.2.2.2.2.1 _ h10) (hX.2.2.2.2.1 _ h11) (hX.2.2.2.2.1 _ h12) hr.1 (by rw [List.map_map]; simp only [Function.comp_def, hh_tv_cat]; exact hr.2) hz.1 hz.2 hd (kk φ H locs ls h1 h2 h3 h4 h5 h6 h7 ⟨trivial, h8.2.2⟩)
theorem hh_Pc.blind {G : hh_G} {φ0 : Nat → Nat} {sz : Nat} {al : List Value} {h : hh_T} : FrameBlind (hh_Pc G φ0 sz al h) := by
  intro a U g mk q
  obtain ⟨q0, q1, q2, q3, q4, q5, q6⟩ := q
  exact ⟨q0, q1, q2, q3, q4, q5.calling, q6.calling⟩
/-- behind a call: the goal for every answer and heap of the callee's contract -/
theorem hh_after {p : Program} {l : Launch} {e : Env} {R : Room} {s : State} {m : MethodId} {args : Array Value} {below : List Frame} {meth : Method} {c : Code} {G : hh_G} {A : Nat → Prop} {φ0 : Nat → Nat} {n0 nL : Nat} {Q : State → Prop} {φ : Nat → Nat} {H : Heap} {locs : List Loc} {ls : Array Slot} {loc : List (Nat × Value)} {st st0 : List Value} {z k mc ms pc : Nat} {h : hh_T} {Qp : Option Value → hh_T → Prop} {a : Array Value}
    (hr : va_Run p l e R s m args below meth c H locs z k mc ms (F0 m pc ls st0) (st.map (hh_tv φ)) (hh_QM G (va_A (hh_ws G.2 φ h) H.size) φ (hhN h) Qp a) (va_A (hh_ws G.2 φ h) H.size)) (h1 : ∀ i, i < n0 ∨ 1000000 ≤ i → φ i = φ0 i) (h2 : n0 ≤ hhN h) (h3 : hh_W G φ h H) (h4 : va_D A (hh_ws G.2 φ h)) (h5 : va_S A s.heap H locs) (h6 : lv_has ls nL (hh_tl φ loc)) (h7 : okl h loc) (h8 : oks h st) (hA : ∀ q, s.heap.size ≤ q → A q)
    (kk : ∀ (v : Option Value) (h' : hh_T), Qp v h' → hh_V (p, l, e, R, s, m, args, below, meth, c, G, A, φ0, n0, nL, Q) (pc + 3) loc (v.toList ++ st) (z + mc) (k + ms) h') :
    W p l e R s m args below meth c H locs z k Q (F0 m pc ls st0) := by
  intro T hT X
  obtain ⟨v, st₀, t, T', L, e0, X', hL, e1, e2, ⟨⟨v', h', φ', ev, hQ, hφ, hn, hW, hD, hok⟩, hz, hk⟩, stp⟩ := hr T hT X
  have ev := Outcome.returned.inj ev
  rw [e0] at hz hk
  have hfree : ∀ q, va_A (hh_ws G.2 φ h) H.size q → A q := by
    intro q hq
    rcases hq with ⟨j, w, hj⟩ | hq
    · exact h4.2 j (q, w) hj
    · exact hA q (Nat.le_trans h5.1 hq)
  have eφ : ∀ w : Value, okv h w → hh_tv φ' w = hh_tv φ w := by
    intro w hw
    cases w with
    | ref r => exact congrArg Value.ref (hφ r hw)
    | _ => rfl
  have est : st.map (hh_tv φ') = st.map (hh_tv φ) := List.map_congr_left fun w hw => eφ w (oks_mem.mp h8 w hw)
  have eloc : hh_tl φ' loc = hh_tl φ loc := List.map_congr_left fun w hw => by rw [eφ w.2 (h7 w hw)]
  have hD' : va_D A (hh_ws G.2 φ' h') := hD.weaken fun _ _ _ q => hfree _ q
  have hS' : va_S A s.heap T'.heap (locs ++ L) := ⟨Nat.le_trans h5.1 (by rw [e1]; exact hz), fun q g1 g2 => by rw [e1, hk q (Nat.lt_of_lt_of_le g1 h5.1) (fun y => g2 (hfree q y))]; exact h5.2.1 q g1 g2, fun q hq => by
    rcases List.mem_append.mp hq with y | y
    · exact h5.2.2 q y
    · exact hfree _ (hL q y)⟩
  have hok2 : oks h' (v'.toList ++ st) := by
    refine oks_append.mpr ⟨?_, oks_mono hn h8⟩
    cases v' with
    | none => trivial
    | some w => exact ⟨hok w rfl, trivial⟩
  have K := kk v' h' hQ φ' T'.heap (locs ++ L) ls (fun i hi => by
    rcases hi with y | y
    · rw [hφ i (Or.inl (Nat.lt_of_lt_of_le y h2)), h1 i (Or.inl y)]
    · rw [hφ i (Or.inr y), h1 i (Or.inr y)]) (Nat.le_trans h2 hn) (by rw [e1]; exact hW) hD' hS' (by rw [eloc]; exact h6) (okl_mono hn h7) hok2 T' rfl X'
  obtain ⟨t2, a1, b1⟩ := K
  refine ⟨t2, stp t2 ?_, b1⟩
  have e9 : v.toList ++ st.map (hh_tv φ) = (v'.toList ++ st).map (hh_tv φ') := by
    rw [List.map_append, est, ev]
    cases v' <;> rfl
  show Steps p.tables e below (T'.setTop { F0 m pc ls st0 with pc := pc + 3, stack := v.toList ++ st.map (hh_tv φ) }) t2
  rw [e9]
  exact a1
theorem hh_start {G : hh_G} {φ φ0 : Nat → Nat} {h : hh_T} {H : Heap} {al : List Value} {s : State} {A : Nat → Prop} {locs : List Loc} {n0 : Nat} (h3 : hh_W G φ h H) (h4 : va_D A (hh_ws G.2 φ h)) (hal : oks h al) (hS : hh_S G s) (h1 : ∀ i, i < n0 ∨ 1000000 ≤ i → φ i = φ0 i) (h5 : va_S A s.heap H locs) (hA : ∀ q, s.heap.size ≤ q → A q) (hXx : hh_X φ0 A s s.heap) : ∀ U : State, U.heap = H → s.WarmedH U.vm → hh_Pc G φ H.size al h (al.map (hh_tv φ)).toArray U := by
  intro U hU hW
  refine ⟨rfl, by rw [hU], by rw [hU]; exact h3, h4.weaken (fun _ _ _ _ => trivial), hal, hS.warm hW, ?_⟩
  rw [hU]
  refine hXx.to (fun i hi => h1 i (Or.inr hi)) h5.2.1 hW (fun q hq => ?_)
  rcases hq with ⟨j, w, hj⟩ | hq
  · exact h4.2 j (q, w) hj
  · exact hA q (Nat.le_trans h5.1 hq)
/-- a static method is called -/
theorem hv_callS {X : hh_CX} {cc : ByteArray} {own : String} {rm : Room} {pc : Nat} {loc : List (Nat × Value)} {st : List Value} {z k : Nat} {h : hh_T} (hX : hh_C X cc own rm) {y : MethodName} {cy : ByteArray} {nY idx fr lo mc ms : Nat} {ret : Option FieldType} {al st0 : List Value} {Qp : Option Value → hh_T → Prop} (hd : decode cc pc = .ok (.invokestatic idx, 3)) (hM : hh_Ct y cy nY ret fr lo al h Qp mc ms) (hg : GoodIn lw_all (va_wsS own idx y (ws_ y cy nY ret)))
    (hn : y.cls ≠ "java/lang/invoke/MethodHandle" ∧ y.cls ≠ "java/lang/invoke/VarHandle" ∧ (parseMethodDescriptor y.desc).map (fun d => d.parameters.length) = some al.length) (hst : st0 = al.reverse ++ st) (hr : fr + 1 ≤ rm.frames ∧ 8 + (nY + 11) + lo ≤ rm.locals) (hz : z + mc ≤ rm.cells ∧ k + ms ≤ rm.slots) (h8w : (st.map fun v => v.category).sum ≤ 8)
    (kk : ∀ (v : Option Value) (h' : hh_T), Qp v h' → hh_V X (pc + 3) loc (v.toList ++ st) (z + mc) (k + ms) h') : hh_V X pc loc st0 z k h := by
  obtain ⟨p, l, e, R, s, m, args, below, meth, c, G, A, φ0, n0, nL, Q⟩ := X
  intro φ H locs ls h1 h2 h3 h4 h5 h6 h7 h8
  have hRR : R = rm := hX.2.2.2.2.2.2.2.1
  subst hRR
  subst hst
  have ho := oks_append.mp h8
  have hal : oks h al := oks_mem.mpr fun w hw => oks_mem.mp ho.1 w (List.mem_reverse.mpr hw)
  refine hh_after (va_runS (As := al.map (hh_tv φ)) (rest := st.map (hh_tv φ)) ⟨hX.1, hX.2.1, hX.2.2.1, hX.2.2.2.1, hX.2.2.2.2.1⟩ (hM l G φ H.size hX.2.2.2.2.2.2.2.2.2.2) (va_cwS al.length hX.2.2.2.2.1 hg rfl rfl rfl hn hr) ⟨hh_Pc.blind, hh_start h3 h4 hal hX.2.2.2.2.2.1 h1 h5 hX.2.2.2.2.2.2.1 hX.2.2.2.2.2.2.2.2.2.1⟩ rfl (by simp) h6.1 (by simp [List.map_reverse]) (lv_room (by rw [List.map_map]; simp only [Function.comp_def, hh_tv_cat]; exact h8w)) hd hz) h1 h2 h3 h4 h5 h6 h7 ho.2 hX.2.2.2.2.2.2.1 kk
/-- a method is called on an object of its own class -/
theorem hv_callV {X : hh_CX} {cc : ByteArray} {own : String} {rm : Room} {pc : Nat} {loc : List (Nat × Value)} {st : List Value} {z k : Nat} {h : hh_T} (hX : hh_C X cc own rm) {y : MethodName} {cy : ByteArray} {nY idx fr lo mc ms r ci : Nat} {ret : Option FieldType} {al st0 : List Value} {Qp : Option Value → hh_T → Prop} {q : vw_C} (hd : decode cc pc = .ok (.invokevirtual idx, 3)) (hM : hh_Ct y cy nY ret fr lo (.ref r :: al) h Qp mc ms) (hg : GoodIn lw_all (wsV own idx q.1 y (ws_ y cy nY ret))) (hci : hh_cl[ci]? = some q) (hc1 : ci < 100)
    (hn : y.cls = q.1 ∧ y.cls ≠ "java/lang/invoke/MethodHandle" ∧ y.cls ≠ "java/lang/invoke/VarHandle" ∧ (parseMethodDescriptor y.desc).map (fun d => d.parameters.length) = some al.length) (hrr : r < hhN h) (hK : hhK h r = ci) (hst : st0 = al.reverse ++ .ref r :: st) (hr : fr + 1 ≤ rm.frames ∧ 8 + (nY + 11) + lo ≤ rm.locals) (hz : z + mc ≤ rm.cells ∧ k + ms ≤ rm.slots) (h8w : (st.map fun v => v.category).sum ≤ 8)
    (kk : ∀ (v : Option Value) (h' : hh_T), Qp v h' → hh_V X (pc + 3) loc (v.toList ++ st) (z + mc) (k + ms) h') : hh_V X pc loc st0 z k h := by
  obtain ⟨p, l, e, R, s, m, args, below, meth, c, G, A, φ0, n0, nL, Q⟩ := X
  intro φ H locs ls h1 h2 h3 h4 h5 h6 h7 h8
  have hRR : R = rm := hX.2.2.2.2.2.2.2.1
  subst hRR
  subst hst
  have ho := oks_append.mp h8
  have hal : oks h (.ref r :: al) := ⟨ho.2.1, oks_mem.mpr fun w hw => oks_mem.mp ho.1 w (List.mem_reverse.mpr hw)⟩
  have hS := hX.2.2.2.2.2.1
  refine hh_after (va_runV (As := al.map (hh_tv φ)) (rest := st.map (hh_tv φ)) ⟨hX.1, hX.2.1, hX.2.2.1, hX.2.2.2.1, hX.2.2.2.2.1⟩ (hM l G φ H.size hX.2.2.2.2.2.2.2.2.2.2) (cwV al.length hX.2.2.2.2.1 hg rfl rfl rfl hn hr) ⟨hh_Pc.blind, va_recv hS.1 h3.1 (q0 := r) hci (by rw [hh_ws_at hrr, hh_cell_o hK hc1]), hh_start h3 h4 hal hS h1 h5 hX.2.2.2.2.2.2.1 hX.2.2.2.2.2.2.2.2.2.1⟩ rfl (by simp) h6.1 (by simp [List.map_reverse, hh_tv]) (lv_room (by rw [List.map_map]; simp only [Function.comp_def, hh_tv_cat]; exact h8w)) hd hz) h1 h2 h3 h4 h5 h6 h7 ho.2.2 hX.2.2.2.2.2.2.1 kk
