set_option maxRecDepth 100000
set_option maxHeartbeats 4000000
/-! invokespecial of an interface's default method: the step -/
theorem sp_cold {Q : Unit → Pre} {E : CtlPost} {e : Env} {d : Bool} {acts : List Action} {s s₀ : State} {f : JFrame} {index ci n c : Nat} {m : MethodId} {dk : Class} {cf : ClassFile} {meth : Method} (hs : s.topJava?.isSome) (hE : s₀.MethodEntryUp e s.vm f.method.cls index c m ci)
    (h1 : s₀.vm.classes[f.method.cls]? = some dk) (h2 : dk.cf = some cf) (h3 : cf.constantPool[index]? = some (.interfaceMethodref ci n)) (hm : s₀.vm.method? m = some meth) :
    wp (invokespecial.sem index) Q E e d acts (s.setTop f) ↔ wp (invokespecial.sem index) Q E e d acts ((s.setVm (s.vm.calledUp f.method.cls ci index c m)).setTop f) := by
  have h3' : cf.constantPool[index]? = some (.methodref ci n) ∨ cf.constantPool[index]? = some (.interfaceMethodref ci n) := Or.inr h3
  obtain ⟨vm₁, hg₁, hr₁, hW₁, hg₂⟩ := hE.methodFirst
  have hA : wp (invokespecial.sem index) Q E e d acts (s.setTop f) ↔ wp (invokespecial.sem index) Q E e d acts ((s.setVm vm₁).setTop f) := by
    simp only [invokespecial.sem, wp_bind']
    exact W.resolveMethodAt_transfer (s := s.setTop f) (State.method?_setTop f hs) hg₁ hr₁
  rw [hA]
  obtain ⟨k₁, hk₁, he₁⟩ := hW₁.alike.2.2 _ _ h1
  obtain ⟨k₂, hk₂, he₂⟩ := hE.warmed.alike.2.2 _ _ h1
  have hs₁ : (s.setVm vm₁).topJava?.isSome := hs
  have hs₂ : (s.setVm (s.vm.calledUp f.method.cls ci index c m)).topJava?.isSome := hs
  have hm₁ : vm₁.method? m = some meth := by rw [hW₁.alike.method?]; exact hm
  have hm₂ : (s.vm.calledUp f.method.cls ci index c m).method? m = some meth := by rw [hE.warmed.alike.method?]; exact hm
  have hgsame : (Jvm.resolveClass f.method.cls ci).Gives e.toSetting (s.vm.calledUp f.method.cls ci index c m) (.ok c) (s.vm.calledUp f.method.cls ci index c m) := by
    obtain ⟨k, hk, hr⟩ := hE.classReady
    exact (resolveOnce_memo e.toSetting _ hk hr (by simp) (by simp)).bind (.pure c)
  simp only [invokespecial.sem, wp_bind', W.resolveMethodAt_ready (s := (s.setVm vm₁).setTop f) (State.method?_setTop f hs₁) hr₁,
    W.resolveMethodAt_ready (s := (s.setVm (s.vm.calledUp f.method.cls ci index c m)).setTop f) (State.method?_setTop f hs₂) hE.ready,
    W.theMethod, State.vm_setTop, State.vm_setVm, hm₁, hm₂, Option.some.injEq, exists_eq_left',
    W.refClassAt_links (t := (s.setVm vm₁).setTop f) (State.method?_setTop f hs₁) hk₁ (by rw [he₁]; exact h2) h3' hg₂,
    W.refClassAt_links (t := (s.setVm (s.vm.calledUp f.method.cls ci index c m)).setTop f) (State.method?_setTop f hs₂) hk₂ (by rw [he₂]; exact h2) h3' hgsame]
  rfl
theorem sp_ready {Q : Unit → Pre} {E : CtlPost} {e : Env} {d : Bool} {acts : List Action} {s : State} {f : JFrame} {index ci a : Nat} {nt : Nat} {m : MethodId} {named : ClassId} {ck nk mk : Class} {cf : ClassFile} {meth : Method} {args rest : List Value} {cell : Cell} {kcell : Class}
    (hs : s.topJava?.isSome) (hr : s.vm.methodReady f.method.cls index m) (hm : s.vm.method? m = some meth)
    (hck : s.vm.classes[f.method.cls]? = some ck) (hcf : ck.cf = some cf) (hc : cf.constantPool[index]? = some (.interfaceMethodref ci nt))
    (hnamed : s.vm.classReady f.method.cls ci named) (hnk : s.vm.classes[named]? = some nk)
    (hinit : (meth.name == "<init>" && m.cls != named) = false) (hstatic : meth.isStatic = false)
    (hfound : lookupSpecial s.vm (if meth.name != "<init>" && !nk.isInterface && (named != f.method.cls && s.vm.isSubclass f.method.cls named) then ck.super.getD named else named)
      meth.name meth.desc = .method m)
    (hiface : ck.isInterface = false) (hmk : s.vm.classes[m.cls]? = some mk) (habs : meth.isAbstract = false)
    (hlen : args.length = meth.sig.parameters.length) (hstack : f.stack = args.reverse ++ .ref a :: rest)
    (hcell : s.heap[a]? = some cell) (hobj : ∀ c, cell.vm ≠ .statics c) (hkcell : s.vm.classes[cell.cls]? = some kcell) :
    wp (invokespecial.sem index) Q E e d acts (s.setTop f) ↔ E (.invoke m (.ref a :: args).toArray) acts (s.setTop { f with stack := rest }) := by
  simp only [invokespecial.sem, wp_bind', W.resolveMethodAt_ready (State.method?_setTop f hs) hr]
  simp only [W.theMethod, State.vm_setTop, hm, Option.some.injEq, exists_eq_left', Jvm.refClassAt, Jvm.constantAt, wp_bind', W.currentClass, W.theClass,
    State.method?_setTop f hs, hck, hcf, Option.bind_some, hc, wp_pure', W.resolveClassAt_ready (State.method?_setTop f hs) hnamed]
  simp only [W.ite, hinit, hstatic, Bool.false_eq_true, if_false, wp_bind', W.theClass, State.vm_setTop, hck, hnk, Option.some.injEq, exists_eq_left', W.look, hfound,
    bne_self_eq_false, wp_pure', Jvm.popArgs, ← hlen, popN_top hs hstack]
  simp [hiface] at hfound
  simp [hs, hcell, hobj, hkcell, hck, hiface, hm, habs, hmk, hfound, popN_top hs hstack]
theorem sp_step {p : Program} {l : Launch} {e : Env} {R : Room} {s : State} {m : MethodId} {args : Array Value} {below : List Frame} {meth : Method} {c : Code} {T : State} {locs : List Loc} {cells slots : Nat} (X : Stand p l e R s m args below meth c T locs cells slots) (hexec : p.tables.exec = Jvm.exec)
    {own J : String} {index : Nat} {x : MethodName} (hown : s.vm.findClass own = some m.cls) (hlink : (Cond.methodLink own index x).before args s = true)
    (hface : (Cond.interfaceMethod x.cls J x.name x.desc).before args s = true) (hdecl : (Cond.declares ⟨J, x.name, x.desc⟩).before args s = true) (hpubO : (Cond.publicMethod ⟨J, x.name, x.desc⟩).before args s = true)
    (hsel : (Cond.landsInDefault x.cls x ⟨J, x.name, x.desc⟩).before args s = true) (hxo : x.cls ≠ J) (hx : x.cls ≠ "java/lang/invoke/MethodHandle" ∧ x.cls ≠ "java/lang/invoke/VarHandle") (hno : x.name ≠ "<init>")
    {r0 : MethodId} {r : Method} (hn : s.methodNamed? ⟨J, x.name, x.desc⟩ = some r0) (hrm : s.vm.method? r0 = some r) (habs : r.isAbstract = false) (hpriv : r.isPrivate = false)
    {dk : Class} (hd : s.vm.classes[m.cls]? = some dk) (hnid : dk.isInterface = false)
    {a : Addr} {cell : Cell} {kcell : Class} (hcell : T.heap[a]? = some cell) (hobj : ∀ c, cell.vm ≠ .statics c) (hkcell : s.vm.classes[cell.cls]? = some kcell)
    {g : JFrame} (hg : g.method = m) {argsL rest : List Value} (hlen : argsL.length = r.sig.parameters.length) (hstack : g.stack = argsL.reverse ++ .ref a :: rest)
    (hdg : decode c.code g.pc = .ok (.invokespecial index, 3)) :
    ∃ vm', Stand p l e R s m args below meth c (T.setVm vm') locs cells slots ∧
      ∀ target, Steps p.tables e below (doInvoke e ((T.setVm vm').setTop { g with stack := rest }) [] r0 (.ref a :: argsL).toArray).1 target → Steps p.tables e below (T.setTop g) target := by
  have hpl : e.platform.magicAccessors = ({} : Platform).magicAccessors := by rw [X.admits.platform]
  obtain ⟨r0', r', hn', hrm', hstR, -⟩ := Cond.declares_spec hdecl
  cases hn.symm.trans hn'
  cases hrm.symm.trans hrm'
  obtain ⟨ok, hok, hokname⟩ := className_of_methodNamed hn
  have hmO : ok.methods[r0.idx]? = some r := by simpa [Vm.method?, hok] using hrm
  have hpubR : hasFlag r.accessFlags Acc.public_ = true := Cond.publicMethod_spec hn hrm hpubO
  obtain ⟨cI, kL, r1, hcI, hkL, hiL, hfoundL, hn1⟩ := Cond.interfaceMethod_spec hface
  cases hn.symm.trans hn1
  obtain ⟨kL', hkL', hnameL⟩ := Vm.findClass_spec hcI
  cases hkL.symm.trans hkL'
  obtain ⟨hrn, hrd⟩ := name_of_methodNamed hn hrm
  have hpolyL : ∀ y, signaturePolymorphic kL y = false := fun y => by simp [signaturePolymorphic, hnameL, hx.1, hx.2]
  have hnone : kL.findMethod x.name x.desc = none := by
    cases hj : kL.findMethod x.name x.desc with
    | none => rfl
    | some j =>
      exfalso
      have hsome : (kL.methods[j]?).isSome := by
        obtain ⟨hlt, -, -⟩ := Array.findIdx?_eq_some_iff_getElem.mp hj
        simp [hlt]
      have h2 := State.methodFound?_declared hcI hkL hpolyL hj hsome
      rw [hfoundL] at h2
      have e1 : r0 = ⟨cI, j⟩ := Option.some.inj h2
      have e2 : r0.cls = cI := by rw [e1]
      rw [e2] at hok
      cases hkL.symm.trans hok
      exact hxo (hnameL.symm.trans hokname)
  obtain ⟨ci, hl, hright⟩ := Cond.methodLink_specFF hown hcI hkL hiL hnone hfoundL hok hmO hpubR hx hlink e.platform hpl
  have hE : s.MethodEntryUp e T.vm m.cls index cI r0 ci := State.methodEntryFF X.warmed hl hright
  obtain ⟨dk', cfile, nt, _, _, ck, _, _, hd', hcf, hcp, -, -, -, hck, hvia, -⟩ := hl.here
  cases hkL.symm.trans hck
  cases hd.symm.trans hd'
  obtain ⟨c2, r2, m2, rm, q1, q2, q3, q5, q4, ⟨kP, hkP, hkPi⟩, q6, -⟩ := Cond.landsInDefault_spec hsel
  cases hcI.symm.trans q1
  cases hfoundL.symm.trans q2
  cases hn.symm.trans q3
  cases hrm.symm.trans q5
  cases hok.symm.trans hkP
  have hfound0 : lookupSpecial s.vm cI r.name r.desc = .method r0 := lookupSpecial_sel hkL hiL (by rw [hrn, hrd]; exact hnone) hrm hpubR hstR hpriv hok hkPi q6 q4 rfl
  have alike := hE.warmed.alike
  obtain ⟨dk₂, hdk₂, hed⟩ := alike.2.2 _ _ hd
  obtain ⟨ck₂, hck₂, hec⟩ := alike.2.2 _ _ hkL
  obtain ⟨ok₂, hok₂, -⟩ := alike.2.2 _ _ hok
  obtain ⟨kcell₂, hkcell₂, -⟩ := alike.2.2 _ _ hkcell
  subst hg
  have hm' : (T.setVm (T.vm.calledUp g.method.cls ci index cI r0)).vm.method? r0 = some r := hE.warmed.methodAt hrm
  have hfound' : lookupSpecial (T.setVm (T.vm.calledUp g.method.cls ci index cI r0)).vm
      (if r.name != "<init>" && !ck₂.isInterface && (cI != g.method.cls && (T.setVm (T.vm.calledUp g.method.cls ci index cI r0)).vm.isSubclass g.method.cls cI) then dk₂.super.getD cI else cI) r.name r.desc = .method r0 := by
    have hi2 : ck₂.isInterface = true := by rw [hec]; exact hiL
    rw [hi2]
    simp only [Bool.not_true, Bool.and_false, Bool.false_and, Bool.false_eq_true, if_false]
    rw [show lookupSpecial (T.setVm (T.vm.calledUp g.method.cls ci index cI r0)).vm = lookupSpecial s.vm from funext fun _ => funext fun _ => funext fun _ => alike.lookupSpecial _ _ _]
    exact hfound0
  refine ⟨T.vm.calledUp g.method.cls ci index cI r0, X.noted hE.warmed, fun target hrest => ?_⟩
  jvm_step X.here [hexec, hdg, sp_cold (e := e) (s := T) (s₀ := s) (f := g) X.here.top hE hd hcf hcp hrm,
    sp_ready (e := e) (s := T.setVm (T.vm.calledUp g.method.cls ci index cI r0)) (index := index) (ci := ci) (nt := nt) (a := a) (m := r0) (named := cI)
      (ck := dk₂) (nk := ck₂) (mk := ok₂) (cf := cfile) (meth := r) (args := argsL) (rest := rest) (cell := cell) (kcell := kcell₂) (f := g)
      X.here.top hE.ready hm' hdk₂ (by rw [hed]; exact hcf) hcp hE.classReady hck₂ (by rw [hrn]; simp [hno]) hstR hfound' (by rw [hed]; exact hnid) hok₂ habs hlen hstack hcell hobj hkcell₂]
  intro acts1
  rw [doInvoke_state]
  exact hrest
