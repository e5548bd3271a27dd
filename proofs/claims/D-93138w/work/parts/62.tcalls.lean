set_option maxRecDepth 100000
set_option maxHeartbeats 4000000
/-! CALLS OF THINGS: super, an interface's default by super (of an interface of which nobody says that it is initialised), inherited, by an interface that inherits the method; all of methods that may throw -/
/-! a callee whose class need not be initialised: vx_Met, vx_back with that word left out -/
def tu_Met (l : Launch) (y : MethodName) (ws : List Cond) (rm : Room) (Pc : Array Value → State → Prop) (Qc : Array Value → State → Outcome → State → Prop) (XC : String → Addr → State → State → Prop) (mc ms : Nat) (free : Addr → Prop) : Prop :=
  ∀ (p : Program) (e : Env), l.admits e → FairCas e.choices → FairClock e.choices → ∀ (s : State) (m : MethodId) (args : Array Value) (below : List Frame), s.frames = .invoking m args :: below → s.status = .running → s.curStatus? = some .runnable → s.alone = true → s.methodNamed? y = some m → s.hears m below = true → s.hasRoom e.platform rm = true → (headSpec ws rm).pre.before args s = true → Pc args s →
    ∃ n o, (∀ k, k < n → Within (stepsAlone p.tables e k s) below) ∧ (stepsAlone p.tables e n s).status = .running ∧ Ended (stepsAlone p.tables e n s) below o ∧ vx_Q Qc XC mc ms free args s o (stepsAlone p.tables e n s)
theorem tu_call {l : Launch} {y : MethodName} {ws : List Cond} {rm : Room} {Pc : Array Value → State → Prop} {Qc : Array Value → State → Outcome → State → Prop} {XC : String → Addr → State → State → Prop} {mc ms : Nat} {free : Addr → Prop} {e : Env} (hM : tu_Met l y ws rm Pc Qc XC mc ms free) (p : Program) (ha : l.admits e) (hc : FairCas e.choices) (hk : FairClock e.choices)
    {s : State} {m : MethodId} {args : Array Value} {acts : List Action} {mid below : List Frame}
    (hfr : s.frames = mid ++ below) (hrun : (s.pushFrame (.invoking m args)).status = .running) (hable : (s.pushFrame (.invoking m args)).curStatus? = some .runnable) (halone : (s.pushFrame (.invoking m args)).alone = true) (hname : (s.pushFrame (.invoking m args)).methodNamed? y = some m) (hhears : (s.pushFrame (.invoking m args)).hears m s.frames = true) (hroom : (s.pushFrame (.invoking m args)).hasRoom e.platform rm = true) (hpre : (headSpec ws rm).pre.before args (s.pushFrame (.invoking m args)) = true) (hP : Pc args (s.pushFrame (.invoking m args))) (hlt9 : s.cur < s.threads.size) :
    ∃ o s₂, Steps p.tables e below (doInvoke e s acts m args).1 s₂ ∧ s₂.status = .running ∧ Ended s₂ s.frames o ∧ vx_Q Qc XC mc ms free args (s.pushFrame (.invoking m args)) o s₂ := by
  obtain ⟨t, ht⟩ : ∃ t, s.threads[s.cur]? = some t := ⟨_, Array.getElem?_eq_getElem hlt9⟩
  have hf' : (s.pushFrame (.invoking m args)).frames = .invoking m args :: s.frames := State.frames_setFrames _ hlt9
  have hgo : (s.pushFrame (.invoking m args)).goesOn := ⟨hrun, hable, halone⟩
  obtain ⟨n, o, hw, hr, he, hp⟩ := hM p e ha hc hk (s.pushFrame (.invoking m args)) m args s.frames hf' hrun hable halone hname hhears hroom hpre hP
  have hstep : (stepThread p.tables e (s.pushFrame (.invoking m args))).1 = (doInvoke e s acts m args).1 := by
    rw [stepThread_invoking hf', doInvoke_state e s acts, State.pushFrame, State.setFrames_setFrames, State.setFrames_self ht]
  cases n with
  | zero => exact absurd ⟨[.invoking m args], hf', by simp, by simp⟩ he.not_within
  | succ k =>
    rw [stepsAlone_succ _ hgo, hstep] at hr he hp
    refine ⟨o, _, ⟨k, rfl, fun j hj => ?_⟩, hr, he, hp⟩
    have := hw (j + 1) (by omega)
    rw [stepsAlone_succ _ hgo, hstep, hfr] at this
    exact this.weaken
section
variable {l : Launch} {R : Room} {p : Program} {e : Env} {below : List Frame} {s : State} {sargs : Array Value} {y : MethodName} {len W9 : Nat}
theorem tu_back {ws : List Cond} {rm : Room} {Pc : Array Value → State → Prop} {Qc : Array Value → State → Outcome → State → Prop} {XC : String → Addr → State → State → Prop} {mc ms : Nat} {free : Addr → Prop} {bytes : ByteArray} {maxL : Nat} {ret : Option FieldType}
    (hM : tu_Met l y ws rm Pc Qc XC mc ms free) (hblind : FrameBlind Pc) (hrc : rm.cells = mc) (hrs : rm.slots = ms)
    (hframes : rm.frames + 1 ≤ R.frames) (hlocals : W9 + (maxL + 11) + rm.locals ≤ R.locals)
    (hws : ∀ w ∈ ws, ∀ a' U, s.WarmedH U.vm → w.before a' U = true) (hcode : Cond.code y bytes maxL ret ∈ ws) :
    vx_Back l R p e below s sargs y len W9 (PreOf R mc ms Pc) (PostOf Qc mc ms free) (vx_Post XC mc ms free) := by
  intro m meth c A g ig mk a X hg hsize hdg hW hn hp
  have h1 : (headSpec ws rm).pre.before a A.U = true := atoms_intro fun w hw => hws w hw _ _ X.warmed
  have h2 : (Cond.code y bytes maxL ret).before a A.U = true := hws _ hcode _ _ X.warmed
  have h4 : A.cells + (headSpec ws rm).room.cells ≤ R.cells := by rw [show (headSpec ws rm).room.cells = mc from hrc]; exact hp.1
  have h5 : A.slots + (headSpec ws rm).room.slots ≤ R.slots := by rw [show (headSpec ws rm).room.slots = ms from hrs]; exact hp.2.1
  have hPc : Pc a (A.U.calling g mk a) := hblind _ _ _ _ hp.2.2
  obtain ⟨U, Ls, c0, s0⟩ := A
  dsimp only [Pt.U, Pt.locs, Pt.cells, Pt.slots] at h1 h2 h4 h5 X hn hPc ⊢
  obtain ⟨methY, cY, hmY, hcY, -, hlY, -, -, -, -⟩ := Cond.code_spec hn h2
  have h : At U g.method c below := by rw [hg]; exact X.here
  have hlocals9 : W9 + (maxL + 11) + (headSpec ws rm).room.locals ≤ R.locals := hlocals
  have hcode : (U.calling g mk a).code? g.method = some c := by
    have := h.code
    rw [State.code?_eq] at this ⊢
    simpa [State.calling, State.pushFrame, State.setFrames] using this
  have happ := (show (U.calling g mk a).status = .running ∧ (U.calling g mk a).curStatus? = some .runnable ∧ (U.calling g mk a).alone = true ∧ (U.calling g mk a).methodNamed? y = some mk ∧ (U.calling g mk a).hears mk (.java g :: U.frames.tail) = true ∧ (U.calling g mk a).hasRoom e.platform rm = true ∧ (headSpec ws rm).pre.before a (U.calling g mk a) = true from
    ⟨h.running, by simpa [State.calling] using h.runnable, by simpa [State.calling] using h.alone, hn, by simp [State.hears, hcode, hdg, Except.toOption],
      X.room_calling (g := g) (R' := (headSpec ws rm).room) hsize hmY hcY hframes (by rw [hlY]; omega) h4 h5, by rw [State.calling_eq h.top, Cond.before_setFrames]; exact h1⟩)
  obtain ⟨mid, hmid⟩ := h.above
  have hfr : (U.setTop g).frames = (.java g :: mid) ++ below := by rw [State.frames_setTop' g h.top, hmid]; rfl
  obtain ⟨o, s₂, hsteps, -, hend, hq⟩ := tu_call hM p X.admits X.cas X.clock (acts := []) hfr happ.1 happ.2.1 happ.2.2.1 happ.2.2.2.1 (by rw [State.frames_setTop' g h.top]; exact happ.2.2.2.2.1) happ.2.2.2.2.2.1 happ.2.2.2.2.2.2 hPc (State.cur_lt_of_top (by rw [State.topJava?_of_frames (State.frames_setTop' g h.top)]; rfl))
  have hq' : vx_Q Qc XC mc ms free a (U.calling g mk a) o s₂ := hq
  rw [State.frames_setTop' g h.top] at hend
  obtain ⟨g₀, hg0⟩ := Option.isSome_iff_exists.mp h.top
  obtain ⟨r, hr⟩ := State.topJava?_eq_some.mp hg0
  have hr' : (({ U with heap := s₂.heap, slotsUsed := s₂.slotsUsed } : State).setVm s₂.vm).frames = .java g₀ :: r := hr
  rcases hq' with ⟨hqc, L, hfe, hL⟩ | ⟨q, rfl, E, ce, L, hx, hce, hcv, hcl, hW₂, hsm, hL⟩
  · obtain ⟨⟨v, rfl⟩, hW₂, e2, q2, q3, q4, q5, q6⟩ := id hfe
    have e3 : s₂ = ({ (U.calling g mk a).setFrames s₂.frames with heap := s₂.heap, slotsUsed := s₂.slotsUsed } : State).setVm s₂.vm := by
      have : s₂ = ({ s₂ with vm := (U.calling g mk a).vm } : State).setVm s₂.vm := rfl
      rw [e2] at this
      exact this
    obtain ⟨c₂, i₂, len₂, hc₂, hd₂, hf₂⟩ := hend
    have hW' : U.WarmedH s₂.vm := hW₂
    have hcc : c₂ = c := by
      have h1 : s₂.code? g.method = U.code? g.method := by
        rw [State.code?_eq, State.code?_eq, hW'.alike.method?]
      exact Option.some.inj (hc₂.symm.trans (h1.trans h.code))
    subst hcc
    have hlen : len₂ = len := by rw [hdg] at hd₂; cases hd₂; rfl
    subst hlen
    have hs₂ : s₂ = (({ U with heap := s₂.heap, slotsUsed := s₂.slotsUsed } : State).setVm s₂.vm).setTop { g with pc := g.pc + len₂, stack := v.toList ++ g.stack } := by
      refine e3.trans ?_
      rw [hf₂, State.calling_eq h.top, State.setFrames_setFrames, State.setTop_of_frames _ hr', hr]
      rfl
    have hsame : U.sameButNew ({ U with heap := s₂.heap, slotsUsed := s₂.slotsUsed } : State) L mc ms := by
      refine ⟨?_, q2, q3, q4, q5, q6⟩
      obtain ⟨t, ht, -⟩ := State.frames_cons hr
      show ({ U with heap := s₂.heap, slotsUsed := s₂.slotsUsed } : State) = { U.setFrames U.frames with heap := s₂.heap, slotsUsed := s₂.slotsUsed }
      rw [State.setFrames_self ht]
    subst hg
    refine Or.inl ⟨v, ⟨(({ U with heap := s₂.heap, slotsUsed := s₂.slotsUsed } : State).setVm s₂.vm), Ls ++ L, c0 + mc, s0 + ms⟩,
      ⟨X.admits, X.cas, X.clock, X.frames, X.room, X.hears, X.method, X.code, (X.here.setHeapUsed s₂.heap s₂.slotsUsed).setVm hW'.alike, X.tail, State.WarmedH.trans X.warmed hW', X.limits, X.bytes, X.same.trans (hsame.setVm s.vm)⟩,
      ⟨g, mk, s₂, L, rfl, rfl, hqc, rfl, hL, rfl, rfl⟩, ?_⟩
    show Steps p.tables e below _ ((({ U with heap := s₂.heap, slotsUsed := s₂.slotsUsed } : State).setVm s₂.vm).setTop { g with pc := g.pc + len₂, stack := v.toList ++ g.stack })
    rw [← hs₂]
    exact hsteps
  · obtain ⟨e2, q2, q3, q4, q5, q6⟩ := id hsm
    have e3 : s₂ = ({ (U.calling g mk a).setFrames s₂.frames with heap := s₂.heap, slotsUsed := s₂.slotsUsed } : State).setVm s₂.vm := by
      have : s₂ = ({ s₂ with vm := (U.calling g mk a).vm } : State).setVm s₂.vm := rfl
      rw [e2] at this
      exact this
    have hf₂ : s₂.frames = .throwing q :: .java g :: U.frames.tail := hend
    have hW' : U.WarmedH s₂.vm := hW₂
    have hs₂ : s₂ = ((({ U with heap := s₂.heap, slotsUsed := s₂.slotsUsed } : State).setVm s₂.vm).setTop g).pushFrame (.throwing q) := by
      refine e3.trans ?_
      rw [hf₂, State.calling_eq h.top, State.setFrames_setFrames, State.pushFrame, State.frames_setTop _ hr', State.setTop_of_frames _ hr', State.setFrames_setFrames, hr]
      rfl
    have hsame : U.sameButNew ({ U with heap := s₂.heap, slotsUsed := s₂.slotsUsed } : State) L mc ms := by
      refine ⟨?_, q2, q3, q4, q5, q6⟩
      obtain ⟨t, ht, -⟩ := State.frames_cons hr
      show ({ U with heap := s₂.heap, slotsUsed := s₂.slotsUsed } : State) = { U.setFrames U.frames with heap := s₂.heap, slotsUsed := s₂.slotsUsed }
      rw [State.setFrames_self ht]
    subst hg
    refine Or.inr ⟨q, ⟨(({ U with heap := s₂.heap, slotsUsed := s₂.slotsUsed } : State).setVm s₂.vm), Ls ++ L, c0 + mc, s0 + ms⟩,
      ⟨X.admits, X.cas, X.clock, X.frames, X.room, X.hears, X.method, X.code, (X.here.setHeapUsed s₂.heap s₂.slotsUsed).setVm hW'.alike, X.tail, State.WarmedH.trans X.warmed hW', X.limits, X.bytes, X.same.trans (hsame.setVm s.vm)⟩,
      ⟨g, mk, s₂, L, E, ce, rfl, rfl, hx, hce, hcv, hcl, rfl, hL, rfl, rfl⟩, ?_⟩
    show Steps p.tables e below _ (((({ U with heap := s₂.heap, slotsUsed := s₂.slotsUsed } : State).setVm s₂.vm).setTop g).pushFrame (.throwing q))
    rw [← hs₂]
    exact hsteps
end
def tu_Ct (y : MethodName) (cc : ByteArray) (nL : Nat) (ret : Option FieldType) (fr lo : Nat) (al : List Value) (h : hh_T) (Qp : Option Value → hh_T → Prop) (Xp : String → Option Nat → hh_T → Prop) (mc ms : Nat) : Prop :=
  ∀ (l : Launch) (G : hh_G) (φ0 : Nat → Nat) (sz : Nat), l.stackTraces = false → tu_Met l y (ws_ y cc nL ret) ({ frames := fr, cells := mc, slots := ms, locals := lo }) (hh_Pc G φ0 sz al h) (hh_QM G (va_A (hh_ws G.2 φ0 h) sz) φ0 (hhN h) Qp) (hh_XM G (va_A (hh_ws G.2 φ0 h) sz) φ0 (hhN h) Xp) mc ms (va_A (hh_ws G.2 φ0 h) sz)
/-- from a walk to the contract -/
theorem tu_of {y : MethodName} {cc : ByteArray} {nL : Nat} {ret : Option FieldType} {fr lo : Nat} {al : List Value} {h : hh_T} {Qp : Option Value → hh_T → Prop} {Xp : String → Option Nat → hh_T → Prop} {mc ms : Nat} {own : String} (hown : y.cls = own) (hy : plainName y.cls = true) (hn : (lg_sl al).length ≤ nL)
    (kk : ∀ X : hh_CX, hh_C X cc own ({ frames := fr, cells := mc, slots := ms, locals := lo }) → hh_nL X = nL → hh_EX X ret Qp Xp mc ms → hh_XT X [] → hh_V X 0 (lv_args 0 al) [] 0 0 h) : tu_Ct y cc nL ret fr lo al h Qp Xp mc ms := by
  intro l G φ0 sz hlt p e ha hc hk s m args below hf hrun hable halone hname hhears hroom hpre hP
  have hts0 := atoms_spec (ws := ws_ y cc nL ret) hpre
  have hts : ∀ w ∈ lw_all, w.before _ s = true := fun w h => hts0 w (List.mem_cons_of_mem _ h)
  obtain ⟨meth, c, hmeth, hcode, hbytes, hlocals, hret, hlocks, htab, -⟩ := Cond.code_spec hname (hts0 _ List.mem_cons_self)
  obtain ⟨rfl, hsz, hW, hD0, hok, hS, hXx⟩ := hP
  have hcur := State.cur_lt_of_frames hf
  generalize hav : (al.map (hh_tv φ0)).toArray = av at *
  have hf1 : (s.setFrames (.java (entryFrame m av nL) :: below)).frames = .java (entryFrame m av nL) :: below := State.frames_setFrames _ hcur
  have ht1 := State.topJava?_of_frames hf1
  have hplain : (s.setFrames (.java (entryFrame m av nL) :: below)).plainMethod m := by
    refine State.plainMethod.of_name ?_
    intro k hk
    obtain ⟨k', hk', hn9⟩ := className_of_methodNamed hname
    cases (show s.vm.classes[m.cls]? = some k from hk).symm.trans hk'
    rw [hn9]; exact hy
  have hAt : At (s.setFrames (.java (entryFrame m av nL) :: below)) m c below :=
    ⟨by rw [ht1]; rfl, ⟨[], by rw [hf1]; rfl⟩, hrun, by simpa using hable, by simpa using halone,
      by rw [State.code?_eq]; simp [State.setFrames, hmeth, hcode], hplain⟩
  obtain ⟨t0, ht0, -⟩ := State.frames_cons hf
  have hSt : Stand p l e ({ frames := fr, cells := mc, slots := ms, locals := lo }) s m av below meth c (s.setFrames (.java (entryFrame m av nL) :: below)) [] 0 0 :=
    ⟨ha, hc, hk, hf, hroom, hhears, hmeth, hcode, hAt, by rw [hf1]; rfl, State.WarmedH.refl s, by rw [State.stackLimits_setFrames], by rw [State.stackBytes_setFrames], (State.sameButNew.refl s ht0).setFrames (.java (entryFrame m av nL) :: below) hcur⟩
  subst hsz
  have hfc : s.vm.findClass own = some m.cls := by rw [← hown]; exact findClass_of_methodNamed hname
  have htb : c.exceptionTable.toList = [] := by rw [Array.isEmpty_iff.mp htab]
  have K := kk (p, l, e, _, s, m, _, below, meth, c, G, va_A (hh_ws G.2 φ0 h) s.heap.size, φ0, hhN h, nL, _) ⟨by cases p <;> rfl, hbytes, hlocals, hfc, hts, hS, fun q hq => Or.inr hq, rfl, hlocks, hXx, hlt⟩ rfl ⟨rfl, hret⟩ htb
  have hl := lv_entry (al.map (hh_tv φ0)) (n := nL) (by rw [hh_sl_len]; exact hn)
  have K2 := K φ0 s.heap [] (entryFrame m av nL).locals (fun _ _ => rfl) (Nat.le_refl _) hW hD0.self va_S.rf (by
    rw [hh_args_tl] at hl
    rw [← hav, lg_entry_eq]
    exact hl) (hh_okargs al 0 hok) trivial
  obtain ⟨s₂, hs, o, hr, he, hp⟩ := K2 (s.setFrames (.java (entryFrame m av nL) :: below)) rfl hSt
  have hstep : (stepThread p.tables e s).1 = (s.setFrames (.java (entryFrame m av nL) :: below)).setTop (entryFrame m av nL) := by
    have hfull : e.platform.stackFull (s.setFrames below).me (s.setFrames below).frames c.maxLocals = false := by
      obtain ⟨-, h1, -, h2⟩ := State.hasRoom_stack hroom
      rw [hf, List.length_cons] at h1
      rw [State.localsInUse_invoking hf hmeth hcode] at h2
      have hw := stackUse_le_stackWeight below
      rw [State.frames_setFrames _ hcur]
      exact Platform.stackFull_eq_false (by rw [State.stackLimits_setFrames]; omega) (by rw [State.stackLimits_setFrames]; omega)
    rw [stepThread_invoking hf, (doInvoke_java (s := s.setFrames below) (e := e) (meth := meth) (code := c) hmeth hcode hlocks hfull).1, State.setTop_self ht1]
    simp only [State.pushFrame, State.frames_setFrames _ hcur, State.setFrames_setFrames, hlocals, entryFrame]
  have hs2 : Steps p.tables e below ((s.setFrames (.java (entryFrame m av nL) :: below)).setTop (entryFrame m av nL)) s₂ := by
    have e1 : F0 m 0 (entryFrame m av nL).locals (([] : List Value).map (hh_tv φ0)) = entryFrame m av nL := rfl
    rw [← e1]
    exact hs
  obtain ⟨n, hn3, hw⟩ := Steps.head (tb := p.tables) (e := e) ⟨hrun, hable, halone⟩ ⟨[.invoking m av], hf, by simp, by simp⟩ (hstep ▸ hs2)
  exact ⟨n, o, hw, hn3 ▸ hr, hn3 ▸ he, hn3 ▸ hp⟩
/-! the step of a call: which method runs, on what -/
def tw_St (p : Program) (l : Launch) (e : Env) (R : Room) (s : State) (m : MethodId) (args : Array Value) (below : List Frame) (meth : Method) (c : Code) (H : Heap) (locs : List Loc) (cells slots : Nat) (g : JFrame) (rest : List Value) (y : MethodName) (av : Array Value) : Prop :=
  ∀ T : State, T.heap = H → Stand p l e R s m args below meth c T locs cells slots → ∃ (mk : MethodId) (vm₁ : Vm), Stand p l e R s m args below meth c (T.setVm vm₁) locs cells slots ∧ s.methodNamed? y = some mk ∧ ∀ target, Steps p.tables e below (doInvoke e ((T.setVm vm₁).setTop { g with stack := rest }) [] mk av).1 target → Steps p.tables e below (T.setTop g) target
section
variable {p : Program} {l : Launch} {e : Env} {R : Room} {s : State} {m : MethodId} {args : Array Value} {below : List Frame} {meth : Method} {c : Code} {H : Heap} {locs : List Loc} {cells slots : Nat}
theorem tw_run {y : MethodName} {mc ms : Nat} {Pc : Array Value → State → Prop} {Qc : Array Value → State → Outcome → State → Prop} {XC : String → Addr → State → State → Prop} {free : Addr → Prop} {av : Array Value} {rest : List Value} {g : JFrame} {op : Instr}
    (hK : vx_Back l R p e below s args y 3 8 (PreOf R mc ms Pc) (PostOf Qc mc ms free) (vx_Post XC mc ms free)) (hPc : ∀ U : State, U.heap = H → s.WarmedH U.vm → Pc av U)
    (hg : g.method = m) (hsize : g.locals.size = c.maxLocals) (hW : 2 * g.monitorRoom + (rest.map fun v => v.category).sum ≤ 8) (hdg : decode c.code g.pc = .ok (op, 3)) (hf : cells + mc ≤ R.cells ∧ slots + ms ≤ R.slots) (hst : tw_St p l e R s m args below meth c H locs cells slots g rest y av) :
    vx_Run p l e R s m args below meth c H locs cells slots mc ms g rest (Qc av) XC free := by
  intro T hT X
  obtain ⟨mk, vm₁, X₁, hnamed, hstep⟩ := hst T hT X
  rcases hK m meth c ⟨T.setVm vm₁, locs, cells, slots⟩ { g with stack := rest } op mk av X₁ hg hsize hdg hW (X₁.named hnamed) ⟨hf.1, hf.2, hPc (T.setVm vm₁) hT X₁.warmed⟩ with ⟨v, ⟨U', l2, c2, s2⟩, X', ⟨g', mk2, t, L, e1, e2, hq, h1, hL, h2, h3⟩, st⟩ | ⟨q, ⟨U', l2, c2, s2⟩, X', ⟨g', mk2, t, L, E, ce, e1, e2, hq, hce, hcv, hcl, h1, hL, h2, h3⟩, st⟩
  · dsimp only [Pt.U, Pt.locs, Pt.cells, Pt.slots] at X' e1 e2 h1 h2 h3 st
    subst h1; subst h2; subst h3
    exact Or.inl ⟨v, (T.setVm vm₁).calling g' mk2 av, t, U', L, hT, X', hL, e1, e2, hq, fun target h => hstep _ (st.trans h)⟩
  · dsimp only [Pt.U, Pt.locs, Pt.cells, Pt.slots] at X' e1 e2 h1 h2 h3 st hcl
    subst h1; subst h2; subst h3
    exact Or.inr ⟨q, (T.setVm vm₁).calling g' mk2 av, t, U', L, E, ce, hT, X', hL, e1, e2, hq, hce, hcv, vx_cls X₁.warmed hcl, hstep _ st⟩
theorem tw_run5 {y : MethodName} {mc ms : Nat} {Pc : Array Value → State → Prop} {Qc : Array Value → State → Outcome → State → Prop} {XC : String → Addr → State → State → Prop} {free : Addr → Prop} {av : Array Value} {rest : List Value} {g : JFrame} {op : Instr}
    (hK : vx_Back l R p e below s args y 5 8 (PreOf R mc ms Pc) (PostOf Qc mc ms free) (vx_Post XC mc ms free)) (hPc : ∀ U : State, U.heap = H → s.WarmedH U.vm → Pc av U)
    (hg : g.method = m) (hsize : g.locals.size = c.maxLocals) (hW : 2 * g.monitorRoom + (rest.map fun v => v.category).sum ≤ 8) (hdg : decode c.code g.pc = .ok (op, 5)) (hf : cells + mc ≤ R.cells ∧ slots + ms ≤ R.slots) (hst : tw_St p l e R s m args below meth c H locs cells slots g rest y av) :
    vx_Run5 p l e R s m args below meth c H locs cells slots mc ms g rest (Qc av) XC free := by
  intro T hT X
  obtain ⟨mk, vm₁, X₁, hnamed, hstep⟩ := hst T hT X
  rcases hK m meth c ⟨T.setVm vm₁, locs, cells, slots⟩ { g with stack := rest } op mk av X₁ hg hsize hdg hW (X₁.named hnamed) ⟨hf.1, hf.2, hPc (T.setVm vm₁) hT X₁.warmed⟩ with ⟨v, ⟨U', l2, c2, s2⟩, X', ⟨g', mk2, t, L, e1, e2, hq, h1, hL, h2, h3⟩, st⟩ | ⟨q, ⟨U', l2, c2, s2⟩, X', ⟨g', mk2, t, L, E, ce, e1, e2, hq, hce, hcv, hcl, h1, hL, h2, h3⟩, st⟩
  · dsimp only [Pt.U, Pt.locs, Pt.cells, Pt.slots] at X' e1 e2 h1 h2 h3 st
    subst h1; subst h2; subst h3
    exact Or.inl ⟨v, (T.setVm vm₁).calling g' mk2 av, t, U', L, hT, X', hL, e1, e2, hq, fun target h => hstep _ (st.trans h)⟩
  · dsimp only [Pt.U, Pt.locs, Pt.cells, Pt.slots] at X' e1 e2 h1 h2 h3 st hcl
    subst h1; subst h2; subst h3
    exact Or.inr ⟨q, (T.setVm vm₁).calling g' mk2 av, t, U', L, E, ce, hT, X', hL, e1, e2, hq, hce, hcv, vx_cls X₁.warmed hcl, hstep _ st⟩
end
/-! .. over the abstract heap -/
def tw_SV : hh_CX → Nat → List Value → List Value → Nat → Nat → hh_T → MethodName → List Value → Prop
  | (p, l, e, R, s, m, args, below, meth, c, G, _, _, _, _, _), pc, st0, st, z, k, h, y, av => ∀ (φ : Nat → Nat) (H : Heap) (locs : List Loc) (ls : Array Slot), hh_W G φ h H → tw_St p l e R s m args below meth c H locs z k (F0 m pc ls (st0.map (hh_tv φ))) (st.map (hh_tv φ)) y (av.map (hh_tv φ)).toArray
theorem tw_priv {args : Array Value} {s : State} {cls : String} {x y : MethodName} (h : (Cond.landsInDefault cls x y).before args s = true) {r : MethodId} {rm : Method} (hr : s.methodFound? x.cls x.name x.desc = some r) (hrm : s.vm.method? r = some rm) : rm.isPrivate = false := by
  simp only [Cond.before, Cond.holds, Cond.value] at h
  cases hc : s.vm.findClass cls with
  | none => simp [hc] at h
  | some c =>
  cases hm : s.methodNamed? y with
  | none => simp [hc, hr, hm] at h
  | some m =>
  simp only [hc, hr, hm, hrm, Option.map_some, beq_iff_eq, Option.some.injEq] at h
  split at h
  · simp only [Bool.and_eq_true, decide_eq_true_eq, Bool.not_eq_true'] at h
    exact h.1.1.2
  · cases h
theorem tw_sub {args : Array Value} {s : State} {A C : String} {a c : ClassId} (ha : s.vm.findClass A = some a) (hc : s.vm.findClass C = some c) (h : A = C ∨ (Cond.superclass A C).before args s = true ∨ ∃ B, (Cond.superclass A B).before args s = true ∧ (Cond.superclass B C).before args s = true) : s.vm.isSubclass a c = true := by
  by_cases e1 : a = c
  · subst e1; simp [Vm.isSubclass, Vm.isSubclassAux]
  rcases h with rfl | h | ⟨B, h1, h2⟩
  · exact absurd (Option.some.inj (ha.symm.trans hc)) e1
  · obtain ⟨p, k, kp, q1, q2, q3, q4, -⟩ := Cond.superclass_spec ha h
    cases hc.symm.trans q1
    have hp : 0 < s.vm.classes.size := Nat.lt_of_le_of_lt (Nat.zero_le _) (Array.getElem?_eq_some_iff.mp q2).1
    obtain ⟨n, hn⟩ : ∃ n, s.vm.classes.size = n + 1 := ⟨s.vm.classes.size - 1, by omega⟩
    unfold Vm.isSubclass
    rw [hn]
    simp [Vm.isSubclassAux, q2, q4]
  · obtain ⟨b, k, kp, q1, q2, q3, q4, -⟩ := Cond.superclass_spec ha h1
    obtain ⟨c2, k2, kp2, r1, r2, r3, r4, -⟩ := Cond.superclass_spec q1 h2
    cases hc.symm.trans r1
    have u1 : a < s.vm.classes.size := (Array.getElem?_eq_some_iff.mp q2).1
    have u2 : c < s.vm.classes.size := (Array.getElem?_eq_some_iff.mp r3).1
    have u3 : 2 ≤ s.vm.classes.size := Nat.le_of_not_lt fun z => e1 ((Nat.lt_one_iff.mp (Nat.lt_of_lt_of_le u1 (Nat.le_of_lt_succ z))).trans (Nat.lt_one_iff.mp (Nat.lt_of_lt_of_le u2 (Nat.le_of_lt_succ z))).symm)
    obtain ⟨n, hn⟩ : ∃ n, s.vm.classes.size = n + 2 := ⟨s.vm.classes.size - 2, by omega⟩
    unfold Vm.isSubclass
    rw [hn]
    simp [Vm.isSubclassAux, q2, q4, r2, r4]
theorem tw_len {φ : Nat → Nat} {al : List Value} {n : Nat} {d : String} {sig : MethodDescriptor} (hn : (parseMethodDescriptor d).map (fun d => d.parameters.length) = some n) (hlen : al.length = n) (h : parseMethodDescriptor d = some sig) : (al.map (hh_tv φ)).length = sig.parameters.length := by
  rw [h] at hn
  rw [List.length_map, hlen]
  exact (Option.some.inj hn).symm
/-- super.m(..): of the class above, or of one above that -/
theorem tw_super {X : hh_CX} {cc : ByteArray} {own : String} {rm : Room} {pc : Nat} {st0 st al : List Value} {z k : Nat} {h : hh_T} (hX : hh_C X cc own rm) {x y : MethodName} {cy : ByteArray} {nY idx r ci n : Nat} {ret : Option FieldType} {q : vw_C} (hd : decode cc pc = .ok (.invokespecial idx, 3)) (hl : Cond.methodLink own idx x ∈ lw_all) (hsame : Cond.sameMethod x.cls y.cls x.name x.desc ∈ lw_all) (hxy : y.name = x.name ∧ y.desc = x.desc) (hsup : Cond.superclass own x.cls ∈ lw_all) (hup : x.cls = y.cls ∨ Cond.superclass x.cls y.cls ∈ lw_all ∨ ∃ B, Cond.superclass x.cls B ∈ lw_all ∧ Cond.superclass B y.cls ∈ lw_all) (hi : Cond.instanceMethod y ∈ lw_all) (hc : Cond.code y cy nY ret ∈ lw_all) (hno : x.name ≠ "<init>") (hn : (parseMethodDescriptor x.desc).map (fun d => d.parameters.length) = some n) (hlen : al.length = n) (hci : hh_cl[ci]? = some q) (hc1 : ci < 100) (hrr : r < hhN h) (hK : hhK h r = ci) (hst : st0 = al.reverse ++ .ref r :: st) : tw_SV X pc st0 st z k h y (.ref r :: al) := by
  obtain ⟨p, l, e, R, s, m, args, below, meth, c, G, A, φ0, n0, nL, Q⟩ := X
  intro φ H locs ls h3 T hT Y
  subst hst
  have hts := hX.2.2.2.2.1
  have hS := hX.2.2.2.2.2.1
  have hown : s.vm.findClass own = some m.cls := hX.2.2.2.1
  obtain ⟨cellB, hcB, hoB, hclB⟩ := va_recv hS.1 h3.1 (q0 := r) hci (by rw [hh_ws_at hrr, hh_cell_o hK hc1])
  obtain ⟨kB, hkB, -⟩ := Vm.findClass_spec hclB
  obtain ⟨mk, methM, hnamed, hmethM, hstM, habM⟩ := Cond.instanceMethod_spec (hts _ hi)
  obtain ⟨methM', cM, hmethM', -, -, -, -, -, -, hsigM⟩ := Cond.code_spec hnamed (hts _ hc)
  cases hmethM.symm.trans hmethM'
  obtain ⟨ps, dk, kp, hps, hdk, hkp, hsuper, -, -, hnid⟩ := Cond.superclass_spec hown (hts _ hsup)
  have hn1 : s.methodNamed? ⟨y.cls, x.name, x.desc⟩ = some mk := by rw [← hxy.1, ← hxy.2]; exact hnamed
  have hsub : s.vm.isSubclass ps mk.cls = true := tw_sub hps (findClass_of_methodNamed hnamed) (by
    rcases hup with h | h | ⟨B, h, g⟩
    · exact .inl h
    · exact .inr (.inl (hts _ h))
    · exact .inr (.inr ⟨B, hts _ h, hts _ g⟩))
  obtain ⟨vm₁, X₁, hstep₁⟩ := Y.invokespecialUp hX.1 hown (hts _ hl) (hts _ hsame) hn1 hmethM hstM habM hno hdk hnid hps hsuper hsub (a := φ r) (cell := cellB) (by rw [hT]; exact hcB) (fun z h => by rw [h] at hoB; cases hoB) hkB (g := F0 m pc ls ((al.reverse ++ .ref r :: st).map (hh_tv φ))) rfl (argsL := al.map (hh_tv φ)) (rest := st.map (hh_tv φ)) (tw_len hn hlen (by rw [← hxy.2]; exact hsigM)) (by simp [F0, List.map_reverse, hh_tv]) (by rw [hX.2.1]; exact hd)
  exact ⟨mk, vm₁, X₁, hnamed, hstep₁⟩
/-- Tells.super.stays(x), in PatchThing -/
theorem tw_dflt {X : hh_CX} {cc : ByteArray} {rm : Room} {pc : Nat} {st0 st : List Value} {z k : Nat} {h : hh_T} (hX : hh_C X cc "HungryHedge$PatchThing" rm) {r ci : Nat} {a : Value} {q : vw_C} (hd : decode cc pc = .ok (.invokespecial 26, 3)) (hsup : Cond.superclass "HungryHedge$PatchThing" "java/lang/Object" ∈ lw_all) (hi : Cond.instanceMethod ⟨"HungryHedge$Eats", "stays", "(I)I"⟩ ∈ lw_all) (hde : Cond.declares ⟨"HungryHedge$Eats", "stays", "(I)I"⟩ ∈ hh_nw) (hpu : Cond.publicMethod ⟨"HungryHedge$Eats", "stays", "(I)I"⟩ ∈ hh_nw) (hci : hh_cl[ci]? = some q) (hc1 : ci < 100) (hrr : r < hhN h) (hK : hhK h r = ci) (hst : st0 = a :: .ref r :: st) : tw_SV X pc st0 st z k h ⟨"HungryHedge$Eats", "stays", "(I)I"⟩ [.ref r, a] := by
  obtain ⟨p, l, e, R, s, m, args, below, meth, c, G, A, φ0, n0, nL, Q⟩ := X
  intro φ H locs ls h3 T hT Y
  subst hst
  have hts := hX.2.2.2.2.1
  have hS := hX.2.2.2.2.2.1
  have hown : s.vm.findClass "HungryHedge$PatchThing" = some m.cls := hX.2.2.2.1
  obtain ⟨cellB, hcB, hoB, hclB⟩ := va_recv hS.1 h3.1 (q0 := r) hci (by rw [hh_ws_at hrr, hh_cell_o hK hc1])
  obtain ⟨kB, hkB, -⟩ := Vm.findClass_spec hclB
  have hdecl : (Cond.declares ⟨"HungryHedge$Eats", "stays", "(I)I"⟩).before args s = true := va_Nw.use rfl (hS.2.1 _ hde)
  have hpub : (Cond.publicMethod ⟨"HungryHedge$Eats", "stays", "(I)I"⟩).before args s = true := va_Nw.use rfl (hS.2.1 _ hpu)
  have iw := hS.2.2.2.2.2.2
  have hlink : (Cond.methodLink "HungryHedge$PatchThing" 26 ⟨"HungryHedge$Tells", "stays", "(I)I"⟩).before args s = true := va_Nw.use rfl (iw _ (by simp [hh_iws]))
  have hface : (Cond.interfaceMethod "HungryHedge$Tells" "HungryHedge$Eats" "stays" "(I)I").before args s = true := va_Nw.use rfl (iw _ (by simp [hh_iws]))
  have hsel : (Cond.landsInDefault "HungryHedge$Tells" ⟨"HungryHedge$Tells", "stays", "(I)I"⟩ ⟨"HungryHedge$Eats", "stays", "(I)I"⟩).before args s = true := by
    have h9 := iw (Cond.landsInDefault "HungryHedge$Tells" ⟨"HungryHedge$Tells", "stays", "(I)I"⟩ ⟨"HungryHedge$Eats", "stays", "(I)I"⟩) (by simp [hh_iws])
    simp only [va_Nw, Cond.before, Cond.holds, Cond.value] at h9 ⊢
    exact h9
  obtain ⟨r0, meth0, hn, hrm, hst0, hab⟩ := Cond.instanceMethod_spec (hts _ hi)
  obtain ⟨r0', r', hn', hrm', -, hsig⟩ := Cond.declares_spec hdecl
  cases hn.symm.trans hn'
  cases hrm.symm.trans hrm'
  obtain ⟨cI, kL, r1, hcI, hkL, hiL, hfoundL, hn1⟩ := Cond.interfaceMethod_spec hface
  cases hn.symm.trans hn1
  obtain ⟨ps, dk, kp, hps, hdk, hkp, hsuper, -, -, hnid⟩ := Cond.superclass_spec hown (hts _ hsup)
  obtain ⟨vm₁, X₁, hstep₁⟩ := sp_step Y hX.1 (J := "HungryHedge$Eats") (x := ⟨"HungryHedge$Tells", "stays", "(I)I"⟩) hown hlink hface hdecl hpub hsel (by decide) (by decide) (by decide) hn hrm hab (tw_priv hsel hfoundL hrm) hdk hnid (a := φ r) (cell := cellB) (by rw [hT]; exact hcB) (fun z h => by rw [h] at hoB; cases hoB) hkB (g := F0 m pc ls ((a :: .ref r :: st).map (hh_tv φ))) rfl (argsL := [hh_tv φ a]) (rest := st.map (hh_tv φ)) (tw_len (φ := φ) (al := [a]) (n := 1) (d := "(I)I") (by decide +kernel) rfl hsig) (by simp [F0, hh_tv]) (by rw [hX.2.1]; exact hd)
  exact ⟨r0, vm₁, X₁, hn, hstep₁⟩
/-- a virtual call, inherited or overridden -/
theorem tw_virt {X : hh_CX} {cc : ByteArray} {own : String} {rm : Room} {pc : Nat} {st0 st al : List Value} {z k : Nat} {h : hh_T} (hX : hh_C X cc own rm) {x y : MethodName} {c0 : ByteArray} {m0 idx r ci n : Nat} {ret0 : Option FieldType} {q : vw_C} {O : String} (hd : decode cc pc = .ok (.invokevirtual idx, 3)) (hl : Cond.methodLink own idx x ∈ lw_all) (hsame : Cond.sameMethod x.cls O x.name x.desc ∈ lw_all) (hi0 : Cond.instanceMethod ⟨O, x.name, x.desc⟩ ∈ lw_all) (hc0 : Cond.code ⟨O, x.name, x.desc⟩ c0 m0 ret0 ∈ lw_all) (hO : O ≠ "java/lang/invoke/MethodHandle" ∧ O ≠ "java/lang/invoke/VarHandle") (hsel : Cond.selects q.1 x y ∈ lw_all) (hi : Cond.instanceMethod y ∈ lw_all) (hn : (parseMethodDescriptor x.desc).map (fun d => d.parameters.length) = some n) (hlen : al.length = n) (hci : hh_cl[ci]? = some q) (hc1 : ci < 100) (hrr : r < hhN h) (hK : hhK h r = ci) (hst : st0 = al.reverse ++ .ref r :: st) : tw_SV X pc st0 st z k h y (.ref r :: al) := by
  obtain ⟨p, l, e, R, s, m, args, below, meth, c, G, A, φ0, n0, nL, Q⟩ := X
  intro φ H locs ls h3 T hT Y
  subst hst
  have hts := hX.2.2.2.2.1
  have hS := hX.2.2.2.2.2.1
  have hown : s.vm.findClass own = some m.cls := hX.2.2.2.1
  obtain ⟨cellB, hcB, hoB, hclB⟩ := va_recv hS.1 h3.1 (q0 := r) hci (by rw [hh_ws_at hrr, hh_cell_o hK hc1])
  obtain ⟨r0, r9, hn9, hrm, hstR, hsigR⟩ := va_Decl.of (hts _ hi0) (hts _ hc0)
  obtain ⟨cn, ck, r1, hcn, hck, hni, hf, hn1⟩ := Cond.sameMethod_found (hts _ hsame)
  cases hn9.symm.trans hn1
  obtain ⟨mk, methM, hnamed, hmethM, -, habM⟩ := Cond.instanceMethod_spec (hts _ hi)
  obtain ⟨c2, r2, m2, q1, q2, q3, q4, kP, hkP, hkPi⟩ := Cond.selects_spec (hts _ hsel)
  have ec : c2 = cellB.cls := Option.some.inj (q1.symm.trans hclB)
  cases hf.symm.trans q2
  cases hnamed.symm.trans q3
  have hselP : selectMethod e.platform s.vm cellB.cls r0 = .method mk := by rw [Launch.admits_selectMethod Y.admits, ← ec]; exact q4
  obtain ⟨vm₁, X₁, hstep₁⟩ := Y.invokevirtualUp hX.1 hown (hts _ hl) (hts _ hsame) hO hn9 hrm hstR (a := φ r) (cell := cellB) (by rw [hT]; exact hcB) (fun z h => by rw [h] at hoB; cases hoB) hselP hmethM habM hkP hkPi (g := F0 m pc ls ((al.reverse ++ .ref r :: st).map (hh_tv φ))) rfl (argsL := al.map (hh_tv φ)) (rest := st.map (hh_tv φ)) (tw_len hn hlen hsigR) (by simp [F0, List.map_reverse, hh_tv]) (by rw [hX.2.1]; exact hd)
  exact ⟨mk, vm₁, X₁, hnamed, fun target h => hstep₁ _ fun acts => by rw [doInvoke_state]; exact h⟩
/-- a call by an interface that declares the method -/
theorem tw_face {X : hh_CX} {cc : ByteArray} {own : String} {rm : Room} {pc : Nat} {st0 st al : List Value} {z k : Nat} {h : hh_T} (hX : hh_C X cc own rm) {x y : MethodName} {idx count r ci n : Nat} {q : vw_C} (hd : decode cc pc = .ok (.invokeinterface idx count, 5)) (hl : Cond.methodLink own idx x ∈ lw_all) (hF : (q.1, x, y) ∈ hh_fws) (hx : x.cls ≠ "java/lang/invoke/MethodHandle" ∧ x.cls ≠ "java/lang/invoke/VarHandle") (hsel : Cond.selects q.1 x y ∈ lw_all) (hi : Cond.instanceMethod y ∈ lw_all) (hn : (parseMethodDescriptor x.desc).map (fun d => d.parameters.length) = some n) (hlen : al.length = n) (hci : hh_cl[ci]? = some q) (hc1 : ci < 100) (hrr : r < hhN h) (hK : hhK h r = ci) (hst : st0 = al.reverse ++ .ref r :: st) : tw_SV X pc st0 st z k h y (.ref r :: al) := by
  obtain ⟨p, l, e, R, s, m, args, below, meth, c, G, A, φ0, n0, nL, Q⟩ := X
  intro φ H locs ls h3 T hT Y
  subst hst
  have hts := hX.2.2.2.2.1
  have hS := hX.2.2.2.2.2.1
  have hown : s.vm.findClass own = some m.cls := hX.2.2.2.1
  obtain ⟨cellB, hcB, hoB, hclB⟩ := va_recv hS.1 h3.1 (q0 := r) hci (by rw [hh_ws_at hrr, hh_cell_o hK hc1])
  obtain ⟨kB, hkB, -⟩ := Vm.findClass_spec hclB
  obtain ⟨f1, f2, f3, f4, f5⟩ := hS.2.2.2.1 _ hF
  have f1 : (Cond.declares x).before args s = true := va_any rfl f1
  have f2 : (Cond.interfaceMethod x.cls x.cls x.name x.desc).before args s = true := va_any rfl f2
  have f3 : (Cond.publicMethod y).before args s = true := va_any rfl f3
  have f4 : (Cond.unhidden q.1 x.name x.desc).before args s = true := va_any rfl f4
  have f5 : (Cond.castable q.1 x.cls).before args s = true := va_any rfl f5
  obtain ⟨r0, r9, hn9, hrm, hstR, hsigR⟩ := Cond.declares_spec f1
  obtain ⟨cL, kL, r1, hcL, hkL, hiL, hfoundL, hn1⟩ := Cond.interfaceMethod_spec f2
  cases hn9.symm.trans hn1
  have hr0cls : r0.cls = cL := Option.some.inj ((findClass_of_methodNamed hn9).symm.trans hcL)
  obtain ⟨hnameR, hdescR⟩ := name_of_methodNamed hn9 hrm
  obtain ⟨mk, methM, hnamed, hmethM, -, habM⟩ := Cond.instanceMethod_spec (hts _ hi)
  obtain ⟨c2, r2, m2, q1, q2, q3, q4, -⟩ := Cond.selects_spec (hts _ hsel)
  have ec : c2 = cellB.cls := Option.some.inj (q1.symm.trans hclB)
  cases hfoundL.symm.trans q2
  cases hnamed.symm.trans q3
  have hselP : selectMethod e.platform s.vm cellB.cls r0 = .method mk := by rw [Launch.admits_selectMethod Y.admits, ← ec]; exact q4
  have hpubM : hasFlag methM.accessFlags Acc.public_ = true := Cond.publicMethod_spec hnamed hmethM f3
  have hway : ((cellB.cls :: s.vm.superclasses cellB.cls).any fun k => (declaredIn s.vm r9.name r9.desc k).any fun (_, z) => z.isPrivate || z.isStatic) = false := by
    rw [hnameR, hdescR]; exact Cond.unhidden_spec hclB f4
  obtain ⟨c3, t3, w1, w2, w3⟩ := Cond.castable_spec f5
  have ec3 : c3 = cellB.cls := Option.some.inj (w1.symm.trans hclB)
  cases hcL.symm.trans w2
  obtain ⟨vm₁, X₁, hstep₁⟩ := Y.invokeinterface hX.1 hown (hts _ hl) hn9 hrm hstR (by rw [hr0cls]; exact hkL) hiL hx (a := φ r) (cell := cellB) (kcell := kB) (by rw [hT]; exact hcB) (fun z h => by rw [h] at hoB; cases hoB) hkB (by rw [hr0cls, ← ec3]; exact w3) hselP hmethM hway hpubM habM (g := F0 m pc ls ((al.reverse ++ .ref r :: st).map (hh_tv φ))) rfl (argsL := al.map (hh_tv φ)) (rest := st.map (hh_tv φ)) (tw_len hn hlen hsigR) (by simp [F0, List.map_reverse, hh_tv]) (by rw [hX.2.1]; exact hd)
  exact ⟨mk, vm₁, X₁, hnamed, fun target h => hstep₁ _ fun acts => by rw [doInvoke_state]; exact h⟩
/-- a call by an interface that inherits the method of another, J -/
theorem tw_faceU {X : hh_CX} {cc : ByteArray} {own : String} {rm : Room} {pc : Nat} {st0 st al : List Value} {z k : Nat} {h : hh_T} (hX : hh_C X cc own rm) {x y : MethodName} {J : String} {idx count r ci n : Nat} {q : vw_C} (hd : decode cc pc = .ok (.invokeinterface idx count, 5)) (hl : Cond.methodLink own idx x ∈ hh_iws) (hfc : Cond.interfaceMethod x.cls J x.name x.desc ∈ hh_iws) (hde : Cond.declares ⟨J, x.name, x.desc⟩ ∈ hh_nw) (hpu : Cond.publicMethod ⟨J, x.name, x.desc⟩ ∈ hh_nw) (hpy : Cond.publicMethod y ∈ hh_nw) (hun : Cond.unhidden q.1 x.name x.desc ∈ hh_nw) (hca : Cond.castable q.1 x.cls ∈ hh_nw) (hxo : x.cls ≠ J) (hx : x.cls ≠ "java/lang/invoke/MethodHandle" ∧ x.cls ≠ "java/lang/invoke/VarHandle") (hxJ : J ≠ "java/lang/invoke/MethodHandle" ∧ J ≠ "java/lang/invoke/VarHandle") (hsel : Cond.selects q.1 ⟨J, x.name, x.desc⟩ y ∈ lw_all) (hi : Cond.instanceMethod y ∈ lw_all) (hn : (parseMethodDescriptor x.desc).map (fun d => d.parameters.length) = some n) (hlen : al.length = n) (hci : hh_cl[ci]? = some q) (hc1 : ci < 100) (hrr : r < hhN h) (hK : hhK h r = ci) (hst : st0 = al.reverse ++ .ref r :: st) : tw_SV X pc st0 st z k h y (.ref r :: al) := by
  obtain ⟨p, l, e, R, s, m, args, below, meth, c, G, A, φ0, n0, nL, Q⟩ := X
  intro φ H locs ls h3 T hT Y
  subst hst
  have hts := hX.2.2.2.2.1
  have hS := hX.2.2.2.2.2.1
  have hown : s.vm.findClass own = some m.cls := hX.2.2.2.1
  obtain ⟨cellB, hcB, hoB, hclB⟩ := va_recv hS.1 h3.1 (q0 := r) hci (by rw [hh_ws_at hrr, hh_cell_o hK hc1])
  obtain ⟨kB, hkB, -⟩ := Vm.findClass_spec hclB
  have iw := hS.2.2.2.2.2.2
  have hlink : (Cond.methodLink own idx x).before args s = true := va_Nw.use rfl (iw _ hl)
  have hface : (Cond.interfaceMethod x.cls J x.name x.desc).before args s = true := va_Nw.use rfl (iw _ hfc)
  have f1 : (Cond.declares ⟨J, x.name, x.desc⟩).before args s = true := va_Nw.use rfl (hS.2.1 _ hde)
  have f2 : (Cond.publicMethod ⟨J, x.name, x.desc⟩).before args s = true := va_Nw.use rfl (hS.2.1 _ hpu)
  have f3 : (Cond.publicMethod y).before args s = true := va_Nw.use rfl (hS.2.1 _ hpy)
  have f4 : (Cond.unhidden q.1 x.name x.desc).before args s = true := va_Nw.use rfl (hS.2.1 _ hun)
  have f5 : (Cond.castable q.1 x.cls).before args s = true := va_Nw.use rfl (hS.2.1 _ hca)
  obtain ⟨r0, r9, hn9, hrm, hstR, hsigR⟩ := Cond.declares_spec f1
  obtain ⟨cL, kL, r1, hcL, hkL, hiL, hfoundL, hn1⟩ := Cond.interfaceMethod_spec hface
  cases hn9.symm.trans hn1
  obtain ⟨hnameR, hdescR⟩ := name_of_methodNamed hn9 hrm
  obtain ⟨mk, methM, hnamed, hmethM, -, habM⟩ := Cond.instanceMethod_spec (hts _ hi)
  obtain ⟨c2, r2, m2, q1, q2, q3, q4, -⟩ := Cond.selects_spec (hts _ hsel)
  have ec : c2 = cellB.cls := Option.some.inj (q1.symm.trans hclB)
  -- the method found from J is the one J declares
  obtain ⟨kJ, hkJ, hnJ⟩ := className_of_methodNamed hn9
  have hdeclJ : kJ.findMethod x.name x.desc = some r0.idx := by
    have hc := findClass_of_methodNamed hn9
    have h' := hn9
    simp only [State.methodNamed?, hc, hkJ, Option.bind_eq_bind, Option.bind_some, Option.bind_eq_some_iff, Option.pure_def, Option.some.injEq] at h'
    obtain ⟨i, hi, hmi⟩ := h'
    rw [← hmi]; exact hi
  have hfJ : s.methodFound? J x.name x.desc = some r0 := by
    have hpoly : ∀ y, signaturePolymorphic kJ y = false := fun y => by simp [signaturePolymorphic, hnJ, hxJ.1, hxJ.2]
    have h2 := State.methodFound?_declared (findClass_of_methodNamed hn9) hkJ hpoly hdeclJ (by
      obtain ⟨hlt, -, -⟩ := Array.findIdx?_eq_some_iff_getElem.mp hdeclJ
      simp [hlt])
    exact h2
  cases hfJ.symm.trans q2
  cases hnamed.symm.trans q3
  have hselP : selectMethod e.platform s.vm cellB.cls r0 = .method mk := by rw [Launch.admits_selectMethod Y.admits, ← ec]; exact q4
  have hpubM : hasFlag methM.accessFlags Acc.public_ = true := Cond.publicMethod_spec hnamed hmethM f3
  have hway : ((cellB.cls :: s.vm.superclasses cellB.cls).any fun k => (declaredIn s.vm r9.name r9.desc k).any fun (_, z) => z.isPrivate || z.isStatic) = false := by
    rw [hnameR, hdescR]; exact Cond.unhidden_spec hclB f4
  obtain ⟨c3, t3, w1, w2, w3⟩ := Cond.castable_spec f5
  have ec3 : c3 = cellB.cls := Option.some.inj (w1.symm.trans hclB)
  cases hcL.symm.trans w2
  obtain ⟨vm₁, X₁, hstep₁⟩ := Y.invokeinterfaceUp hX.1 (J := J) hown hlink hface f1 f2 hxo hx (a := φ r) (cell := cellB) (kcell := kB) hcL (by rw [hT]; exact hcB) (fun z h => by rw [h] at hoB; cases hoB) hkB (by rw [← ec3]; exact w3) hn9 hrm hselP hmethM hway hpubM habM (g := F0 m pc ls ((al.reverse ++ .ref r :: st).map (hh_tv φ))) rfl (argsL := al.map (hh_tv φ)) (rest := st.map (hh_tv φ)) (tw_len hn hlen hsigR) (by simp [F0, List.map_reverse, hh_tv]) (by rw [hX.2.1]; exact hd)
  exact ⟨mk, vm₁, X₁, hnamed, fun target h => hstep₁ _ fun acts => by rw [doInvoke_state]; exact h⟩
/-- behind an interface's call of a method that may throw -/
theorem hh_afterX5 {p : Program} {l : Launch} {e : Env} {R : Room} {s : State} {m : MethodId} {args : Array Value} {below : List Frame} {meth : Method} {c : Code} {G : hh_G} {A : Nat → Prop} {φ0 : Nat → Nat} {n0 nL : Nat} {Q : State → Prop} {φ : Nat → Nat} {H : Heap} {locs : List Loc} {ls : Array Slot} {loc : List (Nat × Value)} {st st0 : List Value} {z k mc ms pc : Nat} {h : hh_T} {Qp : Option Value → hh_T → Prop} {Xp : String → Option Nat → hh_T → Prop} {a : Array Value}
    (hr : vx_Run5 p l e R s m args below meth c H locs z k mc ms (F0 m pc ls st0) (st.map (hh_tv φ)) (hh_QM G (va_A (hh_ws G.2 φ h) H.size) φ (hhN h) Qp a) (hh_XM G (va_A (hh_ws G.2 φ h) H.size) φ (hhN h) Xp) (va_A (hh_ws G.2 φ h) H.size)) (h1 : ∀ i, i < n0 ∨ 1000000 ≤ i → φ i = φ0 i) (h2 : n0 ≤ hhN h) (h3 : hh_W G φ h H) (h4 : va_D A (hh_ws G.2 φ h)) (h5 : va_S A s.heap H locs) (h6 : lv_has ls nL (hh_tl φ loc)) (h7 : okl h loc) (h8 : oks h st) (hA : ∀ q, s.heap.size ≤ q → A q)
    (kx : ∀ (E : String) (r : Option Nat) (h' : hh_T), Xp E r h' → hh_VT (p, l, e, R, s, m, args, below, meth, c, G, A, φ0, n0, nL, Q) pc loc E r (z + mc) (k + ms) h')
    (kk : ∀ (v : Option Value) (h' : hh_T), Qp v h' → hh_V (p, l, e, R, s, m, args, below, meth, c, G, A, φ0, n0, nL, Q) (pc + 5) loc (v.toList ++ st) (z + mc) (k + ms) h') :
    W p l e R s m args below meth c H locs z k Q (F0 m pc ls st0) := by
  intro T hT X
  have hfree : ∀ q, va_A (hh_ws G.2 φ h) H.size q → A q := by
    intro q hq
    rcases hq with ⟨j, w, hj⟩ | hq
    · exact h4.2 j (q, w) hj
    · exact hA q (Nat.le_trans h5.1 hq)
  rcases hr T hT X with ⟨v, st₀, t, T', L, e0, X', hL, e1, e2, ⟨⟨v', h', φ', ev, hQ, hφ, hn, hW, hD, hok⟩, hz, hk⟩, stp⟩ | ⟨q9, st₀, t, T', L, E, ce, e0, X', hL, e1, e2, ⟨⟨r', h', φ', hQ, hφ, hn, hW, hD, hrr⟩, hz, hk⟩, hce, hcv, hcl, stp⟩
  · have ev := Outcome.returned.inj ev
    rw [e0] at hz hk
    have eφ : ∀ w : Value, okv h w → hh_tv φ' w = hh_tv φ w := by
      intro w hw
      cases w with
      | ref r => exact congrArg Value.ref (hφ r hw)
      | _ => rfl
    have est : st.map (hh_tv φ') = st.map (hh_tv φ) := List.map_congr_left fun w hw => eφ w (oks_mem.mp h8 w hw)
    have eloc : hh_tl φ' loc = hh_tl φ loc := List.map_congr_left fun w hw => by rw [eφ w.2 (h7 w hw)]
    have hD' : va_D A (hh_ws G.2 φ' h') := hD.weaken fun _ _ _ q => hfree _ q
    have hS' : va_S A s.heap T'.heap (locs ++ L) := ⟨Nat.le_trans h5.1 (by rw [e1]; exact hz), fun q g1 g2 => by rw [e1, hk q (Nat.lt_of_lt_of_le g1 h5.1) (fun y => g2 (hfree q y))]; exact h5.2.1 q g1 g2, fun q hq => by
      rcases List.mem_append.mp hq with y | y
      · exact h5.2.2 q y
      · exact hfree _ (hL q y)⟩
    have hok2 : oks h' (v'.toList ++ st) := by
      refine oks_append.mpr ⟨?_, oks_mono hn h8⟩
      cases v' with
      | none => trivial
      | some w => exact ⟨hok w rfl, trivial⟩
    have K := kk v' h' hQ φ' T'.heap (locs ++ L) ls (fun i hi => by
      rcases hi with y | y
      · rw [hφ i (Or.inl (Nat.lt_of_lt_of_le y h2)), h1 i (Or.inl y)]
      · rw [hφ i (Or.inr y), h1 i (Or.inr y)]) (Nat.le_trans h2 hn) (by rw [e1]; exact hW) hD' hS' (by rw [eloc]; exact h6) (okl_mono hn h7) hok2 T' rfl X'
    obtain ⟨t2, a1, b1⟩ := K
    refine ⟨t2, stp t2 ?_, b1⟩
    have e9 : v.toList ++ st.map (hh_tv φ) = (v'.toList ++ st).map (hh_tv φ') := by
      rw [List.map_append, est, ev]
      cases v' <;> rfl
    show Steps p.tables e below (T'.setTop { F0 m pc ls st0 with pc := pc + 5, stack := v.toList ++ st.map (hh_tv φ) }) t2
    rw [e9]
    exact a1
  · rw [e0] at hz hk
    have eφ : ∀ w : Value, okv h w → hh_tv φ' w = hh_tv φ w := by
      intro w hw
      cases w with
      | ref r => exact congrArg Value.ref (hφ r hw)
      | _ => rfl
    have eloc : hh_tl φ' loc = hh_tl φ loc := List.map_congr_left fun w hw => by rw [eφ w.2 (h7 w hw)]
    have hD' : va_D A (hh_ws G.2 φ' h') := hD.weaken fun _ _ _ q => hfree _ q
    have hS' : va_S A s.heap T'.heap (locs ++ L) := ⟨Nat.le_trans h5.1 (by rw [e1]; exact hz), fun q g1 g2 => by rw [e1, hk q (Nat.lt_of_lt_of_le g1 h5.1) (fun y => g2 (hfree q y))]; exact h5.2.1 q g1 g2, fun q hq => by
      rcases List.mem_append.mp hq with y | y
      · exact h5.2.2 q y
      · exact hfree _ (hL q y)⟩
    have K := kx E r' h' hQ φ' T'.heap (locs ++ L) ls (st.map (hh_tv φ)) q9 ce (fun i hi => by
      rcases hi with y | y
      · rw [hφ i (Or.inl (Nat.lt_of_lt_of_le y h2)), h1 i (Or.inl y)]
      · rw [hφ i (Or.inr y), h1 i (Or.inr y)]) (Nat.le_trans h2 hn) (by rw [e1]; exact hW) hD' hS' (by rw [eloc]; exact h6) (okl_mono hn h7) (by rw [e1]; exact hce) hcv hcl hrr T' rfl X'
    obtain ⟨t2, a1, b1⟩ := K
    exact ⟨t2, stp.trans a1, b1⟩
theorem tw_bk {X : hh_CX} {cc : ByteArray} {own : String} {rm : Room} (hX : hh_C X cc own rm) {y : MethodName} {cy : ByteArray} {nY : Nat} {ret : Option FieldType} (hcode : Cond.code y cy nY ret ∈ lw_all) : match X with | (_, _, _, _, s, _, args, _, _, _, _, _, _, _, _, _) => ∀ w ∈ ws_ y cy nY ret, ∀ (a' : Array Value) (U : State), s.WarmedH U.vm → w.before a' U = true := by
  obtain ⟨p, l, e, R, s, m, args, below, meth, c, G, A, φ0, n0, nL, Q⟩ := X
  exact pay_in hX.2.2.2.2.1 (lw_meth hcode)
/-- a call of a method that may throw, of which the step is known -/
theorem hv_callZX {X : hh_CX} {cc : ByteArray} {own : String} {rm : Room} {pc : Nat} {loc : List (Nat × Value)} {st : List Value} {z k : Nat} {h : hh_T} (hX : hh_C X cc own rm) {y : MethodName} {cy : ByteArray} {nY fr lo mc ms r : Nat} {ret : Option FieldType} {al st0 : List Value} {Qp : Option Value → hh_T → Prop} {Xp : String → Option Nat → hh_T → Prop} {op : Instr} (hd : decode cc pc = .ok (op, 3)) (hM : hh_CtX y cy nY ret fr lo (.ref r :: al) h Qp Xp mc ms) (hcode : Cond.code y cy nY ret ∈ lw_all) (hini : Cond.initialized y.cls ∈ lw_all) (hS : tw_SV X pc st0 st z k h y (.ref r :: al)) (hst : st0 = al.reverse ++ .ref r :: st) (hr : fr + 1 ≤ rm.frames ∧ 8 + (nY + 11) + lo ≤ rm.locals) (hz : z + mc ≤ rm.cells ∧ k + ms ≤ rm.slots) (h8w : (st.map fun v => v.category).sum ≤ 8)
    (kx : ∀ (E : String) (r : Option Nat) (h' : hh_T), Xp E r h' → hh_VT X pc loc E r (z + mc) (k + ms) h')
    (kk : ∀ (v : Option Value) (h' : hh_T), Qp v h' → hh_V X (pc + 3) loc (v.toList ++ st) (z + mc) (k + ms) h') : hh_V X pc loc st0 z k h := by
  have hpay := tw_bk hX hcode
  obtain ⟨p, l, e, R, s, m, args, below, meth, c, G, A, φ0, n0, nL, Q⟩ := X
  intro φ H locs ls h1 h2 h3 h4 h5 h6 h7 h8
  have hRR : R = rm := hX.2.2.2.2.2.2.2.1
  subst hRR
  subst hst
  have ho := oks_append.mp h8
  have hal : oks h (.ref r :: al) := ⟨ho.2.1, oks_mem.mpr fun w hw => oks_mem.mp ho.1 w (List.mem_reverse.mpr hw)⟩
  have hini9 := hX.2.2.2.2.1 _ hini
  exact hh_afterX (tw_run (op := op) (vx_back (bytes := cy) (maxL := nY) (ret := ret) (hM l G φ H.size hX.2.2.2.2.2.2.2.2.2.2) hh_Pc.blind rfl rfl hr.1 hr.2 hpay List.mem_cons_self (fun a' U hW => word_at hW (Or.inl (by first | rfl | simp [Cond.onTables, Cond.keeps, Cond.steady])) hini9)) (hh_start h3 h4 hal hX.2.2.2.2.2.1 h1 h5 hX.2.2.2.2.2.2.1 hX.2.2.2.2.2.2.2.2.2.1) rfl (h6.1.trans hX.2.2.1.symm) (lv_room (by rw [List.map_map]; simp only [Function.comp_def, hh_tv_cat]; exact h8w)) (by rw [hX.2.1]; exact hd) hz (hS φ H locs ls h3)) h1 h2 h3 h4 h5 h6 h7 ho.2.2 hX.2.2.2.2.2.2.1 kx kk
theorem hv_callZX5 {X : hh_CX} {cc : ByteArray} {own : String} {rm : Room} {pc : Nat} {loc : List (Nat × Value)} {st : List Value} {z k : Nat} {h : hh_T} (hX : hh_C X cc own rm) {y : MethodName} {cy : ByteArray} {nY fr lo mc ms r : Nat} {ret : Option FieldType} {al st0 : List Value} {Qp : Option Value → hh_T → Prop} {Xp : String → Option Nat → hh_T → Prop} {op : Instr} (hd : decode cc pc = .ok (op, 5)) (hM : hh_CtX y cy nY ret fr lo (.ref r :: al) h Qp Xp mc ms) (hcode : Cond.code y cy nY ret ∈ lw_all) (hini : Cond.initialized y.cls ∈ lw_all) (hS : tw_SV X pc st0 st z k h y (.ref r :: al)) (hst : st0 = al.reverse ++ .ref r :: st) (hr : fr + 1 ≤ rm.frames ∧ 8 + (nY + 11) + lo ≤ rm.locals) (hz : z + mc ≤ rm.cells ∧ k + ms ≤ rm.slots) (h8w : (st.map fun v => v.category).sum ≤ 8)
    (kx : ∀ (E : String) (r : Option Nat) (h' : hh_T), Xp E r h' → hh_VT X pc loc E r (z + mc) (k + ms) h')
    (kk : ∀ (v : Option Value) (h' : hh_T), Qp v h' → hh_V X (pc + 5) loc (v.toList ++ st) (z + mc) (k + ms) h') : hh_V X pc loc st0 z k h := by
  have hpay := tw_bk hX hcode
  obtain ⟨p, l, e, R, s, m, args, below, meth, c, G, A, φ0, n0, nL, Q⟩ := X
  intro φ H locs ls h1 h2 h3 h4 h5 h6 h7 h8
  have hRR : R = rm := hX.2.2.2.2.2.2.2.1
  subst hRR
  subst hst
  have ho := oks_append.mp h8
  have hal : oks h (.ref r :: al) := ⟨ho.2.1, oks_mem.mpr fun w hw => oks_mem.mp ho.1 w (List.mem_reverse.mpr hw)⟩
  have hini9 := hX.2.2.2.2.1 _ hini
  exact hh_afterX5 (tw_run5 (op := op) (vx_back (bytes := cy) (maxL := nY) (ret := ret) (hM l G φ H.size hX.2.2.2.2.2.2.2.2.2.2) hh_Pc.blind rfl rfl hr.1 hr.2 hpay List.mem_cons_self (fun a' U hW => word_at hW (Or.inl (by first | rfl | simp [Cond.onTables, Cond.keeps, Cond.steady])) hini9)) (hh_start h3 h4 hal hX.2.2.2.2.2.1 h1 h5 hX.2.2.2.2.2.2.1 hX.2.2.2.2.2.2.2.2.2.1) rfl (h6.1.trans hX.2.2.1.symm) (lv_room (by rw [List.map_map]; simp only [Function.comp_def, hh_tv_cat]; exact h8w)) (by rw [hX.2.1]; exact hd) hz (hS φ H locs ls h3)) h1 h2 h3 h4 h5 h6 h7 ho.2.2 hX.2.2.2.2.2.2.1 kx kk
/-- .. of an interface's method, of which nobody says that the interface is initialised -/
theorem hv_callDX {X : hh_CX} {cc : ByteArray} {own : String} {rm : Room} {pc : Nat} {loc : List (Nat × Value)} {st : List Value} {z k : Nat} {h : hh_T} (hX : hh_C X cc own rm) {y : MethodName} {cy : ByteArray} {nY fr lo mc ms r : Nat} {ret : Option FieldType} {al st0 : List Value} {Qp : Option Value → hh_T → Prop} {Xp : String → Option Nat → hh_T → Prop} {op : Instr} (hd : decode cc pc = .ok (op, 3)) (hM : tu_Ct y cy nY ret fr lo (.ref r :: al) h Qp Xp mc ms) (hcode : Cond.code y cy nY ret ∈ lw_all) (hS : tw_SV X pc st0 st z k h y (.ref r :: al)) (hst : st0 = al.reverse ++ .ref r :: st) (hr : fr + 1 ≤ rm.frames ∧ 8 + (nY + 11) + lo ≤ rm.locals) (hz : z + mc ≤ rm.cells ∧ k + ms ≤ rm.slots) (h8w : (st.map fun v => v.category).sum ≤ 8)
    (kx : ∀ (E : String) (r : Option Nat) (h' : hh_T), Xp E r h' → hh_VT X pc loc E r (z + mc) (k + ms) h')
    (kk : ∀ (v : Option Value) (h' : hh_T), Qp v h' → hh_V X (pc + 3) loc (v.toList ++ st) (z + mc) (k + ms) h') : hh_V X pc loc st0 z k h := by
  have hpay := tw_bk hX hcode
  obtain ⟨p, l, e, R, s, m, args, below, meth, c, G, A, φ0, n0, nL, Q⟩ := X
  intro φ H locs ls h1 h2 h3 h4 h5 h6 h7 h8
  have hRR : R = rm := hX.2.2.2.2.2.2.2.1
  subst hRR
  subst hst
  have ho := oks_append.mp h8
  have hal : oks h (.ref r :: al) := ⟨ho.2.1, oks_mem.mpr fun w hw => oks_mem.mp ho.1 w (List.mem_reverse.mpr hw)⟩
  exact hh_afterX (tw_run (op := op) (tu_back (bytes := cy) (maxL := nY) (ret := ret) (hM l G φ H.size hX.2.2.2.2.2.2.2.2.2.2) hh_Pc.blind rfl rfl hr.1 hr.2 hpay List.mem_cons_self) (hh_start h3 h4 hal hX.2.2.2.2.2.1 h1 h5 hX.2.2.2.2.2.2.1 hX.2.2.2.2.2.2.2.2.2.1) rfl (h6.1.trans hX.2.2.1.symm) (lv_room (by rw [List.map_map]; simp only [Function.comp_def, hh_tv_cat]; exact h8w)) (by rw [hX.2.1]; exact hd) hz (hS φ H locs ls h3)) h1 h2 h3 h4 h5 h6 h7 ho.2.2 hX.2.2.2.2.2.2.1 kx kk
