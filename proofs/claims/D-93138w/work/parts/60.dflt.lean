set_option maxRecDepth 100000
/-! invokespecial of an interface's default method (Tells.super.stays): what it looks up -/
theorem pig : ∀ (n : Nat) (g : Nat → Nat), (∀ i, i ≤ n → g i < n) → ∃ i j, i < j ∧ j ≤ n ∧ g i = g j := by
  intro n
  induction n with
  | zero => intro g h; exact absurd (h 0 (Nat.le_refl _)) (Nat.not_lt_zero _)
  | succ n ih =>
    intro g h
    by_cases hv : ∃ i, i ≤ n ∧ g i = g (n + 1)
    · obtain ⟨i, h1, h2⟩ := hv
      exact ⟨i, n + 1, by omega, Nat.le_refl _, h2⟩
    · have nv : ∀ i, i ≤ n → g i ≠ g (n + 1) := fun i h1 h2 => hv ⟨i, h1, h2⟩
      have hl := h (n + 1) (Nat.le_refl _)
      obtain ⟨i, j, h1, h2, h3⟩ := ih (fun i => if g i = n then g (n + 1) else g i) (fun i hi => by
        show (if g i = n then g (n + 1) else g i) < n
        have a := nv i hi
        have b := h i (by omega)
        by_cases e : g i = n
        · rw [if_pos e]
          have c : g (n + 1) ≠ n := fun z => a (e.trans z.symm)
          omega
        · rw [if_neg e]; omega)
      have h3' : (if g i = n then g (n + 1) else g i) = (if g j = n then g (n + 1) else g j) := h3
      have ai := nv i (by omega)
      have aj := nv j h2
      refine ⟨i, j, h1, by omega, ?_⟩
      by_cases ei : g i = n
      · by_cases ej : g j = n
        · rw [ei, ej]
        · rw [if_pos ei, if_neg ej] at h3'; exact absurd h3'.symm aj
      · by_cases ej : g j = n
        · rw [if_neg ei, if_pos ej] at h3'; exact absurd h3' ai
        · rw [if_neg ei, if_neg ej] at h3'; exact h3'
def its (f : Nat → Option Nat) (c : Nat) : Nat → Option Nat
  | 0 => some c
  | k + 1 => (its f c k).bind f
theorem its_add {f : Nat → Option Nat} {c : Nat} (i : Nat) : ∀ m, its f c (i + m) = (its f c i).bind (fun x => its f x m) := by
  intro m
  induction m with
  | zero => show its f c i = _; cases its f c i <;> rfl
  | succ m ih =>
    show (its f c (i + m)).bind f = _
    rw [ih]
    cases its f c i <;> rfl
theorem its_lt {f : Nat → Option Nat} {c k p : Nat} (h : its f c k = some p) : ∀ i, i ≤ k → ∃ x, its f c i = some x := by
  intro i hi
  cases e : its f c i with
  | some x => exact ⟨x, rfl⟩
  | none =>
    have z := its_add (f := f) (c := c) i (k - i)
    rw [show i + (k - i) = k by omega, e, h] at z
    exact absurd z (by simp)
theorem its_low {f : Nat → Option Nat} {n c : Nat} (hf : ∀ a b, f a = some b → a < n) : ∀ m k p, k < m → its f c k = some p → ∃ j, j ≤ n ∧ its f c j = some p := by
  intro m
  induction m with
  | zero => intro k p h; exact absurd h (Nat.not_lt_zero _)
  | succ m ih =>
    intro k p hk h
    by_cases le : k ≤ n
    · exact ⟨k, le, h⟩
    · have val : ∀ i, i ≤ n → (its f c i).getD 0 < n := by
        intro i hi
        obtain ⟨x, hx⟩ := its_lt h i (by omega)
        obtain ⟨y, hy⟩ := its_lt h (i + 1) (by omega)
        rw [hx]
        have z : (its f c i).bind f = some y := hy
        rw [hx] at z
        exact hf x y z
      obtain ⟨i, j, h1, h2, h3⟩ := pig n _ val
      obtain ⟨x, hx⟩ := its_lt h i (by omega)
      obtain ⟨y, hy⟩ := its_lt h j (by omega)
      rw [hx, hy] at h3
      have exy : x = y := h3
      have e1 := its_add (f := f) (c := c) j (k - j)
      have e2 := its_add (f := f) (c := c) i (k - j)
      rw [hy, show j + (k - j) = k by omega, h] at e1
      rw [hx, exy] at e2
      exact ih (i + (k - j)) p (by omega) (e2.trans e1.symm)
def spF (vm : Vm) (c : Nat) : Option Nat := vm.classes[c]?.bind (·.super)
theorem spF_lt {vm : Vm} {a b : Nat} (h : spF vm a = some b) : a < vm.classes.size := by
  unfold spF at h
  cases e : vm.classes[a]? with
  | none => rw [e] at h; exact absurd h (by simp)
  | some k => exact (Array.getElem?_eq_some_iff.mp e).1
theorem sup_its {vm : Vm} {p : Nat} : ∀ n c, p ∈ vm.superclassesAux n c → ∃ k, 1 ≤ k ∧ k ≤ n ∧ its (spF vm) c k = some p := by
  intro n
  induction n with
  | zero => intro c h; simp [Vm.superclassesAux] at h
  | succ n ih =>
    intro c h
    unfold Vm.superclassesAux at h
    cases e : vm.classes[c]?.bind (·.super) with
    | none => rw [e] at h; simp at h
    | some q =>
      rw [e] at h
      have e' : spF vm c = some q := e
      rcases List.mem_cons.mp h with rfl | h
      · exact ⟨1, by omega, by omega, e'⟩
      · obtain ⟨k, h1, h2, h3⟩ := ih q h
        refine ⟨k + 1, by omega, by omega, ?_⟩
        rw [show k + 1 = 1 + k by omega, its_add]
        show ((some c).bind (spF vm)).bind _ = _
        rw [show (some c).bind (spF vm) = some q from e']
        exact h3
theorem sel_none {vm : Vm} {mR : MethodId} {name desc : String} : ∀ n c, selectInSuperclasses vm mR name desc (n + 1) c = none → ∀ j p kp i, j ≤ n → its (spF vm) c j = some p → vm.classes[p]? = some kp → kp.findMethod name desc = some i → ¬ ((⟨p, i⟩ : MethodId) == mR || canOverride vm ⟨p, i⟩ mR) = true := by
  intro n
  induction n with
  | zero =>
    intro c h j p kp i hj hp hk hi
    have e : j = 0 := by omega
    subst e
    have ec : c = p := Option.some.inj hp
    subst ec
    intro hc
    unfold selectInSuperclasses at h
    simp [hk, hi] at h
    simp [h.1.1, h.1.2] at hc
  | succ n ih =>
    intro c h j p kp i hj hp hk hi hc
    unfold selectInSuperclasses at h
    cases j with
    | zero =>
      have ec : c = p := Option.some.inj hp
      subst ec
      simp [hk, hi] at h
      simp [h.1.1, h.1.2] at hc
    | succ j =>
      rw [show j + 1 = 1 + j by omega, its_add] at hp
      have hp' : ((some c).bind (spF vm)).bind (fun x => its (spF vm) x j) = some p := hp
      cases es : spF vm c with
      | none => rw [show (some c).bind (spF vm) = none from es] at hp'; exact absurd hp' (by simp)
      | some q =>
        rw [show (some c).bind (spF vm) = some q from es] at hp'
        have es' := es
        unfold spF at es'
        cases ek : vm.classes[c]? with
        | none => rw [ek] at es'; exact absurd es' (by simp)
        | some k =>
          rw [ek] at es'
          have eq : k.super = some q := es'
          have hq : selectInSuperclasses vm mR name desc (n + 1) q = none := by
            simp only [ek, Option.bind_eq_bind, Option.bind_some, eq] at h
            cases hh : selectInSuperclasses vm mR name desc (n + 1) q with
            | none => rfl
            | some m' =>
              rw [hh] at h
              simp at h
          exact ih q hq j p kp i (by omega) hp' hk hi hc

/-- what is declared from c up can override mR, if nothing there is private or static -/
theorem dcl_over {vm : Vm} {p mi : Nat} {kp : Class} {mR : MethodId} {r : Method} (hr : vm.method? mR = some r) (hpub : ClassFile.hasFlag r.accessFlags ClassFile.Acc.public_ = true) (hst : r.isStatic = false) {kR : Class} (hkR : vm.classes[mR.cls]? = some kR)
    (hk : vm.classes[p]? = some kp) (hi : kp.findMethod r.name r.desc = some mi) (hw : ((declaredIn vm r.name r.desc p).any fun (_, z) => z.isPrivate || z.isStatic) = false) : canOverride vm ⟨p, mi⟩ mR = true ∧ (vm.method? ⟨p, mi⟩).any (!·.isStatic) = true := by
  unfold Class.findMethod at hi
  obtain ⟨hlt, hx, -⟩ := Array.findIdx?_eq_some_iff_getElem.mp hi
  have hm : vm.method? ⟨p, mi⟩ = some kp.methods[mi] := by simp [Vm.method?, hk, hlt]
  have hn : kp.methods[mi].name = r.name ∧ kp.methods[mi].desc = r.desc := by simpa using hx
  have hd : declaredIn vm r.name r.desc p = some (⟨p, mi⟩, kp.methods[mi]) := by
    unfold declaredIn
    simp [hk, Class.findMethod, hi, hm]
  rw [hd] at hw
  have hw' : kp.methods[mi].isPrivate = false ∧ kp.methods[mi].isStatic = false := by simpa using hw
  have od : canOverrideDirectly vm ⟨p, mi⟩ mR = true := by
    unfold canOverrideDirectly
    simp [hm, hr, hk, hkR, hw'.1, hw'.2, hst, hn.1, hn.2, hpub]
  refine ⟨?_, by simp [hm, hw'.2]⟩
  unfold canOverride
  simp [hm, od]
theorem sel_some {vm : Vm} {mR m : MethodId} {r : Method} (hr : vm.method? mR = some r) (hpub : ClassFile.hasFlag r.accessFlags ClassFile.Acc.public_ = true) (hst : r.isStatic = false) {kR : Class} (hkR : vm.classes[mR.cls]? = some kR) : ∀ n j c, n ≤ j → (∀ kc, vm.classes[c]? = some kc → kc.findMethod r.name r.desc = none) → (∀ p, p ∈ vm.superclassesAux j c → ((declaredIn vm r.name r.desc p).any fun (_, z) => z.isPrivate || z.isStatic) = false) →
    selectInSuperclasses vm mR r.name r.desc (n + 1) c = some m → ∃ tl, (vm.superclassesAux j c).filterMap (fun p => (vm.classes[p]?.bind (·.findMethod r.name r.desc)).map fun i => (⟨p, i⟩ : MethodId)) = m :: tl ∧ (vm.method? m).any (!·.isStatic) = true := by
  intro n
  induction n with
  | zero =>
    intro j c _ hc hw h
    unfold selectInSuperclasses at h
    cases ek : vm.classes[c]? with
    | none => simp [ek] at h
    | some k =>
      cases eq : k.super with
      | none => simp [ek, hc k ek, eq] at h
      | some a => simp [ek, hc k ek, eq, selectInSuperclasses] at h
  | succ n ih =>
    intro j c hj hc hw h
    unfold selectInSuperclasses at h
    cases ek : vm.classes[c]? with
    | none => simp [ek] at h
    | some k =>
      obtain ⟨q, hq⟩ : ∃ q, k.super = some q := by
        cases eq : k.super with
        | none => simp [ek, hc k ek, eq] at h
        | some q => exact ⟨q, rfl⟩
      simp [ek, hc k ek, hq] at h
      obtain ⟨j', rfl⟩ : ∃ j', j = j' + 1 := ⟨j - 1, by omega⟩
      have hsup : vm.superclassesAux (j' + 1) c = q :: vm.superclassesAux j' q := by
        show (match vm.classes[c]?.bind (·.super) with | some p => p :: vm.superclassesAux j' p | none => []) = _
        simp [ek, hq]
      rw [hsup] at hw ⊢
      have hwq := hw q List.mem_cons_self
      have hwt : ∀ p, p ∈ vm.superclassesAux j' q → ((declaredIn vm r.name r.desc p).any fun (_, z) => z.isPrivate || z.isStatic) = false := fun p hp => hw p (List.mem_cons_of_mem _ hp)
      have h0 := h
      unfold selectInSuperclasses at h
      cases ekq : vm.classes[q]? with
      | none => simp [ekq] at h
      | some kq =>
        cases efq : kq.findMethod r.name r.desc with
        | some i =>
          obtain ⟨ho, hs⟩ := dcl_over hr hpub hst hkR ekq efq hwq
          simp [ekq, efq, ho] at h
          rw [← h]
          have e : ((vm.classes[q]?.bind (·.findMethod r.name r.desc)).map fun i => (⟨q, i⟩ : MethodId)) = some ⟨q, i⟩ := by simp [ekq, efq]
          refine ⟨(vm.superclassesAux j' q).filterMap (fun p => (vm.classes[p]?.bind (·.findMethod r.name r.desc)).map fun i => (⟨p, i⟩ : MethodId)), ?_, hs⟩
          rw [List.filterMap_cons]
          simp only [e]
        | none =>
          obtain ⟨tl, h1, h2⟩ := ih j' q (by omega) (fun kc hkc => by rw [ekq] at hkc; rw [← Option.some.inj hkc]; exact efq) hwt h0
          refine ⟨tl, ?_, h2⟩
          have e : ((vm.classes[q]?.bind (·.findMethod r.name r.desc)).map fun i => (⟨q, i⟩ : MethodId)) = none := by simp [ekq, efq]
          rw [List.filterMap_cons]
          simp only [e]
          exact h1
theorem lookupSpecial_sel {vm : Vm} {c : ClassId} {ck : Class} {mR m : MethodId} {r : Method} (hck : vm.classes[c]? = some ck) (hi : ck.isInterface = true) (hnone : ck.findMethod r.name r.desc = none) (hr : vm.method? mR = some r) (hpub : ClassFile.hasFlag r.accessFlags ClassFile.Acc.public_ = true) (hst : r.isStatic = false) (hpr : r.isPrivate = false) {kR : Class} (hkR : vm.classes[mR.cls]? = some kR) (hRi : kR.isInterface = true)
    (hway : ((c :: vm.superclasses c).any fun k => (declaredIn vm r.name r.desc k).any fun (_, z) => z.isPrivate || z.isStatic) = false) (hsel : selectMethod {} vm c mR = .method m) (hmR : m = mR) : lookupSpecial vm c r.name r.desc = .method m := by
  have hw : ∀ p, p ∈ vm.superclassesAux (vm.classes.size + 1) c → ((declaredIn vm r.name r.desc p).any fun (_, z) => z.isPrivate || z.isStatic) = false := by
    intro p hp
    have z := List.any_eq_false.mp hway p (List.mem_cons_of_mem _ hp)
    simpa using z
  unfold selectMethod at hsel
  rw [hr] at hsel
  simp only [hpr, Bool.false_eq_true, if_false, hkR, Option.any_some, hRi, Bool.not_true, Bool.and_false] at hsel
  split at hsel
  · cases hsel
  · unfold lookupSpecial
    have hown : ((vm.classes[c]?.bind (·.findMethod r.name r.desc)).map fun i => (⟨c, i⟩ : MethodId)) = none := by simp [hck, hnone]
    simp only [hown, Option.toList_none, List.nil_append]
    cases es : selectInSuperclasses vm mR r.name r.desc (vm.classes.size + 1) c with
    | some m' =>
      rw [es] at hsel
      have em : m' = m := by simpa using hsel
      subst em
      obtain ⟨tl, h1, h2⟩ := sel_some hr hpub hst hkR vm.classes.size (vm.classes.size + 1) c (by omega) (fun kc hkc => by rw [hck] at hkc; rw [← Option.some.inj hkc]; exact hnone) hw es
      have h1' : superclassMethods vm c r.name r.desc = m' :: tl := h1
      rw [h1', List.filter_cons]
      have hp : (!(vm.classes[c]?).any (·.isInterface) || (vm.method? m').any fun x => ClassFile.hasFlag x.accessFlags ClassFile.Acc.public_) = true := by rw [hmR, hr]; simp [hpub]
      rw [if_pos hp, List.find?_cons_of_pos (p := fun m => (vm.method? m).any (!·.isStatic)) h2]
    | none =>
      rw [es] at hsel
      have hno : superclassMethods vm c r.name r.desc = [] := by
        unfold superclassMethods
        rw [List.filterMap_eq_nil_iff]
        intro p hp
        cases ek : vm.classes[p]? with
        | none => simp
        | some kp =>
          cases ef : kp.findMethod r.name r.desc with
          | none => simp [ef]
          | some i =>
            exfalso
            obtain ⟨k, h1, h2, h3⟩ := sup_its _ _ hp
            obtain ⟨j, h4, h5⟩ := its_low (f := spF vm) (n := vm.classes.size) (fun a b h => spF_lt h) (k + 1) k p (by omega) h3
            have z := sel_none vm.classes.size c es j p kp i h4 h5 ek ef
            have y := (dcl_over hr hpub hst hkR ek ef (hw p hp)).1
            exact z (by simp [y])
      simp only [hno, List.filter_nil, List.find?_nil]
      exact hsel
