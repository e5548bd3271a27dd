set_option maxRecDepth 100000
set_option maxHeartbeats 4000000
/-! PLAIN LAW, operations 1: journey, flock, dusk, perch, best, first, with -/
theorem old.same {s : xS} {rd : xRd} {fz : Nat → Bool} {I I' : mI} (g : ∀ r, 133 ≤ r → I' r = I r) : old s rd fz I s rd fz I' := ⟨Nat.le_refl _, fun _ _ => ⟨rfl, rfl⟩, fun r h _ => ⟨rfl, rfl, fun _ => g r h⟩⟩
theorem rR.sig {q : Nat} {σ σ' : wS} {s : xS} {rd : xRd} {fz : Nat → Bool} {I : mI} (h : rR q σ s rd fz I) (h1 : σ' 0 1 = σ 0 1) (h7 : σ' 7 = σ 7) : rR q σ' s rd fz I := by
  unfold rR
  rw [h1, h7]
  exact h
theorem rC.sig {q : Nat} {σ σ' : wS} {s : xS} {rd : xRd} {fz : Nat → Bool} {I : mI} (h : rC q σ s rd fz I) (h2 : σ' 0 2 = σ 0 2) (h8 : σ' 8 = σ 8) (h9 : σ' 9 = σ 9) (h10 : σ' 10 = σ 10) : rC q σ' s rd fz I := by
  unfold rC sgs cbeg
  rw [h2, h8, h9, h10]
  exact h
theorem dp.sig {σ σ' : wS} {R : Nat} {p : Nat → Bool} (h7 : σ' 7 = σ 7) : ∀ m need, dp σ' R p m need = dp σ R p m need := by
  intro m
  induction m with
  | zero => intro need; rfl
  | succ m ih =>
    intro need
    simp only [dp, ih, h7]
theorem rD.sig {σ σ' : wS} {Im Im' : mI} {Jm : mJ} (h : rD σ Im Jm) (h1 : σ' 0 1 = σ 0 1) (h7 : σ' 7 = σ 7) (g : Im' 0 34 = Im 0 34) : rD σ' Im' Jm := by
  obtain ⟨d, e1, e2, e3⟩ := h
  refine ⟨d, e1, g.trans e2, fun m hm need hn => ?_⟩
  rw [e3 m hm need hn, h1, dp.sig h7]
theorem rf.to {s s' : xS} {rd rd' : xRd} {fz fz' : Nat → Bool} {I I' : mI} (h : rf s rd) (ho : old s rd fz I s' rd' fz' I') (gr : ∀ r k, r = 8 ∨ r = 9 ∨ r = 19 ∨ r = 20 ∨ r = 94 ∨ r = 96 → xR rd' r k = xR rd r k) : rf s' rd' :=
  ⟨fun q hq i hi y hy => ho.ko (h.1 q hq i hi y (by rw [← gr q i (by omega)]; exact hy)), fun q hq i hi y hy => ho.ko (h.2.1 q hq i hi y (by rw [← gr q i (by omega)]; exact hy)), fun k hk => (gr 94 k (by omega)).trans (h.2.2 k hk)⟩
theorem rK.to {s s' : xS} {rd rd' : xRd} {fz fz' : Nat → Bool} {I I' Im Im' : mI} (h : rK s rd fz I Im) (ho : old s rd fz I s' rd' fz' I') (g0 : I' 0 2 = I 0 2) (g : ∀ r, 12 ≤ r → r ≤ 22 → I' r = I r) (gr : ∀ k, xR rd' 19 k = xR rd 19 k ∧ xR rd' 20 k = xR rd 20 k) (m0 : Im' 0 70 = Im 0 70) (m33 : Im' 33 = Im 33) (hf : rf s' rd') : rK s' rd' fz' I' Im' := by
  refine ⟨hf, ?_⟩
  rcases h.2 with ⟨h1, h2⟩ | ⟨h1, h2, κ, h3, h4, h5, h6, h7⟩
  · exact .inl ⟨g0.trans h1, m0.trans h2⟩
  · exact .inr ⟨g0.trans h1, m0.trans h2, κ, h3, h4.to (fun r r1 r2 => g r r1 (by omega)), by rw [m33]; exact h5, h6.to ho (fun k => (gr k).1), h7.to ho (fun k => (gr k).2)⟩
theorem rT.to {I I' Im Im' : mI} (h : rT I Im) (g0 : I' 0 8 = I 0 8) (g : I' 92 = I 92) (m0 : Im' 0 39 = Im 0 39) (m : Im' 19 = Im 19) : rT I' Im' := by
  unfold rT
  rw [g0, g, m0, m]
  exact h
theorem rW.to {I I' Im Im' : mI} (h : rW I Im) (g0 : I' 0 12 = I 0 12) (g : ∀ r, 100 ≤ r → r < 120 → I' r = I r) (m0 : Im' 0 57 = Im 0 57) (m : Im' 25 = Im 25) : rW I' Im' := by
  obtain ⟨n, h1, h2, h3, h4⟩ := h
  refine ⟨n, h1, g0.trans h2, m0.trans h3, fun j hj => ?_⟩
  rw [g (100 + j) (by omega) (by omega), m]
  exact h4 j hj
theorem rB.to {I I' Im Im' : mI} (h : rB I Im) (g0 : I' 0 17 = I 0 17) (g : I' 127 = I 127) (m0 : Im' 0 68 = Im 0 68) (m : Im' 32 = Im 32) : rB I' Im' := by
  unfold rB
  rw [g0, g, m0, m]
  exact h
theorem rH.to {s : xS} {rd : xRd} {I I' Im Im' : mI} (h : rH s rd I Im) (g : ∀ r, 129 ≤ r → r < 133 → I' r = I r) (m : ∀ r, 29 ≤ r → r ≤ 31 → Im' r = Im r) : rH s rd I' Im' := by
  intro k hk
  rw [g (129 + k) (by omega) (by omega), m 29 (by omega) (by omega), m 30 (by omega) (by omega), m 31 (by omega) (by omega)]
  exact h k hk
theorem rS.to {s : xS} {rd : xRd} {fz : Nat → Bool} {J : mJ} {I I' : mI} {Jm : mJ} {Im Im' : mI} (h : rS s rd fz J I Jm Im) (g : ∀ r, 121 ≤ r → I' r = I r) (m : ∀ r, 26 ≤ r → r ≤ 27 → Im' r = Im r) : rS s rd fz J I' Jm Im' := by
  obtain ⟨ar, h1, h2⟩ := h
  refine ⟨ar, h1, fun k hk => ?_⟩
  rw [g (121 + k) (by omega), m 26 (by omega) (by omega), m 27 (by omega) (by omega)]
  rcases h2 k hk with e | ⟨q, n, e1, e2, e3, e4, e5, e6, e7, e8, e9, e10, e11⟩
  · exact .inl e
  · refine .inr ⟨q, n, e1, e2, e3, e4, e5, e6, e7, e8, e9, e10, fun j hj => ?_⟩
    rw [g (ar k) (by omega)]
    exact e11 j hj
/-- a call that changes patches, ways, the bird, what is found -/
theorem Rel.chg {t t' : Nat} {s : xS} {rd : xRd} {J : mJ} {I I' Im Im' : mI} {Jm : mJ} (h : Rel t s rd J I Im Jm)
    (k : ∀ σ, WF σ → xG 1 σ I → mG σ Im → rM t I Im σ → ∃ σ', WF σ' ∧ xG 1 σ' I' ∧ mG σ' Im' ∧ rM t' I' Im' σ' ∧ σ' 0 1 = σ 0 1 ∧ σ' 0 2 = σ 0 2 ∧ ∀ j, 7 ≤ j → σ' j = σ j)
    (gx : ∀ r, r = 0 ∨ (12 ≤ r ∧ r ≤ 22) ∨ r = 92 ∨ 99 ≤ r → I' r = I r) (gm : ∀ r, r = 19 ∨ 25 ≤ r → Im' r = Im r) (gf : ∀ f, f = 34 ∨ f = 39 ∨ f = 57 ∨ f = 68 ∨ f = 70 → Im' 0 f = Im 0 f) (ht : t ≤ t' := by omega) : Rel t' s rd J I' Im' Jm := by
  obtain ⟨h0, σ, fz, a1, a2, a3, a4, a5, a6, a7, a8, a9, a10, a11, a12, a13⟩ := h
  obtain ⟨σ', b1, b2, b3, b4, b5, b6, b7⟩ := k σ a1 a2 a3 a4
  have ho : old s rd fz I s rd fz I' := old.same (fun r hr => gx r (by omega))
  have g0 := gx 0 (by omega)
  refine ⟨by omega, σ', fz, b1, b2, b3, b4, a5.sig b5 (b7 7 (by omega)) (gf 34 (by omega)), (a6.to ho (fun _ => rfl)).sig b5 (b7 7 (by omega)), (a7.to ho (fun _ => rfl)).sig b6 (b7 8 (by omega)) (b7 9 (by omega)) (b7 10 (by omega)), ?_, ?_, ?_, ?_, ?_, ?_⟩
  · exact a8.to ho (by rw [g0]) (fun r r1 r2 => gx r (by omega)) (fun _ => ⟨rfl, rfl⟩) (gf 70 (by omega)) (gm 33 (by omega)) a8.1
  · exact a9.to (by rw [g0]) (gx 92 (by omega)) (gf 39 (by omega)) (gm 19 (by omega))
  · exact a10.to (by rw [g0]) (fun r r1 r2 => gx r (by omega)) (gf 57 (by omega)) (gm 25 (by omega))
  · exact a11.to (by rw [g0]) (gx 127 (by omega)) (gf 68 (by omega)) (gm 32 (by omega))
  · exact a12.to (fun r r1 => gx r (by omega)) (fun r r1 r2 => gm r (by omega))
  · exact a13.to (fun r r1 r2 => gx r (by omega)) (fun r r1 r2 => gm r (by omega))
theorem rM.same {t t' : Nat} {I Im : mI} {σ : wS} (h : rM t I Im σ) (ht : t ≤ t' := by omega) : rM t' I Im σ := by
  obtain ⟨rn, st, h1, h2, h3, h4, h5, h6⟩ := h
  exact ⟨rn, st, h1, by omega, h3, h4, by omega, h6⟩
theorem Rel.same {t t' : Nat} {s : xS} {rd : xRd} {J : mJ} {I Im : mI} {Jm : mJ} (h : Rel t s rd J I Im Jm) (ht : t ≤ t' := by omega) : Rel t' s rd J I Im Jm := h.chg (fun σ a1 a2 a3 a4 => ⟨σ, a1, a2, a3, a4.same, rfl, rfl, fun _ _ => rfl⟩) (fun _ _ => rfl) (fun _ _ => rfl) (fun _ _ => rfl)
/-! what 'most' goes by stays, if these do -/
def pe (σ σ' : wS) : Prop := σ' 0 0 = σ 0 0 ∧ σ' 0 3 = σ 0 3 ∧ σ' 2 = σ 2 ∧ σ' 3 = σ 3 ∧ σ' 5 = σ 5 ∧ σ' 6 = σ 6
theorem pe.flN {σ σ' : wS} (h : pe σ σ') (m : Nat) : ∀ k c, flN σ' m k c = flN σ m k c := by
  intro k
  induction k with
  | zero => intro c; rfl
  | succ k ih =>
    intro c
    show fl1 σ' m k _ = fl1 σ m k _
    rw [ih]
    unfold fl1
    rw [h.2.2.1, h.2.2.2.1]
theorem pe.adv {σ σ' : wS} (h : pe σ σ') (m c : Nat) : ∀ j, adv σ' m c j = adv σ m c j := by
  intro j
  induction j with
  | zero => rfl
  | succ j ih =>
    show Jvm.Pilot.@@N@@.flN σ' _ _ _ = Jvm.Pilot.@@N@@.flN σ _ _ _
    rw [ih, h.1, h.flN]
theorem pe.tk {σ σ' : wS} (h : pe σ σ') (m a e : Nat) : tk σ' m a e = tk σ m a e := by
  cases e with
  | zero => show (if σ' 0 0 = 0 then 0 else if m + 1 ≤ σ' 0 3 then 1 else 0) = (if σ 0 0 = 0 then 0 else if m + 1 ≤ σ 0 3 then 1 else 0); rw [h.1, h.2.1]
  | succ b => show (if σ' 0 0 ≤ b then 0 else if b = a then 0 else if m + σ' 6 (4 * a + b) ≤ σ' 0 3 then σ' 6 (4 * a + b) else 0) = (if σ 0 0 ≤ b then 0 else if b = a then 0 else if m + σ 6 (4 * a + b) ≤ σ 0 3 then σ 6 (4 * a + b) else 0); rw [h.1, h.2.1, h.2.2.2.2.2]
theorem pe.gn {σ σ' : wS} (h : pe σ σ') (a c e : Nat) : gn σ' a c e = gn σ a c e := by
  cases e with
  | zero => show σ' 5 _ = σ 5 _; rw [h.2.2.2.2.1]
  | succ b => rfl
theorem pe.Vf {σ σ' : wS} (h : pe σ σ') : ∀ n m a c, Vf σ' n m a c = Vf σ n m a c := by
  intro n
  induction n with
  | zero => intro m a c; rfl
  | succ n ih =>
    intro m a c
    refine mxF_congr 5 (fun e _ => ?_)
    show (if Jvm.Pilot.@@N@@.tk σ' m a e = 0 then 0 else _) = (if Jvm.Pilot.@@N@@.tk σ m a e = 0 then 0 else _)
    rw [h.tk, h.gn, ih]
    have e1 : nC σ' m a c e = nC σ m a c e := by
      unfold nC
      rw [h.tk, h.adv]
    rw [e1]
theorem pe.stok {σ σ' : wS} (h : pe σ σ') (m a c : Nat) : stok σ' m a c ↔ stok σ m a c := by
  show (m ≤ 20 ∧ a < 4 ∧ c < 2401 ∧ ∀ k, k < σ' 0 0 → dg c k ≤ σ' 2 k) ↔ (m ≤ 20 ∧ a < 4 ∧ c < 2401 ∧ ∀ k, k < σ 0 0 → dg c k ≤ σ 2 k)
  rw [h.1, h.2.2.1]
theorem fnd.pe {σ σ' : wS} {st : Nat} {f : Nat → Int32} (hf : fnd σ st f) (h : pe σ σ') : fnd σ' st f := by
  intro k hk
  obtain ⟨w, e1, e2, e3⟩ := hf k hk
  refine ⟨w, e1, e2, fun q m a c hs hk' => ?_⟩
  rw [e3 q m a c ((h.stok m a c).mp hs) hk']
  exact (h.Vf 21 m a c).symm
/-- a new stamp: nothing is found -/
theorem fnd.new {σ σ' : wS} {st : Nat} {f : Nat → Int32} (hf : fnd σ st f) : fnd σ' (st + 1) f := by
  intro k hk
  obtain ⟨w, e1, e2, e3⟩ := hf k hk
  exact ⟨w, e1, by omega, fun q => by omega⟩
theorem rM.pe {t t' : Nat} {I I' Im Im' : mI} {σ σ' : wS} (h : rM t I Im σ) (hp : pe σ σ') (g1 : I' 23 2 = I 23 2) (g2 : I' 24 = I 24) (g3 : Im' 0 18 = Im 0 18) (g4 : Im' 7 = Im 7) (ht : t ≤ t' := by omega) : rM t' I' Im' σ' := by
  obtain ⟨rn, st, h1, h2, h3, h4, h5, h6⟩ := h
  exact ⟨rn, st, g1.trans h1, by omega, by rw [g2]; exact h3, g3.trans h4, by omega, by rw [g4]; exact h6.pe hp⟩
theorem rM.bump {t : Nat} {I I' Im Im' : mI} {σ σ' : wS} (h : rM t I Im σ) (g1 : I' 23 2 = I 23 2) (g2 : I' 24 = I 24) (g3 : Im' 0 18 = Im 0 18 + 1) (g4 : Im' 7 = Im 7) : rM (t + 1) I' Im' σ' := by
  obtain ⟨rn, st, h1, h2, h3, h4, h5, h6⟩ := h
  exact ⟨rn, st + 1, g1.trans h1, by omega, by rw [g2]; exact h3, by rw [g3, h4, nI_1], by omega, by rw [g4]; exact h6.new⟩
/-! conditions on both sides -/
theorem x_in_c {a b c : Int32} {s : xS} {rd : xRd} {J : mJ} {I : mI} {Q : Int32 → Prop} (h1 : b ≤ a ∧ a ≤ c → Q 1) (h0 : ¬ (b ≤ a ∧ a ≤ c) → Q 0) : x_X0_in a b c s rd J I Q := by
  unfold x_X0_in
  refine ⟨fun q => h0 (fun z => absurd z.1 (Int32.not_le.mpr q)), fun q => ⟨fun q2 => h0 (fun z => absurd z.2 (Int32.not_le.mpr q2)), fun q2 => h1 ⟨Int32.not_lt.mp q, Int32.not_lt.mp q2⟩⟩⟩
theorem m_in_c {a b c : Int32} {I : mI} {J : mJ} {Q : Int32 → mI → mJ → Prop} (h1 : b ≤ a ∧ a ≤ c → Q 1 I J) (h0 : ¬ (b ≤ a ∧ a ≤ c) → Q 0 I J) : m_in a b c I J Q := by
  unfold m_in
  refine ⟨fun q => h0 (fun z => absurd z.1 (Int32.not_le.mpr q)), fun q => ⟨fun q2 => h0 (fun z => absurd z.2 (Int32.not_le.mpr q2)), fun q2 => h1 ⟨Int32.not_lt.mp q, Int32.not_lt.mp q2⟩⟩⟩
theorem in_of {a : Int32} {lo hi : Nat} (hl : lo < 2 ^ 31) (hh : hi < 2 ^ 31) (h : nI lo ≤ a ∧ a ≤ nI hi) : ∃ n, lo ≤ n ∧ n ≤ hi ∧ a = nI n := by
  obtain ⟨n, hn, rfl⟩ := nI_of (x := a) (fun q => by
    have h1 := h.1
    rw [Int32.le_iff_toInt_le, nI_toInt hl] at h1
    rw [Int32.lt_iff_toInt_lt, show (0 : Int32).toInt = 0 by decide] at q
    omega)
  exact ⟨n, (nI_leI hl hn).mp h.1, (nI_leI hn hh).mp h.2, rfl⟩
/-- a patch's number -/
theorem pt_of {a : Int32} {P : Nat} (hP : P ≤ 4) (h : 0 ≤ a ∧ a ≤ nI P - 1) : ∃ n, n < P ∧ a = nI n := by
  cases P with
  | zero =>
    exfalso
    have h1 := h.1
    have h2 := h.2
    rw [Int32.le_iff_toInt_le] at h1 h2
    rw [show (0 : Int32).toInt = 0 by decide] at h1
    rw [show (nI 0 - 1 : Int32).toInt = -1 by decide] at h2
    omega
  | succ p =>
    rw [nI_pred] at h
    obtain ⟨n, h1, h2, h3⟩ := in_of (lo := 0) (hi := p) (by decide) (by omega) h
    exact ⟨n, by omega, h3⟩
theorem x_isPatch_c {a : Int32} {s : xS} {rd : xRd} {J : mJ} {I : mI} {Q : Int32 → Prop} (h1 : 0 ≤ a ∧ a ≤ I 1 0 - 1 → Q 1) (h0 : ¬ (0 ≤ a ∧ a ≤ I 1 0 - 1) → Q 0) : x_X0_isPatch a s rd J I Q := by
  unfold x_X0_isPatch
  exact x_in_c (fun q => ⟨.inr rfl, h1 q⟩) (fun q => ⟨.inl rfl, h0 q⟩)
theorem m_isPatch_c {a : Int32} {I : mI} {J : mJ} {Q : Int32 → mI → mJ → Prop} (h1 : 0 ≤ a ∧ a ≤ I 0 8 - 1 → Q 1 I J) (h0 : ¬ (0 ≤ a ∧ a ≤ I 0 8 - 1) → Q 0 I J) : m_isPatch a I J Q := by
  unfold m_isPatch
  exact m_in_c (fun q => ⟨.inr rfl, h1 q⟩) (fun q => ⟨.inl rfl, h0 q⟩)
theorem u2r {α : Type} {f : Nat → Nat → α} {i k r : Nat} {v : α} (h : r ≠ i) : u2 f i k v r = f r := funext fun b => u2_ne _ _ (Or.inl h)
/-- a scalar anew -/
theorem xG.set {σ : wS} {I : mI} {k n : Nat} {v : Int32} (h : xG 1 σ I) (hk : k < 8) (hv : v = nI n) : xG 1 (u2 σ 0 k n) (u2 I 1 k v) := by
  unfold xG
  rw [u2r (r := 1 + 1) (by decide), u2r (r := 1 + 2) (by decide), u2r (r := 1 + 3) (by decide), u2r (r := 1 + 4) (by decide), u2r (r := 1 + 5) (by decide), u2r (r := 1 + 6) (by decide), u2r (f := σ) (r := 1) (by decide), u2r (f := σ) (r := 2) (by decide), u2r (f := σ) (r := 3) (by decide), u2r (f := σ) (r := 4) (by decide), u2r (f := σ) (r := 5) (by decide), u2r (f := σ) (r := 6) (by decide),
    u2_ne _ _ (Or.inr (show 8 ≠ k by omega)), u2_ne _ _ (Or.inr (show 9 ≠ k by omega)), u2_ne _ _ (Or.inr (show 10 ≠ k by omega)), u2_ne _ _ (Or.inr (show 11 ≠ k by omega))]
  exact ⟨h.1.up hv, h.2.1, h.2.2.1, h.2.2.2.1, h.2.2.2.2.1, h.2.2.2.2.2.1, h.2.2.2.2.2.2.1, h.2.2.2.2.2.2.2.to (u2_row (by decide)) (u2_row (by decide))⟩
/-- which count of the model a scalar is -/
def sF (k : Nat) : Nat := if k = 0 then 8 else if k = 1 then 9 else if k = 2 then 10 else if k = 3 then 2 else if k = 4 then 4 else if k = 5 then 6 else if k = 6 then 7 else if k = 7 then 5 else if k = 8 then 0 else if k = 9 then 3 else if k = 10 then 12 else 1
theorem mG.set {σ : wS} {I : mI} {k n : Nat} {v : Int32} (h : mG σ I) (hk : k < 12) (hv : v = nI n) : mG (u2 σ 0 k n) (u2 I 0 (sF k) v) := by
  obtain ⟨⟨c0, c1, c2, c3, c4, c5, c6, c7, c8, c9, c10, c11⟩, hr⟩ := h
  unfold mG mGv
  rw [u2r (f := I) (r := 1) (by decide), u2r (f := I) (r := 2) (by decide), u2r (f := I) (r := 3) (by decide), u2r (f := I) (r := 4) (by decide), u2r (f := I) (r := 5) (by decide), u2r (f := I) (r := 6) (by decide), u2r (f := σ) (r := 1) (by decide), u2r (f := σ) (r := 2) (by decide), u2r (f := σ) (r := 3) (by decide), u2r (f := σ) (r := 4) (by decide), u2r (f := σ) (r := 5) (by decide), u2r (f := σ) (r := 6) (by decide), u2r (f := σ) (r := 7) (by decide), u2r (f := σ) (r := 8) (by decide), u2r (f := σ) (r := 9) (by decide), u2r (f := σ) (r := 10) (by decide)]
  refine ⟨?_, hr⟩
  have h12 : k = 0 ∨ k = 1 ∨ k = 2 ∨ k = 3 ∨ k = 4 ∨ k = 5 ∨ k = 6 ∨ k = 7 ∨ k = 8 ∨ k = 9 ∨ k = 10 ∨ k = 11 := by omega
  rcases h12 with rfl | rfl | rfl | rfl | rfl | rfl | rfl | rfl | rfl | rfl | rfl | rfl <;> exact ⟨by first | exact c0 | exact hv, by first | exact c1 | exact hv, by first | exact c2 | exact hv, by first | exact c3 | exact hv, by first | exact c4 | exact hv, by first | exact c5 | exact hv, by first | exact c6 | exact hv, by first | exact c7 | exact hv, by first | exact c8 | exact hv, by first | exact c9 | exact hv, by first | exact c10 | exact hv, by first | exact c11 | exact hv⟩
/-- ranges, where scalars from 4 to 7 alone change -/
theorem WF.set4 {σ : wS} {k n : Nat} (h : WF σ) (hk : k = 4 ∧ 1 ≤ n ∧ n ≤ 60 ∨ k = 5 ∧ n ≤ 6 ∨ k = 6 ∧ n ≤ 6 ∨ k = 7 ∧ 1 ≤ n ∧ n ≤ 5) : WF (u2 σ 0 k n) := by
  have g : ∀ j, j < 4 ∨ 7 < j → u2 σ 0 k n 0 j = σ 0 j := fun j hj => u2_ne _ _ (Or.inr (by omega))
  obtain ⟨h1, h2, ⟨h3, h4, h5, h6, h7, h8, h9⟩, h10⟩ := h
  unfold WF wf stok
  rw [g 0 (by omega), g 1 (by omega), g 2 (by omega), g 3 (by omega), g 8 (by omega), g 9 (by omega), g 10 (by omega), g 11 (by omega), u2r (f := σ) (r := 1) (by decide), u2r (f := σ) (r := 2) (by decide), u2r (f := σ) (r := 3) (by decide), u2r (f := σ) (r := 4) (by decide), u2r (f := σ) (r := 5) (by decide), u2r (f := σ) (r := 6) (by decide), u2r (f := σ) (r := 7) (by decide), u2r (f := σ) (r := 8) (by decide)]
  refine ⟨h1, h2, ?_, h10⟩
  rcases hk with ⟨rfl, q, q2⟩ | ⟨rfl, q⟩ | ⟨rfl, q⟩ | ⟨rfl, q, q2⟩
  · exact ⟨h3, h4, ⟨q, q2⟩, h6, h7, h8, h9⟩
  · exact ⟨h3, h4, h5, q, h7, h8, h9⟩
  · exact ⟨h3, h4, h5, h6, q, h8, h9⟩
  · exact ⟨h3, h4, h5, h6, h7, ⟨q, q2⟩, h9⟩
theorem pe.set4 {σ : wS} {k n : Nat} (hk : k = 4 ∨ k = 5 ∨ k = 6 ∨ k = 7 ∨ k = 8 ∨ k = 9 ∨ k = 10 ∨ k = 11) : pe σ (u2 σ 0 k n) := ⟨u2_ne _ _ (Or.inr (by omega)), u2_ne _ _ (Or.inr (by omega)), u2r (by decide), u2r (by decide), u2r (by decide), u2r (by decide)⟩
/-- one scalar from 4 to 7 changes on both sides -/
theorem Rel.set4 {t : Nat} {s : xS} {rd : xRd} {J : mJ} {I Im : mI} {Jm : mJ} {k n : Nat} {v : Int32} (h : Rel t s rd J I Im Jm) (hk : k = 4 ∧ 1 ≤ n ∧ n ≤ 60 ∨ k = 5 ∧ n ≤ 6 ∨ k = 6 ∧ n ≤ 6 ∨ k = 7 ∧ 1 ≤ n ∧ n ≤ 5) (hv : v = nI n) : Rel (t + 1) s rd J (u2 I 1 k v) (u2 Im 0 (sF k) v) Jm := by
  have hs : sF k ≤ 7 ∧ 4 ≤ sF k := by rcases hk with ⟨rfl, _⟩ | ⟨rfl, _⟩ | ⟨rfl, _⟩ | ⟨rfl, _⟩ <;> decide
  refine h.chg (fun σ a1 a2 a3 a4 => ⟨u2 σ 0 k n, a1.set4 hk, a2.set (by omega) hv, a3.set (by omega) hv, a4.pe (pe.set4 (by omega)) ?_ ?_ ?_ ?_, u2_ne _ _ (Or.inr (by omega)), u2_ne _ _ (Or.inr (by omega)), fun j hj => u2r (by omega)⟩) (fun r hr => u2r (by omega)) (fun r hr => u2r (by omega)) (fun f hf => u2_ne _ _ (Or.inr (by omega)))
  · rw [u2r (by decide)]
  · rw [u2r (by decide)]
  · exact u2_ne _ _ (Or.inr (by omega))
  · rw [u2r (by decide)]
abbrev RelQ (t : Nat) (s : xS) (rd : xRd) (J : mJ) (I : mI) (r : Int32) : Int32 → mI → mJ → Prop := fun r' Im' Jm' => r = r' ∧ Rel t s rd J I Im' Jm'
theorem p_journey {t : Nat} {a : Int32} {s : xS} {rd : xRd} {J : mJ} {I Im : mI} {Jm : mJ} (h : Rel t s rd J I Im Jm) : x_X0_journey a s rd J I (fun r I' => m_journey a Im Jm (RelQ (t + 1) s rd J I' r)) := by
  unfold x_X0_journey m_journey
  refine x_in_c (fun q => br_f (by decide) (m_in_c (fun _ => br_f (by decide) ?_) (fun z => absurd q z))) (fun q => br_t rfl (m_in_c (fun z => absurd z q) (fun _ => br_t rfl ⟨rfl, h.same⟩)))
  obtain ⟨n, h1, h2, rfl⟩ := in_of (lo := 1) (hi := 60) (by decide) (by decide) q
  obtain ⟨_, σ, fz, a1, a2, a3, _⟩ := id h
  exact ⟨(a2.1 4 (by decide)).trans a3.1.2.2.2.2.1.symm, h.set4 (k := 4) (.inl ⟨rfl, h1, h2⟩) rfl⟩
