set_option maxRecDepth 100000
set_option maxHeartbeats 4000000
/-! PLAIN LAW, operations 21: clause, ruled, run, loss -/
/-- what a rule says: an act, or that there's none -/
def rv (σ : wS) (m a : Nat) (bv : Nat → Nat) : Option Nat := if sel σ m a bv (σ 0 2) 0 < σ 0 2 then some (σ 8 (sel σ m a bv (σ 0 2) 0)) else if tk σ m a 0 = 0 then none else some 0
def rI : Option Nat → Int32
  | none => -9
  | some e => aI e
theorem rv_ok {σ : wS} {m a e : Nat} {bv : Nat → Nat} (h8 : ∀ k, k < σ 0 2 → σ 8 k < 5) (h : rv σ m a bv = some e) : e < 5 ∧ tk σ m a e ≠ 0 := by
  unfold rv at h
  by_cases c : sel σ m a bv (σ 0 2) 0 < σ 0 2
  · rw [if_pos c] at h
    have z := (sel_le (σ := σ) (m := m) (a := a) (bv := bv) (σ 0 2) 0).2.2 (by omega)
    rw [← Option.some.inj h]
    exact ⟨h8 _ c, z.2⟩
  · rw [if_neg c] at h
    by_cases c2 : tk σ m a 0 = 0
    · rw [if_pos c2] at h; cases h
    · rw [if_neg c2] at h
      rw [← Option.some.inj h]
      exact ⟨by decide, c2⟩
theorem x_ruledFor_s {σ : wS} {s : xS} {rd : xRd} {J : mJ} {I : mI} {t f m a c g : Nat} {bv : Nat → Nat} {Q : Int32 → Prop} (hw : wf σ) (hP : xP σ I) (hTs : tS s rd t f) (htr : tr I t f m a c g) (hm : m ≤ 20) (ha : a < 4) (hC : σ 0 2 ≤ 6) (h12 : I 1 2 = nI (σ 0 2)) (h8 : ∀ k, k < σ 0 2 → σ 8 k < 5) (hb : ∀ k, k < σ 0 2 → bitC σ s rd J I t m a c g k (bv k)) (h : Q (rI (rv σ m a bv))) : x_X0_ruledFor t s rd J I Q := by
  unfold x_X0_ruledFor
  refine x_clauseFor_s hw hP hTs htr hm ha hC h12 h8 hb ?_
  unfold rv at h
  by_cases k : sel σ m a bv (σ 0 2) 0 < σ 0 2
  · rw [if_pos k] at h ⊢
    obtain ⟨_, ⟨o, cd, e1, e2, e3, _⟩, _⟩ := hb _ k
    refine br_f (fun e => ?_) ⟨vp_in_nI (by omega) (by decide), o, by rw [nI_clamp (by omega)]; exact e1, e2, by rw [e3]; exact h⟩
    have z : ¬ nI (sel σ m a bv (σ 0 2) 0) < 0 := nI_pos (by omega)
    rw [e] at z
    exact z (by decide)
  · rw [if_neg k] at h ⊢
    refine br_t rfl ?_
    have t5 := tk_5 (σ := σ) (m := m) (a := a) (e := 0) hw
    rw [← aI_0]
    refine x_takes_s hw hP hTs.1 htr.1 htr.2.1 hm ha (by decide) (pk_le (tk σ m a 0) 0 (fun z => ?_) (fun z => ?_) rfl rfl (by omega) (by decide))
    · rw [if_pos (by omega)] at h; exact h
    · rw [if_neg (by omega)] at h; exact h
theorem m_ruledThere_s {σ : wS} {s : xS} {rd : xRd} {J : mJ} {I I0 : mI} {Jm : mJ} {t m a c g : Nat} {bv : Nat → Nat} {Q : Int32 → mI → mJ → Prop} (hw : wf σ) (hs : stok σ m a c) (hM : mP σ I0) (hT : aT I0 m a c g) (hCm : mC σ I0) (hC : σ 0 2 ≤ 6) (h8 : ∀ k, k < σ 0 2 → σ 8 k < 5) (hb : ∀ k, k < σ 0 2 → bitC σ s rd J I t m a c g k (bv k)) (h : ∀ Im', qI I0 Im' → Q (rI (rv σ m a bv)) Im' Jm) : m_ruledThere I0 Jm Q := by
  unfold m_ruledThere
  refine m_clauseThere_s hw hs hM hT hCm hC h8 hb (fun Im' gI => ?_)
  unfold rv at h
  by_cases k : sel σ m a bv (σ 0 2) 0 < σ 0 2
  · rw [if_pos k] at h ⊢
    refine br_f (nI_pos (by omega)) ⟨vp_in_nI (by omega) (by decide), ?_⟩
    rw [nI_clamp (by omega), (gI.mC hCm).2.2.1 _ (by omega)]
    exact h Im' gI
  · rw [if_neg k] at h ⊢
    refine br_t (by decide) ?_
    obtain ⟨t1, t2, t3, t4⟩ := gI.aT hT
    rw [t1, t2, t3, ← aI_0]
    refine m_leads_s hw (gI.mP hM) hs (by decide) (fun z => br_t rfl ?_) (fun z Im2 _ _ _ _ gn => br_f (by decide) ?_)
    · rw [if_pos z] at h; exact h Im' gI
    · rw [if_neg z] at h; exact h Im2 (gI.nxo gn)
/-- the model asks about a trip: scratch alone is changed -/
def sI (I0 I : mI) : Prop := (∀ r, r ≠ 0 → r ≠ 24 → I r = I0 r) ∧ ∀ f, f < 19 ∨ (22 < f ∧ f < 51) ∨ 54 < f → I 0 f = I0 0 f
theorem sI.q {I0 I I' : mI} (h : sI I0 I) (g : qI I I') : sI I0 I' := ⟨fun r r0 r4 => (g.1 r r0 r4).trans (h.1 r r0 r4), fun f hf => (g.2 f (by omega)).trans (h.2 f hf)⟩
theorem sI.set {I0 I : mI} {f : Nat} {v : Int32} (h : sI I0 I) (hf : (19 ≤ f ∧ f ≤ 22) ∨ (51 ≤ f ∧ f ≤ 54)) : sI I0 (u2 I 0 f v) := ⟨fun r r0 r4 => (u2r r0).trans (h.1 r r0 r4), fun x hx => by rw [u2_ne _ _ (Or.inr (by omega))]; exact h.2 x hx⟩
theorem sI.refl {I : mI} : sI I I := ⟨fun _ _ _ => rfl, fun _ _ => rfl⟩
theorem sI.mP {σ : wS} {I0 I : mI} (g : sI I0 I) (hM : mP σ I0) : @@N@@.mP σ I := by
  obtain ⟨a1, a2, a3, a4, a5, a6⟩ := hM
  refine ⟨(g.2 8 (by decide)).trans a1, (g.2 2 (by decide)).trans a2, ?_, ?_, ?_, ?_⟩
  · rw [g.1 1 (by decide) (by decide)]; exact a3
  · rw [g.1 1 (by decide) (by decide)]; exact a4
  · rw [g.1 1 (by decide) (by decide)]; exact a5
  · rw [g.1 2 (by decide) (by decide)]; exact a6
theorem sI.mC {σ : wS} {I0 I : mI} (g : sI I0 I) (h : mC σ I0) : @@N@@.mC σ I := by
  obtain ⟨h1, h2, h3, h4⟩ := h
  refine ⟨(g.2 10 (by decide)).trans h1, ?_, ?_, ?_⟩
  · rw [g.1 4 (by decide) (by decide)]; exact h2
  · rw [g.1 5 (by decide) (by decide)]; exact h3
  · rw [g.1 6 (by decide) (by decide)]; exact h4
theorem Rel.ask {t t' : Nat} {s : xS} {rd : xRd} {J : mJ} {I I' Im Im' : mI} {Jm : mJ} (h : Rel t s rd J I Im Jm) (gI : ∀ r, r ≠ 97 → r ≠ 98 → I' r = I r) (g : sI Im Im') (ht : t ≤ t' := by omega) : Rel t' s rd J I' Im' Jm :=
  h.fr (fun r hr => gI r (by omega) (by omega)) (fun _ _ => rfl) (fun r hr => g.1 r (by omega) (by omega)) (fun f hf => g.2 f (by omega)) rfl rfl
theorem ask_s {σ : wS} {I : mI} (h : mG σ I) : sI I (u2 (u2 (u2 (u2 I 0 51 (I 0 0)) 0 52 (I 0 3)) 0 53 (I 0 12)) 0 54 (I 0 1)) ∧ aT (u2 (u2 (u2 (u2 I 0 51 (I 0 0)) 0 52 (I 0 3)) 0 53 (I 0 12)) 0 54 (I 0 1)) (σ 0 8) (σ 0 9) (σ 0 10) (σ 0 11) :=
  ⟨(((sI.refl.set (by omega)).set (by omega)).set (by omega)).set (by omega), h.min, h.at_, h.food, h.got⟩
theorem p_clause {t : Nat} {s : xS} {rd : xRd} {J : mJ} {I Im : mI} {Jm : mJ} (h : Rel t s rd J I Im Jm) : x_X0_clause s rd J I (fun r => m_clause Im Jm (RelQ (t + 1) s rd J I r)) := by
  obtain ⟨h0, σ, fz, hS⟩ := h.opn
  have hw := hS.1.1
  have hs := hS.1.stok
  have hC := hS.1.2.2.1.2.1
  have h8 := hS.1.2.2.2.2.2.2.2.2.2
  obtain ⟨bv, hb⟩ := bits_s (J := J) hw hS.2.1.xP (tS_10 (s := s) (rd := rd)) hS.2.1.tr hs.1 hs.2.1 hs.2.2.1 hS.1.got hS.1.2.2.2.1 hC hS.2.2.2.2.2.2.1
  unfold x_X0_clause
  refine x_clauseFor_s hw hS.2.1.xP tS_10 hS.2.1.tr hs.1 hs.2.1 hC (hS.2.1.1 2 (by decide)) h8 hb ?_
  unfold m_clause m_askHere
  obtain ⟨k1, k2⟩ := ask_s hS.2.2.1
  refine m_clauseThere_s hw hs (k1.mP hS.2.2.1.mP) k2 (k1.mC hS.2.2.1.mC) hC h8 hb (fun Im' g => ?_)
  have hr := h.ask (t' := t + 1) (I' := I) (fun _ _ _ => rfl) (k1.q g)
  by_cases k : sel σ (σ 0 8) (σ 0 9) bv (σ 0 2) 0 < σ 0 2
  · rw [if_pos k, if_pos k]
    exact br_t (nI_pos' (by omega)) ⟨rfl, hr⟩
  · rw [if_neg k, if_neg k]
    exact br_f (by decide) ⟨rfl, hr⟩
theorem p_ruled {t : Nat} {s : xS} {rd : xRd} {J : mJ} {I Im : mI} {Jm : mJ} (h : Rel t s rd J I Im Jm) : x_X0_ruled s rd J I (fun r => m_ruled Im Jm (RelQ (t + 1) s rd J I r)) := by
  obtain ⟨h0, σ, fz, hS⟩ := h.opn
  have hw := hS.1.1
  have hs := hS.1.stok
  have hC := hS.1.2.2.1.2.1
  have h8 := hS.1.2.2.2.2.2.2.2.2.2
  obtain ⟨bv, hb⟩ := bits_s (J := J) hw hS.2.1.xP (tS_10 (s := s) (rd := rd)) hS.2.1.tr hs.1 hs.2.1 hs.2.2.1 hS.1.got hS.1.2.2.2.1 hC hS.2.2.2.2.2.2.1
  unfold x_X0_ruled
  refine x_ruledFor_s hw hS.2.1.xP tS_10 hS.2.1.tr hs.1 hs.2.1 hC (hS.2.1.1 2 (by decide)) h8 hb ?_
  unfold m_ruled m_askHere
  obtain ⟨k1, k2⟩ := ask_s hS.2.2.1
  exact m_ruledThere_s hw hs (k1.mP hS.2.2.1.mP) k2 (k1.mC hS.2.2.1.mC) hC h8 hb (fun Im' g => ⟨rfl, h.ask (I' := I) (fun _ _ _ => rfl) (k1.q g)⟩)
