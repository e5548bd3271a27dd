set_option maxRecDepth 100000
set_option maxHeartbeats 4000000
/-! PLAIN LAW, operations 20: clause, ruled -/
/-- the model's heap while a trip is asked about -/
def qI (I0 I : mI) : Prop := (∀ r, r ≠ 0 → r ≠ 24 → I r = I0 r) ∧ ∀ f, f < 19 ∨ 22 < f → I 0 f = I0 0 f
theorem qI.refl {I : mI} : qI I I := ⟨fun _ _ _ => rfl, fun _ _ => rfl⟩
theorem qI.cI {I0 I I' : mI} (h : qI I0 I) (g : cI I I') : qI I0 I' := ⟨fun r r0 r4 => (g r r4).trans (h.1 r r0 r4), fun f hf => by rw [g 0 (by decide)]; exact h.2 f hf⟩
theorem qI.nxo {I0 I I' : mI} (h : qI I0 I) (g : nxo I I') : qI I0 I' := ⟨fun r r0 r4 => (g.1 r r0).trans (h.1 r r0 r4), fun f hf => (g.2 f hf).trans (h.2 f hf)⟩
theorem qI.mP {σ : wS} {I0 I : mI} (g : qI I0 I) (hM : mP σ I0) : @@N@@.mP σ I := by
  obtain ⟨a1, a2, a3, a4, a5, a6⟩ := hM
  refine ⟨(g.2 8 (by decide)).trans a1, (g.2 2 (by decide)).trans a2, ?_, ?_, ?_, ?_⟩
  · rw [g.1 1 (by decide) (by decide)]; exact a3
  · rw [g.1 1 (by decide) (by decide)]; exact a4
  · rw [g.1 1 (by decide) (by decide)]; exact a5
  · rw [g.1 2 (by decide) (by decide)]; exact a6
theorem qI.aT {I0 I : mI} {m a c gt : Nat} (g : qI I0 I) (h : aT I0 m a c gt) : @@N@@.aT I m a c gt := ⟨(g.2 51 (by decide)).trans h.1, (g.2 52 (by decide)).trans h.2.1, (g.2 53 (by decide)).trans h.2.2.1, (g.2 54 (by decide)).trans h.2.2.2⟩
/-- the model's clauses -/
def mC (σ : wS) (I : mI) : Prop := I 0 10 = nI (σ 0 2) ∧ rowE 6 (I 4) (σ 10) ∧ (∀ k, k < 6 → I 5 k = aI (σ 8 k)) ∧ rowE 210 (I 6) (σ 9)
theorem qI.mC {σ : wS} {I0 I : mI} (g : qI I0 I) (h : mC σ I0) : @@N@@.mC σ I := by
  obtain ⟨h1, h2, h3, h4⟩ := h
  refine ⟨(g.2 10 (by decide)).trans h1, ?_, ?_, ?_⟩
  · rw [g.1 4 (by decide) (by decide)]; exact h2
  · rw [g.1 5 (by decide) (by decide)]; exact h3
  · rw [g.1 6 (by decide) (by decide)]; exact h4
theorem mG.mC {σ : wS} {I : mI} (h : mG σ I) : @@N@@.mC σ I := ⟨h.1.2.2.2.2.2.2.2.2.2.2.1, h.2.2.2.2.1, h.2.2.2.2.2.1, h.2.2.2.2.2.2⟩
/-- a clause's bit at a trip: both sides come to it -/
def bitC (σ : wS) (s : xS) (rd : xRd) (J : mJ) (I : mI) (t m a c g k b : Nat) : Prop := b ≤ 1 ∧ (∃ o cd, xR rd 9 k = some o ∧ xo s o 16 ∧ I o 0 = aI (σ 8 k) ∧ xR rd o 1 = some cd ∧ ∀ Q : Int32 → Prop, Q (nI b) → x_xcond 100 cd t s rd J I Q) ∧
  ∀ (Im : mI) (Jm : mJ) (Q : Int32 → mI → mJ → Prop), mP σ Im → aT Im m a c g → mC σ Im → (∀ Im', cI Im Im' → Q (nI b) Im' Jm) → m_holds (nI k) Im Jm Q
theorem bits_s {σ : wS} {s : xS} {rd : xRd} {fz : Nat → Bool} {J : mJ} {I : mI} {t f m a c g : Nat} (hw : wf σ) (hP : xP σ I) (hTs : tS s rd t f) (htr : tr I t f m a c g) (hm : m ≤ 20) (ha : a < 4) (hc : c < 2401) (hg : g ≤ 600) (hat : a < σ 0 0 ∨ (σ 0 0 = 0 ∧ a = 0)) (hC : σ 0 2 ≤ 6) (hR : rC 9 σ s rd fz I) : ∃ bv : Nat → Nat, ∀ k, k < σ 0 2 → bitC σ s rd J I t m a c g k (bv k) := by
  have one : ∀ k, k < σ 0 2 → ∃ b, bitC σ s rd J I t m a c g k b := by
    intro k hk
    obtain ⟨g1, g2, o, cd, e1, e2, e3, e4, e5, e6, n, e7, e8⟩ := hR k hk
    obtain ⟨b, hb, hx, hmm⟩ := cond_s (J := J) hw hP hTs htr hm ha hc hg hat n cd _ e8
    refine ⟨b, hb, ⟨o, cd, e1, e2, e5, e6, fun Q hQ => hx 100 e7 Q hQ⟩, fun Im Jm Q hM hT hCm K => ?_⟩
    have el : (sgs σ k).length = σ 10 k - cbeg σ k := by unfold sgs; simp
    have rl : rowL (Im 6) (cbeg σ k) (sgs σ k) := rowL.map _ _ (fun j hj => hCm.2.2.2 _ (by omega))
    have j18 : m_holds_j18 Q (nI k) 0 (nI (cbeg σ k)) Im Jm := by
      unfold m_holds_j18
      refine ⟨1 + (sgs σ k).length, hmm Im Jm k (σ 10 k) Q hM hT (by omega) (hCm.2.1 k (by omega)) g2 (cbeg σ k) 0 Im 1 rl (by omega) (by omega) (fun _ _ => rfl) (fun Im' gI hB _ => ?_)⟩
      unfold m_holds_l19
      rw [nI_clamp (by omega), gI 4 (by decide), hCm.2.1 k (by omega), el, show cbeg σ k + (σ 10 k - cbeg σ k) = σ 10 k by omega]
      refine ⟨vp_in_nI (by omega) (by decide), br_t (nI_le (Nat.le_refl _) (by omega)) ?_⟩
      rw [show (0 : Int32).toNatClampNeg = 0 from rfl, hB]
      have z := K Im' gI
      refine pk_eq b 1 (fun e => ?_) (fun e => ?_) rfl rfl (by omega) (by decide)
      · rw [e] at z; exact z
      · rw [show b = 0 by omega] at z; exact z
    unfold m_holds
    refine pk_eq k 0 (fun e => ?_) (fun e => ?_) rfl rfl (by omega) (by decide)
    · subst e
      exact j18
    · have ep : nI k - 1 = nI (k - 1) := by
        obtain ⟨q, rfl⟩ : ∃ q, k = q + 1 := ⟨k - 1, by omega⟩
        rw [nI_pred]; rfl
      rw [ep, nI_clamp (by omega), hCm.2.1 (k - 1) (by omega)]
      refine ⟨vp_in_nI (by omega) (by decide), ?_⟩
      have ec : cbeg σ k = σ 10 (k - 1) := by unfold cbeg; rw [if_neg e]
      rw [← ec]
      exact j18
  refine ⟨fun k => if h : k < σ 0 2 then Classical.choose (one k h) else 0, fun k hk => ?_⟩
  show bitC σ s rd J I t m a c g k (if h : k < σ 0 2 then Classical.choose (one k h) else 0)
  rw [dif_pos hk]
  exact Classical.choose_spec (one k hk)
/-- the first clause that rules -/
def sel (σ : wS) (m a : Nat) (bv : Nat → Nat) : Nat → Nat → Nat
  | 0, k => k
  | n + 1, k => if bv k = 1 ∧ tk σ m a (σ 8 k) ≠ 0 then k else sel σ m a bv n (k + 1)
theorem sel_le {σ : wS} {m a : Nat} {bv : Nat → Nat} : ∀ n k, sel σ m a bv n k ≤ k + n ∧ k ≤ sel σ m a bv n k ∧ (sel σ m a bv n k < k + n → bv (sel σ m a bv n k) = 1 ∧ tk σ m a (σ 8 (sel σ m a bv n k)) ≠ 0) := by
  intro n
  induction n with
  | zero => intro k; exact ⟨Nat.le_refl _, Nat.le_refl _, fun h => absurd h (Nat.lt_irrefl _)⟩
  | succ n ih =>
    intro k
    by_cases e : bv k = 1 ∧ tk σ m a (σ 8 k) ≠ 0
    · have : sel σ m a bv (n + 1) k = k := if_pos e
      rw [this]
      exact ⟨by omega, Nat.le_refl _, fun _ => e⟩
    · have : sel σ m a bv (n + 1) k = sel σ m a bv n (k + 1) := if_neg e
      rw [this]
      obtain ⟨a1, a2, a3⟩ := ih (k + 1)
      exact ⟨by omega, by omega, fun h => a3 (by omega)⟩
theorem x_clauseFor_s {σ : wS} {s : xS} {rd : xRd} {J : mJ} {I : mI} {t f m a c g : Nat} {bv : Nat → Nat} {Q : Int32 → Prop} (hw : wf σ) (hP : xP σ I) (hTs : tS s rd t f) (htr : tr I t f m a c g) (hm : m ≤ 20) (ha : a < 4) (hC : σ 0 2 ≤ 6) (h12 : I 1 2 = nI (σ 0 2)) (h8 : ∀ k, k < σ 0 2 → σ 8 k < 5) (hb : ∀ k, k < σ 0 2 → bitC σ s rd J I t m a c g k (bv k)) (h : Q (if sel σ m a bv (σ 0 2) 0 < σ 0 2 then nI (sel σ m a bv (σ 0 2) 0) else -3)) : x_X0_clauseFor t s rd J I Q := by
  unfold x_X0_clauseFor
  have lp : ∀ n k, k + n = σ 0 2 → Q (if sel σ m a bv n k < σ 0 2 then nI (sel σ m a bv n k) else -3) → x_X0_clauseFor_l2 Q (n + 1) t (nI k) s rd J I := by
    intro n
    induction n with
    | zero =>
      intro k hk hq
      unfold x_X0_clauseFor_l2
      rw [h12]
      refine br_t (nI_le (by omega) (by omega)) ?_
      rw [if_neg (by show ¬ k < σ 0 2; omega)] at hq
      exact hq
    | succ n ih =>
      intro k hk hq
      obtain ⟨b1, ⟨o, cd, e1, e2, e3, e4, e5⟩, _⟩ := hb k (by omega)
      have v6 : vp_in (nI k) 6 := vp_in_nI (by omega) (by decide)
      have t5 := tk_5 (σ := σ) (m := m) (a := a) (e := σ 8 k) hw
      unfold x_X0_clauseFor_l2 x_X0_clauseFor_j60
      rw [h12, nI_clamp (by omega), nI_1]
      have nx : ¬ (bv k = 1 ∧ tk σ m a (σ 8 k) ≠ 0) → x_X0_clauseFor_l2 Q (n + 1) t (nI (k + 1)) s rd J I := by
        intro e
        have es : sel σ m a bv (n + 1) k = sel σ m a bv n (k + 1) := if_neg e
        rw [es] at hq
        exact ih (k + 1) (by omega) hq
      refine br_f (nI_ge (by omega) (by omega)) ⟨v6, o, e1, e2, ?_⟩
      rw [e3]
      refine x_takes_s hw hP hTs.1 htr.1 htr.2.1 hm ha (h8 k (by omega)) (pk_le (tk σ m a (σ 8 k)) 0 (fun z => nx (fun e => e.2 (by omega))) (fun z => ⟨v6, o, e1, e2, cd, e4, e5 _ ?_⟩) rfl rfl (by omega) (by decide))
      refine pk_eq (bv k) 0 (fun z => nx (fun e => by omega)) (fun z => ?_) rfl rfl (by omega) (by decide)
      have es : sel σ m a bv (n + 1) k = k := if_pos ⟨by omega, by omega⟩
      rw [es, if_pos (by omega)] at hq
      exact hq
  exact ⟨σ 0 2 + 1, lp (σ 0 2) 0 (by omega) h⟩
theorem m_clauseThere_s {σ : wS} {s : xS} {rd : xRd} {J : mJ} {I I0 : mI} {Jm : mJ} {t m a c g : Nat} {bv : Nat → Nat} {Q : Int32 → mI → mJ → Prop} (hw : wf σ) (hs : stok σ m a c) (hM : mP σ I0) (hT : aT I0 m a c g) (hCm : mC σ I0) (hC : σ 0 2 ≤ 6) (h8 : ∀ k, k < σ 0 2 → σ 8 k < 5) (hb : ∀ k, k < σ 0 2 → bitC σ s rd J I t m a c g k (bv k)) (h : ∀ Im', qI I0 Im' → Q (if sel σ m a bv (σ 0 2) 0 < σ 0 2 then nI (sel σ m a bv (σ 0 2) 0) else -1) Im' Jm) : m_clauseThere I0 Jm Q := by
  unfold m_clauseThere
  have lp : ∀ n k Im, k + n = σ 0 2 → qI I0 Im → (∀ Im', qI I0 Im' → Q (if sel σ m a bv n k < σ 0 2 then nI (sel σ m a bv n k) else -1) Im' Jm) → m_clauseThere_l2 Q (n + 1) (nI k) Im Jm := by
    intro n
    induction n with
    | zero =>
      intro k Im hk gI hq
      have z := hq Im gI
      unfold m_clauseThere_l2
      rw [(gI.mC hCm).1]
      refine br_t (nI_le (by omega) (by omega)) ?_
      rw [if_neg (by show ¬ k < σ 0 2; omega)] at z
      exact z
    | succ n ih =>
      intro k Im hk gI hq
      obtain ⟨b1, _, b3⟩ := hb k (by omega)
      have v6 : vp_in (nI k) 6 := vp_in_nI (by omega) (by decide)
      unfold m_clauseThere_l2 m_clauseThere_j45
      rw [(gI.mC hCm).1, nI_clamp (by omega), nI_1]
      have nx : ∀ Im', qI I0 Im' → ¬ (bv k = 1 ∧ tk σ m a (σ 8 k) ≠ 0) → m_clauseThere_l2 Q (n + 1) (nI (k + 1)) Im' Jm := by
        intro Im' gI' e
        have es : sel σ m a bv (n + 1) k = sel σ m a bv n (k + 1) := if_neg e
        rw [es] at hq
        exact ih (k + 1) Im' (by omega) gI' hq
      refine br_f (nI_ge (by omega) (by omega)) (b3 Im Jm _ (gI.mP hM) (gI.aT hT) (gI.mC hCm) (fun Im1 c1 => ?_))
      have g1 := gI.cI c1
      obtain ⟨t1, t2, t3, t4⟩ := g1.aT hT
      refine pk_eq (bv k) 0 (fun z => nx Im1 g1 (fun e => by omega)) (fun z => ⟨v6, ?_⟩) rfl rfl (by omega) (by decide)
      rw [t1, t2, t3, (g1.mC hCm).2.2.1 k (by omega)]
      refine m_leads_s hw (g1.mP hM) hs (h8 k (by omega)) (fun z2 => br_t rfl (nx Im1 g1 (fun e => e.2 z2))) (fun z2 Im2 _ _ _ _ gn => br_f (by decide) ?_)
      have es : sel σ m a bv (n + 1) k = k := if_pos ⟨by omega, z2⟩
      have w := hq Im2 (g1.nxo gn)
      rw [es, if_pos (by omega)] at w
      exact w
  exact ⟨σ 0 2 + 1, lp (σ 0 2) 0 I0 (by omega) qI.refl h⟩
