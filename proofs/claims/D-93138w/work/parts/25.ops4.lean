set_option maxRecDepth 100000
set_option maxHeartbeats 4000000
/-! PLAIN LAW, operations 4: dusk, yieldOf, patchOf, way, lay, dawn, patch -/
theorem RelS.same {t : Nat} {σ : wS} {fz : Nat → Bool} {s : xS} {rd : xRd} {J : mJ} {I Im : mI} {Jm : mJ} (h : RelS t σ fz s rd J I Im Jm) : RelS (t + 1) σ fz s rd J I Im Jm := h.chg h.1 h.2.1 h.2.2.1 h.2.2.2.1.same rfl rfl (fun _ _ => rfl) (fun _ _ => rfl) (fun _ _ => rfl) (fun _ _ => rfl)
theorem mG.sig18 {σ : wS} {I : mI} {v : Int32} (h : mG σ I) : mG σ (u2 I 0 18 v) := h.to (fun r r1 r2 => u2r (by omega)) (fun k hk => u2_ne _ _ (Or.inr (by omega)))
theorem WFset3 {σ : wS} {n : Nat} (h : WF σ) (hn : n ≤ 20) : WF (u2 σ 0 3 n) := by
  have g : ∀ j, j ≠ 3 → u2 σ 0 3 n 0 j = σ 0 j := fun j hj => u2_ne _ _ (Or.inr hj)
  obtain ⟨⟨h1, h2, h3⟩, h4⟩ := h
  unfold WF wf stok
  rw [g 0 (by omega), g 1 (by omega), g 2 (by omega), g 4 (by omega), g 5 (by omega), g 6 (by omega), g 7 (by omega), g 8 (by omega), g 9 (by omega), g 10 (by omega), g 11 (by omega), u2_self, u2r (f := σ) (r := 1) (by decide), u2r (f := σ) (r := 2) (by decide), u2r (f := σ) (r := 3) (by decide), u2r (f := σ) (r := 4) (by decide), u2r (f := σ) (r := 5) (by decide), u2r (f := σ) (r := 6) (by decide), u2r (f := σ) (r := 7) (by decide), u2r (f := σ) (r := 8) (by decide)]
  exact ⟨⟨h1, hn, h3⟩, h4⟩
theorem p_dusk {t : Nat} {a : Int32} {s : xS} {rd : xRd} {J : mJ} {I Im : mI} {Jm : mJ} (h : Rel t s rd J I Im Jm) : x_X0_dusk a s rd J I (fun r I' => m_dusk a Im Jm (RelQ (t + 1) s rd J I' r)) := by
  obtain ⟨_, _, _, q3, _, _, _, _, _, q9, _⟩ := h.eqs
  obtain ⟨h0, σ, fz, hS⟩ := h.opn
  unfold x_X0_dusk m_dusk
  refine x_in_c (fun q => br_f (by decide) (br_c (fun z => m_in_c (fun _ => br_f (by decide) (br_t (by rw [← q9]; exact z) ⟨q3, ?_⟩)) (fun y => absurd q y)) (fun z => m_in_c (fun _ => br_f (by decide) (br_f (by rw [← q9]; exact z) ⟨rfl, h.same⟩)) (fun y => absurd q y)))) (fun q => br_t rfl (m_in_c (fun z => absurd z q) (fun _ => br_t rfl ⟨rfl, h.same⟩)))
  obtain ⟨n, _, hn, rfl⟩ := in_of (lo := 1) (hi := 20) (by decide) (by decide) q
  refine (hS.chg (σ' := u2 σ 0 3 n) (WFset3 hS.1 hn) (hS.2.1.set (by decide) rfl) ((hS.2.2.1.set (k := 3) (by decide) rfl).sig18) (hS.2.2.2.1.bump ?_ ?_ ?_ ?_) (u2_ne _ _ (Or.inr (by decide))) (u2_ne _ _ (Or.inr (by decide))) (fun j hj => u2r (by omega)) (fun r hr => u2r (by omega)) (fun r hr => ?_) (fun f hf => ?_)).cls (by omega)
  · rw [u2r (by decide)]
  · rw [u2r (by decide)]
  · rw [u2_self]
  · rw [u2r (by decide), u2r (by decide)]
  · rw [u2r (by omega), u2r (by omega)]
  · exact (u2_ne _ _ (Or.inr (show f ≠ 18 by omega))).trans (u2_ne _ _ (Or.inr (show f ≠ 2 by omega)))
theorem p_yieldOf {t : Nat} {a b : Int32} {s : xS} {rd : xRd} {J : mJ} {I Im : mI} {Jm : mJ} (h : Rel t s rd J I Im Jm) : x_X0_yieldOf a b s rd J I (fun r => m_yieldOf a b Im Jm (RelQ (t + 1) s rd J I r)) := by
  obtain ⟨q0, _⟩ := h.eqs
  obtain ⟨h0, σ, fz, hS⟩ := h.opn
  have hP4 := hS.1.1.1
  unfold x_X0_yieldOf m_yieldOf
  refine x_isPatch_c (fun q => br_f (by decide) ?_) (fun q => br_t rfl (m_isPatch_c (fun z => absurd (by rw [q0]; exact z) q) (fun _ => br_t rfl ⟨rfl, h.same⟩)))
  have q' : 0 ≤ a ∧ a ≤ nI (σ 0 0) - 1 := by rw [← hS.2.1.1 0 (by decide)]; exact q
  obtain ⟨n, hn, rfl⟩ := pt_of hP4 q'
  refine x_in_c (fun z => br_f (by decide) ?_) (fun z => br_t rfl (m_isPatch_c (fun _ => br_f (by decide) (m_in_c (fun y => absurd y z) (fun _ => br_t rfl ⟨rfl, h.same⟩))) (fun y => absurd (by rw [← q0]; exact q) y)))
  obtain ⟨k, _, hk, rfl⟩ := in_of (lo := 0) (hi := 6) (by decide) (by decide) z
  refine x_brings_s hS.2.1.xP (by omega) (by omega) (m_isPatch_c (fun _ => br_f (by decide) (m_in_c (fun _ => br_f (by decide) (m_yieldIn_s hS.2.2.1.mP (by omega) (by omega) ⟨rfl, h.same⟩)) (fun y => absurd z y))) (fun y => absurd (by rw [← q0]; exact q) y))
theorem p_patchOf {t : Nat} {a b : Int32} {s : xS} {rd : xRd} {J : mJ} {I Im : mI} {Jm : mJ} (h : Rel t s rd J I Im Jm) : x_X0_patchOf a b s rd J I (fun r => m_patchOf a b Im Jm (RelQ (t + 1) s rd J I r)) := by
  obtain ⟨q0, _⟩ := h.eqs
  obtain ⟨h0, σ, fz, hS⟩ := h.opn
  have hP4 := hS.1.1.1
  unfold x_X0_patchOf m_patchOf
  refine x_isPatch_c (fun q => br_f (by decide) ?_) (fun q => br_t rfl (m_isPatch_c (fun z => absurd (by rw [q0]; exact z) q) (fun _ => br_t rfl ⟨rfl, h.same⟩)))
  have q' : 0 ≤ a ∧ a ≤ nI (σ 0 0) - 1 := by rw [← hS.2.1.1 0 (by decide)]; exact q
  obtain ⟨n, hn, rfl⟩ := pt_of hP4 q'
  have vin : vp_in (nI n) 4 := vp_in_nI (by omega) (by decide)
  have go : ∀ {A : Int32 → mI → mJ → Prop}, A 1 Im Jm → m_isPatch (nI n) Im Jm A := fun hA => m_isPatch_c (fun _ => hA) (fun y => absurd (by rw [← q0]; exact q) y)
  have e11 : (11 : Int32) * nI n = nI (11 * n) := by rw [l11, pk_mul]
  have mp := hS.2.2.1.2.1
  rw [nI_clamp (by omega)]
  refine br_c (fun z => ⟨vin, go (br_f (by decide) (br_t z ⟨?_, ?_, h.same⟩))⟩) (fun z0 => br_c (fun z => ⟨vin, go (br_f (by decide) (br_f z0 (br_t z ⟨?_, ?_, h.same⟩)))⟩) (fun z1 => br_c (fun z => ⟨vin, go (br_f (by decide) (br_f z0 (br_f z1 (br_t z ?_))))⟩) (fun z2 => br_c (fun z => ⟨vin, go (br_f (by decide) (br_f z0 (br_f z1 (br_f z2 (br_t z ⟨?_, ?_, h.same⟩)))))⟩) (fun z3 => br_c (fun z => ⟨vin, go (br_f (by decide) (br_f z0 (br_f z1 (br_f z2 (br_f z3 (br_t z ⟨?_, ?_, h.same⟩))))))⟩) (fun z4 => go (br_f (by decide) (br_f z0 (br_f z1 (br_f z2 (br_f z3 (br_f z4 ⟨rfl, h.same⟩)))))))))))
  · rw [z, e11, l0, nI_add]; exact vp_in_nI (by omega) (by decide)
  · rw [z, e11, l0, nI_add, nI_clamp (by omega), Nat.add_zero, mp.1 n (by omega)]; exact hS.2.1.2.1 n (by omega)
  · rw [z, e11, l1, nI_add]; exact vp_in_nI (by omega) (by decide)
  · rw [z, e11, l1, nI_add, nI_clamp (by omega), mp.2.1 n (by omega)]; exact hS.2.1.2.2.1 n (by omega)
  · rw [hS.2.2.1.food]
    exact m_foodIn_s (by omega) hS.1.stok.2.2.1 ⟨hS.2.1.tr.2.2.2 n (by omega), h.same⟩
  · rw [z, e11, show (3 : Int32) = nI 3 from rfl, nI_add, l1, pk_sub (by omega)]; exact vp_in_nI (by omega) (by decide)
  · rw [z, e11, show (3 : Int32) = nI 3 from rfl, nI_add, l1, pk_sub (by omega), nI_clamp (by omega), show 11 * n + 3 - 1 = 11 * n + 2 by omega, mp.2.2.1 n (by omega)]; exact hS.2.1.2.2.2.1 n (by omega)
  · rw [z, e11, l4, nI_add, l1, pk_sub (by omega)]; exact vp_in_nI (by omega) (by decide)
  · rw [z, e11, l4, nI_add, l1, pk_sub (by omega), nI_clamp (by omega), show 11 * n + 4 - 1 = 11 * n + 3 by omega, mp.2.2.2.1 n (by omega)]; exact hS.2.1.2.2.2.2.1 n (by omega)
theorem rowE.up2 {N i j k n : Nat} {I : mI} {σ : wS} {v : Int32} (h : rowE N (I i) (σ j)) (hv : v = nI n) : rowE N (u2 I i k v i) (u2 σ j k n j) := h.up hv
/-- the scalars stay -/
theorem WFrow {σ σ' : wS} (h : WF σ) (h0 : σ' 0 = σ 0) (h2 : ∀ k, σ' 2 k ≤ 6) (h3 : ∀ k, σ' 3 k ≤ 9) (h5 : ∀ k, σ' 5 k ≤ 30) (h6 : ∀ k, σ' 6 k ≤ 5) (e1 : σ' 1 = σ 1) (e2 : σ' 2 = σ 2) (h4 : ∀ k, σ' 4 k ≤ 60) (e7 : σ' 7 = σ 7) (hm : ∀ a b, a < 4 → b < 4 → σ 0 0 ≤ a ∨ σ 0 0 ≤ b → σ' 6 (4 * a + b) = 0) (e8 : σ' 8 = σ 8) : WF σ' := by
  obtain ⟨⟨w1, w2, w3, w4, w5, w6⟩, g2, g3, g4, g5, g6, g7, g8, g9, g10⟩ := h
  unfold WF wf stok
  rw [h0, e1, e7, e8]
  exact ⟨⟨w1, w2, h2, h3, h5, h6⟩, by rw [e2]; exact g2, g3, g4, g5, by rw [e2]; exact g6, h4, g8, hm, g10⟩
theorem p_way {t : Nat} {a b v : Int32} {s : xS} {rd : xRd} {J : mJ} {I Im : mI} {Jm : mJ} (h : Rel t s rd J I Im Jm) : x_X0_way a b v s rd J I (fun r I' => m_way a b v Im Jm (RelQ (t + 1) s rd J I' r)) := by
  obtain ⟨q0, _⟩ := h.eqs
  obtain ⟨h0, σ, fz, hS⟩ := h.opn
  have hP4 := hS.1.1.1
  have no : RelQ (t + 1) s rd J I (-1) (-1) Im Jm := ⟨rfl, h.same⟩
  unfold x_X0_way m_way
  refine x_isPatch_c (fun q => br_f (by decide) ?_) (fun q => br_t rfl (m_isPatch_c (fun z => absurd (by rw [q0]; exact z) q) (fun _ => br_t rfl no)))
  refine x_isPatch_c (fun p => br_f (by decide) ?_) (fun p => br_t rfl (m_isPatch_c (fun _ => br_f (by decide) (m_isPatch_c (fun z => absurd (by rw [q0]; exact z) p) (fun _ => br_t rfl no))) (fun y => absurd (by rw [← q0]; exact q) y)))
  have goa : ∀ {A : Int32 → mI → mJ → Prop}, A 1 Im Jm → m_isPatch a Im Jm A := fun hA => m_isPatch_c (fun _ => hA) (fun y => absurd (by rw [← q0]; exact q) y)
  have gob : ∀ {A : Int32 → mI → mJ → Prop}, A 1 Im Jm → m_isPatch b Im Jm A := fun hA => m_isPatch_c (fun _ => hA) (fun y => absurd (by rw [← q0]; exact p) y)
  refine br_c (fun z => goa (br_f (by decide) (gob (br_f (by decide) (br_t z no))))) (fun z => ?_)
  refine x_in_c (fun w => br_f (by decide) ?_) (fun w => br_t rfl (goa (br_f (by decide) (gob (br_f (by decide) (br_f z (m_in_c (fun y => absurd y w) (fun _ => br_t rfl no))))))))
  have q' : 0 ≤ a ∧ a ≤ nI (σ 0 0) - 1 := by rw [← hS.2.1.1 0 (by decide)]; exact q
  have p' : 0 ≤ b ∧ b ≤ nI (σ 0 0) - 1 := by rw [← hS.2.1.1 0 (by decide)]; exact p
  obtain ⟨n, hn, rfl⟩ := pt_of hP4 q'
  obtain ⟨k, hk, rfl⟩ := pt_of hP4 p'
  obtain ⟨m, _, hm, rfl⟩ := in_of (lo := 0) (hi := 5) (by decide) (by decide) w
  have e1 : (4 : Int32) * nI n + nI k = nI (4 * n + k) := by rw [l4, pk_mul, nI_add]
  have e2 : (4 : Int32) * nI k + nI n = nI (4 * k + n) := by rw [l4, pk_mul, nI_add]
  have v1 : vp_in (nI (4 * n + k)) 16 := vp_in_nI (by omega) (by decide)
  have v2 : vp_in (nI (4 * k + n)) 16 := vp_in_nI (by omega) (by decide)
  rw [e1, e2, nI_clamp (by omega), nI_clamp (by omega)]
  refine ⟨v1, nm_e ⟨v1, v2, goa (br_f (by decide) (gob (br_f (by decide) (br_f z (m_in_c (fun _ => br_f (by decide) ⟨v1, nm_e ⟨v1, v2, ?_, ?_⟩⟩) (fun y => absurd w y))))))⟩⟩
  · rw [hS.2.2.1.2.2.1 _ (by omega)]; exact hS.2.1.2.2.2.2.2.2.1 _ (by omega)
  · have z0 : u2 (u2 σ 6 (4 * n + k) m) 6 (4 * k + n) m 0 = σ 0 := by rw [u2r (by decide), u2r (by decide)]
    have zr : ∀ j, j ≠ 6 → u2 (u2 σ 6 (4 * n + k) m) 6 (4 * k + n) m j = σ j := fun j hj => by rw [u2r hj, u2r hj]
    refine (hS.chg (σ' := u2 (u2 σ 6 (4 * n + k) m) 6 (4 * k + n) m) (WFrow hS.1 z0 ?_ ?_ ?_ (u2_all (u2_all hS.1.1.2.2.2.2.2 hm) hm) (zr 1 (by decide)) (zr 2 (by decide)) ?_ (zr 7 (by decide)) ?_ (zr 8 (by decide))) ?_ ?_ (hS.2.2.2.1.bump ?_ ?_ ?_ ?_) (by rw [z0]) (by rw [z0]) (fun j hj => zr j (by omega)) (fun r hr => ?_) (fun r hr => ?_) (fun f hf => ?_)).cls (by omega)
    · rw [zr 2 (by decide)]; exact hS.1.1.2.2.1
    · rw [zr 3 (by decide)]; exact hS.1.1.2.2.2.1
    · rw [zr 5 (by decide)]; exact hS.1.1.2.2.2.2.1
    · rw [zr 4 (by decide)]; exact hS.1.2.2.2.2.2.2.1
    · intro x y hx hy hxy
      rw [u2_ne _ _ (Or.inr (by omega)), u2_ne _ _ (Or.inr (by omega))]
      exact hS.1.2.2.2.2.2.2.2.2.1 x y hx hy hxy
    · unfold xG tr
      have g : ∀ r, r ≠ 7 → u2 (u2 I 7 (4 * n + k) (nI m)) 7 (4 * k + n) (nI m) r = I r := fun r hr => by rw [u2r hr, u2r hr]
      rw [g 1 (by decide), g (1 + 1) (by decide), g (1 + 2) (by decide), g (1 + 3) (by decide), g (1 + 4) (by decide), g (1 + 5) (by decide), g (1 + 9) (by decide), g (1 + 10) (by decide), z0, zr 1 (by decide), zr 2 (by decide), zr 3 (by decide), zr 4 (by decide), zr 5 (by decide)]
      exact ⟨hS.2.1.1, hS.2.1.2.1, hS.2.1.2.2.1, hS.2.1.2.2.2.1, hS.2.1.2.2.2.2.1, hS.2.1.2.2.2.2.2.1, (rowE.up (hS.2.1.2.2.2.2.2.2.1.up rfl) rfl), hS.2.1.2.2.2.2.2.2.2⟩
    · refine mG.sig18 ?_
      have g : ∀ r, r ≠ 2 → u2 (u2 Im 2 (4 * n + k) (nI m)) 2 (4 * k + n) (nI m) r = Im r := fun r hr => by rw [u2r hr, u2r hr]
      have ec : mcnt (u2 (u2 Im 2 (4 * n + k) (nI m)) 2 (4 * k + n) (nI m)) = mcnt Im := by
        funext j
        unfold mcnt
        rw [g 0 (by decide)]
      unfold mG mGv
      rw [ec, g 1 (by decide), g 3 (by decide), g 4 (by decide), g 5 (by decide), g 6 (by decide), z0, zr 1 (by decide), zr 2 (by decide), zr 3 (by decide), zr 4 (by decide), zr 5 (by decide), zr 7 (by decide), zr 8 (by decide), zr 9 (by decide), zr 10 (by decide)]
      exact ⟨hS.2.2.1.1, hS.2.2.1.2.1, rowE.up (hS.2.2.1.2.2.1.up rfl) rfl, hS.2.2.1.2.2.2⟩
    · rw [u2r (by decide), u2r (by decide)]
    · rw [u2r (by decide), u2r (by decide)]
    · rw [u2_self]
    · rw [u2r (by decide), u2r (by decide), u2r (by decide)]
    · rw [u2r (by omega), u2r (by omega)]
    · rw [u2r (by omega), u2r (by omega), u2r (by omega)]
    · rw [u2_ne _ _ (Or.inr (by omega)), u2r (by decide), u2r (by decide)]
/-- dawn: food as full as can be, patch by patch -/
def dwn (σ : wS) : Nat → Nat → Nat
  | 0, c => c
  | k + 1, c => dwn σ k c + σ 2 k * 7 ^ k - dg (dwn σ k c) k * 7 ^ k
theorem dwn_ok {σ : wS} (hw : wf σ) {c : Nat} (hc : c < 2401) : ∀ k, k ≤ 4 → dwn σ k c < 2401 ∧ ∀ q, q < 4 → dg (dwn σ k c) q = if q < k then σ 2 q else dg c q := by
  intro k
  induction k with
  | zero => intro _; exact ⟨hc, fun q _ => by rw [if_neg (by omega)]; rfl⟩
  | succ k ih =>
    intro hk
    obtain ⟨i1, i2⟩ := ih (by omega)
    have h6 := hw.2.2.1 k
    obtain ⟨d1, d2, d3⟩ := dg_set (v := σ 2 k) (show k < 4 by omega) i1 (by omega)
    refine ⟨d1, fun q hq => ?_⟩
    show dg (dwn σ k c + σ 2 k * 7 ^ k - dg (dwn σ k c) k * 7 ^ k) q = _
    rw [d3 q hq]
    by_cases e : q = k
    · rw [if_pos e, if_pos (by omega), e]
    · rw [if_neg e, i2 q hq]
      by_cases e2 : q < k
      · rw [if_pos e2, if_pos (by omega)]
      · rw [if_neg e2, if_neg (by omega)]
theorem m_dawn_lp {σ : wS} {c : Nat} {a : Int32} {I0 : mI} {J : mJ} {Q : Int32 → mI → mJ → Prop} (hw : wf σ) (hM : mP σ I0) (hc : c < 2401) (h : ∀ I', (∀ r, r ≠ 0 → I' r = I0 r) → (∀ k, k ≠ 12 → I' 0 k = I0 0 k) → I' 0 12 = nI (dwn σ (σ 0 0) c) → Q a I' J) :
    ∀ n p I, σ 0 0 - p < n → p ≤ σ 0 0 → (∀ r, r ≠ 0 → I r = I0 r) → (∀ k, k ≠ 12 → I 0 k = I0 0 k) → I 0 12 = nI (dwn σ p c) → m_dawn_l17 Q n a (nI p) I J := by
  intro n
  induction n with
  | zero => intro p I h1; omega
  | succ n ih =>
    intro p I h1 h2 g1 g2 g3
    have hP := hw.1
    have hM2 : mP σ I := hM.to (g2 8 (by decide)) (g2 2 (by decide)) (g1 1 (by decide)) (g1 2 (by decide))
    unfold m_dawn_l17
    refine pk_le (σ 0 0) p (fun h3 => ?_) (fun h3 => ?_) hM2.1 rfl (by omega) (by omega)
    · have e : p = σ 0 0 := by omega
      subst e
      exact h I g1 g2 g3
    · have hp4 : p < 4 := by omega
      obtain ⟨i1, i2⟩ := dwn_ok hw hc p (by omega)
      have h6 := hw.2.2.1 p
      have hd := dg_lt (dwn σ p c) p
      refine m_topOf_s hM2 hp4 ?_
      rw [g3]
      refine m_foodIn_s hp4 i1 (m_unit_s hp4 ?_)
      rw [nI_dig (dg_set (v := 0) hp4 i1 (by omega)).2.1, nI_1]
      refine ih (p + 1) _ (by omega) (by omega) (fun r hr => (u2r hr).trans (g1 r hr)) (fun k hk => (u2_ne _ _ (Or.inr hk)).trans (g2 k hk)) (u2_self _ _ _ _)
theorem p_dawn {t : Nat} {s : xS} {rd : xRd} {J : mJ} {I Im : mI} {Jm : mJ} (h : Rel t s rd J I Im Jm) : x_X0_dawn s rd J I (fun r I' => m_dawn Im Jm (RelQ (t + 1) s rd J I' r)) := by
  obtain ⟨q0, _, _, _, _, _, _, _, q8, q9, q10⟩ := h.eqs
  obtain ⟨h0, σ, fz, hS⟩ := h.opn
  have hw := hS.1.1
  have hP4 := hw.1
  have e0 : I 1 0 = nI (σ 0 0) := hS.2.1.1 0 (by decide)
  have z0 : (0 : Int32).toNatClampNeg = 0 := rfl
  have l3 : xlen s 3 = 4 := xlen_c (by decide) rfl
  have l11 : xlen s 11 = 4 := xlen_c (by decide) rfl
  unfold x_X0_dawn m_dawn
  rw [e0, z0, nI_clamp (by omega), l3, l11]
  refine ⟨⟨by decide, by decide, nI_pos (by omega), by omega, by omega⟩, nm_e ⟨σ 0 0 + 1, ?_⟩⟩
  have hM : mP σ (u2 (u2 Im 0 1 0) 0 0 0) := hS.2.2.1.mP.to (by rw [u2_ne _ _ (Or.inr (by decide)), u2_ne _ _ (Or.inr (by decide))]) (by rw [u2_ne _ _ (Or.inr (by decide)), u2_ne _ _ (Or.inr (by decide))]) (by rw [u2r (by decide), u2r (by decide)]) (by rw [u2r (by decide), u2r (by decide)])
  have hc := hS.1.stok.2.2.1
  obtain ⟨i1, i2⟩ := dwn_ok hw hc (σ 0 0) hP4
  refine m_dawn_lp (I0 := u2 (u2 Im 0 1 0) 0 0 0) hw hM hc (fun Im' g1 g2 g3 => ⟨q10, h.trip 0 (σ 0 9) (dwn σ (σ 0 0) (σ 0 10)) 0 (fun σ' b1 b2 b3 => ?_) ⟨?_, ?_, ?_, fun p hp => ?_⟩ (fun r r1 r2 _ _ => ?_) (fun r hr => ?_) (fun k z0 z1 z3 z12 hk => ?_) ?_ ?_ ?_ g3⟩) (σ 0 0 + 1) 0 _ (by omega) (by omega) (fun _ _ => rfl) (fun _ _ => rfl) (by rw [u2_ne _ _ (Or.inr (by decide)), u2_ne _ _ (Or.inr (by decide))]; exact hS.2.2.1.food)
  · obtain ⟨d0, d3, _⟩ := sc_same hS.1 hS.2.1 hS.2.2.1 b1 b2 b3
    refine ⟨⟨by omega, hS.1.stok.2.1, i1, fun k hk => ?_⟩, by omega, by rw [d0]; exact hS.1.2.2.2.1⟩
    rw [d0] at hk
    rw [i2 k (by omega), if_pos hk]
    have y1 : σ' 2 k = σ 2 k := (nI_eq (by have := b1.1.2.2.1 k; omega) (by have := hw.2.2.1 k; omega)).mp ((b2.2.2.1 k (by omega)).symm.trans (hS.2.1.2.2.1 k (by omega)))
    omega
  · rw [ur_row (by decide), u2_self]; rfl
  · rw [ur_row (by decide), u2_ne _ _ (Or.inr (by decide)), u2_ne _ _ (Or.inr (by decide))]; exact hS.2.1.tr.2.1
  · rw [ur_row (by decide), u2_ne _ _ (Or.inr (by decide)), u2_self]; rfl
  · rw [ur_self, u2r (by decide), u2r (by decide), u2r (by decide), u2r (by decide), i2 p hp]
    by_cases e : p < σ 0 0
    · rw [pk_cpy_in (Nat.zero_le _) (by omega), if_pos e, Nat.sub_zero, Nat.zero_add]
      exact hS.2.1.2.2.1 p hp
    · rw [pk_cpy_out (Or.inr (by omega)), if_neg e]
      exact hS.2.1.tr.2.2.2 p hp
  · rw [ur_row r2, u2r r1, u2r r1]
  · rw [g1 r hr, u2r hr, u2r hr]
  · rw [g2 k z12, u2_ne _ _ (Or.inr z0), u2_ne _ _ (Or.inr z1)]
  · rw [g2 0 (by decide), u2_self]; rfl
  · rw [g2 1 (by decide), u2_ne _ _ (Or.inr (by decide)), u2_self]; rfl
  · rw [g2 3 (by decide), u2_ne _ _ (Or.inr (by decide)), u2_ne _ _ (Or.inr (by decide))]; exact hS.2.2.1.at_
