set_option maxRecDepth 100000
set_option maxHeartbeats 4000000
/-! PLAIN LAW, operations 5: lay, patch -/
theorem p_lay {t : Nat} {a w v : Int32} {s : xS} {rd : xRd} {J : mJ} {I Im : mI} {Jm : mJ} (h : Rel t s rd J I Im Jm) : x_X0_lay a w v s rd J I (fun r I' => m_lay a w v Im Jm (RelQ (t + 1) s rd J I' r)) := by
  obtain ⟨q0, _⟩ := h.eqs
  obtain ⟨h0, σ, fz, hS⟩ := h.opn
  have hw := hS.1.1
  have hP4 := hw.1
  have no : RelQ (t + 1) s rd J I (-1) (-1) Im Jm := ⟨rfl, h.same⟩
  have xl5 : xlen s 5 = 4 := xlen_c (by decide) rfl
  have xl11 : xlen s 11 = 4 := xlen_c (by decide) rfl
  unfold x_X0_lay m_lay
  refine x_isPatch_c (fun q => br_f (by decide) ?_) (fun q => br_t rfl (m_isPatch_c (fun z => absurd (by rw [q0]; exact z) q) (fun _ => br_t rfl no)))
  have q' : 0 ≤ a ∧ a ≤ nI (σ 0 0) - 1 := by rw [← hS.2.1.1 0 (by decide)]; exact q
  obtain ⟨n, hn, rfl⟩ := pt_of hP4 q'
  have hn4 : n < 4 := by omega
  have vin : vp_in (nI n) 4 := vp_in_nI hn4 (by decide)
  have go : ∀ {A : Int32 → mI → mJ → Prop}, A 1 Im Jm → m_isPatch (nI n) Im Jm A := fun hA => m_isPatch_c (fun _ => hA) (fun y => absurd (by rw [← q0]; exact q) y)
  refine x_in_c (fun z => br_f (by decide) ?_) (fun z => br_t rfl (go (br_f (by decide) (m_in_c (fun y => absurd y z) (fun _ => br_t rfl no)))))
  obtain ⟨k, _, hk, rfl⟩ := in_of (lo := 0) (hi := 1) (by decide) (by decide) z
  have h01 : k = 0 ∨ k = 1 := by omega
  have h6 := hw.2.2.1 n
  rw [nI_clamp (by omega), hS.2.1.2.2.1 n hn4]
  have e3 : (11 : Int32) * nI n + 3 = nI (11 * n + 3) := by rw [l11, show (3 : Int32) = nI 3 from rfl, pk_mul, nI_add]
  rcases h01 with rfl | rfl
  · refine br_t rfl ⟨vin, ?_⟩
    unfold x_X0_lay_j37
    have mo : ∀ {A : Int32 → mI → Prop} {I' : mI} {r : Int32}, m_lay_j46 (RelQ (t + 1) s rd J I' r) (nI n) 0 v v 0 (nI (σ 2 n)) Im Jm → m_isPatch (nI n) Im Jm (fun r1 I2 J3 => (r1 = 0 → RelQ (t + 1) s rd J I' r (-1) I2 J3) ∧ (¬ r1 = 0 → m_in 0 0 1 I2 J3 (fun r5 I6 J7 => (r5 = 0 → RelQ (t + 1) s rd J I' r (-1) I6 J7) ∧ (¬ r5 = 0 → ((0 : Int32) = 1 → m_lay_j46 (RelQ (t + 1) s rd J I' r) (nI n) 0 v v 0 60 I6 J7) ∧ (¬ (0 : Int32) = 1 → m_isPatch (nI n) I6 J7 (fun r10 I11 J12 => (r10 = 0 → m_lay_j43 (RelQ (t + 1) s rd J I' r) (nI n) 0 v v 0 0 I11 J12) ∧ (¬ r10 = 0 → m_lay_j43 (RelQ (t + 1) s rd J I' r) (nI n) 0 v v 0 (nI n) I11 J12))))))) := by
      intro A I' r hj
      refine go (br_f (by decide) (m_in_c (fun _ => br_f (by decide) (br_f (by decide) (go (br_f (by decide) ?_)))) (fun y => absurd z y)))
      unfold m_lay_j43
      exact m_topOf_s hS.2.2.1.mP hn4 hj
    refine x_in_c (fun y => br_f (by decide) (br_t rfl ?_)) (fun y => br_t rfl (mo (A := fun _ _ => True) ?_))
    · obtain ⟨x, _, hx, rfl⟩ := in_of (lo := 0) (hi := σ 2 n) (by decide) (by omega) y
      obtain ⟨d1, d2, d3⟩ := dg_set (v := x) hn4 hS.1.stok.2.2.1 (by omega)
      unfold x_X0_lay_j69
      rw [xl11, nI_clamp (by omega)]
      refine ⟨xo_c (by decide) rfl, vin, vin, mo (A := fun _ _ => True) ?_⟩
      unfold m_lay_j46
      refine m_in_c (fun _ => br_f (by decide) (br_f (by decide) ?_)) (fun u => absurd y u)
      rw [hS.2.2.1.food]
      refine m_foodIn_s hn4 hS.1.stok.2.2.1 ?_
      unfold m_lay_j81
      refine br_f (by decide) (m_unit_s hn4 ⟨hS.2.1.tr.2.2.2 n hn4, ?_⟩)
      rw [hS.2.2.1.food, nI_dig d2]
      refine h.trip (σ 0 8) (σ 0 9) (σ 0 10 + x * 7 ^ n - dg (σ 0 10) n * 7 ^ n) (σ 0 11) (fun σ' b1 b2 b3 => ?_) ⟨?_, ?_, ?_, fun p hp => ?_⟩ (fun r r1 r2 _ _ => u2r r2) (fun r hr => u2r hr) (fun f z0 z1 z3 z12 hf => u2_ne _ _ (Or.inr z12)) ?_ ?_ ?_ (u2_self _ _ _ _)
      · obtain ⟨d0, _⟩ := sc_same hS.1 hS.2.1 hS.2.2.1 b1 b2 b3
        refine ⟨⟨hS.1.stok.1, hS.1.stok.2.1, d1, fun k hk => ?_⟩, hS.1.2.2.1.2.2.2.2.2.2, by rw [d0]; exact hS.1.2.2.2.1⟩
        rw [d0] at hk
        have y1 : σ' 2 k = σ 2 k := (nI_eq (by have := b1.1.2.2.1 k; omega) (by have := hw.2.2.1 k; omega)).mp ((b2.2.2.1 k (by omega)).symm.trans (hS.2.1.2.2.1 k (by omega)))
        rw [d3 k (by omega), y1]
        split
        · rename_i e; rw [e]; exact hx
        · exact hS.1.stok.2.2.2 k hk
      · rw [u2r (by decide)]; exact hS.2.1.tr.1
      · rw [u2r (by decide)]; exact hS.2.1.tr.2.1
      · rw [u2r (by decide)]; exact hS.2.1.tr.2.2.1
      · rw [d3 p hp]
        by_cases e : p = n
        · rw [if_pos e, e, u2_self]
        · rw [if_neg e, u2_ne _ _ (Or.inr e)]; exact hS.2.1.tr.2.2.2 p hp
      · rw [u2_ne _ _ (Or.inr (by decide))]; exact hS.2.2.1.min
      · rw [u2_ne _ _ (Or.inr (by decide))]; exact hS.2.2.1.got
      · rw [u2_ne _ _ (Or.inr (by decide))]; exact hS.2.2.1.at_
    · unfold m_lay_j46
      exact m_in_c (fun u => absurd u y) (fun _ => br_t rfl no)
  · refine br_f (by decide) ?_
    unfold x_X0_lay_j37
    have mo : ∀ {I' : mI} {r : Int32}, m_lay_j46 (RelQ (t + 1) s rd J I' r) (nI n) 1 v v 0 60 Im Jm → m_isPatch (nI n) Im Jm (fun r1 I2 J3 => (r1 = 0 → RelQ (t + 1) s rd J I' r (-1) I2 J3) ∧ (¬ r1 = 0 → m_in 1 0 1 I2 J3 (fun r5 I6 J7 => (r5 = 0 → RelQ (t + 1) s rd J I' r (-1) I6 J7) ∧ (¬ r5 = 0 → ((1 : Int32) = 1 → m_lay_j46 (RelQ (t + 1) s rd J I' r) (nI n) 1 v v 0 60 I6 J7) ∧ (¬ (1 : Int32) = 1 → m_isPatch (nI n) I6 J7 (fun r10 I11 J12 => (r10 = 0 → m_lay_j43 (RelQ (t + 1) s rd J I' r) (nI n) 1 v v 0 0 I11 J12) ∧ (¬ r10 = 0 → m_lay_j43 (RelQ (t + 1) s rd J I' r) (nI n) 1 v v 0 (nI n) I11 J12))))))) := by
      intro I' r hj
      exact go (br_f (by decide) (m_in_c (fun _ => br_f (by decide) (br_t rfl hj)) (fun y => absurd z y)))
    refine x_in_c (fun y => br_f (by decide) (br_f (by decide) ?_)) (fun y => br_t rfl (mo ?_))
    · obtain ⟨x, _, hx, rfl⟩ := in_of (lo := 0) (hi := 60) (by decide) (by decide) y
      unfold x_X0_lay_j69
      rw [xl5, nI_clamp (by omega)]
      refine ⟨xo_c (by decide) rfl, vin, vin, mo ?_⟩
      unfold m_lay_j46
      refine m_in_c (fun _ => br_f (by decide) (br_t rfl ?_)) (fun u => absurd y u)
      unfold m_lay_j81
      rw [e3, nI_clamp (by omega)]
      have v3 : vp_in (nI (11 * n + 3)) 44 := vp_in_nI (by omega) (by decide)
      refine ⟨v3, br_t rfl ⟨v3, ?_, ?_⟩⟩
      · rw [hS.2.2.1.2.1.2.2.2.1 n hn4]; exact hS.2.1.2.2.2.2.1 n hn4
      · have zr : ∀ j, j ≠ 4 → u2 σ 4 n x j = σ j := fun j hj => u2r hj
        have g : ∀ r, r ≠ 5 → u2 I 5 n (nI x) r = I r := fun r hr => u2r hr
        refine (hS.chg (σ' := u2 σ 4 n x) (WFrow hS.1 (zr 0 (by decide)) ?_ ?_ ?_ ?_ (zr 1 (by decide)) (zr 2 (by decide)) (u2_all hS.1.2.2.2.2.2.2.1 hx) (zr 7 (by decide)) ?_ (zr 8 (by decide))) ?_ ?_ (hS.2.2.2.1.pe ⟨by rw [zr 0 (by decide)], by rw [zr 0 (by decide)], zr 2 (by decide), zr 3 (by decide), zr 5 (by decide), zr 6 (by decide)⟩ ?_ ?_ ?_ ?_) (by rw [zr 0 (by decide)]) (by rw [zr 0 (by decide)]) (fun j hj => zr j (by omega)) (fun r hr => g r (by omega)) (fun r hr => u2r (by omega)) (fun f hf => by rw [u2r (by decide)])).cls (by omega)
        · rw [zr 2 (by decide)]; exact hw.2.2.1
        · rw [zr 3 (by decide)]; exact hw.2.2.2.1
        · rw [zr 5 (by decide)]; exact hw.2.2.2.2.1
        · rw [zr 6 (by decide)]; exact hw.2.2.2.2.2
        · rw [zr 6 (by decide)]; exact hS.1.2.2.2.2.2.2.2.2.1
        · unfold xG tr
          rw [g 1 (by decide), g (1 + 1) (by decide), g (1 + 2) (by decide), g (1 + 3) (by decide), g (1 + 5) (by decide), g (1 + 6) (by decide), g (1 + 9) (by decide), g (1 + 10) (by decide), zr 0 (by decide), zr 1 (by decide), zr 2 (by decide), zr 3 (by decide), zr 5 (by decide), zr 6 (by decide)]
          exact ⟨hS.2.1.1, hS.2.1.2.1, hS.2.1.2.2.1, hS.2.1.2.2.2.1, rowE.up hS.2.1.2.2.2.2.1 rfl, hS.2.1.2.2.2.2.2.1, hS.2.1.2.2.2.2.2.2.1, hS.2.1.2.2.2.2.2.2.2⟩
        · have ec : mcnt (u2 Im 1 (11 * n + 3) (nI x)) = mcnt Im := by
            funext j
            unfold mcnt
            rw [u2r (by decide)]
          have g2 : ∀ r, r ≠ 1 → u2 Im 1 (11 * n + 3) (nI x) r = Im r := fun r hr => u2r hr
          obtain ⟨c0, ⟨p0, p1, p2, p3, p4⟩, c2⟩ := hS.2.2.1
          show mG (u2 σ 4 n x) (u2 Im 1 (11 * n + 3) (nI x))
          unfold mG mGv
          rw [ec, g2 2 (by decide), g2 3 (by decide), g2 4 (by decide), g2 5 (by decide), g2 6 (by decide), zr 0 (by decide), zr 1 (by decide), zr 2 (by decide), zr 3 (by decide), zr 5 (by decide), zr 6 (by decide), zr 7 (by decide), zr 8 (by decide), zr 9 (by decide), zr 10 (by decide)]
          refine ⟨c0, ⟨fun k hk => ?_, fun k hk => ?_, fun k hk => ?_, fun k hk => ?_, fun k f hk hf => ?_⟩, c2⟩
          · rw [u2_ne _ _ (Or.inr (by omega))]; exact p0 k hk
          · rw [u2_ne _ _ (Or.inr (by omega))]; exact p1 k hk
          · rw [u2_ne _ _ (Or.inr (by omega))]; exact p2 k hk
          · by_cases e : k = n
            · rw [e, u2_self, u2_self]
            · rw [u2_ne _ _ (Or.inr (by omega)), u2_ne _ _ (Or.inr e)]; exact p3 k hk
          · rw [u2_ne _ _ (Or.inr (by omega))]; exact p4 k f hk hf
        · rw [g 23 (by decide)]
        · exact g 24 (by decide)
        · rw [u2r (by decide)]
        · exact u2r (by decide)
    · unfold m_lay_j46
      exact m_in_c (fun u => absurd u y) (fun _ => br_t rfl no)
/-- the state with one patch more -/
def pn (σ : wS) (k tp f : Nat) : wS := fun i j => if i = 0 then (if j = 0 then σ 0 0 + 1 else if j = 10 then σ 0 10 + tp * 7 ^ σ 0 0 - dg (σ 0 10) (σ 0 0) * 7 ^ σ 0 0 else σ 0 j)
  else if i = 1 then (if j = σ 0 0 then k else σ 1 j) else if i = 2 then (if j = σ 0 0 then tp else σ 2 j) else if i = 3 then (if j = σ 0 0 then f else σ 3 j) else if i = 4 then (if j = σ 0 0 then 0 else σ 4 j)
  else if i = 5 then (if 7 * σ 0 0 ≤ j ∧ j < 7 * σ 0 0 + 7 then 0 else σ 5 j) else σ i j
theorem pn_0 {σ : wS} {k tp f j : Nat} (h : j ≠ 0) (h2 : j ≠ 10) : pn σ k tp f 0 j = σ 0 j := by
  unfold pn
  rw [if_pos rfl, if_neg h, if_neg h2]
theorem pn_r {σ : wS} {k tp f i : Nat} (h : 6 ≤ i) : pn σ k tp f i = σ i := by
  funext j
  unfold pn
  rw [if_neg (by omega), if_neg (by omega), if_neg (by omega), if_neg (by omega), if_neg (by omega), if_neg (by omega)]
theorem WFpn {σ : wS} {k tp f : Nat} (h : WF σ) (hP : σ 0 0 < 4) (hk : 1 ≤ k ∧ k ≤ 4) (ht : 1 ≤ tp ∧ tp ≤ 6) (hf : f ≤ 9) : WF (pn σ k tp f) := by
  obtain ⟨⟨w1, w2, w3, w4, w5, w6⟩, g2, g3, g4, g5, g6, g7, g8, g9, g10⟩ := h
  have e0 : pn σ k tp f 0 0 = σ 0 0 + 1 := rfl
  have e10 : pn σ k tp f 0 10 = σ 0 10 + tp * 7 ^ σ 0 0 - dg (σ 0 10) (σ 0 0) * 7 ^ σ 0 0 := rfl
  have r1 : ∀ j, pn σ k tp f 1 j = if j = σ 0 0 then k else σ 1 j := fun _ => rfl
  have r2 : ∀ j, pn σ k tp f 2 j = if j = σ 0 0 then tp else σ 2 j := fun _ => rfl
  have r3 : ∀ j, pn σ k tp f 3 j = if j = σ 0 0 then f else σ 3 j := fun _ => rfl
  have r4 : ∀ j, pn σ k tp f 4 j = if j = σ 0 0 then 0 else σ 4 j := fun _ => rfl
  have r5 : ∀ j, pn σ k tp f 5 j = if 7 * σ 0 0 ≤ j ∧ j < 7 * σ 0 0 + 7 then 0 else σ 5 j := fun _ => rfl
  obtain ⟨d1, d2, d3⟩ := dg_set (v := tp) hP g2.2.2.1 (by omega)
  unfold WF wf stok
  rw [e0, e10, pn_0 (j := 1) (by decide) (by decide), pn_0 (j := 2) (by decide) (by decide), pn_0 (j := 3) (by decide) (by decide), pn_0 (j := 4) (by decide) (by decide), pn_0 (j := 5) (by decide) (by decide), pn_0 (j := 6) (by decide) (by decide), pn_0 (j := 7) (by decide) (by decide), pn_0 (j := 8) (by decide) (by decide), pn_0 (j := 9) (by decide) (by decide), pn_0 (j := 11) (by decide) (by decide), pn_r (i := 6) (by decide), pn_r (i := 7) (by decide), pn_r (i := 8) (by decide)]
  refine ⟨⟨by omega, w2, fun j => ?_, fun j => ?_, fun j => ?_, w6⟩, ⟨g2.1, g2.2.1, d1, fun j hj => ?_⟩, g3, .inl ?_, fun j => ?_, fun j hj => ?_, fun j => ?_, g8, fun a b ha hb hab => g9 a b ha hb (by omega), g10⟩
  · rw [r2]; split
    · omega
    · exact w3 j
  · rw [r3]; split
    · omega
    · exact w4 j
  · rw [r5]; split
    · omega
    · exact w5 j
  · rw [d3 j (by omega), r2]
    split
    · omega
    · exact g2.2.2.2 j (by omega)
  · rcases g4 with g | g <;> omega
  · rw [r1]; split
    · omega
    · exact g5 j
  · rw [r1, r2]
    by_cases e : j = σ 0 0
    · rw [if_pos e, if_pos e]; omega
    · rw [if_neg e, if_neg e]; exact g6 j (by omega)
  · rw [r4]; split
    · omega
    · exact g7 j
theorem x_patch_lp {P : Nat} {s : xS} {rd : xRd} {J : mJ} {I0 : mI} {Q : Int32 → mI → Prop} (hP : P < 4) (h : ∀ I', (∀ r, r ≠ 6 → I' r = I0 r) → (∀ j, I' 6 j = if 7 * P ≤ j ∧ j < 7 * P + 7 then nI 0 else I0 6 j) → Q (nI P) (u2 I' 1 0 (I' 1 0 + 1))) :
    ∀ n k I, 7 - k < n → k ≤ 7 → (∀ r, r ≠ 6 → I r = I0 r) → (∀ j, I 6 j = if 7 * P ≤ j ∧ j < 7 * P + k then nI 0 else I0 6 j) → x_X0_patch_l115 Q n (nI P) (nI k) s rd J I := by
  intro n
  induction n with
  | zero => intro k I h1; omega
  | succ n ih =>
    intro k I h1 h2 g1 g2
    unfold x_X0_patch_l115
    refine pk_le 7 k (fun h3 => ?_) (fun h3 => ?_) rfl rfl (by decide) (by omega)
    · have e : k = 7 := by omega
      subst e
      exact h I g1 g2
    · have e1 : (7 : Int32) * nI P + nI k = nI (7 * P + k) := by rw [l7, pk_mul, nI_add]
      rw [e1, nI_clamp (by omega), nI_1]
      refine ⟨vp_in_nI (by omega) (by decide), ih (k + 1) _ (by omega) (by omega) (fun r hr => (u2r hr).trans (g1 r hr)) (fun j => ?_)⟩
      by_cases e : j = 7 * P + k
      · rw [e, u2_self, if_pos (by omega)]; rfl
      · rw [u2_ne _ _ (Or.inr e), g2 j]
        by_cases e2 : 7 * P ≤ j ∧ j < 7 * P + k
        · rw [if_pos e2, if_pos (by omega)]
        · rw [if_neg e2, if_neg (by omega)]
theorem m_patch_l2 {P : Nat} {I0 : mI} {J : mJ} {Q : Int32 → mI → mJ → Prop} (hP : P < 4) (hz : ∀ q, q < 4 → I0 2 (4 * P + q) = nI 0 ∧ I0 2 (4 * q + P) = nI 0) (h : ∀ I', (∀ r, I' r = I0 r) → Q (nI P) (u2 (u2 I' 0 8 (I' 0 8 + 1)) 0 18 (I' 0 18 + 1)) J) : ∀ n k I, 4 - k < n → k ≤ 4 → (∀ r, I r = I0 r) → m_patch_l144 Q n (nI P) (nI k) I J := by
  intro n
  induction n with
  | zero => intro k I h1; omega
  | succ n ih =>
    intro k I h1 h2 g1
    unfold m_patch_l144
    refine pk_le 4 k (fun h3 => h I g1) (fun h3 => ?_) rfl rfl (by decide) (by omega)
    have e1 : (4 : Int32) * nI P + nI k = nI (4 * P + k) := by rw [l4, pk_mul, nI_add]
    have e2 : (4 : Int32) * nI k + nI P = nI (4 * k + P) := by rw [l4, pk_mul, nI_add]
    obtain ⟨z1, z2⟩ := hz k (by omega)
    rw [e1, e2, nI_clamp (by omega), nI_clamp (by omega), nI_1, u2_id (f := I) (v := 0) (by rw [g1 2]; exact z1), u2_id (f := I) (v := 0) (by rw [g1 2]; exact z2)]
    exact ⟨vp_in_nI (by omega) (by decide), vp_in_nI (by omega) (by decide), ih (k + 1) I (by omega) (by omega) g1⟩
theorem m_patch_l1 {P : Nat} {a b c : Int32} {I0 : mI} {J : mJ} {Q : Int32 → mI → mJ → Prop} (hP : P < 4) (h : ∀ I', (∀ r, r ≠ 1 → I' r = I0 r) → (∀ j, I' 1 j = if 11 * P ≤ j ∧ j < 11 * P + 11 then nI 0 else I0 1 j) → ∀ n, 1 ≤ n → m_patch_l51 Q n a b c (nI P) (nI 11) I' J) :
    ∀ n k I, 11 - k < n → k ≤ 11 → (∀ r, r ≠ 1 → I r = I0 r) → (∀ j, I 1 j = if 11 * P ≤ j ∧ j < 11 * P + k then nI 0 else I0 1 j) → m_patch_l51 Q n a b c (nI P) (nI k) I J := by
  intro n
  induction n with
  | zero => intro k I h1; omega
  | succ n ih =>
    intro k I h1 h2 g1 g2
    by_cases e : k = 11
    · subst e
      exact h I g1 g2 _ (by omega)
    · unfold m_patch_l51
      have e1 : (11 : Int32) * nI P + nI k = nI (11 * P + k) := by rw [l11, pk_mul, nI_add]
      refine pk_le 11 k (fun h3 => absurd h3 (by omega)) (fun h3 => ?_) rfl rfl (by decide) (by omega)
      rw [e1, nI_clamp (by omega), nI_1]
      refine ⟨vp_in_nI (by omega) (by decide), ih (k + 1) _ (by omega) (by omega) (fun r hr => (u2r hr).trans (g1 r hr)) (fun j => ?_)⟩
      by_cases e : j = 11 * P + k
      · rw [e, u2_self, if_pos (by omega)]; rfl
      · rw [u2_ne _ _ (Or.inr e), g2 j]
        by_cases e2 : 11 * P ≤ j ∧ j < 11 * P + k
        · rw [if_pos e2, if_pos (by omega)]
        · rw [if_neg e2, if_neg (by omega)]
theorem p_patch {t : Nat} {a b c : Int32} {s : xS} {rd : xRd} {J : mJ} {I Im : mI} {Jm : mJ} (h : Rel t s rd J I Im Jm) : x_X0_patch a b c s rd J I (fun r I' => m_patch a b c Im Jm (RelQ (t + 1) s rd J I' r)) := by
  obtain ⟨q0, _⟩ := h.eqs
  obtain ⟨h0, σ, fz, hS⟩ := h.opn
  have hw := hS.1.1
  have hP4 := hw.1
  have no : ∀ v, RelQ (t + 1) s rd J I v v Im Jm := fun v => ⟨rfl, h.same⟩
  unfold x_X0_patch m_patch
  refine x_in_c (fun q => br_f (by decide) ?_) (fun q => br_t rfl (m_in_c (fun z => absurd z q) (fun _ => br_t rfl (no _))))
  refine x_in_c (fun p => br_f (by decide) ?_) (fun p => br_t rfl (m_in_c (fun _ => br_f (by decide) (m_in_c (fun z => absurd z p) (fun _ => br_t rfl (no _)))) (fun y => absurd q y)))
  refine x_in_c (fun w => br_f (by decide) ?_) (fun w => br_t rfl (m_in_c (fun _ => br_f (by decide) (m_in_c (fun _ => br_f (by decide) (m_in_c (fun z => absurd z w) (fun _ => br_t rfl (no _)))) (fun y => absurd p y))) (fun y => absurd q y)))
  have go : ∀ {A : Int32 → mI → mJ → Prop} {r : Int32} {I' : mI}, A 1 Im Jm → m_in a 1 4 Im Jm (fun r1 I2 J3 => (r1 = 0 → RelQ (t + 1) s rd J I' r (-1) I2 J3) ∧ (¬ r1 = 0 → m_in b 1 6 I2 J3 (fun r5 I6 J7 => (r5 = 0 → RelQ (t + 1) s rd J I' r (-1) I6 J7) ∧ (¬ r5 = 0 → m_in c 0 9 I6 J7 (fun r9 I10 J11 => (r9 = 0 → RelQ (t + 1) s rd J I' r (-1) I10 J11) ∧ (¬ r9 = 0 → A 1 I10 J11)))))) := fun hA => m_in_c (fun _ => br_f (by decide) (m_in_c (fun _ => br_f (by decide) (m_in_c (fun _ => br_f (by decide) hA) (fun y => absurd w y))) (fun y => absurd p y))) (fun y => absurd q y)
  refine br_c (fun z => go (A := fun _ I10 J11 => (I10 0 8 = 4 → RelQ (t + 1) s rd J I (-2) (-2) I10 J11) ∧ (¬ I10 0 8 = 4 → ∃ n0 : Nat, m_patch_l51 (RelQ (t + 1) s rd J I (-2)) n0 a b c (I10 0 8) 0 I10 J11)) (br_t (by rw [← q0]; exact z) (no _))) (fun z => ?_)
  obtain ⟨k, hk1, hk4, rfl⟩ := in_of (lo := 1) (hi := 4) (by decide) (by decide) q
  obtain ⟨tp, ht1, ht6, rfl⟩ := in_of (lo := 1) (hi := 6) (by decide) (by decide) p
  obtain ⟨f, _, hf9, rfl⟩ := in_of (lo := 0) (hi := 9) (by decide) (by decide) w
  have e0 : I 1 0 = nI (σ 0 0) := hS.2.1.1 0 (by decide)
  have hP : σ 0 0 < 4 := by
    refine Nat.lt_of_le_of_ne hP4 (fun e => z ?_)
    rw [e0, e]
    rfl
  have vin : vp_in (nI (σ 0 0)) 4 := vp_in_nI hP (by decide)
  obtain ⟨d1, d2, d3⟩ := dg_set (v := tp) hP hS.1.stok.2.2.1 (by omega)
  rw [e0, nI_clamp (by omega)]
  refine ⟨vin, vin, vin, vin, vin, nm_e ⟨8, ?_⟩⟩
  refine x_patch_lp hP (fun I' g1 g2 => ?_) 8 0 _ (by omega) (by omega) (fun _ _ => rfl) (fun j => by rw [if_neg (by omega)])
  refine go (A := fun _ I10 J11 => (I10 0 8 = 4 → RelQ (t + 1) s rd J (u2 I' 1 0 (I' 1 0 + 1)) (nI (σ 0 0)) (-2) I10 J11) ∧ (¬ I10 0 8 = 4 → ∃ n0 : Nat, m_patch_l51 (RelQ (t + 1) s rd J (u2 I' 1 0 (I' 1 0 + 1)) (nI (σ 0 0))) n0 (nI k) (nI tp) (nI f) (I10 0 8) 0 I10 J11)) (br_f (by rw [← q0]; exact z) ⟨13, ?_⟩)
  rw [hS.2.2.1.pat]
  refine m_patch_l1 hP (fun Im' m1 m2 n hn => ?_) 13 0 Im (by omega) (by omega) (fun _ _ => rfl) (fun j => by rw [if_neg (by omega)])
  rw [show n = (n - 1) + 1 by omega]
  unfold m_patch_l51
  have x0 : (11 : Int32) * nI (σ 0 0) = nI (11 * σ 0 0) := by rw [l11, pk_mul]
  have x1 : nI (11 * σ 0 0) + 1 = nI (11 * σ 0 0 + 1) := nI_1 _
  have x2 : nI (11 * σ 0 0) + 2 = nI (11 * σ 0 0 + 2) := by rw [l2, nI_add]
  have vP : ∀ i, i < 11 → vp_in (nI (11 * σ 0 0 + i)) 44 := fun i hi => vp_in_nI (by omega) (by decide)
  refine br_t (by decide) ?_
  rw [x0, x1, x2, nI_clamp (by omega), nI_clamp (by omega), nI_clamp (by omega), m1 0 (by decide), hS.2.2.1.food]
  refine ⟨vP 0 (by omega), vP 1 (by omega), vP 2 (by omega), m_foodIn_s hP hS.1.stok.2.2.1 (m_unit_s hP ⟨5, ?_⟩)⟩
  rw [nI_dig d2]
  have mi : ∀ q, q < 16 → Im 2 q = nI (σ 6 q) := hS.2.2.1.2.2.1
  refine m_patch_l2 hP (fun q hq => ?_) (fun I2 y1 => ⟨rfl, ?_⟩) 5 0 _ (by omega) (by omega) (fun _ => rfl)
  · have z1 := hS.1.2.2.2.2.2.2.2.2.1 (σ 0 0) q hP hq (.inl (Nat.le_refl _))
    have z2 := hS.1.2.2.2.2.2.2.2.2.1 q (σ 0 0) hq hP (.inr (Nat.le_refl _))
    rw [u2r (by decide), u2r (by decide), u2r (by decide), u2r (by decide), m1 2 (by decide), mi _ (by omega), mi _ (by omega), z1, z2]
    exact ⟨rfl, rfl⟩
  · have r1 : ∀ r, r ≠ 0 → r ≠ 1 → I2 r = Im r := fun r a1 a2 => by rw [y1 r, u2r a1, u2r a2, u2r a2, u2r a2, m1 r a2]
    have r0 : ∀ j, I2 0 j = if j = 12 then nI (σ 0 10 + tp * 7 ^ σ 0 0 - dg (σ 0 10) (σ 0 0) * 7 ^ σ 0 0) else Im 0 j := by
      intro j
      rw [y1 0]
      by_cases e : j = 12
      · rw [e, u2_self, if_pos rfl]
      · rw [u2_ne _ _ (Or.inr e), if_neg e, u2r (by decide), u2r (by decide), u2r (by decide), m1 0 (by decide)]
    have rp : ∀ j, I2 1 j = if j = 11 * σ 0 0 + 2 then nI f else if j = 11 * σ 0 0 + 1 then nI tp else if j = 11 * σ 0 0 then nI k else if 11 * σ 0 0 ≤ j ∧ j < 11 * σ 0 0 + 11 then nI 0 else Im 1 j := by
      intro j
      rw [y1 1, u2r (by decide), ← m2 j]
      by_cases e2 : j = 11 * σ 0 0 + 2
      · rw [if_pos e2, e2, u2_self]
      · rw [if_neg e2, u2_ne _ _ (Or.inr e2)]
        by_cases e1 : j = 11 * σ 0 0 + 1
        · rw [if_pos e1, e1, u2_self]
        · rw [if_neg e1, u2_ne _ _ (Or.inr e1)]
          by_cases e0 : j = 11 * σ 0 0
          · rw [if_pos e0, e0, u2_self]
          · rw [if_neg e0, u2_ne _ _ (Or.inr e0)]
    have hz : ∀ j, j ≠ 8 → j ≠ 18 → u2 (u2 I2 0 8 (I2 0 8 + 1)) 0 18 (I2 0 18 + 1) 0 j = I2 0 j := fun j a1 a2 => by rw [u2_ne _ _ (Or.inr a2), u2_ne _ _ (Or.inr a1)]
    have hr : ∀ r, r ≠ 0 → u2 (u2 I2 0 8 (I2 0 8 + 1)) 0 18 (I2 0 18 + 1) r = I2 r := fun r a1 => by rw [u2r a1, u2r a1]
    have c8 : u2 (u2 I2 0 8 (I2 0 8 + 1)) 0 18 (I2 0 18 + 1) 0 8 = nI (σ 0 0 + 1) := by
      rw [u2_ne _ _ (Or.inr (by decide)), u2_self, r0 8, if_neg (by decide), hS.2.2.1.pat, nI_1]
    have b1 : ∀ r, r ≠ 6 → r ≠ 2 → r ≠ 3 → r ≠ 4 → r ≠ 5 → r ≠ 11 → I' r = I r := fun r a6 a2 a3 a4 a5 a11 => by rw [g1 r a6, u2r a11, u2r a5, u2r a4, u2r a3, u2r a2]
    have xz : ∀ r, r ≠ 1 → u2 I' 1 0 (I' 1 0 + 1) r = I' r := fun r a => u2r a
    have ed : ∀ j, j ≠ σ 0 0 → pn σ k tp f 1 j = σ 1 j ∧ pn σ k tp f 2 j = σ 2 j ∧ pn σ k tp f 3 j = σ 3 j ∧ pn σ k tp f 4 j = σ 4 j := by
      intro j hj
      refine ⟨?_, ?_, ?_, ?_⟩ <;> show (if j = σ 0 0 then _ else _) = _ <;> exact if_neg hj
    have es : pn σ k tp f 1 (σ 0 0) = k ∧ pn σ k tp f 2 (σ 0 0) = tp ∧ pn σ k tp f 3 (σ 0 0) = f ∧ pn σ k tp f 4 (σ 0 0) = 0 := by
      refine ⟨?_, ?_, ?_, ?_⟩ <;> show (if σ 0 0 = σ 0 0 then _ else _) = _ <;> exact if_pos rfl
    have e5 : ∀ j, pn σ k tp f 5 j = if 7 * σ 0 0 ≤ j ∧ j < 7 * σ 0 0 + 7 then 0 else σ 5 j := fun _ => rfl
    refine (hS.chg (σ' := pn σ k tp f) (WFpn hS.1 hP ⟨hk1, hk4⟩ ⟨ht1, ht6⟩ hf9) ?_ ?_ (hS.2.2.2.1.bump ?_ ?_ ?_ ?_) (pn_0 (by decide) (by decide)) (pn_0 (by decide) (by decide)) (fun j hj => pn_r (by omega)) (fun r hr => ?_) (fun r hr' => ?_) (fun g hg => ?_)).cls (by omega)
    · unfold xG tr
      rw [xz (1 + 1) (by decide), xz (1 + 2) (by decide), xz (1 + 3) (by decide), xz (1 + 4) (by decide), xz (1 + 5) (by decide), xz (1 + 6) (by decide), xz (1 + 9) (by decide), xz (1 + 10) (by decide), pn_r (i := 6) (by decide), b1 (1 + 6) (by decide) (by decide) (by decide) (by decide) (by decide) (by decide), b1 (1 + 9) (by decide) (by decide) (by decide) (by decide) (by decide) (by decide), pn_0 (j := 8) (by decide) (by decide), pn_0 (j := 9) (by decide) (by decide), pn_0 (j := 11) (by decide) (by decide)]
      obtain ⟨s1, s2, s3, s4, s5, s6, s7, s8⟩ := hS.2.1
      refine ⟨fun q hq => ?_, fun q hq => ?_, fun q hq => ?_, fun q hq => ?_, fun q hq => ?_, fun q hq => ?_, s7, s8.1, s8.2.1, s8.2.2.1, fun q hq => ?_⟩
      · by_cases e : q = 0
        · rw [e, u2_self, b1 1 (by decide) (by decide) (by decide) (by decide) (by decide) (by decide), e0, nI_1]; rfl
        · rw [u2_ne _ _ (Or.inr e), b1 1 (by decide) (by decide) (by decide) (by decide) (by decide) (by decide), pn_0 e (by omega)]; exact s1 q hq
      · rw [g1 (1 + 1) (by decide), u2r (by decide), u2r (by decide), u2r (by decide), u2r (by decide)]
        by_cases e : q = σ 0 0
        · rw [e, u2_self, es.1]
        · rw [u2_ne _ _ (Or.inr e), (ed q e).1]; exact s2 q hq
      · rw [g1 (1 + 2) (by decide), u2r (by decide), u2r (by decide), u2r (by decide)]
        by_cases e : q = σ 0 0
        · rw [e, u2_self, es.2.1]
        · rw [u2_ne _ _ (Or.inr e), (ed q e).2.1, u2r (by decide)]; exact s3 q hq
      · rw [g1 (1 + 3) (by decide), u2r (by decide), u2r (by decide)]
        by_cases e : q = σ 0 0
        · rw [e, u2_self, es.2.2.1]
        · rw [u2_ne _ _ (Or.inr e), (ed q e).2.2.1, u2r (by decide), u2r (by decide)]; exact s4 q hq
      · rw [g1 (1 + 4) (by decide), u2r (by decide)]
        by_cases e : q = σ 0 0
        · rw [e, u2_self, es.2.2.2]; rfl
        · rw [u2_ne _ _ (Or.inr e), (ed q e).2.2.2, u2r (by decide), u2r (by decide), u2r (by decide)]; exact s5 q hq
      · rw [g2 q, e5 q]
        split
        · rfl
        · rw [u2r (by decide), u2r (by decide), u2r (by decide), u2r (by decide), u2r (by decide)]; exact s6 q hq
      · rw [g1 (1 + 10) (by decide), show pn σ k tp f 0 10 = σ 0 10 + tp * 7 ^ σ 0 0 - dg (σ 0 10) (σ 0 0) * 7 ^ σ 0 0 from rfl, d3 q hq]
        by_cases e : q = σ 0 0
        · rw [e, u2_self, if_pos rfl]
        · rw [u2_ne _ _ (Or.inr e), if_neg e, u2r (by decide), u2r (by decide), u2r (by decide), u2r (by decide)]; exact s8.2.2.2 q hq
    · obtain ⟨⟨c0, c1, c2, c3, c4, c5, c6, c7, c8', c9, c10, c11⟩, ⟨p0, p1, p2, p3, p4⟩, hrr⟩ := hS.2.2.1
      have mz : ∀ j, j ≠ 8 → j ≠ 11 → mcnt (u2 (u2 I2 0 8 (I2 0 8 + 1)) 0 18 (I2 0 18 + 1)) j = mcnt Im j ∨ 12 ≤ j := by
        intro j a1 a2
        by_cases a3 : 12 ≤ j
        · exact .inr a3
        · refine .inl ?_
          unfold mcnt
          rw [if_neg a2, if_neg a2, hz j a1 (by omega), r0 j, if_neg (by omega)]
      have mzz : ∀ j, j < 12 → j ≠ 8 → j ≠ 11 → mcnt (u2 (u2 I2 0 8 (I2 0 8 + 1)) 0 18 (I2 0 18 + 1)) j = mcnt Im j := fun j a0 a1 a2 => (mz j a1 a2).resolve_right (by omega)
      unfold mG mGv
      rw [hr 1 (by decide), hr 2 (by decide), hr 3 (by decide), hr 4 (by decide), hr 5 (by decide), hr 6 (by decide), r1 2 (by decide) (by decide), r1 3 (by decide) (by decide), r1 4 (by decide) (by decide), r1 5 (by decide) (by decide), r1 6 (by decide) (by decide), pn_r (i := 6) (by decide), pn_r (i := 7) (by decide), pn_r (i := 8) (by decide), pn_r (i := 9) (by decide), pn_r (i := 10) (by decide),
        mzz 0 (by decide) (by decide) (by decide), mzz 1 (by decide) (by decide) (by decide), mzz 2 (by decide) (by decide) (by decide), mzz 3 (by decide) (by decide) (by decide), mzz 4 (by decide) (by decide) (by decide), mzz 5 (by decide) (by decide) (by decide), mzz 6 (by decide) (by decide) (by decide), mzz 7 (by decide) (by decide) (by decide), mzz 9 (by decide) (by decide) (by decide), mzz 10 (by decide) (by decide) (by decide),
        pn_0 (j := 8) (by decide) (by decide), pn_0 (j := 11) (by decide) (by decide), pn_0 (j := 3) (by decide) (by decide), pn_0 (j := 9) (by decide) (by decide), pn_0 (j := 4) (by decide) (by decide), pn_0 (j := 7) (by decide) (by decide), pn_0 (j := 5) (by decide) (by decide), pn_0 (j := 6) (by decide) (by decide), pn_0 (j := 1) (by decide) (by decide), pn_0 (j := 2) (by decide) (by decide)]
      refine ⟨⟨c0, c1, c2, c3, c4, c5, c6, c7, c8, c9, c10, ?_⟩, ⟨fun q hq => ?_, fun q hq => ?_, fun q hq => ?_, fun q hq => ?_, fun q u hq hu => ?_⟩, hrr⟩
      · show u2 (u2 I2 0 8 (I2 0 8 + 1)) 0 18 (I2 0 18 + 1) 0 12 = _
        rw [hz 12 (by decide) (by decide), r0 12, if_pos rfl]
        rfl
      · rw [rp]
        by_cases e : q = σ 0 0
        · rw [e, es.1, if_neg (by omega), if_neg (by omega), if_pos rfl]
        · rw [(ed q e).1, if_neg (by omega), if_neg (by omega), if_neg (by omega), if_neg (by omega)]; exact p0 q hq
      · rw [rp]
        by_cases e : q = σ 0 0
        · rw [e, es.2.1, if_neg (by omega), if_pos rfl]
        · rw [(ed q e).2.1, if_neg (by omega), if_neg (by omega), if_neg (by omega), if_neg (by omega)]; exact p1 q hq
      · rw [rp]
        by_cases e : q = σ 0 0
        · rw [e, es.2.2.1, if_pos rfl]
        · rw [(ed q e).2.2.1, if_neg (by omega), if_neg (by omega), if_neg (by omega), if_neg (by omega)]; exact p2 q hq
      · rw [rp]
        by_cases e : q = σ 0 0
        · rw [e, es.2.2.2, if_neg (by omega), if_neg (by omega), if_neg (by omega), if_pos (by omega)]
        · rw [(ed q e).2.2.2, if_neg (by omega), if_neg (by omega), if_neg (by omega), if_neg (by omega)]; exact p3 q hq
      · rw [rp, e5]
        by_cases e : q = σ 0 0
        · rw [e, if_neg (by omega), if_neg (by omega), if_neg (by omega), if_pos (by omega), if_pos (by omega)]
        · rw [if_neg (by omega), if_neg (by omega), if_neg (by omega), if_neg (by omega), if_neg (by omega)]; exact p4 q u hq hu
    · rw [u2r (by decide), b1 23 (by decide) (by decide) (by decide) (by decide) (by decide) (by decide)]
    · rw [u2r (by decide), b1 24 (by decide) (by decide) (by decide) (by decide) (by decide) (by decide)]
    · rw [u2_self, r0 18, if_neg (by decide)]
    · rw [hr 7 (by decide), r1 7 (by decide) (by decide)]
    · rw [u2r (by omega), b1 r (by omega) (by omega) (by omega) (by omega) (by omega) (by omega)]
    · rw [hr r (by omega), r1 r (by omega) (by omega)]
    · rw [hz g (by omega) (by omega), r0 g, if_neg (by omega)]
