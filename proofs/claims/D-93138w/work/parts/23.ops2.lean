set_option maxRecDepth 100000
set_option maxHeartbeats 4000000
/-! PLAIN LAW, operations 2: flock, perch, dusk, way, yieldOf, patchOf, does -/
theorem u2_id {α : Type} {f : Nat → Nat → α} {i k : Nat} {v : α} (h : f i k = v) : u2 f i k v = f := by
  funext a b
  unfold u2
  by_cases e : b = k
  · by_cases e2 : a = i
    · rw [if_pos e, if_pos e2, e, e2, h]
    · rw [if_pos e, if_neg e2]
  · rw [if_neg e]
theorem u2_all {f : wS} {i j n b : Nat} (h : ∀ k, f i k ≤ b) (hn : n ≤ b) : ∀ k, u2 f i j n i k ≤ b := by
  intro k
  by_cases e : k = j
  · rw [e, u2_self]; exact hn
  · rw [u2_ne _ _ (Or.inr e)]; exact h k
/-- what the relation says of the first -/
theorem Rel.base {t : Nat} {s : xS} {rd : xRd} {J : mJ} {I Im : mI} {Jm : mJ} (h : Rel t s rd J I Im Jm) : ∃ σ, WF σ ∧ xG 1 σ I ∧ mG σ Im ∧ rM t I Im σ := by
  obtain ⟨_, σ, fz, a1, a2, a3, a4, _⟩ := h
  exact ⟨σ, a1, a2, a3, a4⟩
theorem Rel.eqs {t : Nat} {s : xS} {rd : xRd} {J : mJ} {I Im : mI} {Jm : mJ} (h : Rel t s rd J I Im Jm) : I 1 0 = Im 0 8 ∧ I 1 1 = Im 0 9 ∧ I 1 2 = Im 0 10 ∧ I 1 3 = Im 0 2 ∧ I 1 4 = Im 0 4 ∧ I 1 5 = Im 0 6 ∧ I 1 6 = Im 0 7 ∧ I 1 7 = Im 0 5 ∧ I 10 0 = Im 0 3 ∧ I 10 1 = Im 0 0 ∧ I 10 2 = Im 0 1 := by
  obtain ⟨σ, a1, a2, ⟨⟨c0, c1, c2, c3, c4, c5, c6, c7, c8, c9, c10, c11⟩, _⟩, _⟩ := h.base
  have g := a2.1
  have tt := a2.2.2.2.2.2.2.2
  exact ⟨(g 0 (by decide)).trans c8.symm, (g 1 (by decide)).trans c9.symm, (g 2 (by decide)).trans c10.symm, (g 3 (by decide)).trans c2.symm, (g 4 (by decide)).trans c4.symm, (g 5 (by decide)).trans c6.symm, (g 6 (by decide)).trans c7.symm, (g 7 (by decide)).trans c5.symm, tt.2.1.trans c3.symm, tt.1.trans c0.symm, tt.2.2.1.trans c1.symm⟩
theorem p_flock {t : Nat} {a b : Int32} {s : xS} {rd : xRd} {J : mJ} {I Im : mI} {Jm : mJ} (h : Rel t s rd J I Im Jm) : x_X0_flock a b s rd J I (fun r I' => m_flock a b Im Jm (RelQ (t + 1) s rd J I' r)) := by
  obtain ⟨_, _, _, _, _, q5, q6, q7, _, _, _⟩ := h.eqs
  have no : RelQ (t + 1) s rd J I (-1) (-1) Im Jm := ⟨rfl, h.same⟩
  unfold x_X0_flock m_flock
  refine x_in_c (fun q => br_f (by decide) ?_) (fun q => br_t rfl (m_in_c (fun z => absurd z q) (fun _ => br_t rfl no)))
  obtain ⟨n, _, hn2, rfl⟩ := in_of (lo := 0) (hi := 2) (by decide) (by decide) q
  have h012 : n = 0 ∨ n = 1 ∨ n = 2 := by omega
  have w5 : u2 I 1 5 (I 1 5) = I := u2_id rfl
  have w6 : u2 I 1 6 (I 1 6) = I := u2_id rfl
  have w7 : u2 I 1 7 (I 1 7) = I := u2_id rfl
  have v5 : u2 Im 0 6 (Im 0 6) = Im := u2_id rfl
  have v6 : u2 Im 0 7 (Im 0 7) = Im := u2_id rfl
  have v7 : u2 Im 0 5 (Im 0 5) = Im := u2_id rfl
  rcases h012 with rfl | rfl | rfl
  · refine br_f (by decide) (x_in_c (fun z => br_f (by decide) ?_) (fun z => br_t rfl ?_))
    · obtain ⟨k, _, hk, rfl⟩ := in_of (lo := 0) (hi := 6) (by decide) (by decide) z
      unfold x_X0_flock_j38 x_X0_flock_j74 x_X0_flock_j94 x_X0_flock_j117
      refine br_t rfl (br_t rfl (br_f (by decide) (br_f (by decide) (m_in_c (fun _ => br_f (by decide) (br_f (by decide) ?_)) (fun y => absurd q y)))))
      unfold m_flock_j20 m_flock_j31
      refine br_f (by decide) (m_in_c (fun _ => br_f (by decide) (br_t rfl ?_)) (fun y => absurd z y))
      unfold m_flock_j66 m_flock_j80 m_flock_j97
      refine br_t rfl (br_f (by decide) (br_f (by decide) ⟨q5, ?_⟩))
      rw [u2_id (f := u2 I 1 5 (nI k)) (k := 6) (u2_ne _ _ (Or.inr (by decide))), u2_id (f := u2 I 1 5 (nI k)) (k := 7) rfl, u2_id (f := u2 Im 0 6 (nI k)) (k := 7) (u2_ne _ _ (Or.inr (by decide))), u2_id (f := u2 Im 0 6 (nI k)) (k := 5) rfl]
      exact h.set4 (k := 5) (.inr (.inl ⟨rfl, hk⟩)) rfl
    · refine m_in_c (fun _ => br_f (by decide) (br_f (by decide) ?_)) (fun y => absurd q y)
      unfold m_flock_j20 m_flock_j31
      exact br_f (by decide) (m_in_c (fun y => absurd y z) (fun _ => br_t rfl no))
  · refine br_f (by decide) (x_in_c (fun z => br_f (by decide) ?_) (fun z => br_t rfl ?_))
    · obtain ⟨k, _, hk, rfl⟩ := in_of (lo := 0) (hi := 6) (by decide) (by decide) z
      unfold x_X0_flock_j38 x_X0_flock_j74 x_X0_flock_j94 x_X0_flock_j117
      refine br_f (by decide) (br_t rfl (br_f (by decide) (br_t rfl (br_f (by decide) (m_in_c (fun _ => br_f (by decide) (br_f (by decide) ?_)) (fun y => absurd q y))))))
      unfold m_flock_j20 m_flock_j31
      refine br_f (by decide) (m_in_c (fun _ => br_f (by decide) (br_f (by decide) (br_t rfl ?_))) (fun y => absurd z y))
      unfold m_flock_j66 m_flock_j80 m_flock_j97
      refine br_f (by decide) (br_t rfl (br_f (by decide) ⟨q6, ?_⟩))
      rw [w5, v5, u2_id (f := u2 I 1 6 (nI k)) (i := 1) (k := 7) (v := I 1 7) rfl, u2_id (f := u2 Im 0 7 (nI k)) (i := 0) (k := 5) (v := Im 0 5) rfl]
      exact h.set4 (k := 6) (.inr (.inr (.inl ⟨rfl, hk⟩))) rfl
    · refine m_in_c (fun _ => br_f (by decide) (br_f (by decide) ?_)) (fun y => absurd q y)
      unfold m_flock_j20 m_flock_j31
      exact br_f (by decide) (m_in_c (fun y => absurd y z) (fun _ => br_t rfl no))
  · refine br_t rfl (x_in_c (fun z => br_f (by decide) ?_) (fun z => br_t rfl ?_))
    · obtain ⟨k, hk0, hk, rfl⟩ := in_of (lo := 1) (hi := 5) (by decide) (by decide) z
      unfold x_X0_flock_j38 x_X0_flock_j74 x_X0_flock_j94 x_X0_flock_j117
      refine br_f (by decide) (br_f (by decide) (br_f (by decide) (br_f (by decide) (br_t rfl (m_in_c (fun _ => br_f (by decide) (br_t rfl ?_)) (fun y => absurd q y))))))
      unfold m_flock_j20 m_flock_j31
      refine br_t rfl (m_in_c (fun _ => br_f (by decide) (br_f (by decide) (br_f (by decide) ?_))) (fun y => absurd z y))
      unfold m_flock_j66 m_flock_j80 m_flock_j97
      refine br_f (by decide) (br_f (by decide) (br_t rfl ⟨q7, ?_⟩))
      rw [w5, w6, v5, v6]
      exact h.set4 (k := 7) (.inr (.inr (.inr ⟨rfl, hk0, hk⟩))) rfl
    · refine m_in_c (fun _ => br_f (by decide) (br_t rfl ?_)) (fun y => absurd q y)
      unfold m_flock_j20 m_flock_j31
      exact br_t rfl (m_in_c (fun y => absurd y z) (fun _ => br_t rfl no))
/-- the trip anew -/
theorem xG.trip {σ σ' : wS} {I I' : mI} (h : xG 1 σ I) (g : ∀ r, 1 ≤ r → r ≤ 7 → I' r = I r) (h0 : ∀ k, k < 8 → σ' 0 k = σ 0 k) (hr : ∀ j, 1 ≤ j → σ' j = σ j) (ht : tr I' 10 11 (σ' 0 8) (σ' 0 9) (σ' 0 10) (σ' 0 11)) : xG 1 σ' I' := by
  unfold xG
  rw [g 1 (by omega) (by omega), g (1 + 1) (by omega) (by omega), g (1 + 2) (by omega) (by omega), g (1 + 3) (by omega) (by omega), g (1 + 4) (by omega) (by omega), g (1 + 5) (by omega) (by omega), g (1 + 6) (by omega) (by omega), hr 1 (by omega), hr 2 (by omega), hr 3 (by omega), hr 4 (by omega), hr 5 (by omega), hr 6 (by omega)]
  exact ⟨fun k hk => by rw [h0 k hk]; exact h.1 k hk, h.2.1, h.2.2.1, h.2.2.2.1, h.2.2.2.2.1, h.2.2.2.2.2.1, h.2.2.2.2.2.2.1, ht⟩
/-- where the bird is, when, what is left, what it has got -/
theorem WF.trip {σ σ' : wS} (h : WF σ) (h0 : ∀ k, k < 8 → σ' 0 k = σ 0 k) (hr : ∀ j, 1 ≤ j → σ' j = σ j) (hs : stok σ (σ' 0 8) (σ' 0 9) (σ' 0 10)) (hg : σ' 0 11 ≤ 30 * σ' 0 8) (ha : σ' 0 9 < σ 0 0 ∨ (σ 0 0 = 0 ∧ σ' 0 9 = 0)) : WF σ' := by
  obtain ⟨h1, h2, ⟨h3, h4, h5, h6, h7, h8, h9⟩, h10, h11⟩ := h
  unfold WF wf stok
  rw [h0 0 (by omega), h0 1 (by omega), h0 2 (by omega), h0 3 (by omega), h0 4 (by omega), h0 5 (by omega), h0 6 (by omega), h0 7 (by omega), hr 1 (by omega), hr 2 (by omega), hr 3 (by omega), hr 4 (by omega), hr 5 (by omega), hr 6 (by omega), hr 7 (by omega), hr 8 (by omega)]
  exact ⟨h1, hs, ⟨h3, h4, h5, h6, h7, h8, hg⟩, ha, h11⟩
theorem pe.trip {σ σ' : wS} (h0 : ∀ k, k < 8 → σ' 0 k = σ 0 k) (hr : ∀ j, 1 ≤ j → σ' j = σ j) : pe σ σ' := ⟨h0 0 (by omega), h0 3 (by omega), hr 2 (by omega), hr 3 (by omega), hr 5 (by omega), hr 6 (by omega)⟩
theorem mG.trip {σ σ' : wS} {I I' : mI} (h : mG σ I) (g : ∀ r, 1 ≤ r → r ≤ 6 → I' r = I r) (g0 : ∀ k, k = 2 ∨ (4 ≤ k ∧ k ≤ 10) → I' 0 k = I 0 k) (h0 : ∀ k, k < 8 → σ' 0 k = σ 0 k) (hr : ∀ j, 1 ≤ j → σ' j = σ j) (e0 : I' 0 0 = nI (σ' 0 8)) (e1 : I' 0 1 = nI (σ' 0 11)) (e3 : I' 0 3 = nI (σ' 0 9)) (e12 : I' 0 12 = nI (σ' 0 10)) : mG σ' I' := by
  obtain ⟨⟨c0, c1, c2, c3, c4, c5, c6, c7, c8, c9, c10, c11⟩, hh⟩ := h
  unfold mG mGv
  rw [g 1 (by omega) (by omega), g 2 (by omega) (by omega), g 3 (by omega) (by omega), g 4 (by omega) (by omega), g 5 (by omega) (by omega), g 6 (by omega) (by omega), hr 1 (by omega), hr 2 (by omega), hr 3 (by omega), hr 4 (by omega), hr 5 (by omega), hr 6 (by omega), hr 7 (by omega), hr 8 (by omega), hr 9 (by omega), hr 10 (by omega), h0 0 (by omega), h0 1 (by omega), h0 2 (by omega), h0 3 (by omega), h0 4 (by omega), h0 5 (by omega), h0 6 (by omega), h0 7 (by omega)]
  exact ⟨⟨e0, e1, (g0 2 (by omega)).trans c2, e3, (g0 4 (by omega)).trans c4, (g0 5 (by omega)).trans c5, (g0 6 (by omega)).trans c6, (g0 7 (by omega)).trans c7, (g0 8 (by omega)).trans c8, (g0 9 (by omega)).trans c9, (g0 10 (by omega)).trans c10, e12⟩, hh⟩
/-- the state with the trip anew -/
def wt (σ : wS) (m a c g : Nat) : wS := fun i k => if i = 0 then (if k = 8 then m else if k = 9 then a else if k = 10 then c else if k = 11 then g else σ 0 k) else σ i k
theorem wt_0 {σ : wS} {m a c g k : Nat} (h : k < 8) : wt σ m a c g 0 k = σ 0 k := by
  unfold wt
  rw [if_pos rfl, if_neg (by omega), if_neg (by omega), if_neg (by omega), if_neg (by omega)]
theorem wt_r {σ : wS} {m a c g j : Nat} (h : 1 ≤ j) : wt σ m a c g j = σ j := by
  funext k
  unfold wt
  rw [if_neg (by omega)]
/-- a call that changes the trip alone, on both sides -/
theorem Rel.trip {t t' : Nat} {s : xS} {rd : xRd} {J : mJ} {I I' Im Im' : mI} {Jm : mJ} (h : Rel t s rd J I Im Jm) (m a c g : Nat)
    (hk : ∀ σ, WF σ → xG 1 σ I → mG σ Im → stok σ m a c ∧ g ≤ 30 * m ∧ (a < σ 0 0 ∨ (σ 0 0 = 0 ∧ a = 0)))
    (ht : tr I' 10 11 m a c g) (gx : ∀ r, r ≠ 10 → r ≠ 11 → r ≠ 97 → r ≠ 98 → I' r = I r) (gm' : ∀ r, r ≠ 0 → Im' r = Im r) (g0 : ∀ k, k ≠ 0 → k ≠ 1 → k ≠ 3 → k ≠ 12 → (k < 19 ∨ 22 < k) → Im' 0 k = Im 0 k) (e0 : Im' 0 0 = nI m) (e1 : Im' 0 1 = nI g) (e3 : Im' 0 3 = nI a) (e12 : Im' 0 12 = nI c) (htt : t ≤ t' := by omega) : Rel t' s rd J I' Im' Jm := by
  refine h.chg (fun σ a1 a2 a3 a4 => ?_) (fun r hr => gx r (by omega) (by omega) (by omega) (by omega)) (fun r hr => gm' r (by omega)) (fun f hf => g0 f (by omega) (by omega) (by omega) (by omega) (by omega))
  obtain ⟨k1, k2, k3⟩ := hk σ a1 a2 a3
  have z0 : ∀ k, k < 8 → wt σ m a c g 0 k = σ 0 k := fun k hk => wt_0 hk
  have zr : ∀ j, 1 ≤ j → wt σ m a c g j = σ j := fun j hj => wt_r hj
  exact ⟨wt σ m a c g, a1.trip z0 zr k1 k2 k3, a2.trip (fun r r1 r2 => gx r (by omega) (by omega) (by omega) (by omega)) z0 zr ht, a3.trip (fun r r1 r2 => gm' r (by omega)) (fun k hk => g0 k (by omega) (by omega) (by omega) (by omega) (by omega)) z0 zr e0 e1 e3 e12,
    a4.pe (pe.trip z0 zr) (by rw [gx 23 (by decide) (by decide) (by decide) (by decide)]) (gx 24 (by decide) (by decide) (by decide) (by decide)) (g0 18 (by decide) (by decide) (by decide) (by decide) (by omega)) (gm' 7 (by decide)), z0 1 (by omega), z0 2 (by omega), fun j hj => zr j (by omega)⟩
theorem p_perch {t : Nat} {a : Int32} {s : xS} {rd : xRd} {J : mJ} {I Im : mI} {Jm : mJ} (h : Rel t s rd J I Im Jm) : x_X0_perch a s rd J I (fun r I' => m_perch a Im Jm (RelQ (t + 1) s rd J I' r)) := by
  obtain ⟨q0, _, _, _, _, _, _, _, q8, _, _⟩ := h.eqs
  unfold x_X0_perch m_perch
  refine x_isPatch_c (fun q => br_f (by decide) (m_isPatch_c (fun _ => br_f (by decide) ⟨q8, ?_⟩) (fun z => absurd (by rw [← q0]; exact q) z))) (fun q => br_t rfl (m_isPatch_c (fun z => absurd (by rw [q0]; exact z) q) (fun _ => br_t rfl ⟨rfl, h.same⟩)))
  obtain ⟨σ, a1, a2, a3, _⟩ := h.base
  rw [a2.1 0 (by decide)] at q
  obtain ⟨n, hn, rfl⟩ := pt_of a1.1.1 q
  have tt := a2.2.2.2.2.2.2.2
  refine h.trip (σ 0 8) n (σ 0 10) (σ 0 11) (fun σ' b1 b2 b3 => ?_) ⟨?_, u2_self _ _ _ _, ?_, fun p hp => ?_⟩ (fun r r1 _ _ _ => u2r r1) (fun r r1 => u2r r1) (fun k k0 k1 k3 k12 _ => u2_ne _ _ (Or.inr k3)) ?_ ?_ (u2_self _ _ _ _) ?_
  · have c := a1.1.1
    have d := b1.1.1
    have e0 : σ' 0 0 = σ 0 0 := (nI_eq (by omega) (by omega)).mp ((b2.1 0 (by decide)).symm.trans (a2.1 0 (by decide)))
    have e8 : σ' 0 8 = σ 0 8 := (nI_eq (by have := b1.2.1.1; omega) (by have := a1.2.1.1; omega)).mp (b2.2.2.2.2.2.2.2.1.symm.trans tt.1)
    have e10 : σ' 0 10 = σ 0 10 := (nI_eq (by have := b1.2.1.2.2.1; omega) (by have := a1.2.1.2.2.1; omega)).mp (b3.1.2.2.2.2.2.2.2.2.2.2.2.symm.trans a3.1.2.2.2.2.2.2.2.2.2.2.2)
    have g1 := b1.2.1
    rw [e8, e10] at g1
    have g2 := a1.2.2.1.2.2.2.2.2.2
    exact ⟨⟨g1.1, by omega, g1.2.2.1, g1.2.2.2⟩, g2, .inl (by omega)⟩
  · rw [u2_ne _ _ (Or.inr (by decide))]; exact tt.1
  · rw [u2_ne _ _ (Or.inr (by decide))]; exact tt.2.2.1
  · rw [u2r (by decide)]; exact tt.2.2.2 p hp
  · rw [u2_ne _ _ (Or.inr (by decide))]; exact a3.1.1
  · rw [u2_ne _ _ (Or.inr (by decide))]; exact a3.1.2.1
  · rw [u2_ne _ _ (Or.inr (by decide))]; exact a3.1.2.2.2.2.2.2.2.2.2.2.2
/-! dawn's and lay's arithmetic -/
theorem nI_dig {c v d u : Nat} (h : d * u ≤ c) : nI c + (nI v - nI d) * nI u = nI (c + v * u - d * u) := by
  rw [← pk_sub (Nat.le_trans h (Nat.le_add_right _ _)), ← nI_add, ← pk_mul, ← pk_mul]
  have e : (nI v - nI d) * nI u = nI v * nI u - nI d * nI u := Int32.sub_mul
  rw [e, Int32.sub_eq_add_neg, Int32.sub_eq_add_neg, Int32.add_assoc]
theorem WF.stok {σ : wS} (h : WF σ) : stok σ (σ 0 8) (σ 0 9) (σ 0 10) := h.2.1
theorem WF.got {σ : wS} (h : WF σ) : σ 0 11 ≤ 600 := by
  have h1 := h.2.1.1
  have h2 := h.2.2.1.2.2.2.2.2.2
  omega
theorem xG.tr {σ : wS} {I : mI} (h : xG 1 σ I) : tr I 10 11 (σ 0 8) (σ 0 9) (σ 0 10) (σ 0 11) := h.2.2.2.2.2.2.2
theorem mG.food {σ : wS} {I : mI} (h : mG σ I) : I 0 12 = nI (σ 0 10) := h.1.2.2.2.2.2.2.2.2.2.2.2
theorem mG.min {σ : wS} {I : mI} (h : mG σ I) : I 0 0 = nI (σ 0 8) := h.1.1
theorem mG.got {σ : wS} {I : mI} (h : mG σ I) : I 0 1 = nI (σ 0 11) := h.1.2.1
theorem mG.at_ {σ : wS} {I : mI} (h : mG σ I) : I 0 3 = nI (σ 0 9) := h.1.2.2.2.1
theorem mG.pat {σ : wS} {I : mI} (h : mG σ I) : I 0 8 = nI (σ 0 0) := h.1.2.2.2.2.2.2.2.2.1
/-- two abstract states of one pair of heaps agree on the scalars -/
theorem sc_same {σ σ' : wS} {I Im : mI} (a1 : WF σ) (a2 : xG 1 σ I) (a3 : mG σ Im) (b1 : WF σ') (b2 : xG 1 σ' I) (b3 : mG σ' Im) : σ' 0 0 = σ 0 0 ∧ σ' 0 3 = σ 0 3 ∧ σ' 0 8 = σ 0 8 ∧ σ' 0 9 = σ 0 9 ∧ σ' 0 10 = σ 0 10 ∧ σ' 0 11 = σ 0 11 := by
  have p1 := a1.1.1
  have p2 := b1.1.1
  have p3 := a1.1.2.1
  have p4 := b1.1.2.1
  have s1 := a1.2.1
  have s2 := b1.2.1
  have g1 := a1.got
  have g2 := b1.got
  refine ⟨(nI_eq (by omega) (by omega)).mp ((b2.1 0 (by decide)).symm.trans (a2.1 0 (by decide))), (nI_eq (by omega) (by omega)).mp ((b2.1 3 (by decide)).symm.trans (a2.1 3 (by decide))), (nI_eq (by have := s1.1; have := s2.1; omega) (by have := s1.1; have := s2.1; omega)).mp (b3.min.symm.trans a3.min), (nI_eq (by have := s1.2.1; have := s2.2.1; omega) (by have := s1.2.1; have := s2.2.1; omega)).mp (b3.at_.symm.trans a3.at_), (nI_eq (by have := s1.2.2.1; have := s2.2.2.1; omega) (by have := s1.2.2.1; have := s2.2.2.1; omega)).mp (b3.food.symm.trans a3.food), (nI_eq (by omega) (by omega)).mp (b3.got.symm.trans a3.got)⟩
theorem x_isAct_c {a : Int32} {s : xS} {rd : xRd} {J : mJ} {I : mI} {Q : Int32 → Prop} (h1 : -1 ≤ a ∧ a ≤ 3 → Q 1) (h0 : ¬ (-1 ≤ a ∧ a ≤ 3) → Q 0) : x_X0_isAct a s rd J I Q := by
  unfold x_X0_isAct
  exact x_in_c (fun q => ⟨.inr rfl, h1 q⟩) (fun q => ⟨.inl rfl, h0 q⟩)
theorem m_isAct_c {a : Int32} {I : mI} {J : mJ} {Q : Int32 → mI → mJ → Prop} (h1 : -1 ≤ a ∧ a ≤ 3 → Q 1 I J) (h0 : ¬ (-1 ≤ a ∧ a ≤ 3) → Q 0 I J) : m_isAct a I J Q := by
  unfold m_isAct
  exact m_in_c (fun q => ⟨.inr rfl, h1 q⟩) (fun q => ⟨.inl rfl, h0 q⟩)
theorem aI_in {a : Int32} (h : -1 ≤ a ∧ a ≤ 3) : ∃ e, e < 5 ∧ a = aI e := aI_of (Int32.not_lt.mpr h.1) (Int32.not_lt.mpr h.2)
theorem tk_at {σ : wS} {m a e : Nat} (h : tk σ m a e ≠ 0) (ha : a < σ 0 0 ∨ (σ 0 0 = 0 ∧ a = 0)) : nA a e < σ 0 0 ∨ (σ 0 0 = 0 ∧ nA a e = 0) := by
  cases e with
  | zero => exact ha
  | succ b =>
    simp only [tk] at h
    split at h
    · contradiction
    · exact .inl (by show b < σ 0 0; omega)
theorem gn_tk {σ : wS} (hw : wf σ) {m a c e : Nat} (h : tk σ m a e ≠ 0) : gn σ a c e ≤ 30 * tk σ m a e := by
  have := gn_le hw a c e
  cases e with
  | zero => omega
  | succ b => exact Nat.zero_le _
/-- an act: the same answer, the same state -/
theorem p_doesK {t t' : Nat} {Q : Int32 → mI → Prop} {a : Int32} {s : xS} {rd : xRd} {J : mJ} {I Im : mI} {Jm : mJ} (h : Rel t s rd J I Im Jm) (htt : t ≤ t') (K : ∀ r I', (∀ q, q ≠ 10 → q ≠ 11 → I' q = I q) → m_does a Im Jm (RelQ t' s rd J I' r) → Q r I') : x_X0_does a s rd J I Q := by
  obtain ⟨σ, a1, a2, a3, _⟩ := h.base
  have hw := a1.1
  have hs := a1.stok
  have tt := a2.tr
  unfold x_X0_does
  refine x_isAct_c (fun q => br_f (by decide) ?_) (fun q => br_t rfl (K _ _ (fun _ _ _ => rfl) (by unfold m_does; exact m_isAct_c (fun z => absurd z q) (fun _ => br_t rfl ⟨rfl, h.same⟩))))
  obtain ⟨e, he, rfl⟩ := aI_in q
  have hk5 := tk_5 (σ := σ) (m := σ 0 8) (a := σ 0 9) (e := e) hw
  have fin : ∀ r I', (tk σ (σ 0 8) (σ 0 9) e = 0 → r = -4 ∧ I' = I) → (tk σ (σ 0 8) (σ 0 9) e ≠ 0 → ot 10 11 I I' ∧ tr I' 10 11 (σ 0 8 + tk σ (σ 0 8) (σ 0 9) e) (nA (σ 0 9) e) (nC σ (σ 0 8) (σ 0 9) (σ 0 10) e) (σ 0 11 + gn σ (σ 0 9) (σ 0 10) e) ∧ r = nI (σ 0 11 + gn σ (σ 0 9) (σ 0 10) e)) → m_does (aI e) Im Jm (RelQ t' s rd J I' r) := by
    intro r I' k0 k1
    unfold m_does
    refine m_isAct_c (fun _ => br_f (by decide) ?_) (fun z => absurd q z)
    rw [a3.min, a3.at_, a3.food]
    refine m_leads_s hw a3.mP hs he (fun z => br_t rfl ?_) (fun z I2 g1 g2 g3 g4 g => br_f (by decide) ?_)
    · obtain ⟨rfl, rfl⟩ := k0 z
      exact ⟨rfl, h.same⟩
    · obtain ⟨o1, o2, rfl⟩ := k1 z
      unfold m_goes
      rw [g1, g2, g3, g4, g.2 1 (by omega), a3.got, nI_add]
      refine ⟨(u2_self _ _ _ _).symm, h.trip _ _ _ _ (fun σ' b1 b2 b3 => ?_) o2 (fun r r1 r2 _ _ => o1 r r1 r2) (fun r hr => ?_) (fun k z0 z1 z3 z12 hk => ?_) ?_ (u2_self _ _ _ _) ?_ ?_⟩
      · obtain ⟨d0, d3, _⟩ := sc_same a1 a2 a3 b1 b2 b3
        have n1 := nx_ok (c := σ 0 10) hw hs z
        have n2 := gn_tk (c := σ 0 10) hw z
        have n3 := a1.2.2.1.2.2.2.2.2.2
        have n4 := tk_at z a1.2.2.2.1
        refine ⟨⟨n1.1, n1.2.1, n1.2.2.1, fun k hk => ?_⟩, by omega, by rw [d0]; exact n4⟩
        rw [d0] at hk
        have y1 : σ' 2 k = σ 2 k := (nI_eq (by have := b1.1.2.2.1 k; omega) (by have := a1.1.2.2.1 k; omega)).mp ((b2.2.2.1 k (by have := hw.1; omega)).symm.trans (a2.2.2.1 k (by have := hw.1; omega)))
        rw [y1]
        exact n1.2.2.2 k hk
      · rw [u2r hr, u2r hr, u2r hr, u2r hr]
        exact g.1 r hr
      · rw [u2_ne _ _ (Or.inr z1), u2_ne _ _ (Or.inr z12), u2_ne _ _ (Or.inr z3), u2_ne _ _ (Or.inr z0)]
        exact g.2 k hk
      · rw [u2_ne _ _ (Or.inr (by decide)), u2_ne _ _ (Or.inr (by decide)), u2_ne _ _ (Or.inr (by decide)), u2_self]
      · rw [u2_ne _ _ (Or.inr (by decide)), u2_ne _ _ (Or.inr (by decide)), u2_self]
      · rw [u2_ne _ _ (Or.inr (by decide)), u2_self]
  refine x_takes_s hw a2.xP (tS_10 (s := s) (rd := rd)).1 tt.1 tt.2.1 hs.1 hs.2.1 he ?_
  refine pk_eq (tk σ (σ 0 8) (σ 0 9) e) 0 (fun z => K _ _ (fun _ _ _ => rfl) (fin _ _ (fun _ => ⟨rfl, rfl⟩) (fun y => absurd z y))) (fun z => ?_) rfl rfl (by omega) (by omega)
  refine x_does_s hw a2.xP tS_10 hs he z tt (fun I' o1 o2 => K _ _ o1 (fin _ _ (fun y => absurd y z) (fun _ => ⟨o1, o2, o2.2.2.1⟩)))
theorem p_does {t t' : Nat} {a : Int32} {s : xS} {rd : xRd} {J : mJ} {I Im : mI} {Jm : mJ} (h : Rel t s rd J I Im Jm) (htt : t ≤ t' := by omega) : x_X0_does a s rd J I (fun r I' => m_does a Im Jm (RelQ t' s rd J I' r)) := p_doesK h htt (fun _ _ _ z => z)
