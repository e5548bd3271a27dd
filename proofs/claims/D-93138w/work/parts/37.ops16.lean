set_option maxRecDepth 100000
set_option maxHeartbeats 4000000
/-! PLAIN LAW, operations 16: shelf, feed -/
theorem rS.to2 {s : xS} {rd rd' : xRd} {fz : Nat → Bool} {J : mJ} {I I' : mI} {Jm : mJ} {Im Im' : mI} (h : rS s rd fz J I Jm Im) (g : ∀ r, (121 ≤ r ∧ r < 125) ∨ 133 ≤ r → I' r = I r) (gr : ∀ r k, 121 ≤ r → r < 125 → xR rd' r k = xR rd r k) (m : ∀ r, 26 ≤ r → r ≤ 27 → Im' r = Im r) : rS s rd' fz J I' Jm Im' := by
  obtain ⟨ar, ai, h2⟩ := h
  refine ⟨ar, ai, fun k hk => ?_⟩
  rw [g (121 + k) (by omega), m 26 (by omega) (by omega), m 27 (by omega) (by omega)]
  rcases h2 k hk with e | ⟨q, n, e0, e1, e2, e3, e4, e5, e6, e7, e8, e9, e10⟩
  · exact .inl e
  · refine .inr ⟨q, n, e0, e1, e2, e3, e4, (gr (121 + k) q (by omega) (by omega)).trans e5, e6, e7, e8, e9, fun j hj => ?_⟩
    rw [g (ar k) (by omega)]
    exact e10 j hj
theorem xR129 {k : Nat} (hk : k < 4) : xR0 (129 + k) 2 = none := by
  rcases lt4 hk with rfl | rfl | rfl | rfl <;> rfl
theorem RelS.shelf {t k : Nat} {σ : wS} {fz : Nat → Bool} {s : xS} {rd : xRd} {J : mJ} {I Im : mI} {Jm : mJ} {w v x y z : Int32} {ref : Option Nat} (hS : RelS t σ fz s rd J I Im Jm) (hk : k < 4) (hn : ∃ w', w' ≤ 4 ∧ w = nI w' ∧ ((w' ≤ 1 ∧ ∃ n, n < 4 ∧ v = nI n ∧ x = nI w' ∧ y = nI n) ∨ (w' = 2 ∧ x = 2) ∨ (w' = 3 ∧ ref = none ∧ x = -1) ∨ (w' = 4 ∧ x = -1) ∨ (w' = 3 ∧ ∃ a q n, ref = some a ∧ q < 4 ∧ n ≤ 40 ∧ xo s a (ak q) ∧ xlen s a = n ∧ x = 3 ∧ y = nI q ∧ z = nI n))) :
    RelS (t + 1) σ fz s (u2 rd (129 + k) 2 ref) J (u2 (u2 I (129 + k) 0 w) (129 + k) 1 v) (u2 (u2 (u2 Im 29 k x) 30 k y) 31 k z) Jm := by
  have gI : ∀ r, r ≠ 129 + k → u2 (u2 I (129 + k) 0 w) (129 + k) 1 v r = I r := fun r hr => by rw [u2r hr, u2r hr]
  have gm : ∀ r, r ≠ 29 → r ≠ 30 → r ≠ 31 → u2 (u2 (u2 Im 29 k x) 30 k y) 31 k z r = Im r := fun r a b c => by rw [u2r c, u2r b, u2r a]
  have gr : ∀ r q, r ≠ 129 + k → xR (u2 rd (129 + k) 2 ref) r q = xR rd r q := fun r q hr => xR_row (u2r hr)
  refine hS.gen (old.rfl'.mod (fun r r1 r2 => ⟨u2r (by omega), rfl, fun _ => gI r (by omega)⟩)) (fun r hr => gI r (by omega)) (fun r q hr => gr r q (by omega)) (fun r hr => gm r (by omega) (by omega) (by omega)) rfl (hS.rS.to2 (fun r hr => gI r (by omega)) (fun r q r1 r2 => gr r q (by omega)) (fun r r1 r2 => gm r (by omega) (by omega) (by omega))) (fun k' hk' => ?_)
  have m29 : ∀ j, u2 (u2 (u2 Im 29 k x) 30 k y) 31 k z 29 j = if j = k then x else Im 29 j := by
    intro j
    rw [u2r (by decide), u2r (by decide)]
    by_cases e : j = k
    · rw [e, u2_self, if_pos rfl]
    · rw [u2_ne _ _ (Or.inr e), if_neg e]
  have m30 : ∀ j, u2 (u2 (u2 Im 29 k x) 30 k y) 31 k z 30 j = if j = k then y else Im 30 j := by
    intro j
    rw [u2r (by decide)]
    by_cases e : j = k
    · rw [e, u2_self, if_pos rfl]
    · rw [u2_ne _ _ (Or.inr e), if_neg e, u2r (by decide)]
  have m31 : ∀ j, u2 (u2 (u2 Im 29 k x) 30 k y) 31 k z 31 j = if j = k then z else Im 31 j := by
    intro j
    by_cases e : j = k
    · rw [e, u2_self, if_pos rfl]
    · rw [u2_ne _ _ (Or.inr e), if_neg e, u2r (by decide), u2r (by decide)]
  rw [m29, m30, m31]
  by_cases e : k' = k
  · subst e
    obtain ⟨w', h1, h2, h3⟩ := hn
    rw [if_pos rfl, if_pos rfl, if_pos rfl, u2_self, u2_ne _ _ (Or.inr (by decide)), u2_self, xR_d (xR129 hk), u2_self]
    exact ⟨w', h1, h2, h3⟩
  · rw [if_neg e, if_neg e, if_neg e, gI (129 + k') (by omega), gr (129 + k') 2 (by omega)]
    exact hS.rH k' hk'
theorem x_isRisk_c {a : Int32} {s : xS} {rd : xRd} {J : mJ} {I : mI} {Q : Int32 → Prop} (h1 : 0 ≤ a ∧ a ≤ I 1 1 - 1 → Q 1) (h0 : ¬ (0 ≤ a ∧ a ≤ I 1 1 - 1) → Q 0) : x_X0_isRisk a s rd J I Q := by
  unfold x_X0_isRisk
  exact x_in_c (fun q => ⟨.inr rfl, h1 q⟩) (fun q => ⟨.inl rfl, h0 q⟩)
/-- the class's writing -/
theorem x_shelf_w {k w : Nat} {c : Int32} {s : xS} {rd : xRd} {J : mJ} {I : mI} {Q : Int32 → xRd → mI → Prop} (hk : k < 4) (hw : w ≤ 4) (hw3 : w ≠ 3) (h : Q 1 (u2 rd (129 + k) 2 none) (u2 (u2 I (129 + k) 0 (nI w)) (129 + k) 1 (if 2 ≤ w then 0 else c))) : x_X0_shelf_j70 Q (nI k) (nI w) c s rd J I := by
  unfold x_X0_shelf_j70 x_X0_shelf_j96
  rw [nI_clamp (by omega)]
  have vin : vp_in (nI k) 4 := vp_in_nI hk (by decide)
  have n3 : ¬ nI w = 3 := fun e => hw3 ((nI_eq (b := 3) (by omega) (by decide)).mp e)
  refine ⟨vin, 129 + k, xR128 hk, xo129 hk, vin, 129 + k, xR128 hk, pk_le 2 w (fun le => ?_) (fun lt => ?_) rfl rfl (by omega) (by omega)⟩
  · rw [if_pos le] at h
    exact ⟨xo129 hk, vin, 129 + k, xR128 hk, br_f n3 ⟨xo129 hk, xR129 hk, h⟩⟩
  · rw [if_neg (by omega)] at h
    exact ⟨xo129 hk, vin, 129 + k, xR128 hk, br_f n3 ⟨xo129 hk, xR129 hk, h⟩⟩
theorem m_thing_0 {c : Int32} {I : mI} {J : mJ} {A : Int32 → mI → mJ → Prop} (h1 : 0 ≤ c ∧ c ≤ I 0 8 - 1 → A 1 I J) (h0 : ¬ (0 ≤ c ∧ c ≤ I 0 8 - 1) → A 0 I J) : m_isThing 0 c I J A := by
  unfold m_isThing
  exact br_t rfl (m_isPatch_c (fun y => ⟨.inr rfl, h1 y⟩) (fun y => ⟨.inl rfl, h0 y⟩))
theorem m_thing_1 {c : Int32} {I : mI} {J : mJ} {A : Int32 → mI → mJ → Prop} (h1 : 0 ≤ c ∧ c ≤ I 0 9 - 1 → A 1 I J) (h0 : ¬ (0 ≤ c ∧ c ≤ I 0 9 - 1) → A 0 I J) : m_isThing 1 c I J A := by
  unfold m_isThing
  exact br_f (by decide) (br_t rfl (m_in_c (fun y => ⟨.inr rfl, h1 y⟩) (fun y => ⟨.inl rfl, h0 y⟩)))
theorem m_thing_2 {c : Int32} {I : mI} {J : mJ} {A : Int32 → mI → mJ → Prop} (h1 : ¬ I 0 8 ≤ 0 → A 1 I J) (h0 : I 0 8 ≤ 0 → A 0 I J) : m_isThing 2 c I J A := by
  unfold m_isThing
  exact br_f (by decide) (br_f (by decide) (br_f (by decide) (br_t rfl ⟨h0, h1⟩)))
theorem m_thing_3 {c : Int32} {I : mI} {J : mJ} {A : Int32 → mI → mJ → Prop} (h1 : 0 ≤ c ∧ c ≤ 3 → A 1 I J) (h0 : ¬ (0 ≤ c ∧ c ≤ 3) → A 0 I J) : m_isThing 3 c I J A := by
  unfold m_isThing
  exact br_f (by decide) (br_f (by decide) (br_t rfl (m_isShelf_c (fun y => ⟨.inr rfl, h1 y⟩) (fun y => ⟨.inl rfl, h0 y⟩))))
theorem m_thing_4 {c : Int32} {I : mI} {J : mJ} {A : Int32 → mI → mJ → Prop} (h1 : A 1 I J) : m_isThing 4 c I J A := by
  unfold m_isThing
  exact br_f (by decide) (br_f (by decide) (br_f (by decide) (br_f (by decide) (br_t rfl h1))))
theorem m_thing_n {b c : Int32} {I : mI} {J : mJ} {A : Int32 → mI → mJ → Prop} (hb : ¬ (0 ≤ b ∧ b ≤ 4)) (h0 : A 0 I J) : m_isThing b c I J A := by
  unfold m_isThing
  exact br_f (fun e => hb (by rw [e]; decide)) (br_f (fun e => hb (by rw [e]; decide)) (br_f (fun e => hb (by rw [e]; decide)) (br_f (fun e => hb (by rw [e]; decide)) (br_f (fun e => hb (by rw [e]; decide)) h0))))
/-- the model's writing -/
theorem m_shelf_w {k w : Nat} {c : Int32} {I : mI} {J : mJ} {A : Int32 → mI → mJ → Prop} (hk : k < 4) (hw : w ≤ 2) (hT : ∀ B : Int32 → mI → mJ → Prop, B 1 I J → m_isThing (nI w) c I J B) (h : A 1 (u2 (u2 (u2 I 29 k (nI w)) 30 k c) 31 k 0) J) : m_shelf (nI k) (nI w) c I J A := by
  have vin : vp_in (nI k) 4 := vp_in_nI hk (by decide)
  have n3 : ¬ nI w = 3 := fun e => absurd ((nI_eq (b := 3) (by omega) (by decide)).mp e) (by omega)
  have n4 : ¬ nI w = 4 := fun e => absurd ((nI_eq (b := 4) (by omega) (by decide)).mp e) (by omega)
  unfold m_shelf m_shelf_j46 m_shelf_j47 m_shelf_j68
  rw [nI_clamp (by omega)]
  exact m_sh_c hk (br_f (by decide) (hT _ (br_f (by decide) (br_f n4 (br_f n3 ⟨vin, br_f n3 ⟨vin, br_f n3 ⟨vin, h⟩⟩⟩)))))
theorem m_shelf_4 {k : Nat} {c : Int32} {I : mI} {J : mJ} {A : Int32 → mI → mJ → Prop} (hk : k < 4) (h : A 1 (u2 (u2 (u2 I 29 k (-1)) 30 k c) 31 k 0) J) : m_shelf (nI k) 4 c I J A := by
  have vin : vp_in (nI k) 4 := vp_in_nI hk (by decide)
  unfold m_shelf m_shelf_j42 m_shelf_j47 m_shelf_j68
  rw [nI_clamp (by omega)]
  exact m_sh_c hk (br_f (by decide) (m_thing_4 (br_f (by decide) (br_t rfl ⟨vin, br_f (by decide) ⟨vin, br_f (by decide) ⟨vin, h⟩⟩⟩))))
theorem m_shelf_3 {k j : Nat} {I : mI} {J : mJ} {A : Int32 → mI → mJ → Prop} (hk : k < 4) (hj : j < 4) (x : Int32) (hx : (0 ≤ I 26 j ∧ x = 3) ∨ (¬ 0 ≤ I 26 j ∧ x = -1)) (h : A 1 (u2 (u2 (u2 I 29 k x) 30 k (I 26 j)) 31 k (I 27 j)) J) : m_shelf (nI k) 3 (nI j) I J A := by
  have vin : vp_in (nI k) 4 := vp_in_nI hk (by decide)
  have vj : vp_in (nI j) 4 := vp_in_nI hj (by decide)
  have e27 : ∀ y z, u2 (u2 I 29 k y) 30 k z 27 = I 27 := fun y z => by rw [u2r (by decide), u2r (by decide)]
  unfold m_shelf m_shelf_j46 m_shelf_j42 m_shelf_j47 m_shelf_j68
  rw [nI_clamp (by omega), nI_clamp (by omega)]
  refine m_sh_c hk (br_f (by decide) (m_thing_3 (fun _ => br_f (by decide) (br_f (by decide) (br_t rfl ⟨vj, ?_⟩))) (fun y => absurd (k4_in hj) y)))
  rcases hx with ⟨h1, rfl⟩ | ⟨h1, rfl⟩
  · refine br_t h1 ⟨vin, br_t rfl ⟨vj, vin, br_t rfl ⟨vj, vin, ?_⟩⟩⟩
    rw [u2r (show 27 ≠ 29 by decide)]
    exact h
  · refine br_f h1 ⟨vin, br_t rfl ⟨vj, vin, br_t rfl ⟨vj, vin, ?_⟩⟩⟩
    rw [u2r (show 27 ≠ 29 by decide)]
    exact h
theorem m_shelf_bad {k : Nat} {b c : Int32} {I : mI} {J : mJ} {A : Int32 → mI → mJ → Prop} (hk : k < 4) (hT : ∀ B : Int32 → mI → mJ → Prop, B 0 I J → m_isThing b c I J B) (h : A (-1) I J) : m_shelf (nI k) b c I J A := by
  unfold m_shelf
  exact m_sh_c hk (br_f (by decide) (hT _ (br_t rfl h)))
theorem p_shelf {t : Nat} {a b c : Int32} {s : xS} {rd : xRd} {J : mJ} {I Im : mI} {Jm : mJ} (h : Rel t s rd J I Im Jm) : x_X0_shelf a b c s rd J I (fun r rd' I' => m_shelf a b c Im Jm (RelQ (t + 1) s rd' J I' r)) := by
  have no : ∀ z, RelQ (t + 1) s rd J I z z Im Jm := fun z => ⟨rfl, h.same⟩
  obtain ⟨q0, q1, _⟩ := h.eqs
  obtain ⟨h0, σ, fz, hS⟩ := h.opn
  have hP4 := hS.1.1.1
  have hR4 := hS.1.2.2.1.1
  unfold x_X0_shelf
  refine (show x_X0_isShelf a s rd J I _ from by
    unfold x_X0_isShelf
    refine x_in_c (fun y => ⟨.inr rfl, br_f (by decide) ?_⟩) (fun y => ⟨.inl rfl, br_t rfl (by unfold m_shelf; exact m_isShelf_c (fun z => absurd z y) (fun _ => br_t rfl (no _)))⟩)
    obtain ⟨k, _, hk3, rfl⟩ := in_of (lo := 0) (hi := 3) (by decide) (by decide) y
    have hk : k < 4 := by omega
    refine x_in_c (fun z => br_f (by decide) ?_) (fun z => br_t rfl (m_shelf_bad hk (fun B hB => m_thing_n z hB) (no _)))
    obtain ⟨w, _, hw, rfl⟩ := in_of (lo := 0) (hi := 4) (by decide) (by decide) z
    have h5 : w = 0 ∨ w = 1 ∨ w = 2 ∨ w = 3 ∨ w = 4 := by omega
    unfold x_X0_shelf_j28 x_X0_shelf_j41 x_X0_shelf_j56
    rcases h5 with rfl | rfl | rfl | rfl | rfl
    · refine br_t (by decide) (x_isPatch_c (fun q => br_f (by decide) (br_f (by decide) (br_f (by decide) (br_f (by decide) (x_shelf_w hk (by decide) (by decide) ?_))))) (fun q => br_t rfl (m_shelf_bad hk (fun B hB => m_thing_0 (fun u => absurd (by rw [q0]; exact u) q) (fun _ => hB)) (no _))))
      have q' : 0 ≤ c ∧ c ≤ nI (σ 0 0) - 1 := by rw [← hS.2.1.1 0 (by decide)]; exact q
      obtain ⟨n, hn, ec⟩ := pt_of hP4 q'
      exact m_shelf_w hk (by decide) (fun B hB => m_thing_0 (fun _ => hB) (fun u => absurd (by rw [← q0]; exact q) u)) ⟨rfl, RelS.cls (hS.shelf hk ⟨0, by decide, rfl, .inl ⟨by decide, n, by omega, by rw [if_neg (by decide)]; exact ec, rfl, ec⟩⟩) (by omega)⟩
    · refine br_f (by decide) (br_t (by decide) (x_isRisk_c (fun q => br_f (by decide) (br_f (by decide) (br_f (by decide) (x_shelf_w hk (by decide) (by decide) ?_)))) (fun q => br_t rfl (m_shelf_bad hk (fun B hB => m_thing_1 (fun u => absurd (by rw [q1]; exact u) q) (fun _ => hB)) (no _)))))
      have q' : 0 ≤ c ∧ c ≤ nI (σ 0 1) - 1 := by rw [← hS.2.1.1 1 (by decide)]; exact q
      obtain ⟨n, hn, ec⟩ := pt_of hR4 q'
      exact m_shelf_w hk (by decide) (fun B hB => m_thing_1 (fun _ => hB) (fun u => absurd (by rw [← q1]; exact q) u)) ⟨rfl, RelS.cls (hS.shelf hk ⟨1, by decide, rfl, .inl ⟨by decide, n, by omega, by rw [if_neg (by decide)]; exact ec, rfl, ec⟩⟩) (by omega)⟩
    · have le0 : Im 0 8 ≤ 0 ↔ I 1 0 = 0 := by
        rw [← q0, hS.2.1.1 0 (by decide), ← nI_0, nI_leI (by omega) (by decide), nI_eq (by omega) (by decide)]; omega
      refine br_f (by decide) (br_f (by decide) (br_t (by decide) (br_c (fun q => m_shelf_bad hk (fun B hB => m_thing_2 (fun u => absurd (le0.mpr q) u) (fun _ => hB)) (no _)) (fun q => br_f (by decide) (x_shelf_w hk (by decide) (by decide) ?_)))))
      exact m_shelf_w hk (by decide) (fun B hB => m_thing_2 (fun _ => hB) (fun u => absurd (le0.mp u) q)) ⟨rfl, RelS.cls (hS.shelf hk ⟨2, by decide, rfl, .inr (.inl ⟨rfl, rfl⟩)⟩) (by omega)⟩
    · refine br_f (by decide) (br_f (by decide) (br_f (by decide) (br_t (by decide) (x_isSheet_c (fun j hj ej => br_f (by decide) ?_) (fun q => br_t rfl (m_shelf_bad hk (fun B hB => m_thing_3 (fun u => absurd u q) (fun _ => hB)) (no _)))))))
      subst ej
      unfold x_X0_shelf_j70 x_X0_shelf_j96
      rw [nI_clamp (by omega), nI_clamp (by omega)]
      have vin : vp_in (nI k) 4 := vp_in_nI hk (by decide)
      have vj : vp_in (nI j) 4 := vp_in_nI hj (by decide)
      refine ⟨vin, 129 + k, xR128 hk, xo129 hk, vin, 129 + k, xR128 hk, br_t (by decide) ⟨xo129 hk, vin, 129 + k, xR128 hk, br_t (by decide) ⟨vj, 121 + j, xR120 hj, xo121 hj, ?_⟩⟩⟩
      have i4 : u2 (u2 I (129 + k) 0 (nI 3)) (129 + k) 1 0 (121 + j) 4 = I (121 + j) 4 := by rw [u2r (by omega), u2r (by omega)]
      obtain ⟨ar, ai, h2⟩ := hS.rS
      rcases h2 j hj with ⟨e1, e2⟩ | ⟨q, n, hq, hn, e1, e2, e3, e4, e5, e6, e7, e8, e9⟩
      · refine x_row_n (xo121 hj) (i4.trans e1) ⟨xo129 hk, xR129 hk, ?_⟩
        exact m_shelf_3 hk hj (-1) (.inr ⟨by rw [e2]; decide, rfl⟩) ⟨rfl, RelS.cls (hS.shelf hk ⟨3, by decide, rfl, .inr (.inr (.inl ⟨rfl, rfl, rfl⟩))⟩) (by omega)⟩
      · refine x_row_q (xo121 hj) hq (i4.trans e1) ⟨xo129 hk, xR129 hk, ?_⟩
        rw [e4]
        exact m_shelf_3 hk hj 3 (.inl ⟨by rw [e2]; exact nI_pos' (by omega), rfl⟩) ⟨rfl, RelS.cls (hS.shelf hk ⟨3, by decide, rfl, .inr (.inr (.inr (.inr ⟨rfl, ar j, q, n, rfl, hq, hn, e5, e6, rfl, e2, e3⟩)))⟩) (by omega)⟩
    · refine br_f (by decide) (br_f (by decide) (br_f (by decide) (br_f (by decide) (x_shelf_w hk (by decide) (by decide) ?_))))
      exact m_shelf_4 hk ⟨rfl, RelS.cls (hS.shelf hk ⟨4, by decide, rfl, .inr (.inr (.inr (.inl ⟨rfl, rfl⟩)))⟩) (by omega)⟩)
