set_option maxRecDepth 100000
set_option maxHeartbeats 4000000
/-! PLAIN LAW, operations 6: sheets, rows of the worm -/
theorem ix_no {a : Int32} {n : Nat} (hn : n < 2 ^ 31) (h : a < 0 ∨ nI n ≤ a) : ¬ (0 ≤ a ∧ a ≤ nI n - 1) := by
  rintro ⟨h1, h2⟩
  rcases h with h | h
  · exact absurd h1 (Int32.not_le.mpr h)
  · cases n with
    | zero =>
      rw [Int32.le_iff_toInt_le] at h1 h2
      rw [show (0 : Int32).toInt = 0 by decide] at h1
      rw [show (nI 0 - 1 : Int32).toInt = -1 by decide] at h2
      omega
    | succ m =>
      rw [nI_pred] at h2
      rw [Int32.le_iff_toInt_le] at h h2
      rw [nI_toInt hn] at h
      rw [nI_toInt (by omega)] at h2
      omega
theorem ix_yes {j n : Nat} (hn : n < 2 ^ 31) (h : j < n) : 0 ≤ nI j ∧ nI j ≤ nI n - 1 := by
  cases n with
  | zero => omega
  | succ m => rw [nI_pred]; exact ⟨nI_pos' (by omega), nI_le (by omega) (by omega)⟩
theorem x_isSheet_c {a : Int32} {s : xS} {rd : xRd} {J : mJ} {I : mI} {Q : Int32 → Prop} (h1 : ∀ k, k < 4 → a = nI k → Q 1) (h0 : ¬ (0 ≤ a ∧ a ≤ 3) → Q 0) : x_X0_isSheet a s rd J I Q := by
  unfold x_X0_isSheet
  refine x_in_c (fun q => ⟨.inr rfl, ?_⟩) (fun q => ⟨.inl rfl, h0 q⟩)
  obtain ⟨n, _, hn, e⟩ := in_of (lo := 0) (hi := 3) (by decide) (by decide) q
  exact h1 n (by omega) e
theorem m_isShelf_c {a : Int32} {I : mI} {J : mJ} {Q : Int32 → mI → mJ → Prop} (h1 : 0 ≤ a ∧ a ≤ 3 → Q 1 I J) (h0 : ¬ (0 ≤ a ∧ a ≤ 3) → Q 0 I J) : m_isShelf a I J Q := by
  unfold m_isShelf
  exact m_in_c (fun q => ⟨.inr rfl, h1 q⟩) (fun q => ⟨.inl rfl, h0 q⟩)
theorem k4_in {k : Nat} (h : k < 4) : (0 : Int32) ≤ nI k ∧ nI k ≤ 3 := ⟨nI_pos' (by omega), nI_le (b := 3) (by omega) (by decide)⟩
theorem m_sh_c {k : Nat} {I : mI} {J : mJ} {Q : Int32 → mI → mJ → Prop} (hk : k < 4) (h : Q 1 I J) : m_isShelf (nI k) I J Q := m_isShelf_c (fun _ => h) (fun y => absurd (k4_in hk) y)
theorem x_row_n {k : Nat} {s : xS} {rd : xRd} {J : mJ} {I : mI} {Q : Option Nat → Prop} (ho : xo s k 10) (h : I k 4 = -1) (h1 : Q none) : x_X10_row k s rd J I Q := by
  unfold x_X10_row
  rw [h]
  exact ⟨ho, br_f (by decide) (br_f (by decide) (br_f (by decide) (br_f (by decide) h1)))⟩
theorem x_row_q {k q : Nat} {s : xS} {rd : xRd} {J : mJ} {I : mI} {Q : Option Nat → Prop} (ho : xo s k 10) (hq : q < 4) (h : I k 4 = nI q) (h1 : Q (xR rd k q)) : x_X10_row k s rd J I Q := by
  unfold x_X10_row
  rw [h]
  refine ⟨ho, ?_⟩
  rcases lt4 hq with rfl | rfl | rfl | rfl
  · exact br_t (by decide) h1
  · exact br_f (by decide) (br_t (by decide) h1)
  · exact br_f (by decide) (br_f (by decide) (br_t (by decide) h1))
  · exact br_f (by decide) (br_f (by decide) (br_f (by decide) (br_t (by decide) h1)))
theorem x_there_s {v : Nat} {s : xS} {rd : xRd} {J : mJ} {I : mI} {X : Nat → Prop} {Q : Nat → Prop} (h : Q v) : x_X0_there (some v) s rd J I X Q := by
  unfold x_X0_there
  exact ⟨fun e => (nomatch e), fun w e => by rw [← Option.some.inj e]; exact h⟩
theorem x_there_n {s : xS} {rd : xRd} {J : mJ} {I : mI} {X : Nat → Prop} {Q : Nat → Prop} (h : X 1) : x_X0_there none s rd J I X Q := by
  unfold x_X0_there
  exact ⟨fun _ => h, fun w e => (nomatch e)⟩
theorem xR120 {rd : xRd} {k : Nat} (h : k < 4) : xR rd 120 k = some (121 + k) := xR_c (by rcases lt4 h with rfl | rfl | rfl | rfl <;> rfl)
theorem xR128 {rd : xRd} {k : Nat} (h : k < 4) : xR rd 128 k = some (129 + k) := xR_c (by rcases lt4 h with rfl | rfl | rfl | rfl <;> rfl)
theorem xo121 {s : xS} {k : Nat} (h : k < 4) : xo s (121 + k) 10 := xo_c (by omega) (by rcases lt4 h with rfl | rfl | rfl | rfl <;> rfl)
theorem xo129 {s : xS} {k : Nat} (h : k < 4) : xo s (129 + k) 13 := xo_c (by omega) (by rcases lt4 h with rfl | rfl | rfl | rfl <;> rfl)
theorem xR99 {rd : xRd} {k : Nat} (h : k < 20) : xR rd 99 k = some (100 + k) := xR_c ((by decide : ∀ k, k < 20 → xR0 99 k = some (100 + k)) k h)
theorem xo100 {s : xS} {k : Nat} (h : k < 20) : xo s (100 + k) 9 := xo_c (by omega) ((by decide : ∀ k, k < 20 → xK0 (100 + k) = 9) k h)
theorem x_len_c {r q : Nat} {s : xS} {rd : xRd} {J : mJ} {I : mI} {Q : Int32 → Prop} (hq : q < 4) (ho : xo s r (ak q)) (h : Q (nI (xlen s r))) : x_X0_lengthOf r s rd J I Q := by
  unfold x_X0_lengthOf
  rcases lt4 hq with rfl | rfl | rfl | rfl
  · exact .inr (.inl ⟨ho, h⟩)
  · exact .inr (.inr (.inl ⟨ho, h⟩))
  · exact .inl ⟨ho, h⟩
  · exact .inr (.inr (.inr ⟨ho, h⟩))
theorem x_within_c {a : Int32} {n : Nat} {s : xS} {rd : xRd} {J : mJ} {I : mI} {X : Nat → Prop} {Q : Prop} (hn : n < 2 ^ 31) (h0 : a < 0 ∨ nI n ≤ a → X 0) (h1 : ∀ j, j < n → a = nI j → Q) : x_X0_within a (nI n) s rd J I X Q := by
  unfold x_X0_within x_X0_within_j9
  refine ⟨fun z => h0 (.inl z), fun z => ⟨fun y => ?_, fun y => h0 (.inr (Int32.not_lt.mp y))⟩⟩
  rcases pk_ix a hn with e | e | ⟨j, hj, e⟩
  · exact absurd e z
  · exact absurd y (Int32.not_lt.mpr e)
  · exact h1 j hj e
/-- new cells and what was -/
theorem old.new {s : xS} {rd : xRd} {fz : Nat → Bool} {I : mI} {K L : Nat} {b : Bool} : old s rd fz I (xn s K L) (ur rd (133 + s.1) (fun _ => none)) (u1 fz (133 + s.1) b) (ur I (133 + s.1) (fun _ => 0)) := by
  refine ⟨Nat.le_succ _, fun r hr => ⟨?_, ?_⟩, fun r h1 h2 => ⟨ur_row (by omega), ?_, fun _ => ur_row (by omega)⟩⟩
  · show xK (u1 s.2.1 (133 + s.1) K) r = _
    rw [← xK_new]
    unfold u1
    rw [if_neg (by omega)]
  · show xL (u1 s.2.2 (133 + s.1) L) r = _
    rw [← xL_new]
    unfold u1
    rw [if_neg (by omega)]
  · unfold u1
    rw [if_neg (by omega)]
theorem xlen_new {s : xS} {K L : Nat} : xlen (xn s K L) (133 + s.1) = L := by
  show xL (u1 s.2.2 (133 + s.1) L) (133 + s.1) = L
  rw [← xL_new]
  unfold u1
  rw [if_pos rfl]
theorem old.mod {s s' : xS} {rd rd' rd2 : xRd} {fz fz' fz2 : Nat → Bool} {I I' I2 : mI} (h : old s rd fz I s' rd' fz' I') (g : ∀ r, 133 ≤ r → r < 133 + s.1 → rd2 r = rd' r ∧ fz2 r = fz' r ∧ (fz r = true → I2 r = I' r)) : old s rd fz I s' rd2 fz2 I2 :=
  ⟨h.1, h.2.1, fun r h1 h2 => ⟨(g r h1 h2).1.trans (h.2.2 r h1 h2).1, (g r h1 h2).2.1.trans (h.2.2 r h1 h2).2.1, fun e => ((g r h1 h2).2.2 e).trans ((h.2.2 r h1 h2).2.2 e)⟩⟩
theorem old.rfl' {s : xS} {rd : xRd} {fz : Nat → Bool} {I : mI} : old s rd fz I s rd fz I := ⟨Nat.le_refl _, fun _ _ => ⟨rfl, rfl⟩, fun _ _ _ => ⟨rfl, rfl, fun _ => rfl⟩⟩
/-- a call that changes sheets and shelves -/
theorem RelS.gen {t : Nat} {σ : wS} {fz fz' : Nat → Bool} {s s' : xS} {rd rd' : xRd} {J J' : mJ} {I I' Im Im' : mI} {Jm Jm' : mJ} (h : RelS t σ fz s rd J I Im Jm) (ho : old s rd fz I s' rd' fz' I') (gI : ∀ r, r ≤ 24 ∨ r = 92 ∨ (100 ≤ r ∧ r < 120) ∨ r = 127 → I' r = I r) (gr : ∀ r k, r = 8 ∨ r = 9 ∨ r = 19 ∨ r = 20 ∨ r = 94 ∨ r = 96 → xR rd' r k = xR rd r k)
    (gm : ∀ r, r ≤ 25 ∨ r = 32 ∨ r = 33 → Im' r = Im r) (gj : Jm' 15 = Jm 15) (hS : rS s' rd' fz' J' I' Jm' Im') (hH : rH s' rd' I' Im') : RelS (t + 1) σ fz' s' rd' J' I' Im' Jm' := by
  obtain ⟨a1, a2, a3, ⟨rn, st, y1, y2, y3, y4, y5, y6⟩, ⟨d, w1, w2, w3⟩, a6, a7, a8, a9, a10, a11, a12, a13⟩ := h
  have i0 := gI 0 (by omega)
  have m0 := gm 0 (by omega)
  refine ⟨a1, a2.to (fun r r1 r2 => gI r (by omega)), a3.to (fun r r1 r2 => gm r (by omega)) (fun k _ => by rw [m0]), ⟨rn, st, ?_, by omega, ?_, ?_, by omega, ?_⟩, ⟨d, w1, ?_, fun m hm need hn => ?_⟩, a6.to ho (fun k => gr 8 k (by omega)), a7.to ho (fun k => gr 9 k (by omega)), ?_, ?_, ?_, ?_, hS, hH⟩
  · rw [gI 23 (by omega)]; exact y1
  · rw [gI 24 (by omega)]; exact y3
  · rw [m0]; exact y4
  · rw [gm 7 (by omega)]; exact y6
  · rw [m0]; exact w2
  · rw [gj]; exact w3 m hm need hn
  · exact a8.to ho (by rw [i0]) (fun r r1 r2 => gI r (by omega)) (fun k => ⟨gr 19 k (by omega), gr 20 k (by omega)⟩) (by rw [m0]) (gm 33 (by omega)) (a8.1.to ho gr)
  · exact a9.to (by rw [i0]) (gI 92 (by omega)) (by rw [m0]) (gm 19 (by omega))
  · exact a10.to (by rw [i0]) (fun r r1 r2 => gI r (by omega)) (by rw [m0]) (gm 25 (by omega))
  · exact a11.to (by rw [i0]) (gI 127 (by omega)) (by rw [m0]) (gm 32 (by omega))
theorem rH.old {s s' : xS} {rd rd' : xRd} {fz fz' : Nat → Bool} {I I' Im Im' : mI} (h : rH s rd I Im) (ho : old s rd fz I s' rd' fz' I') (g : ∀ r, 129 ≤ r → r < 133 → I' r = I r) (gr : ∀ r k, 129 ≤ r → r < 133 → xR rd' r k = xR rd r k) (m : ∀ r, 29 ≤ r → r ≤ 31 → Im' r = Im r) : rH s' rd' I' Im' := by
  intro k hk
  rw [g (129 + k) (by omega) (by omega), m 29 (by omega) (by omega), m 30 (by omega) (by omega), m 31 (by omega) (by omega), gr (129 + k) 2 (by omega) (by omega)]
  obtain ⟨w, h1, h2, h3⟩ := h k hk
  refine ⟨w, h1, h2, ?_⟩
  rcases h3 with e | e | e | e | ⟨e0, a, q, n, e1, e2, e3, e4, e5, e6⟩
  · exact .inl e
  · exact .inr (.inl e)
  · exact .inr (.inr (.inl e))
  · exact .inr (.inr (.inr (.inl e)))
  · exact .inr (.inr (.inr (.inr ⟨e0, a, q, n, e1, e2, e3, ho.ko e4, (ho.kl e4).trans e5, e6⟩)))
theorem RelS.rS {t : Nat} {σ : wS} {fz : Nat → Bool} {s : xS} {rd : xRd} {J : mJ} {I Im : mI} {Jm : mJ} (h : RelS t σ fz s rd J I Im Jm) : @@N@@.rS s rd fz J I Jm Im := h.2.2.2.2.2.2.2.2.2.2.2.1
theorem RelS.rH {t : Nat} {σ : wS} {fz : Nat → Bool} {s : xS} {rd : xRd} {J : mJ} {I Im : mI} {Jm : mJ} (h : RelS t σ fz s rd J I Im Jm) : @@N@@.rH s rd I Im := h.2.2.2.2.2.2.2.2.2.2.2.2
theorem l40 : (40 : Int32) = nI 40 := rfl
theorem p40 (k j : Nat) : (40 : Int32) * nI k + nI j = nI (40 * k + j) := by rw [l40, pk_mul, nI_add]
theorem p_put {t : Nat} {a b v : Int32} {s : xS} {rd : xRd} {J : mJ} {I Im : mI} {Jm : mJ} (h : Rel t s rd J I Im Jm) : x_X0_put a b v s rd J I (fun r J' I' => m_put a b v Im Jm (RelQ (t + 1) s rd J' I' r)) := by
  have no : ∀ z, RelQ (t + 1) s rd J I z z Im Jm := fun z => ⟨rfl, h.same⟩
  obtain ⟨h0, σ, fz, hS⟩ := h.opn
  unfold x_X0_put m_put
  refine x_isSheet_c (fun k hk e => br_f (by decide) ?_) (fun q => br_t rfl (m_isShelf_c (fun z => absurd z q) (fun _ => br_t rfl (no _))))
  subst e
  rw [nI_clamp (by omega)]
  have vin : vp_in (nI k) 4 := vp_in_nI hk (by decide)
  refine ⟨vin, 121 + k, xR120 hk, xo121 hk, ?_⟩
  obtain ⟨ar, ai, h2⟩ := hS.rS
  rcases h2 k hk with ⟨e1, e2⟩ | ⟨q, n, hq, hn, e1, e2, e3, e4, e5, e6, e7, e8, e9⟩
  · refine x_row_n (xo121 hk) e1 (x_there_n ⟨rfl, m_sh_c hk (br_f (by decide) ⟨vin, br_f (by rw [e2]; decide) (no _)⟩)⟩)
  · refine x_row_q (xo121 hk) hq e1 ?_
    rw [e4]
    refine x_there_s ?_
    unfold x_X0_set
    refine x_len_c hq e5 ?_
    rw [e6]
    have e2' : (0 : Int32) ≤ Im 26 k := by rw [e2]; exact nI_pos' (by omega)
    refine x_within_c (by omega) (fun bad => ⟨rfl, m_sh_c hk (br_f (by decide) ⟨vin, br_t e2' ⟨vin, m_in_c (fun y => ?_) (fun _ => br_t rfl (no _))⟩⟩)⟩) (fun j hj ej => ?_)
    · rw [e3] at y
      exact absurd y (ix_no (by omega) bad)
    · subst ej
      have vj : vp_in (nI j) n := vp_in_nI hj (by omega)
      have v160 : vp_in (nI (40 * k + j)) 160 := vp_in_nI (by omega) (by decide)
      have mo : ∀ {A : Int32 → mI → mJ → Prop}, ((nI q = 0 → A 1 Im (u2 Jm 28 (40 * k + j) v.toInt8.toInt32.toInt64)) ∧ (¬ nI q = 0 → (nI q = 1 → A 1 Im (u2 Jm 28 (40 * k + j) v.toInt16.toInt32.toInt64)) ∧ (¬ nI q = 1 → A 1 Im (u2 Jm 28 (40 * k + j) v.toInt64)))) → m_isShelf (nI k) Im Jm (fun r1 I2 J3 => (r1 = 0 → A (-1) I2 J3) ∧ (¬ r1 = 0 → vp_in (nI k) 4 ∧ (((0 : Int32) ≤ I2 26 k → vp_in (nI k) 4 ∧ (m_in (nI j) 0 (I2 27 k - 1) I2 J3 (fun r6 I7 J8 => (r6 = 0 → A (-12) I7 J8) ∧ (¬ r6 = 0 →
        vp_in (nI k) 4 ∧ ((I7 26 k = 0 → vp_in (40 * nI k + nI j) 160 ∧ A 1 I7 (u2 J8 28 (40 * nI k + nI j).toNatClampNeg v.toInt8.toInt32.toInt64)) ∧ (¬ I7 26 k = 0 → vp_in (nI k) 4 ∧ ((I7 26 k = 1 → vp_in (40 * nI k + nI j) 160 ∧ A 1 I7 (u2 J8 28 (40 * nI k + nI j).toNatClampNeg v.toInt16.toInt32.toInt64)) ∧ (¬ I7 26 k = 1 → vp_in (40 * nI k + nI j) 160 ∧ A 1 I7 (u2 J8 28 (40 * nI k + nI j).toNatClampNeg v.toInt64))))))))) ∧ (¬ (0 : Int32) ≤ I2 26 k → A (-11) I2 J3)))) := by
        intro A hA
        refine m_sh_c hk (br_f (by decide) ⟨vin, br_t e2' ⟨vin, m_in_c (fun _ => br_f (by decide) ⟨vin, ?_⟩) (fun y => absurd (by rw [e3]; exact ix_yes (by omega) hj) y)⟩⟩)
        rw [e2, p40, nI_clamp (by omega)]
        exact ⟨fun y => ⟨v160, hA.1 y⟩, fun y => ⟨vin, fun z => ⟨v160, (hA.2 y).1 z⟩, fun z => ⟨v160, (hA.2 y).2 z⟩⟩⟩
      have fin : ∀ {J' : mJ} {I' : mI} {w : Int64}, (∀ r, r ≠ ar k → J' r = J r ∧ I' r = I r) → (∀ i, i < n → (if q = 3 then J' (ar k) i else (I' (ar k) i).toInt64) = if i = j then w else if q = 3 then J (ar k) i else (I (ar k) i).toInt64) → RelQ (t + 1) s rd J' I' 1 1 Im (u2 Jm 28 (40 * k + j) w) := by
        intro J' I' w g1 g2
        refine ⟨rfl, RelS.cls (hS.gen (old.rfl'.mod (fun r r1 r2 => ⟨rfl, rfl, fun ef => (g1 r (fun er => ?_)).2⟩)) (fun r hr => (g1 r (by omega)).2) (fun _ _ _ => rfl) (fun _ _ => rfl) (u2r (by decide)) ⟨ar, ai, fun k' hk' => ?_⟩ (hS.rH.to (fun r r1 r2 => (g1 r (by omega)).2) (fun _ _ _ => rfl))) (by omega)⟩
        · rw [er, e8] at ef
          cases ef
        · rw [(g1 (121 + k') (by omega)).2]
          by_cases ek : k' = k
          · subst ek
            refine .inr ⟨q, n, hq, hn, e1, e2, e3, e4, e5, e6, e7, e8, fun i hi => ?_⟩
            rw [g2 i hi]
            by_cases ei : i = j
            · rw [ei, if_pos rfl, u2_self]
            · rw [if_neg ei, u2_ne _ _ (Or.inr (by omega))]
              exact e9 i hi
          · rcases h2 k' hk' with f | ⟨q', n', f0, f1, f2, f3, f4, f5, f6, f7, f8, f9, f10⟩
            · exact .inl f
            · refine .inr ⟨q', n', f0, f1, f2, f3, f4, f5, f6, f7, f8, f9, fun i hi => ?_⟩
              rw [(g1 (ar k') (ai k' k hk' hk ek)).1, (g1 (ar k') (ai k' k hk' hk ek)).2, u2_ne _ _ (Or.inr (by omega))]
              exact f10 i hi
      rw [nI_clamp (by omega)] at *
      rcases lt4 hq with rfl | rfl | rfl | rfl
      · refine .inr (.inl ⟨e5, vj, mo (br_t rfl (fin (fun r hr => ⟨rfl, u2r hr⟩) (fun i hi => ?_)))⟩)
        rw [if_neg (show ¬ (0 : Nat) = 3 by decide), if_neg (show ¬ (0 : Nat) = 3 by decide)]
        by_cases ei : i = j
        · rw [ei, u2_self, if_pos rfl, pk_vb]
        · rw [if_neg ei, u2_ne _ _ (Or.inr ei)]
      · refine .inr (.inr (.inl ⟨e5, vj, mo (br_f (by decide) (br_t rfl (fin (fun r hr => ⟨rfl, u2r hr⟩) (fun i hi => ?_))))⟩))
        rw [if_neg (show ¬ (1 : Nat) = 3 by decide), if_neg (show ¬ (1 : Nat) = 3 by decide)]
        by_cases ei : i = j
        · rw [ei, u2_self, if_pos rfl, pk_vs]
        · rw [if_neg ei, u2_ne _ _ (Or.inr ei)]
      · refine .inl ⟨e5, vj, mo (br_f (by decide) (br_f (by decide) (fin (fun r hr => ⟨rfl, u2r hr⟩) (fun i hi => ?_))))⟩
        rw [if_neg (show ¬ (2 : Nat) = 3 by decide), if_neg (show ¬ (2 : Nat) = 3 by decide)]
        by_cases ei : i = j
        · rw [ei, u2_self, if_pos rfl]
        · rw [if_neg ei, u2_ne _ _ (Or.inr ei)]
      · refine .inr (.inr (.inr ⟨e5, vj, mo (br_f (by decide) (br_f (by decide) (fin (fun r hr => ⟨u2r hr, rfl⟩) (fun i hi => ?_))))⟩))
        rw [if_pos (show (3 : Nat) = 3 from rfl), if_pos (show (3 : Nat) = 3 from rfl)]
        by_cases ei : i = j
        · rw [ei, u2_self, if_pos rfl]
        · rw [if_neg ei, u2_ne _ _ (Or.inr ei)]
