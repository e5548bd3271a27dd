set_option maxRecDepth 100000
set_option maxHeartbeats 4000000
/-! PLAIN LAW, operations 13: dares: dare, bold, alike -/
theorem sumF_le {f : Nat → Nat} {b : Nat} : ∀ n, (∀ k, k < n → f k ≤ b) → sumF f n ≤ n * b := by
  intro n
  induction n with
  | zero => intro _; exact Nat.zero_le _
  | succ n ih =>
    intro h
    have a := ih (fun k hk => h k (by omega))
    have c := h n (by omega)
    show sumF f n + f n ≤ _
    rw [Nat.succ_mul]
    omega
theorem sumF_const {f : Nat → Nat} {b : Nat} : ∀ n, (∀ k, k < n → f k = b) → sumF f n = n * b := by
  intro n
  induction n with
  | zero => intro _; exact (Nat.zero_mul b).symm
  | succ n ih =>
    intro h
    show sumF f n + f n = _
    rw [ih (fun k hk => h k (by omega)), h n (by omega), Nat.succ_mul]
theorem dp_le {σ : wS} {R : Nat} {p : Nat → Bool} : ∀ m need, dp σ R p m need ≤ 10 ^ m := by
  intro m
  induction m with
  | zero => intro need; simp only [dp]; split <;> decide
  | succ m ih =>
    intro need
    have e : 10 ^ (m + 1) = 10 * 10 ^ m := by rw [Nat.pow_succ, Nat.mul_comm]
    simp only [dp]
    rw [e]
    split
    · exact Nat.mul_le_mul_left 10 (ih 0)
    · refine mxF_le R (fun r _ => ?_)
      split
      · exact sumF_le 10 (fun k _ => ih _)
      · exact Nat.zero_le _
theorem p12 {m : Nat} (h : m ≤ 13) : 10 ^ m ≤ 10 ^ 13 := Nat.pow_le_pow_right (by decide) h
theorem dp_z {σ : wS} {R : Nat} {p : Nat → Bool} : ∀ m, dp σ R p m 0 = 10 ^ m := by
  intro m
  induction m with
  | zero => rfl
  | succ m ih => simp only [dp, if_pos]; rw [ih, Nat.pow_succ, Nat.mul_comm]
def sd (σ : wS) (R : Nat) (p : Nat → Bool) (m need r : Nat) : Nat := sumF (fun k => dp σ R p m (need - σ 7 (10 * r + k))) 10
theorem sd_le {σ : wS} {R : Nat} {p : Nat → Bool} {m need r : Nat} (h : m ≤ 12) : sd σ R p m need r ≤ 10 ^ 13 := by
  have a : sd σ R p m need r ≤ 10 * 10 ^ m := sumF_le 10 (fun k _ => dp_le m _)
  have b := p12 (show m + 1 ≤ 13 by omega)
  rw [Nat.pow_succ] at b
  omega
theorem clampI {a b : Nat} (ha : a < 2 ^ 30) (hb : b < 2 ^ 30) : (if (0 : Int32) < nI a - nI b then nI a - nI b else 0) = nI (a - b) := by
  by_cases h : b < a
  · have z : (0 : Int32) < nI (a - b) := by
      have y := nI_lt (a := 0) (b := a - b) (by omega) (by omega)
      rw [nI_0] at y
      exact y
    rw [pk_sub (by omega), if_pos z]
  · have e : ¬ (0 : Int32) < nI a - nI b := by
      rw [Int32.lt_iff_toInt_lt, pk_sub_toInt ha hb, show (0 : Int32).toInt = 0 by decide]
      omega
    rw [if_neg e, show a - b = 0 by omega]
    rfl
theorem subI_le {a b : Nat} (ha : a < 2 ^ 30) (hb : b < 2 ^ 30) : (nI a - nI b ≤ 0) ↔ a ≤ b := by
  rw [Int32.le_iff_toInt_le, pk_sub_toInt ha hb, show (0 : Int32).toInt = 0 by decide]
  omega
theorem xR74 {rd : xRd} {m : Nat} (h : m < 13) : xR rd 74 m = some (75 + m) := xR_c ((by decide : ∀ k, k < 13 → xR0 74 k = some (75 + k)) m h)
theorem xo75 {s : xS} {m : Nat} (h : m < 13) : xo s (75 + m) 110 := xo_c (by omega) ((by decide : ∀ k, k < 13 → xK0 (75 + k) = 110) m h)
theorem xl75 {s : xS} {m : Nat} (h : m < 13) : xlen s (75 + m) = 241 := xlen_c (by omega) ((by decide : ∀ k, k < 13 → xL0 (75 + k) = 241) m h)
/-- a row of the class's table -/
def rwX (σ : wS) (R : Nat) (p : Nat → Bool) (J : mJ) (m : Nat) : Prop := ∀ q, q ≤ 240 → J (75 + m) q = lN (dp σ R p m q)
theorem x_byD_s {σ : wS} {R r m need : Nat} {p : Nat → Bool} {s : xS} {rd : xRd} {fz : Nat → Bool} {J : mJ} {I : mI} {Q : Int64 → Prop} {o : Nat} (h7 : ∀ k, σ 7 k ≤ 20) (hR : rR 8 σ s rd fz I) (hr : r < σ 0 1) (hm : m < 13) (hn : need ≤ 240) (hJ : rwX σ R p J m) (ho : xR rd 8 r = some o) (h : Q (lN (sd σ R p m need r))) : x_X5_by o (nI (m + 1)) (nI need) s rd J I Q := by
  obtain ⟨o', br, e1, e2, e3, e4, e5, e6, e7, e8, e9⟩ := hR r hr
  have eo : o' = o := Option.some.inj (e1.symm.trans ho)
  subst eo
  unfold x_X5_by
  refine ⟨e2, br, e4, e5, 11, ?_⟩
  rw [e6]
  have lp : ∀ n i, 10 - i < n → i ≤ 10 → x_X5_by_l17 Q n (nI (m + 1)) (nI need) (lN (sumF (fun k => dp σ R p m (need - σ 7 (10 * r + k))) i)) br (nI 10) (nI i) s rd J I := by
    intro n
    induction n with
    | zero => intro i g; exact absurd g (Nat.not_lt_zero _)
    | succ n ih =>
      intro i g1 g2
      unfold x_X5_by_l17
      refine pk_le 10 i (fun le => ?_) (fun lt => ?_) rfl rfl (by omega) (by omega)
      · have e : i = 10 := by omega
        subst e
        exact h
      · rw [e6, nI_clamp (by omega), nI_pred, e9 i lt, nI_1]
        have h20 := h7 (10 * r + i)
        refine ⟨e5, vp_in_nI lt (by decide), ?_⟩
        unfold x_X5_left
        rw [clampI (by omega) (by omega), nI_clamp (by omega), nI_clamp (by omega)]
        refine ⟨vp_in_nI hm (by decide), 75 + m, xR74 hm, xo75 hm, by rw [xl75 hm]; exact vp_in_nI (by omega) (by decide), ?_⟩
        rw [hJ _ (by omega)]
        show x_X5_by_l17 Q n (nI (m + 1)) (nI need) (lN _ + lN _) br (nI 10) (nI (i + 1)) s rd J I
        rw [lN_add]
        exact ih (i + 1) (by omega) (by omega)
  exact lp 11 0 (by omega) (by omega)
/-- what the inner loop adds up to -/
def dq (σ : wS) (R : Nat) (p : Nat → Bool) (m need : Nat) : Nat → Nat := mxF (fun r => if p r = true then sd σ R p m need r else 0)
theorem dp_dq {σ : wS} {R : Nat} {p : Nat → Bool} {m need : Nat} (h : need ≠ 0) : dp σ R p (m + 1) need = dq σ R p m need R := by
  simp only [dp]
  rw [if_neg h]
  rfl
theorem dq_le {σ : wS} {R : Nat} {p : Nat → Bool} {m need : Nat} (h : m ≤ 12) (n : Nat) : dq σ R p m need n ≤ 10 ^ 13 := by
  refine mxF_le n (fun r _ => ?_)
  split
  · exact sd_le h
  · exact Nat.zero_le _
theorem lmax {a b : Nat} (ha : a ≤ 10 ^ 13) (hb : b ≤ 10 ^ 13) : (if lN a < lN b then lN b else lN a) = lN (max b a) := by
  by_cases h : a < b
  · rw [if_pos ((pk_lLT (by omega) (by omega)).mpr h), Nat.max_eq_left (by omega)]
  · rw [if_neg (fun z => h ((pk_lLT (by omega) (by omega)).mp z)), Nat.max_eq_right (by omega)]
/-- which risks count: all, or one -/
def pO (a : Int32) (p : Nat → Bool) (R : Nat) : Prop := (a < 0 ∧ ∀ r, r < R → p r = true) ∨ ∃ q, q < 4 ∧ a = nI q ∧ ∀ r, r < R → (p r = true ↔ r = q)
theorem x_dare_l28 {σ : wS} {R m need : Nat} {a1 a2 : Int32} {p : Nat → Bool} {s : xS} {rd : xRd} {fz : Nat → Bool} {J0 : mJ} {I : mI} {Q : mJ → Prop} {k10 : Int32 → Int32 → Int32 → Int32 → xS → xRd → mJ → mI → Prop} (hp : pO a2 p (σ 0 1)) (h7 : ∀ k, σ 7 k ≤ 20) (hI : I 1 1 = nI R) (eR : R = σ 0 1) (hR4 : R ≤ 4) (hR : rR 8 σ s rd fz I) (hm : m + 1 < 13) (hn : need ≤ 240) (hn0 : 0 < need) (hJ : rwX σ R p J0 m)
    (h : ∀ J', (∀ i, i ≠ 75 + (m + 1) → J' i = J0 i) → (∀ q, q ≠ need → J' (75 + (m + 1)) q = J0 (75 + (m + 1)) q) → J' (75 + (m + 1)) need = lN (dq σ R p m need R) → k10 a1 a2 (nI (m + 1)) (nI (need + 1)) s rd J' I) :
    ∀ n r J, R - r < n → r ≤ R → (∀ i, i ≠ 75 + (m + 1) → J i = J0 i) → (∀ q, q ≠ need → J (75 + (m + 1)) q = J0 (75 + (m + 1)) q) → J (75 + (m + 1)) need = lN (dq σ R p m need r) → x_X5_finds_l28 Q k10 n a1 a2 (nI (m + 1)) (nI need) (nI r) s rd J I := by
  intro n
  induction n with
  | zero => intro r J g; omega
  | succ n ih =>
    intro r J g1 g2 g3 g4 g5
    unfold x_X5_finds_l28 x_X5_finds_j117
    rw [hI, nI_1]
    refine pk_le R r (fun le => ?_) (fun lt => br_f (nI_nle (by omega) (by omega)) (br_f (nI_nle (by omega) (by omega)) ?_)) rfl rfl (by omega) (by omega)
    · have e : r = R := by omega
      subst e
      exact h J g3 g4 g5
    · have ds : ∀ v, v ≤ 10 ^ 13 → v = (if p r = true then sd σ R p m need r else 0) → x_X5_finds_j86 Q (fun b0 b1 b2 b3 b4 s rd J I => x_X5_finds_l28 Q k10 n b0 b1 b2 b3 b4 s rd J I) a1 a2 (nI (m + 1)) (nI need) (nI r) (lN v) s rd J I := by
        intro v hv ev
        unfold x_X5_finds_j86
        rw [nI_clamp (by omega), nI_clamp (by omega), nI_1]
        have v1 : vp_in (nI (m + 1)) 13 := vp_in_nI hm (by decide)
        have v2 : vp_in (nI need) 241 := vp_in_nI (by omega) (by decide)
        refine ⟨v1, 75 + (m + 1), xR74 hm, v1, 75 + (m + 1), xR74 hm, xo75 hm, by rw [xl75 hm]; exact v2, xo75 hm, by rw [xl75 hm]; exact v2, ?_⟩
        rw [g5, lmax hv (dq_le (by omega) r)]
        refine ih (r + 1) _ (by omega) (by omega) (fun i hi => (u2r hi).trans (g3 i hi)) (fun q hq => by rw [u2_ne _ _ (Or.inr hq)]; exact g4 q hq) ?_
        rw [u2_self]
        show lN (max (dq σ R p m need r) v) = lN (max (dq σ R p m need r) _)
        rw [ev]
      have by' : p r = true → x_X5_finds_j62 Q (fun b0 b1 b2 b3 b4 s rd J I => x_X5_finds_l28 Q k10 n b0 b1 b2 b3 b4 s rd J I) a1 a2 (nI (m + 1)) (nI need) (nI r) s rd J I := by
        intro pr
        unfold x_X5_finds_j62
        rw [nI_clamp (by omega)]
        obtain ⟨o, _, e1, _⟩ := hR r (by omega)
        refine ⟨vp_in_nI (by omega) (by decide), o, e1, x_byD_s (R := R) (p := p) h7 hR (by omega) (by omega) hn (fun q hq => by rw [g3 (75 + m) (by omega)]; exact hJ q hq) e1 (ds _ (sd_le (by omega)) (by rw [if_pos pr]))⟩
      rcases hp with ⟨a0, pa⟩ | ⟨q, hq, rfl, pa⟩
      · exact br_t a0 (by' (pa r (by omega)))
      · refine br_f (nI_pos (by omega)) (pk_eq q r (fun e => by' ((pa r (by omega)).mpr e.symm)) (fun e => ?_) rfl rfl (by omega) (by omega))
        have z := ds 0 (Nat.zero_le _) (by rw [if_neg (fun y => e ((pa r (by omega)).mp y).symm)])
        exact z
theorem x_dare_skip {a1 a2 a3 a4 r : Int32} {n : Nat} {s : xS} {rd : xRd} {J : mJ} {I : mI} {Q : mJ → Prop} {k10 : Int32 → Int32 → Int32 → Int32 → xS → xRd → mJ → mI → Prop} (h : a3 ≤ 0 ∨ a4 ≤ 0) (hk : k10 a1 a2 a3 (a4 + 1) s rd J I) : x_X5_finds_l28 Q k10 (n + 1) a1 a2 a3 a4 r s rd J I := by
  unfold x_X5_finds_l28 x_X5_finds_j117
  refine br_c (fun _ => hk) (fun _ => br_c (fun _ => hk) (fun c => br_t (h.resolve_left c) hk))
theorem x_dare_l10 {σ : wS} {R m : Nat} {a1 a2 : Int32} {p : Nat → Bool} {s : xS} {rd : xRd} {fz : Nat → Bool} {J0 : mJ} {I : mI} {Q : mJ → Prop} {k2 : Int32 → Int32 → Int32 → xS → xRd → mJ → mI → Prop} (hp : pO a2 p (σ 0 1)) (h7 : ∀ k, σ 7 k ≤ 20) (hI : I 1 1 = nI R) (eR : R = σ 0 1) (hR4 : R ≤ 4) (hR : rR 8 σ s rd fz I) (hm : m < 13) (hJ : ∀ m', m' < m → rwX σ R p J0 m')
    (h : ∀ J', (∀ i, i ≠ 75 + m → J' i = J0 i) → rwX σ R p J' m → k2 a1 a2 (nI (m + 1)) s rd J' I) :
    ∀ n need J, 241 - need < n → need ≤ 241 → (∀ i, i ≠ 75 + m → J i = J0 i) → (∀ q, q < need → J (75 + m) q = lN (dp σ R p m q)) → x_X5_finds_l10 Q k2 n a1 a2 (nI m) (nI need) s rd J I := by
  intro n
  induction n with
  | zero => intro need J g; omega
  | succ n ih =>
    intro need J g1 g2 g3 g4
    unfold x_X5_finds_l10
    refine pk_lt 240 need (fun lt => ?_) (fun le => ?_) rfl rfl (by omega) (by omega)
    · rw [nI_1]
      exact h J g3 (fun q hq => g4 q (by omega))
    · have v1 : vp_in (nI m) 13 := vp_in_nI hm (by decide)
      have v2 : vp_in (nI need) 241 := vp_in_nI (by omega) (by decide)
      unfold x_X5_first
      rw [nI_clamp (by omega)]
      refine ⟨v1, 75 + m, xR74 hm, pk_le need 0 (fun z => ?_) (fun pos => ⟨xo75 hm, by rw [xl75 hm]; exact v2, ?_⟩) rfl rfl (by omega) (by decide)⟩
      · have e : need = 0 := by omega
        subst e
        have fin : ∀ J', J' = u2 J (75 + m) 0 (lN (dp σ R p m 0)) → ∃ n0, x_X5_finds_l28 Q (fun b0 b1 b2 b3 s rd J I => x_X5_finds_l10 Q k2 n b0 b1 b2 b3 s rd J I) n0 a1 a2 (nI m) (nI 0) 0 s rd J' I := by
          rintro J' rfl
          refine ⟨1, x_dare_skip (.inr (by decide)) ?_⟩
          rw [nI_1]
          refine ih 1 _ (by omega) (by omega) (fun i hi => (u2r hi).trans (g3 i hi)) (fun q hq => ?_)
          rw [show q = 0 by omega, u2_self]
        cases m with
        | zero => exact br_t (by decide) ⟨xo75 hm, by rw [xl75 hm]; exact v2, fin _ rfl⟩
        | succ m =>
          refine br_f (nI_ne0 (by omega) (by omega)) ⟨?_, 75 + m, ?_, xo75 (by omega), by rw [xl75 (by omega)]; exact vp_in_nI (n := 0) (by decide) (by decide), xo75 hm, by rw [xl75 hm]; exact v2, fin _ ?_⟩
          · rw [nI_pred]; exact vp_in_nI (by omega) (by decide)
          · rw [nI_pred, nI_clamp (by omega)]; exact xR74 (by omega)
          · have e0 : J (75 + m) (0 : Int32).toNatClampNeg = lN (dp σ R p m 0) := by rw [g3 _ (by omega)]; exact hJ m (by omega) 0 (by omega)
            rw [e0, show (10 : Int64) = lN 10 from rfl, lN_mul]
            simp only [dp, if_pos]
            rfl
      · cases m with
        | zero =>
          refine ⟨1, x_dare_skip (.inl (by decide)) ?_⟩
          rw [nI_1, nI_clamp (by omega)]
          refine ih (need + 1) _ (by omega) (by omega) (fun i hi => (u2r hi).trans (g3 i hi)) (fun q hq => ?_)
          by_cases e : q = need
          · rw [e, u2_self]; simp only [dp]; rw [if_neg (by omega)]; rfl
          · rw [u2_ne _ _ (Or.inr e)]; exact g4 q (by omega)
        | succ m =>
          rw [nI_clamp (by omega)]
          refine ⟨R + 1, x_dare_l28 (J0 := u2 J (75 + (m + 1)) need 0) hp h7 hI eR hR4 hR hm (by omega) pos (fun q hq => ?_) (fun J' y1 y2 y3 => ?_) (R + 1) 0 _ (by omega) (by omega) (fun _ _ => rfl) (fun _ _ => rfl) (u2_self _ _ _ _)⟩
          · rw [u2r (by omega), g3 _ (by omega)]; exact hJ m (by omega) q hq
          · refine ih (need + 1) J' (by omega) (by omega) (fun i hi => by rw [y1 i hi, u2r hi]; exact g3 i hi) (fun q hq => ?_)
            by_cases e : q = need
            · rw [e, y3, dp_dq (by omega)]
            · rw [y2 q e, u2_ne _ _ (Or.inr e)]; exact g4 q (by omega)
theorem x_dare_s {σ : wS} {R M : Nat} {a2 : Int32} {p : Nat → Bool} {s : xS} {rd : xRd} {fz : Nat → Bool} {J0 : mJ} {I : mI} {Q : mJ → Prop} (hp : pO a2 p (σ 0 1)) (h7 : ∀ k, σ 7 k ≤ 20) (hI : I 1 1 = nI R) (eR : R = σ 0 1) (hR4 : R ≤ 4) (hR : rR 8 σ s rd fz I) (hM : M < 13) (h : ∀ J', (∀ i, i < 75 ∨ 88 ≤ i → J' i = J0 i) → (∀ m, m ≤ M → rwX σ R p J' m) → Q J') : x_X5_finds (nI M) a2 s rd J0 I Q := by
  unfold x_X5_finds
  have lp : ∀ n m J, M + 1 - m < n → m ≤ M + 1 → (∀ i, i < 75 ∨ 88 ≤ i → J i = J0 i) → (∀ m', m' < m → rwX σ R p J m') → x_X5_finds_l2 Q n (nI M) a2 (nI m) s rd J I := by
    intro n
    induction n with
    | zero => intro m J g; exact absurd g (Nat.not_lt_zero _)
    | succ n ih =>
      intro m J g1 g2 g3 g4
      unfold x_X5_finds_l2
      refine pk_lt M m (fun lt => h J g3 (fun m' hm' => g4 m' (by omega))) (fun le => ⟨242, ?_⟩) rfl rfl (by omega) (by omega)
      refine x_dare_l10 (J0 := J) hp h7 hI eR hR4 hR (by omega) g4 (fun J' y1 y2 => ?_) 242 0 J (by omega) (by omega) (fun _ _ => rfl) (fun q hq => absurd hq (by omega))
      refine ih (m + 1) J' (by omega) (by omega) (fun i hi => by rw [y1 i (by omega)]; exact g3 i hi) (fun m' hm' => ?_)
      by_cases e : m' = m
      · rw [e]; exact y2
      · intro q hq
        rw [y1 (75 + m') (by omega)]
        exact g4 m' (by omega) q hq
  exact ⟨M + 2, lp (M + 2) 0 J0 (by omega) (by omega) (fun _ _ => rfl) (fun m' hm' => absurd hm' (by omega))⟩
/-! the model's side -/
def rwM (σ : wS) (R : Nat) (J : mJ) (m : Nat) : Prop := ∀ q, q ≤ 240 → J 15 (241 * m + q) = lN (dp σ R (fun _ => true) m q)
theorem m_byD_s {σ : wS} {R r m need : Nat} {I : mI} {J : mJ} {Q : Int64 → mI → mJ → Prop} (h7 : ∀ k, σ 7 k ≤ 20) (ri : ∀ k, k < 40 → I 3 k = nI (σ 7 k)) (hr : r < 4) (hm : m < 13) (hn : need ≤ 240) (hJ : rwM σ R J m) (h : Q (lN (sd σ R (fun _ => true) m need r)) I J) : m_casesBy (nI r) (nI need) (nI (m + 1)) I J Q := by
  unfold m_casesBy
  have lp : ∀ n i, 10 - i < n → i ≤ 10 → m_casesBy_l6 Q n (nI r) (nI need) (nI (m + 1)) (lN (sumF (fun k => dp σ R (fun _ => true) m (need - σ 7 (10 * r + k))) i)) (nI i) I J := by
    intro n
    induction n with
    | zero => intro i g; exact absurd g (Nat.not_lt_zero _)
    | succ n ih =>
      intro i g1 g2
      unfold m_casesBy_l6 m_casesBy_j53
      refine pk_le 10 i (fun le => ?_) (fun lt => ?_) rfl rfl (by omega) (by omega)
      · have e : i = 10 := by omega
        subst e
        exact h
      · have e1 : (10 : Int32) * nI r + nI i = nI (10 * r + i) := by rw [show (10 : Int32) = nI 10 from rfl, pk_mul, nI_add]
        have e2 : (241 : Int32) * (nI (m + 1) - 1) = nI (241 * m) := by rw [nI_pred, show (241 : Int32) = nI 241 from rfl, pk_mul]
        have h20 := h7 (10 * r + i)
        rw [e1, nI_clamp (by omega), ri _ (by omega), nI_1, e2]
        have nx : ∀ q, q = need - σ 7 (10 * r + i) → vp_in (nI (241 * m) + nI q) 3133 ∧ ∀ v4 : Int64, v4 = lN (sumF (fun k => dp σ R (fun _ => true) m (need - σ 7 (10 * r + k))) i) + J 15 (nI (241 * m) + nI q).toNatClampNeg → m_casesBy_l6 Q n (nI r) (nI need) (nI (m + 1)) v4 (nI (i + 1)) I J := by
          intro q eq
          rw [nI_add, nI_clamp (by omega), hJ q (by omega), lN_add, eq]
          exact ⟨vp_in_nI (by omega) (by decide), nm_e (ih (i + 1) (by omega) (by omega))⟩
        refine ⟨vp_in_nI (by omega) (by decide), nm_e ⟨fun c => ?_, fun c => ?_⟩⟩
        · exact nx 0 (by have := (subI_le (by omega) (by omega)).mp c; omega)
        · have c' : σ 7 (10 * r + i) < need := Nat.lt_of_not_le (fun z => c ((subI_le (by omega) (by omega)).mpr z))
          rw [pk_sub (by omega)]
          exact nx _ rfl
  exact ⟨11, lp 11 0 (by omega) (by omega)⟩
theorem m_cases_s {m : Nat} {I : mI} {J : mJ} {Q : Int64 → mI → mJ → Prop} (hm : m < 2 ^ 31) (h : Q (lN (10 ^ m)) I J) : m_cases (nI m) I J Q := by
  unfold m_cases
  have lp : ∀ n i, m - i < n → i ≤ m → m_cases_l4 Q n (nI m) (lN (10 ^ i)) (nI i) I J := by
    intro n
    induction n with
    | zero => intro i g; exact absurd g (Nat.not_lt_zero _)
    | succ n ih =>
      intro i g1 g2
      unfold m_cases_l4
      refine pk_le m i (fun le => ?_) (fun lt => ?_) rfl rfl (by omega) (by omega)
      · have e : i = m := by omega
        subst e
        exact h
      · rw [show (10 : Int64) = lN 10 from rfl, lN_mul, nI_1, ← Nat.pow_succ]
        exact ih (i + 1) (by omega) (by omega)
  exact ⟨m + 1, lp (m + 1) 0 (by omega) (by omega)⟩
theorem m_dare_l46 {σ : wS} {R m need : Nat} {a1 : Int32} {I : mI} {J : mJ} {Q : mI → mJ → Prop} {k20 : Int32 → Int32 → mI → mJ → Prop} (h7 : ∀ k, σ 7 k ≤ 20) (ri : ∀ k, k < 40 → I 3 k = nI (σ 7 k)) (h9 : I 0 9 = nI R) (h34 : I 0 34 = nI (m + 1)) (hR4 : R ≤ 4) (hm : m + 1 < 13) (hn : need ≤ 240) (hn0 : 0 < need) (hJ : rwM σ R J m)
    (h : k20 a1 (nI (need + 1)) I (u2 J 15 (241 * (m + 1) + need) (lN (dq σ R (fun _ => true) m need R)))) :
    ∀ n r, R - r < n → r ≤ R → m_findDares_l46 Q k20 n a1 (nI need) (lN (dq σ R (fun _ => true) m need r)) (nI r) I J := by
  intro n
  induction n with
  | zero => intro r g; omega
  | succ n ih =>
    intro r g1 g2
    unfold m_findDares_l46 m_findDares_j92 m_findDares_j99
    rw [h9, h34, nI_1, nI_1]
    refine pk_le R r (fun le => ?_) (fun lt => br_f (nI_nle (by omega) (by omega)) (br_f (nI_nle (by omega) (by omega)) ?_)) rfl rfl (by omega) (by omega)
    · have e : r = R := by omega
      subst e
      have e1 : (241 : Int32) * nI (m + 1) + nI need = nI (241 * (m + 1) + need) := by rw [show (241 : Int32) = nI 241 from rfl, pk_mul, nI_add]
      rw [e1, nI_clamp (by omega)]
      exact ⟨vp_in_nI (by omega) (by decide), h⟩
    · refine m_byD_s (R := R) h7 ri (by omega) (by omega) hn hJ ?_
      have e : dq σ R (fun _ => true) m need (r + 1) = max (dq σ R (fun _ => true) m need r) (sd σ R (fun _ => true) m need r) := by
        show max _ (if true = true then _ else 0) = _
        rw [if_pos rfl]
        rfl
      have b1 := sd_le (σ := σ) (R := R) (p := fun _ => true) (m := m) (need := need) (r := r) (by omega)
      have b2 := dq_le (σ := σ) (R := R) (p := fun _ => true) (m := m) (need := need) (by omega) r
      have z := ih (r + 1) (by omega) (by omega)
      rw [e] at z
      refine ⟨fun c => ?_, fun c => ?_⟩
      · have c' := (pk_lLE (by omega) (by omega)).mp ((lg_cmp_le _ _).mp c)
        rw [Nat.max_eq_left c'] at z
        exact z
      · have c' : ¬ sd σ R (fun _ => true) m need r ≤ dq σ R (fun _ => true) m need r := fun y => c ((lg_cmp_le _ _).mpr ((pk_lLE (by omega) (by omega)).mpr y))
        rw [Nat.max_eq_right (by omega)] at z
        exact z
theorem m_dare_skip {a1 a2 r : Int32} {v : Int64} {n : Nat} {I : mI} {J : mJ} {Q : mI → mJ → Prop} {k20 : Int32 → Int32 → mI → mJ → Prop} (h : I 0 34 ≤ 0 ∨ a2 ≤ 0) (hk : m_findDares_j99 Q k20 a1 a2 v I J) : m_findDares_l46 Q k20 (n + 1) a1 a2 v r I J := by
  unfold m_findDares_l46
  exact br_c (fun _ => hk) (fun _ => br_c (fun _ => hk) (fun c => br_t (h.resolve_left c) hk))
theorem m_dare_l20 {σ : wS} {R m : Nat} {a1 : Int32} {I : mI} {J0 : mJ} {Q : mI → mJ → Prop} {k0 : Int32 → mI → mJ → Prop} (h7 : ∀ k, σ 7 k ≤ 20) (ri : ∀ k, k < 40 → I 3 k = nI (σ 7 k)) (h9 : I 0 9 = nI R) (h34 : I 0 34 = nI m) (hR4 : R ≤ 4) (hm : m < 13) (hJ : ∀ m', m' < m → rwM σ R J0 m')
    (h : ∀ J', (∀ r, r ≠ 15 → J' r = J0 r) → (∀ m', m' ≤ m → rwM σ R J' m') → k0 a1 I J') :
    ∀ n need J, 241 - need < n → need ≤ 241 → (∀ r, r ≠ 15 → J r = J0 r) → (∀ q, q < 241 * m → J 15 q = J0 15 q) → (∀ q, q < need → J 15 (241 * m + q) = lN (dp σ R (fun _ => true) m q)) → m_findDares_l20 Q k0 n a1 (nI need) I J := by
  intro n
  induction n with
  | zero => intro need J g; omega
  | succ n ih =>
    intro need J g1 g2 g3 g4 g5
    unfold m_findDares_l20
    refine pk_lt 240 need (fun lt => ?_) (fun le => ?_) rfl rfl (by omega) (by omega)
    · refine h J g3 (fun m' hm' => ?_)
      by_cases e : m' = m
      · rw [e]; exact fun q hq => g5 q (by omega)
      · intro q hq
        rw [g4 _ (by omega)]
        exact hJ m' (by omega) q hq
    · have e1 : (241 : Int32) * nI m + nI need = nI (241 * m + need) := by rw [show (241 : Int32) = nI 241 from rfl, pk_mul, nI_add]
      have st : ∀ v, v = dp σ R (fun _ => true) m need → m_findDares_l20 Q k0 n a1 (nI (need + 1)) I (u2 J 15 (241 * m + need) (lN v)) := by
        rintro v rfl
        refine ih (need + 1) _ (by omega) (by omega) (fun r hr => (u2r hr).trans (g3 r hr)) (fun q hq => by rw [u2_ne _ _ (Or.inr (by omega))]; exact g4 q hq) (fun q hq => ?_)
        by_cases e : q = need
        · rw [e, u2_self]
        · rw [u2_ne _ _ (Or.inr (by omega))]; exact g5 q (by omega)
      have j99 : ∀ v, v = dp σ R (fun _ => true) m need → m_findDares_j99 Q (fun b0 b1 I J => m_findDares_l20 Q k0 n b0 b1 I J) a1 (nI need) (lN v) I J := by
        intro v hv
        unfold m_findDares_j99
        rw [h34, e1, nI_clamp (by omega), nI_1]
        exact ⟨vp_in_nI (by omega) (by decide), st v hv⟩
      refine pk_eq need 0 (fun z => ?_) (fun z => ?_) rfl rfl (by omega) (by decide)
      · subst z
        rw [h34]
        refine m_cases_s (by omega) ?_
        unfold m_findDares_j42
        exact ⟨1, m_dare_skip (.inr (by decide)) (j99 _ (dp_z m).symm)⟩
      · unfold m_findDares_j42
        cases m with
        | zero => exact ⟨1, m_dare_skip (.inl (by rw [h34]; decide)) (j99 0 (by simp only [dp]; rw [if_neg z]))⟩
        | succ m =>
          refine ⟨R + 1, m_dare_l46 (R := R) h7 ri h9 h34 hR4 hm (by omega) (by omega) (fun q hq => ?_) ?_ (R + 1) 0 (by omega) (by omega)⟩
          · rw [g4 _ (by omega)]; exact hJ m (by omega) q hq
          · exact st _ (dp_dq z).symm
theorem m_dare_s {σ : wS} {R M : Nat} {I0 : mI} {J0 : mJ} {Q : mI → mJ → Prop} (h7 : ∀ k, σ 7 k ≤ 20) (ri : ∀ k, k < 40 → I0 3 k = nI (σ 7 k)) (h9 : I0 0 9 = nI R) (hR4 : R ≤ 4) (hM : M < 13)
    (K : ∀ I' J' d, d ≤ 13 → M < d → I' 0 34 = aI d → (∀ r, r ≠ 0 → I' r = I0 r) → (∀ f, f ≠ 34 → I' 0 f = I0 0 f) → (∀ r, r ≠ 15 → J' r = J0 r) → (∀ m, m < d → rwM σ R J' m) → Q I' J') :
    ∀ n d I J, 14 - d < n → d ≤ 13 → I 0 34 = aI d → (∀ r, r ≠ 0 → I r = I0 r) → (∀ f, f ≠ 34 → I 0 f = I0 0 f) → (∀ r, r ≠ 15 → J r = J0 r) → (∀ m, m < d → rwM σ R J m) → m_findDares_l0 Q n (nI M) I J := by
  intro n
  induction n with
  | zero => intro d I J g; omega
  | succ n ih =>
    intro d I J g1 g2 g3 g4 g5 g6 g7
    unfold m_findDares_l0
    rw [g3]
    refine ⟨fun c => ?_, fun c => ⟨242, ?_⟩⟩
    · exact K I J d g2 (by have := (aI_le (by omega) (by omega)).mp c; omega) g3 g4 g5 g6 g7
    · have c' : d ≤ M := Nat.le_of_not_lt (fun z => c ((aI_le (by omega) (by omega)).mpr (by omega)))
      rw [aI_next]
      have i34 : u2 I 0 34 (aI (d + 1)) 0 34 = nI d := by rw [u2_self, aI_s]
      refine m_dare_l20 (R := R) (m := d) (J0 := J) h7 (fun k hk => by rw [u2r (by decide), g4 3 (by decide)]; exact ri k hk) (by rw [u2_ne _ _ (Or.inr (by decide)), g5 9 (by decide)]; exact h9) i34 hR4 (by omega) g7 (fun J' y1 y2 => ?_) 242 0 J (by omega) (by omega) (fun _ _ => rfl) (fun _ _ => rfl) (fun q hq => absurd hq (by omega))
      exact ih (d + 1) _ J' (by omega) (by omega) (u2_self _ _ _ _) (fun r hr => (u2r hr).trans (g4 r hr)) (fun f hf => by rw [u2_ne _ _ (Or.inr hf)]; exact g5 f hf) (fun r hr => (y1 r hr).trans (g6 r hr)) (fun m hm => y2 m (by omega))
/-! the operations -/
theorem x_isDare_c {a b : Int32} {s : xS} {rd : xRd} {J : mJ} {I : mI} {Q : Int32 → Prop} (h1 : ∀ n m, n ≤ 240 → m ≤ 12 → a = nI n → b = nI m → Q 1) (h0 : ¬ ((0 ≤ a ∧ a ≤ 240) ∧ 0 ≤ b ∧ b ≤ 12) → Q 0) : x_X0_isDare a b s rd J I Q := by
  unfold x_X0_isDare
  refine x_in_c (fun y => br_f (by decide) (x_in_c (fun z => br_f (by decide) ?_) (fun z => br_t rfl (h0 (fun w => z w.2))))) (fun y => br_t rfl (h0 (fun w => y w.1)))
  obtain ⟨n, _, hn, rfl⟩ := in_of (lo := 0) (hi := 240) (by decide) (by decide) y
  obtain ⟨m, _, hm, rfl⟩ := in_of (lo := 0) (hi := 12) (by decide) (by decide) z
  exact h1 n m hn hm rfl rfl
theorem m_isDare_c {a b : Int32} {I : mI} {J : mJ} {Q : Int32 → mI → mJ → Prop} (h1 : (0 ≤ a ∧ a ≤ 240) ∧ 0 ≤ b ∧ b ≤ 12 → Q 1 I J) (h0 : ¬ ((0 ≤ a ∧ a ≤ 240) ∧ 0 ≤ b ∧ b ≤ 12) → Q 0 I J) : m_isDare a b I J Q := by
  unfold m_isDare
  exact m_in_c (fun y => br_f (by decide) (m_in_c (fun z => br_f (by decide) (h1 ⟨y, z⟩)) (fun z => br_t rfl (h0 (fun w => z w.2))))) (fun y => br_t rfl (h0 (fun w => y w.1)))
theorem dare_in {n m : Nat} (hn : n ≤ 240) (hm : m ≤ 12) : (0 ≤ nI n ∧ nI n ≤ 240) ∧ (0 : Int32) ≤ nI m ∧ nI m ≤ 12 := ⟨⟨nI_pos' (by omega), nI_le (b := 240) hn (by decide)⟩, nI_pos' (by omega), nI_le (b := 12) hm (by decide)⟩
theorem Rel.dares {t : Nat} {σ : wS} {fz : Nat → Bool} {s : xS} {rd : xRd} {J J' : mJ} {I Im Im' : mI} {Jm Jm' : mJ} {d : Nat} (h0 : s.1 ≤ 600 * t) (hS : RelS t σ fz s rd J I Im Jm) (gJ : ∀ r, r < 75 ∨ 88 ≤ r → J' r = J r) (hd : d ≤ 13) (g34 : Im' 0 34 = aI d) (gm : ∀ r, r ≠ 0 → Im' r = Im r) (gf : ∀ f, f ≠ 34 → Im' 0 f = Im 0 f) (gj : ∀ r, r ≠ 15 → Jm' r = Jm r) (hr : ∀ m, m < d → rwM σ (σ 0 1) Jm' m) : Rel (t + 1) s rd J' I Im' Jm' :=
  RelS.cls (hS.gen2 old.rfl' hS.1 hS.2.1 (hS.2.2.1.to (fun r r1 r2 => gm r (by omega)) (fun k hk => gf k (by omega))) (hS.2.2.2.1.pe ⟨rfl, rfl, rfl, rfl, rfl, rfl⟩ rfl rfl (gf 18 (by decide)) (gm 7 (by decide))) ⟨d, hd, g34, fun m hm need hn => hr m hm need hn⟩ hS.2.2.2.2.2.1 hS.2.2.2.2.2.2.1 (fun _ _ => rfl) (fun _ _ _ => rfl) (fun r r1 r2 => gJ r (by omega)) (fun _ _ _ => rfl) (fun r hr => gm r (by omega)) (fun f hf => gf f (by omega)) (gj 28 (by decide)) hS.2.2.2.2.2.2.2.1.1) (by omega)
theorem m_findD {t : Nat} {σ : wS} {fz : Nat → Bool} {s : xS} {rd : xRd} {J J' : mJ} {I Im : mI} {Jm : mJ} {M : Nat} {Q : mI → mJ → Prop} (h0 : s.1 ≤ 600 * t) (hS : RelS t σ fz s rd J I Im Jm) (gJ : ∀ r, r < 75 ∨ 88 ≤ r → J' r = J r) (hM : M < 13) (K : ∀ Im' Jm', Rel (t + 1) s rd J' I Im' Jm' → (∀ m, m ≤ M → rwM σ (σ 0 1) Jm' m) → (∀ r, r ≠ 0 → Im' r = Im r) → (∀ f, f ≠ 34 → Im' 0 f = Im 0 f) → Q Im' Jm') : m_findDares (nI M) Im Jm Q := by
  have h7 := hS.1.2.2.2.2.2.2.2.1
  obtain ⟨d, w1, w2, w3⟩ := hS.2.2.2.2.1
  have hR4 := hS.1.2.2.1.1
  unfold m_findDares
  exact ⟨15, m_dare_s (R := σ 0 1) h7 (fun k hk => hS.2.2.1.2.2.2.1 k hk) hS.2.2.1.1.2.2.2.2.2.2.2.2.2.1 hR4 hM (fun I' J2 d' y1 y2 y3 y4 y5 y6 y7 => K I' J2 (Rel.dares h0 hS gJ y1 y3 y4 y5 y6 y7) (fun m hm => y7 m (by omega)) y4 y5) 15 d Im Jm (by omega) w1 w2 (fun _ _ => rfl) (fun _ _ => rfl) (fun _ _ => rfl) (fun m hm q hq => w3 m hm q hq)⟩
theorem p_dare {t : Nat} {a b : Int32} {s : xS} {rd : xRd} {J : mJ} {I Im : mI} {Jm : mJ} (h : Rel t s rd J I Im Jm) : x_X0_dare a b s rd J I (fun r J' => m_dare a b Im Jm (fun r' I' Jm' => r = r' ∧ Rel (t + 1) s rd J' I I' Jm')) := by
  obtain ⟨h0, σ, fz, hS⟩ := h.opn
  have h7 := hS.1.2.2.2.2.2.2.2.1
  have hR4 := hS.1.2.2.1.1
  unfold x_X0_dare
  refine x_isDare_c (fun n m hn hm ea eb => br_f (by decide) ?_) (fun z => br_t rfl (by unfold m_dare; exact m_isDare_c (fun y => absurd y z) (fun _ => br_t rfl ⟨rfl, h.same⟩)))
  subst ea
  subst eb
  refine x_dare_s (R := σ 0 1) (p := fun _ => true) (fz := fz) (.inl ⟨by decide, fun _ _ => rfl⟩) h7 (hS.2.1.1 1 (by decide)) rfl hR4 hS.2.2.2.2.2.1 (by omega) (fun J' g1 g2 => ?_)
  rw [nI_clamp (by omega), nI_clamp (by omega)]
  refine ⟨vp_in_nI (by omega) (by decide), 75 + m, xR74 (by omega), xo75 (by omega), by rw [xl75 (by omega)]; exact vp_in_nI (by omega) (by decide), ?_⟩
  unfold m_dare
  refine m_isDare_c (fun _ => br_f (by decide) (m_findD (J' := J') h0 hS g1 (by omega) (fun Im' Jm' hr hrow _ _ => ?_))) (fun z => absurd (dare_in hn hm) z)
  have e1 : (241 : Int32) * nI m + nI n = nI (241 * m + n) := by rw [show (241 : Int32) = nI 241 from rfl, pk_mul, nI_add]
  rw [e1, nI_clamp (by omega)]
  exact ⟨vp_in_nI (by omega) (by decide), by rw [g2 m (Nat.le_refl _) n hn, hrow m (Nat.le_refl _) n hn], hr⟩
theorem p_bold {t : Nat} {a b : Int32} {s : xS} {rd : xRd} {J : mJ} {I Im : mI} {Jm : mJ} (h : Rel t s rd J I Im Jm) : x_X0_bold a b s rd J I (fun r J' => m_bold a b Im Jm (RelQ (t + 1) s rd J' I r)) := by
  have no : ∀ z, RelQ (t + 1) s rd J I z z Im Jm := fun z => ⟨rfl, h.same⟩
  obtain ⟨h0, σ, fz, hS⟩ := h.opn
  have h7 := hS.1.2.2.2.2.2.2.2.1
  have hR4 := hS.1.2.2.1.1
  unfold x_X0_bold
  refine x_isDare_c (fun n m hn hm ea eb => br_f (by decide) ?_) (fun z => br_t rfl (by unfold m_bold; exact m_isDare_c (fun y => absurd y z) (fun _ => br_t rfl (no _))))
  subst ea
  subst eb
  refine br_c (fun z => by unfold m_bold; exact m_isDare_c (fun _ => br_f (by decide) (br_t z (no _))) (fun y => absurd (dare_in hn hm) y)) (fun z => ?_)
  refine x_dare_s (R := σ 0 1) (p := fun _ => true) (fz := fz) (.inl ⟨by decide, fun _ _ => rfl⟩) h7 (hS.2.1.1 1 (by decide)) rfl hR4 hS.2.2.2.2.2.1 (by omega) (fun J' g1 g2 => ⟨σ 0 1 + 1, ?_⟩)
  have m0 : m ≠ 0 := fun e => z (by rw [e]; rfl)
  obtain ⟨m', rfl⟩ : ∃ k, m = k + 1 := ⟨m - 1, by omega⟩
  have e1 : (241 : Int32) * nI (m' + 1) + nI n = nI (241 * (m' + 1) + n) := by rw [show (241 : Int32) = nI 241 from rfl, pk_mul, nI_add]
  have lp : ∀ f r, σ 0 1 - r < f → r ≤ σ 0 1 → (∀ v : Int32, (∀ Im' Jm', Rel (t + 1) s rd J' I Im' Jm' → (∀ q, q ≤ m' + 1 → rwM σ (σ 0 1) Jm' q) → (∀ q, q ≠ 0 → Im' q = Im q) → (∀ q, q ≠ 34 → Im' 0 q = Im 0 q) → ∃ n0, m_bold_l24 (RelQ (t + 1) s rd J' I v) n0 (nI n) (nI (m' + 1)) (nI r) Im' Jm') → m_bold (nI n) (nI (m' + 1)) Im Jm (RelQ (t + 1) s rd J' I v)) → x_X0_bold_l28 (fun r J' => m_bold (nI n) (nI (m' + 1)) Im Jm (RelQ (t + 1) s rd J' I r)) f (nI n) (nI (m' + 1)) (nI r) s rd J' I := by
    intro f
    induction f with
    | zero => intro r g; exact absurd g (Nat.not_lt_zero _)
    | succ f ih =>
      intro r g1' g2' hW
      unfold x_X0_bold_l28
      rw [hS.2.1.1 1 (by decide), nI_1]
      have c9 : ∀ {Im' : mI}, (∀ q, q ≠ 34 → Im' 0 q = Im 0 q) → Im' 0 9 = nI (σ 0 1) := fun g => by rw [g 9 (by decide)]; exact hS.2.2.1.1.2.2.2.2.2.2.2.2.2.1
      refine pk_le (σ 0 1) r (fun le => hW _ (fun Im' Jm' hr hrow y1 y2 => ⟨1, ?_⟩)) (fun lt => ?_) rfl rfl (by omega) (by omega)
      · unfold m_bold_l24
        rw [c9 y2]
        exact br_t (nI_le le (by omega)) ⟨rfl, hr⟩
      · obtain ⟨o, _, eo, _⟩ := hS.2.2.2.2.2.1 r lt
        rw [nI_clamp (by omega), nI_clamp (by omega), nI_clamp (by omega)]
        refine ⟨vp_in_nI (by omega) (by decide), o, eo, x_byD_s (R := σ 0 1) (p := fun _ => true) h7 hS.2.2.2.2.2.1 lt (by omega) hn (g2 m' (by omega)) eo ⟨vp_in_nI (by omega) (by decide), 75 + (m' + 1), xR74 (by omega), xo75 (by omega), by rw [xl75 (by omega)]; exact vp_in_nI (by omega) (by decide), ?_⟩⟩
        rw [g2 (m' + 1) (Nat.le_refl _) n hn]
        have mo : ∀ v n0 Im' Jm', (∀ q, q ≤ m' + 1 → rwM σ (σ 0 1) Jm' q) → (∀ q, q ≠ 0 → Im' q = Im q) → (∀ q, q ≠ 34 → Im' 0 q = Im 0 q) → ((lg_cmp (lN (sd σ (σ 0 1) (fun _ => true) m' n r)) (lN (dp σ (σ 0 1) (fun _ => true) (m' + 1) n)) = 0 → RelQ (t + 1) s rd J' I v (nI r) Im' Jm') ∧ (¬ lg_cmp (lN (sd σ (σ 0 1) (fun _ => true) m' n r)) (lN (dp σ (σ 0 1) (fun _ => true) (m' + 1) n)) = 0 → m_bold_l24 (RelQ (t + 1) s rd J' I v) n0 (nI n) (nI (m' + 1)) (nI (r + 1)) Im' Jm')) → m_bold_l24 (RelQ (t + 1) s rd J' I v) (n0 + 1) (nI n) (nI (m' + 1)) (nI r) Im' Jm' := by
          intro v n0 Im' Jm' hrow y1 y2 hh
          unfold m_bold_l24
          rw [c9 y2, nI_1]
          refine br_f (nI_ge lt (by omega)) (m_byD_s (R := σ 0 1) h7 (fun k hk => by rw [y1 3 (by decide)]; exact hS.2.2.1.2.2.2.1 k hk) (by omega) (by omega) hn (hrow m' (by omega)) ?_)
          rw [e1, nI_clamp (by omega), hrow (m' + 1) (Nat.le_refl _) n hn]
          exact ⟨vp_in_nI (by omega) (by decide), hh⟩
        refine ⟨fun c => hW _ (fun Im' Jm' hr hrow y1 y2 => ⟨1, mo _ 0 Im' Jm' hrow y1 y2 (br_t c ⟨rfl, hr⟩)⟩), fun c => ih (r + 1) (by omega) (by omega) (fun v hv => hW v (fun Im' Jm' hr hrow y1 y2 => ?_))⟩
        obtain ⟨n0, hn0⟩ := hv Im' Jm' hr hrow y1 y2
        exact ⟨n0 + 1, mo v n0 Im' Jm' hrow y1 y2 (br_f c hn0)⟩
  refine lp (σ 0 1 + 1) 0 (by omega) (by omega) (fun v hv => ?_)
  unfold m_bold
  exact m_isDare_c (fun _ => br_f (by decide) (br_f z (m_findD (J' := J') h0 hS g1 (by omega) (fun Im' Jm' hr hrow y1 y2 => hv Im' Jm' hr hrow y1 y2)))) (fun y => absurd (dare_in hn hm) y)
