set_option maxRecDepth 100000
set_option maxHeartbeats 4000000
/-! PLAIN LAW, operations 28: the tape's tokens on both sides -/
def sb (b : Nat) : Int32 := (nI b).toInt8.toInt32
theorem sb_p : ∀ b, b < 128 → sb b = nI b := by decide +kernel
theorem sb_n : ∀ b, b < 256 → 128 ≤ b → sb b < 0 := by decide +kernel
abbrev cL (b : Nat) : Bool := decide (97 ≤ b ∧ b ≤ 122)
abbrev cD (b : Nat) : Bool := decide (48 ≤ b ∧ b ≤ 57)
abbrev cB (b : Nat) : Bool := decide (b = 32)
theorem x_isLetter_s {b : Nat} {s : xS} {rd : xRd} {J : mJ} {I : mI} {Q : Int32 → Prop} (hb : b < 256) (h1 : cL b = true → Q 1) (h0 : cL b = false → Q 0) : x_X7_isLetter (sb b) s rd J I Q := by
  unfold x_X7_isLetter
  by_cases h : b < 128
  · rw [sb_p b h]
    exact pk_lt b 97 (fun lt => h0 (decide_eq_false (by omega))) (fun ge => pk_lt 122 b (fun lt => h0 (decide_eq_false (by omega))) (fun le => h1 (decide_eq_true (by omega))) rfl rfl (by decide) (by omega)) rfl rfl (by omega) (by decide)
  · exact br_t (Int32.lt_trans (sb_n b hb (by omega)) (by decide)) (h0 (decide_eq_false (by omega)))
theorem x_isDigit_s {b : Nat} {s : xS} {rd : xRd} {J : mJ} {I : mI} {Q : Int32 → Prop} (hb : b < 256) (h1 : cD b = true → Q 1) (h0 : cD b = false → Q 0) : x_X7_isDigit (sb b) s rd J I Q := by
  unfold x_X7_isDigit
  by_cases h : b < 128
  · rw [sb_p b h]
    exact pk_lt b 48 (fun lt => h0 (decide_eq_false (by omega))) (fun ge => pk_lt 57 b (fun lt => h0 (decide_eq_false (by omega))) (fun le => h1 (decide_eq_true (by omega))) rfl rfl (by decide) (by omega)) rfl rfl (by omega) (by decide)
  · exact br_t (Int32.lt_trans (sb_n b hb (by omega)) (by decide)) (h0 (decide_eq_false (by omega)))
theorem m_isLetter_s {b : Nat} {I : mI} {J : mJ} {Q : Int32 → mI → mJ → Prop} (hb : b < 256) (h1 : cL b = true → Q 1 I J) (h0 : cL b = false → Q 0 I J) : m_isLetter (nI b) I J Q := by
  unfold m_isLetter
  exact pk_lt b 97 (fun lt => h0 (decide_eq_false (by omega))) (fun ge => pk_lt 122 b (fun lt => h0 (decide_eq_false (by omega))) (fun le => h1 (decide_eq_true (by omega))) rfl rfl (by decide) (by omega)) rfl rfl (by omega) (by decide)
theorem m_isDigit_s {b : Nat} {I : mI} {J : mJ} {Q : Int32 → mI → mJ → Prop} (hb : b < 256) (h1 : cD b = true → Q 1 I J) (h0 : cD b = false → Q 0 I J) : m_isDigit (nI b) I J Q := by
  unfold m_isDigit
  exact pk_lt b 48 (fun lt => h0 (decide_eq_false (by omega))) (fun ge => pk_lt 57 b (fun lt => h0 (decide_eq_false (by omega))) (fun le => h1 (decide_eq_true (by omega))) rfl rfl (by decide) (by omega)) rfl rfl (by omega) (by decide)
/-- the end of a run -/
def rnF (T : Nat) (B : Nat → Nat) (c : Nat → Bool) : Nat → Nat → Nat
  | 0, p => p
  | n + 1, p => if p < T ∧ c (B p) = true then rnF T B c n (p + 1) else p
def rn (T : Nat) (B : Nat → Nat) (c : Nat → Bool) (p : Nat) : Nat := rnF T B c (T - p) p
theorem rn_lt {T p : Nat} {B : Nat → Nat} {c : Nat → Bool} (h : p < T) (hc : c (B p) = true) : rn T B c p = rn T B c (p + 1) := by
  unfold rn
  rw [show T - p = (T - (p + 1)) + 1 by omega]
  show (if p < T ∧ c (B p) = true then _ else _) = _
  rw [if_pos ⟨h, hc⟩]
theorem rn_no {T p : Nat} {B : Nat → Nat} {c : Nat → Bool} (h : ¬ (p < T ∧ c (B p) = true)) : rn T B c p = p := by
  unfold rn
  by_cases e : T - p = 0
  · rw [e]; rfl
  · rw [show T - p = (T - p - 1) + 1 by omega]
    show (if p < T ∧ c (B p) = true then _ else _) = _
    rw [if_neg h]
theorem rn_ge {T : Nat} {B : Nat → Nat} {c : Nat → Bool} : ∀ n p, T - p < n → p ≤ T → p ≤ rn T B c p ∧ rn T B c p ≤ T ∧ (∀ k, p ≤ k → k < rn T B c p → c (B k) = true) := by
  intro n
  induction n with
  | zero => intro p g; exact absurd g (Nat.not_lt_zero _)
  | succ n ih =>
    intro p g1 g2
    by_cases h : p < T ∧ c (B p) = true
    · rw [rn_lt h.1 h.2]
      obtain ⟨a1, a2, a3⟩ := ih (p + 1) (by omega) (by omega)
      refine ⟨by omega, a2, fun k k1 k2 => ?_⟩
      by_cases e : k = p
      · rw [e]; exact h.2
      · exact a3 k (by omega) k2
    · rw [rn_no h]
      exact ⟨Nat.le_refl _, g2, fun k k1 k2 => absurd k2 (by omega)⟩
theorem rn_le {T p : Nat} {B : Nat → Nat} {c : Nat → Bool} (h : p ≤ T) : p ≤ rn T B c p ∧ rn T B c p ≤ T := ⟨(rn_ge (T - p + 1) p (by omega) h).1, (rn_ge (T - p + 1) p (by omega) h).2.1⟩
theorem rn_all {T p : Nat} {B : Nat → Nat} {c : Nat → Bool} (h : p ≤ T) : ∀ k, p ≤ k → k < rn T B c p → c (B k) = true := (rn_ge (T - p + 1) p (by omega) h).2.2
/-- a token's end, kind, value; the next one's start -/
def te (T : Nat) (B : Nat → Nat) (q : Nat) : Nat := if q < T then (if cL (B q) = true then rn T B cL (q + 1) else if cD (B q) = true then rn T B cD (q + 1) else q + 1) else q
def kd (T : Nat) (B : Nat → Nat) (q : Nat) : Nat := if q < T then (if cL (B q) = true then 1 else if cD (B q) = true then 2 else 3) else 0
def hv (f : Nat → Nat) : Nat → Nat
  | 0 => 0
  | n + 1 => 27 * hv f n + (f n - 96)
def dv (f : Nat → Nat) : Nat → Nat
  | 0 => 0
  | n + 1 => 10 * dv f n + (f n - 48)
def tv (T : Nat) (B : Nat → Nat) (q : Nat) : Nat := if kd T B q = 1 then (if te T B q - q ≤ 8 then hv (fun i => B (q + i)) (te T B q - q) else 0) else if kd T B q = 2 then dv (fun i => B (q + i)) (min 3 (te T B q - q)) else if kd T B q = 3 then B q else 0
def nq (T : Nat) (B : Nat → Nat) (q : Nat) : Nat := rn T B cB (te T B q)
theorem cLD {b : Nat} (h : cL b = true) : cD b = false := decide_eq_false (by have := of_decide_eq_true h; omega)
theorem te_L {T q : Nat} {B : Nat → Nat} (h : q < T) (hc : cL (B q) = true) : te T B q = rn T B cL (q + 1) ∧ kd T B q = 1 := by
  unfold te kd
  rw [if_pos h, if_pos hc, if_pos h, if_pos hc]
  exact ⟨rfl, rfl⟩
theorem te_D {T q : Nat} {B : Nat → Nat} (h : q < T) (hl : cL (B q) = false) (hc : cD (B q) = true) : te T B q = rn T B cD (q + 1) ∧ kd T B q = 2 := by
  unfold te kd
  rw [if_pos h, if_neg (by rw [hl]; decide), if_pos hc, if_pos h, if_neg (by rw [hl]; decide), if_pos hc]
  exact ⟨rfl, rfl⟩
theorem te_M {T q : Nat} {B : Nat → Nat} (h : q < T) (hl : cL (B q) = false) (hc : cD (B q) = false) : te T B q = q + 1 ∧ kd T B q = 3 := by
  unfold te kd
  rw [if_pos h, if_neg (by rw [hl]; decide), if_neg (by rw [hc]; decide), if_pos h, if_neg (by rw [hl]; decide), if_neg (by rw [hc]; decide)]
  exact ⟨rfl, rfl⟩
theorem te_E {T q : Nat} {B : Nat → Nat} (h : ¬ q < T) : te T B q = q ∧ kd T B q = 0 := by
  unfold te kd
  rw [if_neg h, if_neg h]
  exact ⟨rfl, rfl⟩
theorem te_le {T q : Nat} {B : Nat → Nat} (h : q ≤ T) : q ≤ te T B q ∧ te T B q ≤ T ∧ (q < T → q < te T B q) := by
  by_cases lt : q < T
  · cases hl : cL (B q) with
    | true => rw [(te_L lt hl).1]; have := rn_le (B := B) (c := cL) (show q + 1 ≤ T from lt); omega
    | false =>
      cases hd : cD (B q) with
      | true => rw [(te_D lt hl hd).1]; have := rn_le (B := B) (c := cD) (show q + 1 ≤ T from lt); omega
      | false => rw [(te_M lt hl hd).1]; omega
  · rw [(te_E lt).1]; omega
theorem nq_le {T q : Nat} {B : Nat → Nat} (h : q ≤ T) : te T B q ≤ nq T B q ∧ nq T B q ≤ T := rn_le (te_le h).2.1
/-- the reader's state -/
def xs (T q : Nat) (B : Nat → Nat) (rd : xRd) (I : mI) : Prop := xR rd 93 3 = some 92 ∧ I 93 4 = nI T ∧ (∀ j, j < T → B j < 256 ∧ I 92 j = sb (B j)) ∧ I 93 5 = nI q ∧ I 93 6 = nI (te T B q)
def xN (I I' : mI) : Prop := (∀ r, r ≠ 93 → I' r = I r) ∧ (∀ k, k ≠ 5 → k ≠ 6 → I' 93 k = I 93 k)
theorem x_here_s {T q : Nat} {B : Nat → Nat} {s : xS} {rd : xRd} {J : mJ} {I : mI} {Q : Int32 → Prop} (hT : T ≤ 200) (hq : q ≤ T) (hr : xR rd 93 3 = some 92) (e4 : I 93 4 = nI T) (hB : ∀ j, j < T → B j < 256 ∧ I 92 j = sb (B j)) (e5 : I 93 5 = nI q) (h1 : q < T → Q (sb (B q))) (h0 : ¬ q < T → Q (-1)) : x_X7_here s rd J I Q := by
  unfold x_X7_here
  rw [e4, e5]
  refine pk_le T q (fun le => h0 (by omega)) (fun lt => ⟨92, hr, xo_c (by decide) rfl, ?_, ?_⟩) rfl rfl (by omega) (by omega)
  · rw [show xlen s 92 = 200 from xlen_c (by decide) rfl]; exact vp_in_nI (by omega) (by decide)
  · rw [nI_clamp (by omega), (hB q lt).2]; exact h1 lt
theorem x_next_s {T p : Nat} {B : Nat → Nat} {s : xS} {rd : xRd} {J : mJ} {I : mI} {Q : mI → Prop} (hT : T ≤ 200) (hp : p ≤ T) (hr : xR rd 93 3 = some 92) (e4 : I 93 4 = nI T) (hB : ∀ j, j < T → B j < 256 ∧ I 92 j = sb (B j)) (e6 : I 93 6 = nI p) (K : ∀ I', xN I I' → I' 93 5 = nI (rn T B cB p) → I' 93 6 = nI (te T B (rn T B cB p)) → Q I') : x_X7_next s rd J I Q := by
  have x92 : xo s 92 101 := xo_c (by decide) rfl
  have l92 : xlen s 92 = 200 := xlen_c (by decide) rfl
  obtain ⟨q, hq⟩ : ∃ q, rn T B cB p = q := ⟨_, rfl⟩
  rw [hq] at K
  have qT : q ≤ T := by rw [← hq]; exact (rn_le hp).2
  have l90 : ∀ (c : Nat → Bool) (a1 a2 : Int32), ((a1 = 1 ∧ a2 = 0 ∧ c = cL) ∨ (a1 = 0 ∧ a2 = 1 ∧ c = cD)) → ∀ n w I1, T - w < n → w ≤ T → xN I I1 → I1 93 5 = nI q → I1 93 6 = nI w → te T B q = rn T B c w → x_X7_next_l90 Q n a1 a2 s rd J I1 := by
    intro c a1 a2 hc n
    induction n with
    | zero => intro w I1 g; exact absurd g (Nat.not_lt_zero _)
    | succ n ih =>
      intro w I1 g1 g2 f1 f5 f6 ht
      have b4 : I1 93 4 = nI T := by rw [f1.2 4 (by decide) (by decide)]; exact e4
      unfold x_X7_next_l90 x_X7_next_j120 x_X7_next_j139
      rw [b4, f6, nI_1]
      refine pk_le T w (fun le => K I1 f1 f5 (by rw [f6, ht, rn_no (by omega)])) (fun lt => ?_) rfl rfl (by omega) (by omega)
      have vw : vp_in (nI w) (xlen s 92) := by rw [l92]; exact vp_in_nI (by omega) (by decide)
      have bw : I1 92 (nI w).toNatClampNeg = sb (B w) := by rw [nI_clamp (by omega), f1.1 92 (by decide)]; exact (hB w lt).2
      have nxt : c (B w) = true → x_X7_next_l90 Q n a1 a2 s rd J (u2 I1 93 6 (nI (w + 1))) := fun cw => ih (w + 1) _ (by omega) (by omega) ⟨fun r h => by rw [u2r h]; exact f1.1 r h, fun k h5 h6 => by rw [u2_ne _ _ (Or.inr h6)]; exact f1.2 k h5 h6⟩ (by rw [u2_ne _ _ (Or.inr (by decide))]; exact f5) (u2_self _ _ _ _) (by rw [ht, rn_lt lt cw])
      have stp : c (B w) = false → Q I1 := fun cw => K I1 f1 f5 (by rw [f6, ht, rn_no (by rw [cw]; simp)])
      rcases hc with ⟨rfl, rfl, rfl⟩ | ⟨rfl, rfl, rfl⟩
      · refine br_f (by decide) ⟨92, hr, x92, vw, ?_⟩
        rw [bw]
        exact x_isLetter_s (hB w lt).1 (fun cw => br_f (by decide) (nxt cw)) (fun cw => br_t rfl (br_t rfl (stp cw)))
      · refine br_t rfl (br_f (by decide) ⟨92, hr, x92, vw, ?_⟩)
        rw [bw]
        exact x_isDigit_s (hB w lt).1 (fun cw => br_f (by decide) (nxt cw)) (fun cw => br_t rfl (stp cw))
  have j46 : ∀ I1, xN I I1 → I1 93 5 = nI q → x_X7_next_j46 Q s rd J I1 := by
    intro I1 f1 f5
    have b4 : I1 93 4 = nI T := by rw [f1.2 4 (by decide) (by decide)]; exact e4
    unfold x_X7_next_j46 x_X7_next_j71
    rw [b4, f5, nI_1]
    have fr : ∀ w, xN I (u2 I1 93 6 (nI w)) := fun w => ⟨fun r h => by rw [u2r h]; exact f1.1 r h, fun k h5 h6 => by rw [u2_ne _ _ (Or.inr h6)]; exact f1.2 k h5 h6⟩
    have f5' : ∀ w, u2 I1 93 6 (nI w) 93 5 = nI q := fun w => by rw [u2_ne _ _ (Or.inr (by decide))]; exact f5
    have f4' : ∀ w, u2 I1 93 6 (nI w) 93 4 = nI T := fun w => by rw [u2_ne _ _ (Or.inr (by decide))]; exact b4
    have fB : ∀ w j, j < T → B j < 256 ∧ u2 I1 93 6 (nI w) 92 j = sb (B j) := fun w j hj => by rw [u2r (by decide), f1.1 92 (by decide)]; exact hB j hj
    have tl : ¬ q < T → xN I (u2 I1 93 6 (nI q)) → x_X7_next_l90 Q 1 0 0 s rd J (u2 I1 93 6 (nI q)) := by
      intro ge fx
      unfold x_X7_next_l90
      rw [f4' q, u2_self]
      exact br_t (nI_le (by omega) (by omega)) (K _ fx (f5' q) (by rw [u2_self, (te_E ge).1]))
    refine pk_le T q (fun le => ?_) (fun lt => ?_) rfl rfl (by omega) (by omega)
    · have ge : ¬ q < T := by omega
      have nl : ∀ {A : Int32 → Prop}, A 0 → x_X7_isLetter (-1) s rd J (u2 I1 93 6 (nI q)) A := fun h => by unfold x_X7_isLetter; exact br_t (by decide) h
      have nd : ∀ {A : Int32 → Prop}, A 0 → x_X7_isDigit (-1) s rd J (u2 I1 93 6 (nI q)) A := fun h => by unfold x_X7_isDigit; exact br_t (by decide) h
      exact x_here_s hT qT hr (f4' q) (fB q) (f5' q) (fun y => absurd y ge) (fun _ => nl (x_here_s hT qT hr (f4' q) (fB q) (f5' q) (fun y => absurd y ge) (fun _ => nd ⟨1, tl ge (fr q)⟩)))
    · refine x_here_s hT qT hr (f4' _) (fB _) (f5' _) (fun _ => ?_) (fun y => absurd lt y)
      have hb := (hB q lt).1
      refine x_isLetter_s hb (fun hl => x_here_s hT qT hr (f4' _) (fB _) (f5' _) (fun _ => x_isDigit_s hb (fun hd => absurd hd (by rw [cLD hl]; decide)) (fun hd => ⟨T + 1, ?_⟩)) (fun y => absurd lt y)) (fun hl => x_here_s hT qT hr (f4' _) (fB _) (f5' _) (fun _ => x_isDigit_s hb (fun hd => ⟨T + 1, ?_⟩) (fun hd => ⟨1, ?_⟩)) (fun y => absurd lt y))
      · exact l90 cL 1 0 (.inl ⟨rfl, rfl, rfl⟩) (T + 1) (q + 1) _ (by omega) (by omega) (fr _) (f5' _) (u2_self _ _ _ _) (te_L lt hl).1
      · exact l90 cD 0 1 (.inr ⟨rfl, rfl, rfl⟩) (T + 1) (q + 1) _ (by omega) (by omega) (fr _) (f5' _) (u2_self _ _ _ _) (te_D lt hl hd).1
      · unfold x_X7_next_l90 x_X7_next_j120
        have kk := K _ (fr (q + 1)) (f5' _) (by rw [u2_self, (te_M lt hl hd).1])
        exact br_c (fun _ => kk) (fun _ => br_t rfl (br_t rfl kk))
  have l8 : ∀ n w I1, T - w < n → w ≤ T → rn T B cB w = q → xN I I1 → I1 93 5 = nI w → x_X7_next_l8 Q n s rd J I1 := by
    intro n
    induction n with
    | zero => intro w I1 g; exact absurd g (Nat.not_lt_zero _)
    | succ n ih =>
      intro w I1 g1 g2 hw f1 f5
      have b4 : I1 93 4 = nI T := by rw [f1.2 4 (by decide) (by decide)]; exact e4
      unfold x_X7_next_l8
      rw [b4, f5, nI_1]
      refine pk_le T w (fun le => ?_) (fun lt => ⟨92, hr, x92, ?_, ?_⟩) rfl rfl (by omega) (by omega)
      · rw [rn_no (by omega)] at hw
        exact j46 I1 f1 (by rw [f5, hw])
      · rw [l92]; exact vp_in_nI (by omega) (by decide)
      · rw [nI_clamp (by omega), f1.1 92 (by decide), (hB w lt).2]
        have hb := (hB w lt).1
        by_cases e : B w = 32
        · refine br_t (by rw [e]; rfl) (ih (w + 1) _ (by omega) (by omega) (by rw [← hw, rn_lt lt (decide_eq_true e)]) ⟨fun r h => by rw [u2r h]; exact f1.1 r h, fun k h5 h6 => by rw [u2_ne _ _ (Or.inr h5)]; exact f1.2 k h5 h6⟩ (u2_self _ _ _ _))
        · rw [rn_no (by rw [show cB (B w) = false from decide_eq_false e]; simp)] at hw
          refine br_f (fun y => e ?_) (j46 I1 f1 (by rw [f5, hw]))
          by_cases h : B w < 128
          · rw [sb_p _ h] at y
            exact (nI_eq (by omega) (by decide)).mp y
          · have := sb_n _ hb (by omega)
            rw [y] at this
            exact absurd this (by decide)
  exact ⟨T + 1, l8 (T + 1) p _ (by omega) hp hq ⟨fun r h => u2r h, fun k h5 _ => u2_ne _ _ (Or.inr h5)⟩ (by rw [u2_self]; exact e6)⟩
theorem xs.next {T q : Nat} {B : Nat → Nat} {s : xS} {rd : xRd} {J : mJ} {I : mI} {Q : mI → Prop} (h : xs T q B rd I) (hT : T ≤ 200) (hq : q ≤ T) (K : ∀ I', xN I I' → xs T (nq T B q) B rd I' → Q I') : x_X7_next s rd J I Q := by
  obtain ⟨a1, a2, a3, a4, a5⟩ := h
  exact x_next_s hT (te_le hq).2.1 a1 a2 a3 a5 (fun I' f f5 f6 => K I' f ⟨a1, by rw [f.2 4 (by decide) (by decide)]; exact a2, fun j hj => by rw [f.1 92 (by decide)]; exact a3 j hj, f5, f6⟩)
/-- the model's -/
def ms (T q : Nat) (B : Nat → Nat) (I : mI) (J : mJ) : Prop := I 0 39 = nI T ∧ (∀ j, j < T → B j < 256 ∧ I 19 j = nI (B j)) ∧ I 0 41 = nI q ∧ I 0 42 = nI (te T B q) ∧ I 0 40 = nI (kd T B q) ∧ J 0 43 = lN (tv T B q)
def mN (I : mI) (J : mJ) (I' : mI) (J' : mJ) : Prop := (∀ r, r ≠ 0 → I' r = I r) ∧ (∀ k, k ≠ 40 → k ≠ 41 → k ≠ 42 → I' 0 k = I 0 k) ∧ ∀ r, r ≠ 0 → J' r = J r
theorem hv_s (f : Nat → Nat) (n : Nat) : hv f (n + 1) = 27 * hv f n + (f n - 96) := rfl
theorem dv_s (f : Nat → Nat) (n : Nat) : dv f (n + 1) = 10 * dv f n + (f n - 48) := rfl
theorem m_advance_s {T p : Nat} {B : Nat → Nat} {I : mI} {J : mJ} {Q : mI → mJ → Prop} (hT : T ≤ 200) (hp : p ≤ T) (e39 : I 0 39 = nI T) (hB : ∀ j, j < T → B j < 256 ∧ I 19 j = nI (B j)) (e42 : I 0 42 = nI p) (K : ∀ I' J', mN I J I' J' → ms T (rn T B cB p) B I' J' → Q I' J') : m_advance I J Q := by
  obtain ⟨q, hq⟩ : ∃ q, rn T B cB p = q := ⟨_, rfl⟩
  rw [hq] at K
  have qT : q ≤ T := by rw [← hq]; exact (rn_le hp).2
  have fin : ∀ I1 J1, mN I J I1 J1 → I1 0 41 = nI q → I1 0 42 = nI (te T B q) → I1 0 40 = nI (kd T B q) → J1 0 43 = lN (tv T B q) → Q I1 J1 := fun I1 J1 f w1 w2 w3 w4 => K I1 J1 f ⟨by rw [f.2.1 39 (by decide) (by decide) (by decide)]; exact e39, fun j hj => by rw [f.1 19 (by decide)]; exact hB j hj, w1, w2, w3, w4⟩
  have setF : ∀ {I1 J1} (v), mN I J I1 J1 → mN I J (u2 I1 0 42 v) J1 := fun v f => ⟨fun r h => by rw [u2r h]; exact f.1 r h, fun k h0 h1 h2 => by rw [u2_ne _ _ (Or.inr h2)]; exact f.2.1 k h0 h1 h2, f.2.2⟩
  have setJ : ∀ {I1 J1} (v), mN I J I1 J1 → mN I J I1 (u2 J1 0 43 v) := fun v f => ⟨f.1, f.2.1, fun r h => by rw [u2r h]; exact f.2.2 r h⟩
  -- letters
  have l73 : q < T → cL (B q) = true → ∀ n w I1 J1, T - w < n → q < w → w ≤ T → (∀ k, q ≤ k → k < w → cL (B k) = true) → rn T B cL (q + 1) = rn T B cL w → mN I J I1 J1 → I1 0 41 = nI q → I1 0 40 = nI 1 → J1 0 43 = lN (if w - q ≤ 8 then hv (fun i => B (q + i)) (w - q) else 0) → m_advance_l73 Q n (nI w) I1 J1 := by
    intro lt hl n
    induction n with
    | zero => intro w I1 J1 g; exact absurd g (Nat.not_lt_zero _)
    | succ n ih =>
      intro w I1 J1 g1 g2 g3 g4 g5 f w1 w2 w3
      have b39 : I1 0 39 = nI T := by rw [f.2.1 39 (by decide) (by decide) (by decide)]; exact e39
      have j138 : rn T B cL (q + 1) = w → m_advance_j138 Q (nI w) I1 J1 := by
        intro ew
        have et : te T B q = w := by rw [(te_L lt hl).1, ew]
        have ek := (te_L lt hl).2
        have vl : tv T B q = if w - q ≤ 8 then hv (fun i => B (q + i)) (w - q) else 0 := by unfold tv; rw [if_pos ek, et]
        unfold m_advance_j138 m_advance_j158
        rw [w1, pk_sub (by omega)]
        refine pk_le (w - q) 8 (fun le => fin _ _ (setJ _ (setF _ f)) ?_ (by rw [u2_self, et]) ?_ ?_) (fun gt => fin _ _ (setJ _ (setF _ f)) ?_ (by rw [u2_self, et]) ?_ ?_) rfl rfl (by omega) (by decide)
        · rw [u2_ne _ _ (Or.inr (by decide))]; exact w1
        · rw [u2_ne _ _ (Or.inr (by decide)), ek]; exact w2
        · rw [u2_self, w3, vl]
        · rw [u2_ne _ _ (Or.inr (by decide))]; exact w1
        · rw [u2_ne _ _ (Or.inr (by decide)), ek]; exact w2
        · rw [u2_self, vl, if_neg (by omega)]; rfl
      unfold m_advance_l73 m_advance_j129
      rw [b39]
      refine pk_le T w (fun le => j138 (by rw [g5, rn_no (by omega)])) (fun wT => ?_) rfl rfl (by omega) (by omega)
      have hb := (hB w wT).1
      have v : vp_in (nI w) 200 := vp_in_nI (by omega) (by decide)
      rw [nI_clamp (by omega), f.1 19 (by decide), (hB w wT).2]
      refine ⟨v, m_isLetter_s hb (fun cw => br_f (by decide) ?_) (fun cw => br_t rfl (j138 (by rw [g5, rn_no (by rw [cw]; simp)])))⟩
      have all' : ∀ k, q ≤ k → k < w + 1 → cL (B k) = true := fun k k1 k2 => by
        by_cases e : k = w
        · rw [e]; exact cw
        · exact g4 k k1 (by omega)
      rw [w1, pk_sub (by omega), nI_1, f.1 19 (by decide), (hB w wT).2, w3]
      refine pk_le 8 (w - q) (fun le => ih (w + 1) _ _ (by omega) (by omega) (by omega) all' (by rw [g5, rn_lt wT cw]) (setJ _ f) w1 w2 ?_) (fun gt => ⟨v, ih (w + 1) _ _ (by omega) (by omega) (by omega) all' (by rw [g5, rn_lt wT cw]) (setJ _ f) w1 w2 ?_⟩) rfl rfl (by decide) (by omega)
      · rw [u2_self, if_neg (by omega)]; rfl
      · rw [u2_self, if_pos (by omega), if_pos (by omega), show w + 1 - q = (w - q) + 1 by omega, hv_s, show q + (w - q) = w by omega, show (27 : Int64) = lN 27 from rfl, show (96 : Int64) = lN 96 from rfl, nI_l (by omega), lN_mul, lN_add, lN_sub (by have := of_decide_eq_true cw; omega)]
        have := of_decide_eq_true cw
        rw [show 27 * hv (fun i => B (q + i)) (w - q) + B w - 96 = 27 * hv (fun i => B (q + i)) (w - q) + (B w - 96) by omega]
  have l181 : q < T → cL (B q) = false → cD (B q) = true → ∀ n w I1 J1, T - w < n → q ≤ w → w ≤ T → (∀ k, q ≤ k → k < w → cD (B k) = true) → rn T B cD (q + 1) = rn T B cD w → mN I J I1 J1 → I1 0 41 = nI q → I1 0 40 = nI 2 → J1 0 43 = lN (dv (fun i => B (q + i)) (min 3 (w - q))) → m_advance_l181 Q n (nI w) I1 J1 := by
    intro lt hl hd n
    induction n with
    | zero => intro w I1 J1 g; exact absurd g (Nat.not_lt_zero _)
    | succ n ih =>
      intro w I1 J1 g1 g2 g3 g4 g5 f w1 w2 w3
      have b39 : I1 0 39 = nI T := by rw [f.2.1 39 (by decide) (by decide) (by decide)]; exact e39
      have done : rn T B cD (q + 1) = w → Q (u2 I1 0 42 (nI w)) J1 := by
        intro ew
        have et : te T B q = w := by rw [(te_D lt hl hd).1, ew]
        have ek := (te_D lt hl hd).2
        refine fin _ _ (setF _ f) ?_ (by rw [u2_self, et]) ?_ ?_
        · rw [u2_ne _ _ (Or.inr (by decide))]; exact w1
        · rw [u2_ne _ _ (Or.inr (by decide)), ek]; exact w2
        · rw [w3]
          unfold tv
          rw [if_neg (by rw [ek]; decide), if_pos ek, et]
      unfold m_advance_l181 m_advance_j239
      rw [b39]
      refine pk_le T w (fun le => done (by rw [g5, rn_no (by omega)])) (fun wT => ?_) rfl rfl (by omega) (by omega)
      have hb := (hB w wT).1
      have v : vp_in (nI w) 200 := vp_in_nI (by omega) (by decide)
      rw [nI_clamp (by omega), f.1 19 (by decide), (hB w wT).2]
      refine ⟨v, m_isDigit_s hb (fun cw => br_f (by decide) ?_) (fun cw => br_t rfl (done (by rw [g5, rn_no (by rw [cw]; simp)])))⟩
      have all' : ∀ k, q ≤ k → k < w + 1 → cD (B k) = true := fun k k1 k2 => by
        by_cases e : k = w
        · rw [e]; exact cw
        · exact g4 k k1 (by omega)
      have g5' : rn T B cD (q + 1) = rn T B cD (w + 1) := by rw [g5, rn_lt wT cw]
      rw [w1, pk_sub (by omega), nI_1, f.1 19 (by decide), (hB w wT).2, w3]
      refine pk_le 3 (w - q) (fun le => ih (w + 1) _ _ (by omega) (by omega) (by omega) all' g5' (setJ _ f) w1 w2 ?_) (fun gt => ⟨v, ih (w + 1) _ _ (by omega) (by omega) (by omega) all' g5' (setJ _ f) w1 w2 ?_⟩) rfl rfl (by decide) (by omega)
      · rw [u2_self, show min 3 (w + 1 - q) = min 3 (w - q) by omega]
      · have := of_decide_eq_true cw
        rw [u2_self, show min 3 (w + 1 - q) = (w - q) + 1 by omega, show min 3 (w - q) = w - q by omega, dv_s, show q + (w - q) = w by omega, show (10 : Int64) = lN 10 from rfl, show (48 : Int64) = lN 48 from rfl, nI_l (by omega), lN_mul, lN_add, lN_sub (by omega)]
        rw [show 10 * dv (fun i => B (q + i)) (w - q) + B w - 48 = 10 * dv (fun i => B (q + i)) (w - q) + (B w - 48) by omega]
  have j30 : m_advance_j30 Q (nI q) I J := by
    have f0 : mN I J (u2 I 0 41 (nI q)) (u2 J 0 43 0) := ⟨fun r h => u2r h, fun k h0 h1 h2 => u2_ne _ _ (Or.inr h1), fun r h => u2r h⟩
    have set40 : ∀ {I1 J1} (v), mN I J I1 J1 → mN I J (u2 I1 0 40 v) J1 := fun v f => ⟨fun r h => by rw [u2r h]; exact f.1 r h, fun k h0 h1 h2 => by rw [u2_ne _ _ (Or.inr h0)]; exact f.2.1 k h0 h1 h2, f.2.2⟩
    unfold m_advance_j30
    rw [e39]
    refine pk_eq q T (fun e => ?_) (fun ne => ?_) rfl rfl (by omega) (by omega)
    · have ge : ¬ q < T := by omega
      refine fin _ _ (setJ _ (setF _ (set40 _ ⟨fun r h => u2r h, fun k h0 h1 h2 => u2_ne _ _ (Or.inr h1), fun _ _ => rfl⟩))) ?_ ?_ ?_ ?_
      · rw [u2_ne _ _ (Or.inr (by decide)), u2_ne _ _ (Or.inr (by decide)), u2_self]
      · rw [u2_self, (te_E ge).1]
      · rw [u2_ne _ _ (Or.inr (by decide)), u2_self, (te_E ge).2]; rfl
      · rw [u2_self]
        unfold tv
        rw [(te_E ge).2]
        rfl
    · have lt : q < T := by omega
      have hb := (hB q lt).1
      have v : vp_in (nI q) 200 := vp_in_nI (by omega) (by decide)
      rw [nI_clamp (by omega), (hB q lt).2]
      have e41 : u2 I 0 41 (nI q) 0 41 = nI q := u2_self _ _ _ _
      have b19 : u2 I 0 41 (nI q) 19 q = nI (B q) := by rw [u2r (by decide)]; exact (hB q lt).2
      refine ⟨v, m_isLetter_s hb (fun hl => br_f (by decide) ⟨T + 2, ?_⟩) (fun hl => br_t rfl ⟨v, ?_⟩)⟩
      · rw [show T + 2 = (T + 1) + 1 from rfl]
        unfold m_advance_l73 m_advance_j129
        have c39 : u2 (u2 I 0 41 (nI q)) 0 40 1 0 39 = nI T := by rw [u2_ne _ _ (Or.inr (by decide)), u2_ne _ _ (Or.inr (by decide))]; exact e39
        have c19 : u2 (u2 I 0 41 (nI q)) 0 40 1 19 q = nI (B q) := by rw [u2r (by decide)]; exact b19
        have c41 : u2 (u2 I 0 41 (nI q)) 0 40 1 0 41 = nI q := by rw [u2_ne _ _ (Or.inr (by decide))]; exact e41
        rw [c39, nI_clamp (by omega), c19]
        refine br_f (nI_ge lt (by omega)) ⟨v, m_isLetter_s hb (fun _ => br_f (by decide) ?_) (fun y => absurd hl (by rw [y]; decide))⟩
        rw [c41, pk_sub (Nat.le_refl _), Nat.sub_self, c19, nI_1, u2_self]
        refine br_f (by decide) ⟨v, l73 lt hl (T + 1) (q + 1) _ _ (by omega) (by omega) (by omega) (fun k k1 k2 => by rw [show k = q by omega]; exact hl) rfl (setJ _ (set40 _ f0)) c41 (by rw [u2_self]; rfl) ?_⟩
        have := of_decide_eq_true hl
        rw [u2_self, show q + 1 - q = 0 + 1 by omega, if_pos (by decide), hv_s]
        show (27 : Int64) * 0 + (nI (B q)).toInt64 - 96 = lN (27 * 0 + (B (q + 0) - 96))
        rw [Nat.add_zero, show (27 : Int64) * 0 = lN 0 from rfl, show (96 : Int64) = lN 96 from rfl, nI_l (by omega), lN_add, lN_sub (by omega)]
        rw [show 0 + B q - 96 = 27 * 0 + (B q - 96) by omega]
      · rw [b19]
        refine m_isDigit_s hb (fun hd => br_f (by decide) ⟨T + 1, ?_⟩) (fun hd => br_t rfl ⟨v, ?_⟩)
        · exact l181 lt hl hd (T + 1) q _ _ (by omega) (by omega) (by omega) (fun k k1 k2 => absurd k2 (by omega)) (by rw [rn_lt lt hd]) (set40 _ f0) (by rw [u2_ne _ _ (Or.inr (by decide))]; exact e41) (by rw [u2_self]; rfl) (by rw [u2_self, Nat.sub_self]; rfl)
        · rw [b19, nI_1]
          refine fin _ _ (setJ _ (setF _ (set40 _ f0))) ?_ ?_ ?_ ?_
          · rw [u2_ne _ _ (Or.inr (by decide)), u2_ne _ _ (Or.inr (by decide))]; exact e41
          · rw [u2_self, (te_M lt hl hd).1]
          · rw [u2_ne _ _ (Or.inr (by decide)), u2_self, (te_M lt hl hd).2]; rfl
          · rw [u2_self, nI_l (by omega)]
            unfold tv
            rw [(te_M lt hl hd).2]
            rfl
  unfold m_advance
  rw [e42]
  have l5 : ∀ n w, T - w < n → w ≤ T → rn T B cB w = q → m_advance_l5 Q n (nI w) I J := by
    intro n
    induction n with
    | zero => intro w g; exact absurd g (Nat.not_lt_zero _)
    | succ n ih =>
      intro w g1 g2 hw
      unfold m_advance_l5
      rw [e39, nI_1]
      refine pk_le T w (fun le => ?_) (fun wT => ⟨vp_in_nI (by omega) (by decide), ?_⟩) rfl rfl (by omega) (by omega)
      · rw [rn_no (by omega)] at hw
        rw [hw]
        exact j30
      · rw [nI_clamp (by omega), (hB w wT).2]
        have hb := (hB w wT).1
        refine pk_eq (B w) 32 (fun e => ih (w + 1) (by omega) (by omega) (by rw [← hw, rn_lt wT (decide_eq_true e)])) (fun e => ?_) rfl rfl (by omega) (by decide)
        rw [rn_no (by rw [show cB (B w) = false from decide_eq_false e]; simp)] at hw
        rw [hw]
        exact j30
  exact ⟨T + 1, l5 (T + 1) p (by omega) hp hq⟩
theorem ms.next {T q : Nat} {B : Nat → Nat} {I : mI} {J : mJ} {Q : mI → mJ → Prop} (h : ms T q B I J) (hT : T ≤ 200) (hq : q ≤ T) (K : ∀ I' J', mN I J I' J' → ms T (nq T B q) B I' J' → Q I' J') : m_advance I J Q := m_advance_s hT (te_le hq).2.1 h.1 h.2.1 h.2.2.2.1 K
