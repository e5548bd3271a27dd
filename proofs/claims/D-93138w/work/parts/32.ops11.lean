set_option maxRecDepth 100000
set_option maxHeartbeats 4000000
/-! PLAIN LAW, operations 11: load; the divisor; what k fruits bring -/
def bsum (σ : wS) (k : Nat) : Nat → Nat
  | 0 => 0
  | j + 1 => bsum σ k j + σ 5 (7 * k + (σ 2 k - j))
theorem bsum_le {σ : wS} (hw : wf σ) (k : Nat) : ∀ j, bsum σ k j ≤ 30 * j := by
  intro j
  induction j with
  | zero => exact Nat.le_refl _
  | succ j ih =>
    show bsum σ k j + σ 5 (7 * k + (σ 2 k - j)) ≤ _
    have := hw.2.2.2.2.1 (7 * k + (σ 2 k - j))
    omega
theorem x_broughtIn_s {σ : wS} {s : xS} {rd : xRd} {J : mJ} {I : mI} {k j : Nat} {Q : Int32 → Prop} (hw : wf σ) (hP : xP σ I) (hk : k < 4) (hj : j ≤ σ 2 k) (h : Q (nI (bsum σ k j))) : x_X0_broughtIn (nI k) (nI j) s rd J I Q := by
  have h6 := hw.2.2.1 k
  unfold x_X0_broughtIn
  have lp : ∀ n i, j - i < n → i ≤ j → x_X0_broughtIn_l5 Q n (nI k) (nI j) (nI (bsum σ k i)) (nI i) s rd J I := by
    intro n
    induction n with
    | zero => intro i g; omega
    | succ n ih =>
      intro i g1 g2
      unfold x_X0_broughtIn_l5
      refine pk_le j i (fun le => ?_) (fun lt => ?_) rfl rfl (by omega) (by omega)
      · have e : i = j := by omega
        subst e
        exact h
      · rw [nI_clamp (by omega), hP.2.2.1 k hk, pk_sub (show i ≤ σ 2 k by omega)]
        refine ⟨vp_in_nI hk (by decide), x_brings_s hP hk (by omega) ?_⟩
        rw [nI_add, nI_1]
        exact ih (i + 1) (by omega) (by omega)
  exact ⟨j + 1, lp (j + 1) 0 (by omega) (by omega)⟩
theorem m_brings_s {σ : wS} {I : mI} {J : mJ} {k j : Nat} {Q : Int32 → mI → mJ → Prop} (hw : wf σ) (hM : mP σ I) (hk : k < 4) (hj : j ≤ σ 2 k) (h : Q (nI (bsum σ k j)) I J) : m_brings (nI k) (nI j) I J Q := by
  have h6 := hw.2.2.1 k
  unfold m_brings
  have lp : ∀ n i, j - i < n → i ≤ j → m_brings_l5 Q n (nI k) (nI j) (nI (bsum σ k i)) (nI i) I J := by
    intro n
    induction n with
    | zero => intro i g; omega
    | succ n ih =>
      intro i g1 g2
      unfold m_brings_l5
      refine pk_le j i (fun le => ?_) (fun lt => ?_) rfl rfl (by omega) (by omega)
      · have e : i = j := by omega
        subst e
        exact h
      · refine m_topOf_s hM hk ?_
        rw [pk_sub (show i ≤ σ 2 k by omega)]
        refine m_yieldIn_s hM hk (by omega) ?_
        rw [nI_add, nI_1]
        exact ih (i + 1) (by omega) (by omega)
  exact ⟨j + 1, lp (j + 1) 0 (by omega) (by omega)⟩
theorem gcd_step (a b : Nat) : Nat.gcd b (a % b) = Nat.gcd a b := by
  rw [Nat.gcd_comm a b, Nat.gcd_rec b a, Nat.gcd_comm]
theorem lN_0 : lN 0 = 0 := rfl
theorem x_divisor_s {a b : Nat} {s : xS} {rd : xRd} {J : mJ} {I : mI} {Q : Int64 → Prop} (ha : a < 2 ^ 31) (hb : b < 2 ^ 31) (h : Q (lN (Nat.gcd a b))) : x_X0_divisor (lN a) (lN b) s rd J I Q := by
  unfold x_X0_divisor
  have lp : ∀ n a b, b < n → a < 2 ^ 31 → b < 2 ^ 31 → Q (lN (Nat.gcd a b)) → x_X0_divisor_l6 Q n (lN a) (lN b) s rd J I := by
    intro n
    induction n with
    | zero => intro a b g; exact absurd g (Nat.not_lt_zero _)
    | succ n ih =>
      intro a b g1 g2 g3 hq
      unfold x_X0_divisor_l6
      have e : (lg_cmp (lN b) 0 = 0) ↔ b = 0 := by rw [lg_cmp_eq, ← lN_0]; exact pk_lEQ (by omega) (by decide)
      refine ⟨fun z => ?_, fun z => ⟨?_, ?_⟩⟩
      · rw [e.mp z, Nat.gcd_zero_right] at hq
        exact hq
      · rw [← lN_0]
        exact fun y => z (e.mpr ((pk_lEQ (by omega) (by decide)).mp y))
      · have b0 : b ≠ 0 := fun y => z (e.mpr y)
        rw [pk_lRem (by omega) (by omega) (by omega)]
        have := Nat.mod_lt a (show 0 < b by omega)
        exact ih b (a % b) (by omega) g3 (by omega) (by rw [gcd_step]; exact hq)
  exact ⟨b + 1, lp _ a b (by omega) ha hb h⟩
theorem m_divisor_s {a b : Nat} {I : mI} {J : mJ} {Q : Int32 → mI → mJ → Prop} (ha : a < 2 ^ 31) (hb : b < 2 ^ 31) (h : Q (nI (Nat.gcd a b)) I J) : m_divisor (nI a) (nI b) I J Q := by
  unfold m_divisor
  have lp : ∀ n a b, b < n → a < 2 ^ 31 → b < 2 ^ 31 → Q (nI (Nat.gcd a b)) I J → m_divisor_l4 Q n (nI a) (nI b) I J := by
    intro n
    induction n with
    | zero => intro a b g; exact absurd g (Nat.not_lt_zero _)
    | succ n ih =>
      intro a b g1 g2 g3 hq
      unfold m_divisor_l4
      refine pk_eq b 0 (fun z => ?_) (fun z => ⟨nI_ne0 (by omega) g3, ?_⟩) rfl rfl g3 (by decide)
      · rw [z, Nat.gcd_zero_right] at hq
        exact hq
      · rw [pk_rem g2 (by omega) g3]
        have := Nat.mod_lt a (show 0 < b by omega)
        exact ih b (a % b) (by omega) g3 (by omega) (by rw [gcd_step]; exact hq)
  exact ⟨b + 1, lp _ a b (by omega) ha hb h⟩
theorem lN_32 {n : Nat} (h : n < 2 ^ 31) : (lN n).toInt32 = nI n := by rw [← nI_l h, Int32.toInt32_toInt64]
theorem gcd_ok {a b : Nat} (hb : 0 < b) (hb2 : b < 2 ^ 31) : ¬ nI (Nat.gcd a b) = 0 ∧ Nat.gcd a b < 2 ^ 31 ∧ 0 < Nat.gcd a b := by
  have h1 : 0 < Nat.gcd a b := Nat.gcd_pos_of_pos_right _ hb
  have h2 : Nat.gcd a b ≤ b := Nat.le_of_dvd hb (Nat.gcd_dvd_right a b)
  exact ⟨nI_ne0 h1 (by omega), by omega, h1⟩
theorem pw (b w : Nat) : nI b + 2 * nI w = nI (b + 2 * w) := by rw [show (2 : Int32) = nI 2 from rfl, pk_mul, nI_add]
theorem x_load_lp {σ : wS} {s : xS} {rd : xRd} {J : mJ} {I Im : mI} {Jm : mJ} {k w : Nat} {c : Int32} {A : Int32 → Int32 → mI → mJ → Prop} {Q : Int32 → Prop} (hw : wf σ) (hP : xP σ I) (hM : mP σ Im) (hk : k < 4) (hw2 : 1 ≤ w ∧ w ≤ 30) (hA : ∀ r, A r r Im Jm) :
    ∀ fuel b j, 8 - j < fuel → 1 ≤ b → b < j → j ≤ 7 → b ≤ σ 2 k → (∀ r, (∃ n, m_load_l35 (A r) n (nI k) (nI w) c (nI b) (nI j) Im Jm) → Q r) → x_X0_load_l35 Q fuel (nI k) (nI w) c (nI b) (nI j) s rd J I := by
  have h6 := hw.2.2.1 k
  intro fuel
  induction fuel with
  | zero => intro b j g; omega
  | succ fuel ih =>
    intro b j g1 g2 g3 g4 g5 hQ
    unfold x_X0_load_l35 x_X0_load_j87
    rw [nI_clamp (by omega), hP.2.2.1 k hk, pw, pw, nI_1]
    have bb := bsum_le hw k b
    have bj := bsum_le hw k j
    refine ⟨vp_in_nI hk (by decide), pk_lt (σ 2 k) j (fun lt => ?_) (fun le => ?_) rfl rfl (by omega) (by omega)⟩
    · refine x_broughtIn_s hw hP hk g5 ?_
      rw [nI_l (by omega), nI_l (by omega)]
      obtain ⟨z1, z2, z3⟩ := gcd_ok (a := bsum σ k b) (b := b + 2 * w) (by omega) (by omega)
      refine x_divisor_s (by omega) (by omega) ?_
      rw [lN_32 z2]
      have mo : ∀ r, ((c = 0 → A r (nI b) Im Jm) ∧ (¬ c = 0 → (c = 1 → A r (nI (bsum σ k b) / nI (Nat.gcd (bsum σ k b) (b + 2 * w))) Im Jm) ∧ (¬ c = 1 → A r (nI (b + 2 * w) / nI (Nat.gcd (bsum σ k b) (b + 2 * w))) Im Jm))) → Q r := by
        intro r hr
        refine hQ r ⟨1, ?_⟩
        unfold m_load_l35 m_load_j129
        refine m_topOf_s hM hk (br_t (nI_lt lt (by omega)) (m_brings_s hw hM hk g5 ?_))
        rw [pw]
        exact ⟨hr.1, fun c0 => ⟨fun c1 => m_divisor_s (by omega) (by omega) ⟨z1, (hr.2 c0).1 c1⟩, fun c1 => m_divisor_s (by omega) (by omega) ⟨z1, (hr.2 c0).2 c1⟩⟩⟩
      refine ⟨fun c0 => mo _ (br_t c0 (hA _)), fun c0 => ⟨fun c1 => ⟨z1, mo _ (br_f c0 (br_t c1 (hA _)))⟩, fun c1 => ⟨z1, mo _ (br_f c0 (br_f c1 (hA _)))⟩⟩⟩
    · refine x_broughtIn_s hw hP hk le (x_broughtIn_s hw hP hk g5 ?_)
      have adv : ∀ {b' : Nat} r, ((nI (bsum σ k j) * nI (b + 2 * w) ≤ nI (bsum σ k b) * nI (j + 2 * w) → b' = b) ∧ (¬ nI (bsum σ k j) * nI (b + 2 * w) ≤ nI (bsum σ k b) * nI (j + 2 * w) → b' = j)) → (∃ n, m_load_l35 (A r) n (nI k) (nI w) c (nI b') (nI (j + 1)) Im Jm) → Q r := by
        rintro b' r hb ⟨n, hn⟩
        refine hQ r ⟨n + 1, ?_⟩
        unfold m_load_l35 m_load_j83
        refine m_topOf_s hM hk (br_f (nI_nlt le (by omega)) (m_brings_s hw hM hk le (m_brings_s hw hM hk g5 ?_)))
        rw [pw, pw, nI_1]
        refine ⟨fun y => ?_, fun y => ?_⟩
        · rw [hb.1 y] at hn; exact hn
        · rw [hb.2 y] at hn; exact hn
      exact ⟨fun y => ih b (j + 1) (by omega) g2 (by omega) (by omega) g5 (fun r hr => adv r ⟨fun _ => rfl, fun z => absurd y z⟩ hr), fun y => ih j (j + 1) (by omega) (by omega) (by omega) (by omega) le (fun r hr => adv r ⟨fun z => absurd z y, fun _ => rfl⟩ hr)⟩
theorem p_load {t : Nat} {a b c : Int32} {s : xS} {rd : xRd} {J : mJ} {I Im : mI} {Jm : mJ} (h : Rel t s rd J I Im Jm) : x_X0_load a b c s rd J I (fun r => m_load a b c Im Jm (RelQ (t + 1) s rd J I r)) := by
  have no : ∀ z, RelQ (t + 1) s rd J I z z Im Jm := fun z => ⟨rfl, h.same⟩
  obtain ⟨q0, _⟩ := h.eqs
  obtain ⟨h0, σ, fz, hS⟩ := h.opn
  have hw := hS.1.1
  unfold x_X0_load
  refine x_isPatch_c (fun q => br_f (by decide) ?_) (fun q => br_t rfl (by unfold m_load; exact m_isPatch_c (fun z => absurd (by rw [q0]; exact z) q) (fun _ => br_t rfl (no _))))
  have q' : 0 ≤ a ∧ a ≤ nI (σ 0 0) - 1 := by rw [← hS.2.1.1 0 (by decide)]; exact q
  obtain ⟨p, hp, rfl⟩ := pt_of hw.1 q'
  have hp4 : p < 4 := by have := hw.1; omega
  have go : ∀ {A : Int32 → mI → mJ → Prop}, A 1 Im Jm → m_isPatch (nI p) Im Jm A := fun hA => m_isPatch_c (fun _ => hA) (fun y => absurd (by rw [← q0]; exact q) y)
  refine x_in_c (fun y => br_f (by decide) ?_) (fun y => br_t rfl (by unfold m_load; exact go (br_f (by decide) (m_in_c (fun z => absurd z y) (fun _ => br_t rfl (no _))))))
  obtain ⟨w, hw1, hw2, rfl⟩ := in_of (lo := 1) (hi := 30) (by decide) (by decide) y
  refine x_in_c (fun z => br_f (by decide) ?_) (fun z => br_t rfl (by unfold m_load; exact go (br_f (by decide) (m_in_c (fun _ => br_f (by decide) (m_in_c (fun u => absurd u z) (fun _ => br_t rfl (no _)))) (fun u => absurd y u)))))
  have t1 := (hS.1.2.2.2.2.2.1 p hp).2
  refine ⟨8, x_load_lp (A := fun r => RelQ (t + 1) s rd J I r) hw hS.2.1.xP hS.2.2.1.mP hp4 ⟨hw1, hw2⟩ no 8 1 2 (by omega) (by omega) (by omega) (by omega) t1 (fun r hr => ?_)⟩
  unfold m_load
  exact go (br_f (by decide) (m_in_c (fun _ => br_f (by decide) (m_in_c (fun _ => br_f (by decide) hr) (fun u => absurd z u))) (fun u => absurd y u)))
