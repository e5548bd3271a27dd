set_option maxRecDepth 100000
set_option maxHeartbeats 4000000
/-! PLAIN LAW, operations 14: alike -/
def pq (q : Nat) : Nat → Bool := fun r => decide (r = q)
theorem mxF_one {f : Nat → Nat} {q : Nat} : ∀ n, q < n → (∀ r, r < n → r ≠ q → f r = 0) → mxF f n = f q := by
  intro n
  induction n with
  | zero => intro h; omega
  | succ n ih =>
    intro h g
    show max (mxF f n) (f n) = _
    by_cases e : n = q
    · subst e
      have z : mxF f n ≤ 0 := mxF_le n (fun k hk => by rw [g k (by omega) (by omega)]; exact Nat.le_refl _)
      omega
    · rw [ih (by omega) (fun r hr => g r (by omega)), g n (by omega) e]
      omega
theorem dp_one {σ : wS} {R q m : Nat} (hq : q < R) (i : Nat) : dp σ R (pq q) (m + 1) i = sd σ R (pq q) m i q := by
  by_cases e : i = 0
  · subst e
    simp only [dp, if_pos]
    exact (sumF_const 10 (fun k _ => by rw [Nat.zero_sub])).symm
  · rw [dp_dq e]
    have z := mxF_one (f := fun r => if pq q r = true then sd σ R (pq q) m i r else 0) R hq (fun r _ hne => if_neg (by unfold pq; simp [hne]))
    show mxF _ R = _
    rw [z]
    exact if_pos (by unfold pq; simp)
theorem m_alike_l81_s {σ : wS} {R q i j : Nat} {a2 a3 a4 : Int32} {I : mI} {J : mJ} {Q : Int64 → mI → mJ → Prop} {k70 : Int32 → Int32 → Int32 → Int32 → Int32 → mI → mJ → Prop} (h7 : ∀ k, σ 7 k ≤ 20) (ri : ∀ k, k < 40 → I 3 k = nI (σ 7 k)) (hq : q < 4) (hi : i ≤ 240) (hJ : ∀ x, x ≤ i → J 16 x = lN (dp σ R (pq q) j x)) (h : k70 (nI q) a2 a3 a4 (aI i) I (u2 J 16 i (lN (sd σ R (pq q) j i q)))) :
    ∀ n k, 10 - k < n → k ≤ 10 → m_alike_l81 Q k70 n (nI q) a2 a3 a4 (nI i) (lN (sumF (fun k => dp σ R (pq q) j (i - σ 7 (10 * q + k))) k)) (nI k) I J := by
  intro n
  induction n with
  | zero => intro k g; omega
  | succ n ih =>
    intro k g1 g2
    unfold m_alike_l81 m_alike_j122
    refine pk_le 10 k (fun le => ?_) (fun lt => ?_) rfl rfl (by omega) (by omega)
    · have e : k = 10 := by omega
      subst e
      rw [nI_clamp (by omega), aI_pred]
      exact ⟨vp_in_nI (by omega) (by decide), h⟩
    · have e1 : (10 : Int32) * nI q + nI k = nI (10 * q + k) := by rw [show (10 : Int32) = nI 10 from rfl, pk_mul, nI_add]
      have h20 := h7 (10 * q + k)
      rw [e1, nI_clamp (by omega), ri _ (by omega), nI_1]
      have nx : ∀ x, x = i - σ 7 (10 * q + k) → vp_in (nI x) 241 ∧ ∀ v15 : Int64, v15 = lN (sumF (fun k => dp σ R (pq q) j (i - σ 7 (10 * q + k))) k) + J 16 (nI x).toNatClampNeg → m_alike_l81 Q k70 n (nI q) a2 a3 a4 (nI i) v15 (nI (k + 1)) I J := by
        intro x ex
        rw [nI_clamp (by omega), hJ x (by omega), lN_add, ex]
        exact ⟨vp_in_nI (by omega) (by decide), nm_e (ih (k + 1) (by omega) (by omega))⟩
      refine ⟨vp_in_nI (by omega) (by decide), nm_e ⟨fun c => ?_, fun c => ?_⟩⟩
      · exact nx 0 (by have := (subI_le (by omega) (by omega)).mp c; omega)
      · have c' : σ 7 (10 * q + k) < i := Nat.lt_of_not_le (fun z => c ((subI_le (by omega) (by omega)).mpr z))
        rw [pk_sub (by omega)]
        exact nx _ rfl
theorem m_alike_l70_s {σ : wS} {R q N j : Nat} {a3 : Int32} {I : mI} {J0 : mJ} {Q : Int64 → mI → mJ → Prop} {k61 : Int32 → Int32 → Int32 → Int32 → mI → mJ → Prop} (h7 : ∀ k, σ 7 k ≤ 20) (ri : ∀ k, k < 40 → I 3 k = nI (σ 7 k)) (hq : q < 4) (hqR : q < R) (hN : N ≤ 240) (h : ∀ J', (∀ r, r ≠ 16 → J' r = J0 r) → (∀ x, x ≤ N → J' 16 x = lN (dp σ R (pq q) (j + 1) x)) → k61 (nI q) (nI N) a3 (nI (j + 1)) I J') :
    ∀ n e J, e < n → e ≤ N + 1 → (∀ r, r ≠ 16 → J r = J0 r) → (∀ x, x ≤ N → J 16 x = lN (dp σ R (pq q) (if e ≤ x then j + 1 else j) x)) → m_alike_l70 Q k61 n (nI q) (nI N) a3 (nI j) (aI e) I J := by
  intro n
  induction n with
  | zero => intro e J g; omega
  | succ n ih =>
    intro e J g1 g2 g3 g4
    unfold m_alike_l70
    cases e with
    | zero =>
      rw [aI_0, nI_1]
      refine br_t (by decide) (h J g3 (fun x hx => ?_))
      rw [g4 x hx, if_pos (Nat.zero_le _)]
    | succ i =>
      rw [aI_s]
      refine br_f (nI_pos (by omega)) ⟨11, m_alike_l81_s (R := R) (j := j) h7 ri hq (by omega) (fun x hx => by rw [g4 x (by omega), if_neg (by omega)]) ?_ 11 0 (by omega) (by omega)⟩
      refine ih i _ (by omega) (by omega) (fun r hr => (u2r hr).trans (g3 r hr)) (fun x hx => ?_)
      by_cases ex : x = i
      · rw [ex, u2_self, if_pos (Nat.le_refl _), dp_one hqR]
      · rw [u2_ne _ _ (Or.inr ex), g4 x hx]
        by_cases c : i + 1 ≤ x
        · rw [if_pos c, if_pos (by omega)]
        · rw [if_neg c, if_neg (by omega)]
theorem m_alike_l61_s {σ : wS} {R q N M : Nat} {I : mI} {J0 : mJ} {Q : Int64 → mI → mJ → Prop} (h7 : ∀ k, σ 7 k ≤ 20) (ri : ∀ k, k < 40 → I 3 k = nI (σ 7 k)) (hq : q < 4) (hqR : q < R) (hN : N ≤ 240) (hM : M ≤ 12) (h : ∀ J', (∀ r, r ≠ 16 → J' r = J0 r) → Q (lN (dp σ R (pq q) M N)) I J') :
    ∀ n j J, M - j < n → j ≤ M → (∀ r, r ≠ 16 → J r = J0 r) → (∀ x, x ≤ N → J 16 x = lN (dp σ R (pq q) j x)) → m_alike_l61 Q n (nI q) (nI N) (nI M) (nI j) I J := by
  intro n
  induction n with
  | zero => intro j J g; omega
  | succ n ih =>
    intro j J g1 g2 g3 g4
    unfold m_alike_l61
    refine pk_le M j (fun le => ?_) (fun lt => ⟨N + 2, ?_⟩) rfl rfl (by omega) (by omega)
    · have e : j = M := by omega
      subst e
      rw [nI_clamp (by omega), g4 N (Nat.le_refl _)]
      exact ⟨vp_in_nI (by omega) (by decide), h J g3⟩
    · exact m_alike_l70_s (R := R) (j := j) (J0 := J) h7 ri hq hqR hN (fun J' y1 y2 => ih (j + 1) J' (by omega) (by omega) (fun r hr => (y1 r hr).trans (g3 r hr)) y2) (N + 2) (N + 1) J (by omega) (by omega) (fun _ _ => rfl) (fun x hx => by rw [g4 x hx, if_neg (by omega)])
theorem m_alike_l29_s {σ : wS} {R q N M : Nat} {I : mI} {J0 : mJ} {Q : Int64 → mI → mJ → Prop} (hN : N ≤ 240) (hM : M ≤ 12) (h : ∀ J', (∀ r, r ≠ 16 → J' r = J0 r) → (∀ x, x ≤ N → J' 16 x = lN (dp σ R (pq q) 0 x)) → ∃ n0, m_alike_l61 Q n0 (nI q) (nI N) (nI M) 0 I J') :
    ∀ n i J, N + 1 - i < n → i ≤ N + 1 → (∀ r, r ≠ 16 → J r = J0 r) → (∀ x, x < i → J 16 x = lN (dp σ R (pq q) 0 x)) → m_alike_l29 Q n (nI q) (nI N) (nI M) (nI i) I J := by
  intro n
  induction n with
  | zero => intro i J g; omega
  | succ n ih =>
    intro i J g1 g2 g3 g4
    unfold m_alike_l29 m_alike_j51
    rw [nI_clamp (by omega), nI_1]
    refine pk_lt N i (fun lt => h J g3 (fun x hx => g4 x (by omega))) (fun le => ?_) rfl rfl (by omega) (by omega)
    have v : vp_in (nI i) 241 := vp_in_nI (by omega) (by decide)
    have nx : ∀ w, w = lN (dp σ R (pq q) 0 i) → vp_in (nI i) 241 ∧ m_alike_l29 Q n (nI q) (nI N) (nI M) (nI (i + 1)) I (u2 J 16 i w) := by
      rintro w rfl
      refine ⟨v, ih (i + 1) _ (by omega) (by omega) (fun r hr => (u2r hr).trans (g3 r hr)) (fun x hx => ?_)⟩
      by_cases e : x = i
      · rw [e, u2_self]
      · rw [u2_ne _ _ (Or.inr e)]; exact g4 x (by omega)
    refine pk_eq i 0 (fun z => nx _ ?_) (fun z => nx _ ?_) rfl rfl (by omega) (by decide)
    · rw [z]; rfl
    · simp only [dp]; rw [if_neg z]; rfl
theorem p_alike {t : Nat} {a b c : Int32} {s : xS} {rd : xRd} {J : mJ} {I Im : mI} {Jm : mJ} (h : Rel t s rd J I Im Jm) : x_X0_alike a b c s rd J I (fun r J' => m_alike a b c Im Jm (fun r' I' Jm' => r = r' ∧ Rel (t + 1) s rd J' I I' Jm')) := by
  obtain ⟨_, q1, _⟩ := h.eqs
  obtain ⟨h0, σ, fz, hS⟩ := h.opn
  have h7 := hS.1.2.2.2.2.2.2.2.1
  have hR4 := hS.1.2.2.1.1
  unfold x_X0_alike
  refine x_in_c (fun y => br_f (by decide) ?_) (fun y => br_t rfl (by unfold m_alike; rw [← q1]; exact m_in_c (fun z => absurd z y) (fun _ => br_t rfl ⟨rfl, h.same⟩)))
  have y' : 0 ≤ a ∧ a ≤ nI (σ 0 1) - 1 := by rw [← hS.2.1.1 1 (by decide)]; exact y
  obtain ⟨q, hq, rfl⟩ := pt_of hR4 y'
  refine x_isDare_c (fun n m hn hm ea eb => br_f (by decide) ?_) (fun z => br_t rfl (by unfold m_alike; rw [← q1]; exact m_in_c (fun _ => br_f (by decide) (m_isDare_c (fun u => absurd u z) (fun _ => br_t rfl ⟨rfl, h.same⟩))) (fun u => absurd y u)))
  subst ea
  subst eb
  refine x_dare_s (R := σ 0 1) (p := pq q) (fz := fz) (.inr ⟨q, by omega, rfl, fun r _ => by unfold pq; simp⟩) h7 (hS.2.1.1 1 (by decide)) rfl hR4 hS.2.2.2.2.2.1 (by omega) (fun J' g1 g2 => ?_)
  rw [nI_clamp (by omega), nI_clamp (by omega)]
  refine ⟨vp_in_nI (by omega) (by decide), 75 + m, xR74 (by omega), xo75 (by omega), by rw [xl75 (by omega)]; exact vp_in_nI (by omega) (by decide), ?_⟩
  unfold m_alike
  rw [← q1]
  refine m_in_c (fun _ => br_f (by decide) (m_isDare_c (fun _ => br_f (by decide) ⟨n + 2, ?_⟩) (fun u => absurd (dare_in hn hm) u))) (fun u => absurd y u)
  refine m_alike_l29_s (σ := σ) (R := σ 0 1) (J0 := Jm) hn hm (fun J2 y1 y2 => ⟨m + 1, ?_⟩) (n + 2) 0 Jm (by omega) (by omega) (fun _ _ => rfl) (fun x hx => absurd hx (by omega))
  refine m_alike_l61_s (R := σ 0 1) (J0 := Jm) h7 (fun k hk => hS.2.2.1.2.2.2.1 k hk) (by omega) hq hn hm (fun J3 z1 => ⟨by rw [g2 m (Nat.le_refl _) n hn], ?_⟩) (m + 1) 0 J2 (by omega) (by omega) y1 y2
  exact h.fr (fun _ _ => rfl) (fun r hr => g1 r (by omega)) (fun _ _ => rfl) (fun _ _ => rfl) (z1 15 (by decide)) (z1 28 (by decide))
