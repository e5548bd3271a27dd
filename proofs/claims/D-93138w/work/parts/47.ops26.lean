set_option maxRecDepth 100000
set_option maxHeartbeats 4000000
/-! PLAIN LAW, operations 26: rest -/
/-- one bird at j of weight f would not better itself -/
def cnB (P : Nat) (r w : Nat → Nat) (j f : Nat) : Nat := if (∀ q, q < P → q = j ∨ ¬ r j * (w q + f) < r q * w j) then 1 else 0
theorem cnB_01 {P : Nat} {r w : Nat → Nat} {j f : Nat} : cnB P r w j f = 0 ∨ cnB P r w j f = 1 := by
  unfold cnB
  split
  · exact .inr rfl
  · exact .inl rfl
theorem mul_b {a b x y : Nat} (h1 : a ≤ x) (h2 : b ≤ y) (h : x * y < 2 ^ 31) : a * b < 2 ^ 31 := Nat.lt_of_le_of_lt (Nat.mul_le_mul h1 h2) h
theorem x_stays_s {P j f : Nat} {r w : Nat → Nat} {s : xS} {rd : xRd} {J : mJ} {I : mI} {Q : Int32 → Prop} (hP : P ≤ 4) (h10 : I 1 0 = nI P) (hr : ∀ k, k < 4 → I 5 k = nI (r k)) (hw : ∀ k, k < P → I 91 k = nI (w k)) (rb : ∀ k, r k ≤ 60) (wb : ∀ k, w k ≤ 100) (hj : j < P) (hf : f ≤ 10) (h : Q (nI (cnB P r w j f))) : x_X6_stays (nI j) (nI f) s rd J I Q := by
  unfold x_X6_stays
  have l0 : ∀ n q, P - q < n → q ≤ P → (¬ ∀ q, q < P → q = j ∨ ¬ r j * (w q + f) < r q * w j) → x_X6_stays_l5 Q n (nI j) (nI f) 0 (nI q) s rd J I := by
    intro n
    induction n with
    | zero => intro q g; exact absurd g (Nat.not_lt_zero _)
    | succ n ih =>
      intro q g1 g2 g3
      unfold x_X6_stays_l5 x_X6_stays_j79 x_X6_stays_j80
      rw [h10, nI_1]
      refine pk_le P q (fun le => ⟨.inl rfl, ?_⟩) (fun lt => br_t rfl (ih (q + 1) (by omega) (by omega) g3)) rfl rfl (by omega) (by omega)
      unfold cnB at h
      rw [if_neg g3] at h
      exact h
  have l1 : ∀ n q, P - q < n → q ≤ P → (∀ q', q' < q → q' = j ∨ ¬ r j * (w q' + f) < r q' * w j) → x_X6_stays_l5 Q n (nI j) (nI f) 1 (nI q) s rd J I := by
    intro n
    induction n with
    | zero => intro q g; exact absurd g (Nat.not_lt_zero _)
    | succ n ih =>
      intro q g1 g2 g3
      unfold x_X6_stays_l5 x_X6_stays_j79 x_X6_stays_j75 x_X6_stays_j80
      rw [h10, nI_1]
      refine pk_le P q (fun le => ⟨.inr rfl, ?_⟩) (fun lt => br_f (by decide) (pk_eq q j (fun e => ih (q + 1) (by omega) (by omega) (fun q' hq' => ?_)) (fun e => ?_) rfl rfl (by omega) (by omega))) rfl rfl (by omega) (by omega)
      · unfold cnB at h
        rw [if_pos (fun q' hq' => g3 q' (by omega))] at h
        exact h
      · by_cases e2 : q' = q
        · exact .inl (e2.trans e)
        · exact g3 q' (by omega)
      · have vq : vp_in (nI q) 4 := vp_in_nI (by omega) (by decide)
        have vj : vp_in (nI j) 4 := vp_in_nI (by omega) (by decide)
        rw [nI_clamp (by omega), nI_clamp (by omega), hr j (by omega), hr q (by omega), hw q lt, hw j hj, nI_add, pk_mul, pk_mul]
        have w1 := wb q
        have b1 : r j * (w q + f) < 2 ^ 31 := mul_b (rb j) (show w q + f ≤ 110 by omega) (by decide)
        have b2 : r q * w j < 2 ^ 31 := mul_b (rb q) (wb j) (by decide)
        refine ⟨vq, vj, vj, vq, pk_lt _ _ (fun lt2 => l0 n (q + 1) (by omega) (by omega) (fun z => (z q lt).elim e (fun y => y lt2))) (fun le2 => ih (q + 1) (by omega) (by omega) (fun q' hq' => ?_)) rfl rfl b1 b2⟩
        by_cases e2 : q' = q
        · rw [e2]; exact .inr (by omega)
        · exact g3 q' (by omega)
  exact ⟨P + 1, l1 (P + 1) 0 (by omega) (by omega) (fun q' hq' => absurd hq' (Nat.not_lt_zero _))⟩
theorem m_content_s {P j f : Nat} {r w : Nat → Nat} {I : mI} {J : mJ} {Q : Int32 → mI → mJ → Prop} (hP : P ≤ 4) (h10 : I 0 8 = nI P) (hr : ∀ k, k < 4 → I 1 (11 * k + 3) = nI (r k)) (hw : ∀ k, k < 4 → I 18 k = nI (w k)) (rb : ∀ k, r k ≤ 60) (wb : ∀ k, w k ≤ 100) (hj : j < P) (hf : f ≤ 10) (h : Q (nI (cnB P r w j f)) I J) : m_isContent (nI j) (nI f) I J Q := by
  unfold m_isContent
  have l0 : ∀ n q, P - q < n → q ≤ P → (¬ ∀ q, q < P → q = j ∨ ¬ r j * (w q + f) < r q * w j) → m_isContent_l5 Q n (nI j) (nI f) 0 (nI q) I J := by
    intro n
    induction n with
    | zero => intro q g; exact absurd g (Nat.not_lt_zero _)
    | succ n ih =>
      intro q g1 g2 g3
      unfold m_isContent_l5 m_isContent_j71 m_isContent_j72
      rw [h10, nI_1]
      refine pk_le P q (fun le => ⟨.inl rfl, ?_⟩) (fun lt => br_t rfl (ih (q + 1) (by omega) (by omega) g3)) rfl rfl (by omega) (by omega)
      unfold cnB at h
      rw [if_neg g3] at h
      exact h
  have l1' : ∀ n q, P - q < n → q ≤ P → (∀ q', q' < q → q' = j ∨ ¬ r j * (w q' + f) < r q' * w j) → m_isContent_l5 Q n (nI j) (nI f) 1 (nI q) I J := by
    intro n
    induction n with
    | zero => intro q g; exact absurd g (Nat.not_lt_zero _)
    | succ n ih =>
      intro q g1 g2 g3
      unfold m_isContent_l5 m_isContent_j71 m_isContent_j67 m_isContent_j72
      rw [h10, nI_1]
      refine pk_le P q (fun le => ⟨.inr rfl, ?_⟩) (fun lt => br_f (by decide) (pk_eq q j (fun e => ih (q + 1) (by omega) (by omega) (fun q' hq' => ?_)) (fun e => ?_) rfl rfl (by omega) (by omega))) rfl rfl (by omega) (by omega)
      · unfold cnB at h
        rw [if_pos (fun q' hq' => g3 q' (by omega))] at h
        exact h
      · by_cases e2 : q' = q
        · exact .inl (e2.trans e)
        · exact g3 q' (by omega)
      · have vq : vp_in (nI q) 4 := vp_in_nI (by omega) (by decide)
        have vj : vp_in (nI j) 4 := vp_in_nI (by omega) (by decide)
        have e3 : ∀ k, (11 : Int32) * nI k + 3 = nI (11 * k + 3) := fun k => by rw [show (11 : Int32) = nI 11 from rfl, show (3 : Int32) = nI 3 from rfl, pk_mul, nI_add]
        have v44 : ∀ k, k < 4 → vp_in (nI (11 * k + 3)) 44 := fun k hk => vp_in_nI (by omega) (by decide)
        rw [e3, e3, nI_clamp (show 11 * q + 3 < 2 ^ 31 by omega), nI_clamp (show 11 * j + 3 < 2 ^ 31 by omega), nI_clamp (show q < 2 ^ 31 by omega), nI_clamp (show j < 2 ^ 31 by omega), hr j (by omega), hr q (by omega), hw q (by omega), hw j (by omega), nI_add, pk_mul, pk_mul]
        have w1 := wb q
        have b1 : r j * (w q + f) < 2 ^ 31 := mul_b (rb j) (show w q + f ≤ 110 by omega) (by decide)
        have b2 : r q * w j < 2 ^ 31 := mul_b (rb q) (wb j) (by decide)
        refine ⟨v44 q (by omega), vj, v44 j (by omega), vq, pk_lt _ _ (fun lt2 => l0 n (q + 1) (by omega) (by omega) (fun z => (z q lt).elim e (fun y => y lt2))) (fun le2 => ih (q + 1) (by omega) (by omega) (fun q' hq' => ?_)) rfl rfl b1 b2⟩
        by_cases e2 : q' = q
        · rw [e2]; exact .inr (by omega)
        · exact g3 q' (by omega)
  exact ⟨P + 1, l1' (P + 1) 0 (by omega) (by omega) (fun q' hq' => absurd hq' (Nat.not_lt_zero _))⟩
/-- all are at rest -/
abbrev okP (P : Nat) (r w d : Nat → Nat) (fo p : Nat) : Prop := (d p = 0 ∨ cnB P r w p fo = 1) ∧ (d (4 + p) = 0 ∨ cnB P r w p 1 = 1)
def rsB (P : Nat) (r w d : Nat → Nat) (fo : Nat) : Nat := if (∀ p, p < P → okP P r w d fo p) then 1 else 0
theorem x_rests_s {P fo : Nat} {r w d : Nat → Nat} {s : xS} {rd : xRd} {J : mJ} {I : mI} {Q : Int32 → mI → Prop} (hP : P ≤ 4) (h10 : I 1 0 = nI P) (h17 : I 1 7 = nI fo) (hf : fo ≤ 5) (hr : ∀ k, k < 4 → I 5 k = nI (r k)) (hd : ∀ k, k < P → I 89 k = nI (d k) ∧ I 89 (4 + k) = nI (d (4 + k))) (db : ∀ k, d k ≤ 6) (hw : ∀ k, w k = fo * d k + d (4 + k)) (rb : ∀ k, r k ≤ 60) (K : ∀ I', (∀ q, q ≠ 91 → I' q = I q) → Q (nI (rsB P r w d fo)) I') : x_X6_rests s rd J I Q := by
  have wb : ∀ k, w k ≤ 100 := fun k => by
    have a := Nat.mul_le_mul hf (db k)
    have b := db (4 + k)
    rw [hw k]
    omega
  unfold x_X6_rests
  have l58 : ∀ (I1 : mI), (∀ q, q ≠ 91 → I1 q = I q) → (∀ k, k < P → I1 91 k = nI (w k)) → ∀ n p, P - p < n → p ≤ P → (∀ p', p' < p → okP P r w d fo p') → x_X6_rests_l58 Q n 1 (nI p) s rd J I1 := by
    intro I1 f1 w1 n
    induction n with
    | zero => intro p g; exact absurd g (Nat.not_lt_zero _)
    | succ n ih =>
      intro p g1 g2 g3
      unfold x_X6_rests_l58 x_X6_rests_j103 x_X6_rests_j127 x_X6_rests_j123 x_X6_rests_j128
      have i10 : I1 1 0 = nI P := by rw [f1 1 (by decide)]; exact h10
      have i17 : I1 1 7 = nI fo := by rw [f1 1 (by decide)]; exact h17
      have hr1 : ∀ k, k < 4 → I1 5 k = nI (r k) := fun k hk => by rw [f1 5 (by decide)]; exact hr k hk
      rw [i10, i17, nI_1]
      refine pk_le P p (fun le => ⟨.inr rfl, ?_⟩) (fun lt => br_f (by decide) ?_) rfl rfl (by omega) (by omega)
      · have z := K I1 f1
        unfold rsB at z
        rw [if_pos (fun p' hp' => g3 p' (by omega))] at z
        exact z
      · obtain ⟨d1, d2⟩ := hd p lt
        have v1 : vp_in (nI p) 8 := vp_in_nI (by omega) (by decide)
        have e4 : (4 : Int32) + nI p = nI (4 + p) := by rw [show (4 : Int32) = nI 4 from rfl, nI_add]
        have v2 : vp_in (nI (4 + p)) 8 := vp_in_nI (by omega) (by decide)
        rw [e4, nI_clamp (show p < 2 ^ 31 by omega), nI_clamp (show 4 + p < 2 ^ 31 by omega), f1 89 (by decide), d1, d2]
        have bad : ¬ okP P r w d fo p → x_X6_rests_l58 Q n 0 (nI (p + 1)) s rd J I1 := by
          intro nb
          have z := K I1 f1
          unfold rsB at z
          rw [if_neg (fun y => nb (y p lt))] at z
          rw [show n = (n - 1) + 1 by omega]
          unfold x_X6_rests_l58
          exact br_c (fun _ => ⟨.inl rfl, z⟩) (fun _ => br_t rfl ⟨.inl rfl, z⟩)
        have good : okP P r w d fo p → x_X6_rests_l58 Q n 1 (nI (p + 1)) s rd J I1 := fun ok => ih (p + 1) (by omega) (by omega) (fun p' hp' => by
          by_cases e : p' = p
          · rw [e]; exact ok
          · exact g3 p' (by omega))
        have snd : (d p = 0 ∨ cnB P r w p fo = 1) → vp_in (nI (4 + p)) 8 ∧ ((nI (d (4 + p)) = 0 → x_X6_rests_l58 Q n 1 (nI (p + 1)) s rd J I1) ∧ (¬ nI (d (4 + p)) = 0 → x_X6_stays (nI p) 1 s rd J I1 (fun r6 => (r6 = 0 → x_X6_rests_l58 Q n 0 (nI (p + 1)) s rd J I1) ∧ (¬ r6 = 0 → x_X6_rests_l58 Q n 1 (nI (p + 1)) s rd J I1)))) := by
          intro first
          have b4 := db (4 + p)
          refine ⟨v2, pk_eq (d (4 + p)) 0 (fun z => good ⟨first, .inl z⟩) (fun z => x_stays_s (f := 1) hP i10 hr1 w1 rb wb lt (by decide) ?_) rfl rfl (by omega) (by decide)⟩
          rcases cnB_01 (P := P) (r := r) (w := w) (j := p) (f := 1) with c | c
          · rw [c]; exact br_t rfl (bad (fun ok => by rcases ok.2 with y | y <;> omega))
          · rw [c]; exact br_f (by decide) (good ⟨first, .inr c⟩)
        have b0 := db p
        refine ⟨v1, pk_eq (d p) 0 (fun z => snd (.inl z)) (fun z => x_stays_s hP i10 hr1 w1 rb wb lt (by omega) ?_) rfl rfl (by omega) (by decide)⟩
        rcases cnB_01 (P := P) (r := r) (w := w) (j := p) (f := fo) with c | c
        · rw [c]; exact br_t rfl (bad (fun ok => by rcases ok.1 with y | y <;> omega))
        · rw [c]; exact br_f (by decide) (snd (.inr c))
  have l2 : ∀ n p I1, P - p < n → p ≤ P → (∀ q, q ≠ 91 → I1 q = I q) → (∀ k, k < p → I1 91 k = nI (w k)) → x_X6_rests_l2 Q n (nI p) s rd J I1 := by
    intro n
    induction n with
    | zero => intro p I1 g; exact absurd g (Nat.not_lt_zero _)
    | succ n ih =>
      intro p I1 g1 g2 f1 w1
      have i10 : I1 1 0 = nI P := by rw [f1 1 (by decide)]; exact h10
      have i17 : I1 1 7 = nI fo := by rw [f1 1 (by decide)]; exact h17
      unfold x_X6_rests_l2
      rw [i10, i17, nI_1]
      refine pk_le P p (fun le => ⟨P + 1, l58 I1 f1 (fun k hk => w1 k (by omega)) (P + 1) 0 (by omega) (by omega) (fun p' hp' => absurd hp' (Nat.not_lt_zero _))⟩) (fun lt => ?_) rfl rfl (by omega) (by omega)
      obtain ⟨d1, d2⟩ := hd p lt
      have e4 : (4 : Int32) + nI p = nI (4 + p) := by rw [show (4 : Int32) = nI 4 from rfl, nI_add]
      rw [e4, nI_clamp (show p < 2 ^ 31 by omega), nI_clamp (show 4 + p < 2 ^ 31 by omega), f1 89 (by decide), d1, d2, pk_mul, nI_add]
      refine ⟨vp_in_nI (by omega) (by decide), vp_in_nI (by omega) (by decide), vp_in_nI (by omega) (by decide), ih (p + 1) _ (by omega) (by omega) (fun q hq => (u2r hq).trans (f1 q hq)) (fun k hk => ?_)⟩
      by_cases e : k = p
      · rw [e, u2_self, hw]
      · rw [u2_ne _ _ (Or.inr e)]; exact w1 k (by omega)
  exact ⟨P + 1, l2 (P + 1) 0 I (by omega) (by omega) (fun _ _ => rfl) (fun k hk => absurd hk (Nat.not_lt_zero _))⟩
theorem m_isRest_s {P fo : Nat} {r w d : Nat → Nat} {I : mI} {J : mJ} {Q : Int32 → mI → mJ → Prop} (hP : P ≤ 4) (h10 : I 0 8 = nI P) (h17 : I 0 5 = nI fo) (hf : fo ≤ 5) (hr : ∀ k, k < 4 → I 1 (11 * k + 3) = nI (r k)) (hd : ∀ k, k < 8 → I 17 k = nI (d k)) (db : ∀ k, d k ≤ 6) (hw : ∀ k, w k = fo * d k + d (4 + k)) (rb : ∀ k, r k ≤ 60) (K : ∀ I', (∀ q, q ≠ 18 → I' q = I q) → Q (nI (rsB P r w d fo)) I' J) : m_isRest I J Q := by
  have wb : ∀ k, w k ≤ 100 := fun k => by
    have a := Nat.mul_le_mul hf (db k)
    have b := db (4 + k)
    rw [hw k]
    omega
  unfold m_isRest
  have l43 : ∀ (I1 : mI), (∀ q, q ≠ 18 → I1 q = I q) → (∀ k, k < 4 → I1 18 k = nI (w k)) → ∀ n p, P - p < n → p ≤ P → ((∀ p', p' < p → okP P r w d fo p') → m_isRest_l43 Q n 1 (nI p) I1 J) ∧ ((¬ ∀ p', p' < P → okP P r w d fo p') → m_isRest_l43 Q n 0 (nI p) I1 J) := by
    intro I1 f1 w1 n
    induction n with
    | zero => intro p g; exact absurd g (Nat.not_lt_zero _)
    | succ n ih =>
      intro p g1 g2
      have i10 : I1 0 8 = nI P := by rw [f1 0 (by decide)]; exact h10
      have i17 : I1 0 5 = nI fo := by rw [f1 0 (by decide)]; exact h17
      have hr1 : ∀ k, k < 4 → I1 1 (11 * k + 3) = nI (r k) := fun k hk => by rw [f1 1 (by decide)]; exact hr k hk
      refine ⟨fun g3 => ?_, fun g3 => ?_⟩
      · unfold m_isRest_l43 m_isRest_j76 m_isRest_j100 m_isRest_j96 m_isRest_j101
        rw [i10, i17, nI_1]
        refine pk_le P p (fun le => ⟨.inr rfl, ?_⟩) (fun lt => br_f (by decide) ?_) rfl rfl (by omega) (by omega)
        · have z := K I1 f1
          unfold rsB at z
          rw [if_pos (fun p' hp' => g3 p' (by omega))] at z
          exact z
        · have v1 : vp_in (nI p) 8 := vp_in_nI (by omega) (by decide)
          have e4 : (4 : Int32) + nI p = nI (4 + p) := by rw [show (4 : Int32) = nI 4 from rfl, nI_add]
          have v2 : vp_in (nI (4 + p)) 8 := vp_in_nI (by omega) (by decide)
          rw [e4, nI_clamp (show p < 2 ^ 31 by omega), nI_clamp (show 4 + p < 2 ^ 31 by omega), f1 17 (by decide), hd p (by omega), hd (4 + p) (by omega)]
          have bad : ¬ okP P r w d fo p → m_isRest_l43 Q n 0 (nI (p + 1)) I1 J := fun nb => (ih (p + 1) (by omega) (by omega)).2 (fun y => nb (y p lt))
          have good : okP P r w d fo p → m_isRest_l43 Q n 1 (nI (p + 1)) I1 J := fun ok => (ih (p + 1) (by omega) (by omega)).1 (fun p' hp' => by
            by_cases e : p' = p
            · rw [e]; exact ok
            · exact g3 p' (by omega))
          have snd : (d p = 0 ∨ cnB P r w p fo = 1) → vp_in (nI (4 + p)) 8 ∧ ((nI (d (4 + p)) = 0 → m_isRest_l43 Q n 1 (nI (p + 1)) I1 J) ∧ (¬ nI (d (4 + p)) = 0 → m_isContent (nI p) 1 I1 J (fun r6 I7 J8 => (r6 = 0 → m_isRest_l43 Q n 0 (nI (p + 1)) I7 J8) ∧ (¬ r6 = 0 → m_isRest_l43 Q n 1 (nI (p + 1)) I7 J8)))) := by
            intro first
            have b4 := db (4 + p)
            refine ⟨v2, pk_eq (d (4 + p)) 0 (fun z => good ⟨first, .inl z⟩) (fun z => m_content_s (f := 1) hP i10 hr1 w1 rb wb lt (by decide) ?_) rfl rfl (by omega) (by decide)⟩
            rcases cnB_01 (P := P) (r := r) (w := w) (j := p) (f := 1) with c | c
            · rw [c]; exact br_t rfl (bad (fun ok => by rcases ok.2 with y | y <;> omega))
            · rw [c]; exact br_f (by decide) (good ⟨first, .inr c⟩)
          have b0 := db p
          refine ⟨v1, pk_eq (d p) 0 (fun z => snd (.inl z)) (fun z => m_content_s hP i10 hr1 w1 rb wb lt (by omega) ?_) rfl rfl (by omega) (by decide)⟩
          rcases cnB_01 (P := P) (r := r) (w := w) (j := p) (f := fo) with c | c
          · rw [c]; exact br_t rfl (bad (fun ok => by rcases ok.1 with y | y <;> omega))
          · rw [c]
            refine br_f (by decide) ?_
            show vp_in (nI (4 + p)) 8 ∧ ((I1 17 (4 + p) = 0 → _) ∧ (¬ I1 17 (4 + p) = 0 → _))
            rw [f1 17 (by decide), hd (4 + p) (by omega)]
            exact snd (.inr c)
      · unfold m_isRest_l43 m_isRest_j100 m_isRest_j101
        rw [i10, nI_1]
        refine pk_le P p (fun le => ⟨.inl rfl, ?_⟩) (fun lt => br_t rfl ((ih (p + 1) (by omega) (by omega)).2 g3)) rfl rfl (by omega) (by omega)
        have z := K I1 f1
        unfold rsB at z
        rw [if_neg g3] at z
        exact z
  have l2' : ∀ n p I1, 4 - p < n → p ≤ 4 → (∀ q, q ≠ 18 → I1 q = I q) → (∀ k, k < p → I1 18 k = nI (w k)) → m_isRest_l2 Q n (nI p) I1 J := by
    intro n
    induction n with
    | zero => intro p I1 g; exact absurd g (Nat.not_lt_zero _)
    | succ n ih =>
      intro p I1 g1 g2 f1 w1
      have i17 : I1 0 5 = nI fo := by rw [f1 0 (by decide)]; exact h17
      unfold m_isRest_l2
      rw [i17, nI_1]
      refine pk_le 4 p (fun le => ⟨P + 1, (l43 I1 f1 (fun k hk => w1 k (by omega)) (P + 1) 0 (by omega) (by omega)).1 (fun p' hp' => absurd hp' (Nat.not_lt_zero _))⟩) (fun lt => ?_) rfl rfl (by omega) (by omega)
      have e4 : (4 : Int32) + nI p = nI (4 + p) := by rw [show (4 : Int32) = nI 4 from rfl, nI_add]
      rw [e4, nI_clamp (show p < 2 ^ 31 by omega), nI_clamp (show 4 + p < 2 ^ 31 by omega), f1 17 (by decide), hd p (by omega), hd (4 + p) (by omega), pk_mul, nI_add]
      refine ⟨vp_in_nI (by omega) (by decide), vp_in_nI (by omega) (by decide), vp_in_nI (by omega) (by decide), ih (p + 1) _ (by omega) (by omega) (fun q hq => (u2r hq).trans (f1 q hq)) (fun k hk => ?_)⟩
      by_cases e : k = p
      · rw [e, u2_self, hw]
      · rw [u2_ne _ _ (Or.inr e)]; exact w1 k (by omega)
  exact ⟨5, l2' 5 0 I (by omega) (by omega) (fun _ _ => rfl) (fun k hk => absurd hk (Nat.not_lt_zero _))⟩
