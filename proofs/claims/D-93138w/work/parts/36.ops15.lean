set_option maxRecDepth 100000
set_option maxHeartbeats 4000000
/-! PLAIN LAW, operations 15: finders, trace, many, shelf -/
theorem x_finders_lp {N : Nat} {a3 a4 : Int32} {s : xS} {rd : xRd} {J : mJ} {I Im : mI} {Jm : mJ} {A : Int32 → Int32 → mI → mJ → Prop} {Q : Int32 → Prop} (hN : N ≤ 20) (hA : ∀ r, A r r Im Jm) :
    ∀ fuel i acc, N + 1 - i < fuel → i ≤ N + 1 → (∀ r, (∃ n, m_finders_l42 (A r) n (nI N) a3 a4 acc (nI i) Im Jm) → Q r) → x_X0_finders_l42 Q fuel (nI N) a3 a4 acc (nI i) s rd J I := by
  intro fuel
  induction fuel with
  | zero => intro i acc g; omega
  | succ fuel ih =>
    intro i acc g1 g2 hQ
    unfold x_X0_finders_l42 x_X0_finders_j92
    refine pk_lt N i (fun lt => ?_) (fun le => ?_) rfl rfl (by omega) (by omega)
    · refine hQ _ ⟨1, ?_⟩
      unfold m_finders_l42
      exact br_t (nI_lt lt (by omega)) (hA _)
    · have nlt : ¬ nI N < nI i := nI_nlt le (by omega)
      have sub : nI N - nI i = nI (N - i) := pk_sub le
      have z6 : nI i ≤ 0 ↔ nI i = 0 := by
        rw [← nI_0, nI_leI (by omega) (by decide), nI_eq (by omega) (by decide)]; omega
      have z7 : nI N - nI i ≤ 0 ↔ nI N - nI i = 0 := by
        rw [sub, ← nI_0, nI_leI (by omega) (by decide), nI_eq (by omega) (by decide)]; omega
      have kx : ∀ v, (∀ r n, m_finders_l42 (A r) n (nI N) a3 a4 v (nI (i + 1)) Im Jm → m_finders_l42 (A r) (n + 1) (nI N) a3 a4 acc (nI i) Im Jm) → x_X0_finders_l42 Q fuel (nI N) a3 a4 v (nI (i + 1)) s rd J I := fun v hv => ih (i + 1) v (by omega) (by omega) (fun r ⟨n, hn⟩ => hQ r ⟨n + 1, hv r n hn⟩)
      have X93 : ∀ p0 s0 : Int32, ((p0 = 0 ∧ s0 = 1) ∨ (p0 = 1 ∧ s0 = 0)) → (∀ r n, m_finders_j93 (A r) (fun b0 b1 b2 b3 b4 I J => m_finders_l42 (A r) n b0 b1 b2 b3 b4 I J) (nI N) a3 a4 acc (nI i) (nI N - nI i) s0 Im Jm → m_finders_l42 (A r) (n + 1) (nI N) a3 a4 acc (nI i) Im Jm) →
          x_X0_finders_j93 Q (fun b0 b1 b2 b3 b4 s rd J I => x_X0_finders_l42 Q fuel b0 b1 b2 b3 b4 s rd J I) (nI N) a3 a4 acc (nI i) (nI N - nI i) p0 s rd J I := by
        intro p0 s0 hp hm
        unfold x_X0_finders_j93 x_X0_finders_j127 x_X0_finders_j128 x_X0_finders_j142 x_X0_finders_j150
        unfold m_finders_j93 m_finders_j123 m_finders_j128 m_finders_j149 m_finders_j150 at hm
        rw [nI_1] at hm ⊢
        have leaf : ∀ w t0 : Int32, ((w = 0 ∧ t0 = 1) ∨ (w = 1 ∧ t0 = 0)) → (∀ r n, ((s0 = 0 → m_finders_l42 (A r) n (nI N) a3 a4 (acc ||| 0) (nI (i + 1)) Im Jm) ∧ (¬ s0 = 0 → (t0 = 0 → m_finders_l42 (A r) n (nI N) a3 a4 (acc ||| 0) (nI (i + 1)) Im Jm) ∧ (¬ t0 = 0 → m_finders_l42 (A r) n (nI N) a3 a4 (acc ||| (1 <<< (nI i &&& 31))) (nI (i + 1)) Im Jm))) → m_finders_l42 (A r) (n + 1) (nI N) a3 a4 acc (nI i) Im Jm) →
            (p0 = 0 → (w = 0 → x_X0_finders_l42 Q fuel (nI N) a3 a4 (acc ||| ((1 : Int32) <<< (nI i &&& 31))) (nI (i + 1)) s rd J I) ∧ (¬ w = 0 → x_X0_finders_l42 Q fuel (nI N) a3 a4 (acc ||| 0) (nI (i + 1)) s rd J I)) ∧ (¬ p0 = 0 → x_X0_finders_l42 Q fuel (nI N) a3 a4 (acc ||| 0) (nI (i + 1)) s rd J I) := by
          intro w t0 hw hl
          rcases hp with ⟨rfl, rfl⟩ | ⟨rfl, rfl⟩
          · rcases hw with ⟨rfl, rfl⟩ | ⟨rfl, rfl⟩
            · exact br_t rfl (br_t rfl (kx _ (fun r n hn => hl r n ⟨fun z => absurd z (by decide), fun _ => ⟨fun z => absurd z (by decide), fun _ => hn⟩⟩)))
            · exact br_t rfl (br_f (by decide) (kx _ (fun r n hn => hl r n ⟨fun z => absurd z (by decide), fun _ => ⟨fun _ => hn, fun z => absurd rfl z⟩⟩)))
          · exact br_f (by decide) (kx _ (fun r n hn => hl r n ⟨fun _ => hn, fun z => absurd rfl z⟩))
        refine ⟨fun z2 => leaf 0 1 (.inl ⟨rfl, rfl⟩) (fun r n hh => hm r n ⟨fun _ => hh, fun y => absurd (z7.mp z2) y⟩), fun z2 => ⟨fun z3 => leaf 0 1 (.inl ⟨rfl, rfl⟩) (fun r n hh => hm r n ⟨fun y => absurd (z7.mpr y) z2, fun _ => ⟨fun y => absurd z3 (Int32.not_le.mpr y), fun _ => hh⟩⟩), fun z3 => leaf 1 0 (.inr ⟨rfl, rfl⟩) (fun r n hh => hm r n ⟨fun y => absurd (z7.mpr y) z2, fun _ => ⟨fun _ => hh, fun y => absurd (Int32.not_le.mp z3) y⟩⟩)⟩⟩
      have mo : ∀ s0 r n, ((nI i = 0 → s0 = 1) ∧ (¬ nI i = 0 → ((a3 * (nI N - nI i + 1) + a4) * (nI N - nI i + 2) < (nI i - 1) * a4 * (nI N - nI i + 1) → s0 = 0) ∧ (¬ (a3 * (nI N - nI i + 1) + a4) * (nI N - nI i + 2) < (nI i - 1) * a4 * (nI N - nI i + 1) → s0 = 1))) → m_finders_j93 (A r) (fun b0 b1 b2 b3 b4 I J => m_finders_l42 (A r) n b0 b1 b2 b3 b4 I J) (nI N) a3 a4 acc (nI i) (nI N - nI i) s0 Im Jm → m_finders_l42 (A r) (n + 1) (nI N) a3 a4 acc (nI i) Im Jm := by
        intro s0 r n hs hh
        unfold m_finders_l42 m_finders_j88
        refine br_f nlt ⟨fun y => ?_, fun y => ⟨fun y2 => ?_, fun y2 => ?_⟩⟩
        · rw [hs.1 y] at hh; exact hh
        · rw [(hs.2 y).1 y2] at hh; exact hh
        · rw [(hs.2 y).2 y2] at hh; exact hh
      refine ⟨fun c => X93 0 1 (.inl ⟨rfl, rfl⟩) (fun r n hh => mo 1 r n ⟨fun _ => rfl, fun y => absurd (z6.mp c) y⟩ hh), fun c => ⟨fun c2 => X93 0 1 (.inl ⟨rfl, rfl⟩) (fun r n hh => mo 1 r n ⟨fun _ => rfl, fun _ => ⟨fun y => absurd c2 (Int32.not_le.mpr y), fun _ => rfl⟩⟩ hh), fun c2 => X93 1 0 (.inr ⟨rfl, rfl⟩) (fun r n hh => mo 0 r n ⟨fun y => absurd (z6.mpr y) c, fun _ => ⟨fun _ => rfl, fun y => absurd (Int32.not_le.mp c2) y⟩⟩ hh)⟩⟩
theorem p_finders {t : Nat} {a b c : Int32} {s : xS} {rd : xRd} {J : mJ} {I Im : mI} {Jm : mJ} (h : Rel t s rd J I Im Jm) : x_X0_finders a b c s rd J I (fun r => m_finders a b c Im Jm (RelQ (t + 1) s rd J I r)) := by
  have no : ∀ z, RelQ (t + 1) s rd J I z z Im Jm := fun z => ⟨rfl, h.same⟩
  unfold x_X0_finders
  refine x_in_c (fun y => br_f (by decide) ?_) (fun y => br_t rfl (by unfold m_finders; exact m_in_c (fun z => absurd z y) (fun _ => br_t rfl (no _))))
  obtain ⟨N, _, hN, rfl⟩ := in_of (lo := 2) (hi := 20) (by decide) (by decide) y
  refine x_in_c (fun y2 => br_f (by decide) ?_) (fun y2 => br_t rfl (by unfold m_finders; exact m_in_c (fun _ => br_f (by decide) (m_in_c (fun z => absurd z y2) (fun _ => br_t rfl (no _)))) (fun u => absurd y u)))
  refine x_in_c (fun y3 => br_f (by decide) ?_) (fun y3 => br_t rfl (by unfold m_finders; exact m_in_c (fun _ => br_f (by decide) (m_in_c (fun _ => br_f (by decide) (m_in_c (fun z => absurd z y3) (fun _ => br_t rfl (no _)))) (fun u => absurd y2 u))) (fun u => absurd y u)))
  refine ⟨N + 2, x_finders_lp (A := fun r => RelQ (t + 1) s rd J I r) hN no (N + 2) 0 0 (by omega) (by omega) (fun r hr => ?_)⟩
  unfold m_finders
  exact m_in_c (fun _ => br_f (by decide) (m_in_c (fun _ => br_f (by decide) (m_in_c (fun _ => br_f (by decide) hr) (fun u => absurd y3 u))) (fun u => absurd y2 u))) (fun u => absurd y u)
theorem if30 {n : Nat} (hn : n < 1000) : (if (30 : Int32) < nI n then 30 else nI n) = nI (min n 30) := by
  have e : (30 : Int32) = nI 30 := rfl
  rw [e]
  by_cases h : 30 < n
  · rw [if_pos (nI_lt h (by omega)), Nat.min_eq_right (by omega)]
  · rw [if_neg (nI_nlt (show n ≤ 30 by omega) (by decide)), Nat.min_eq_left (by omega)]
theorem RelS.rB {t : Nat} {σ : wS} {fz : Nat → Bool} {s : xS} {rd : xRd} {J : mJ} {I Im : mI} {Jm : mJ} (h : RelS t σ fz s rd J I Im Jm) : @@N@@.rB I Im := h.2.2.2.2.2.2.2.2.2.2.1
theorem RelS.rT {t : Nat} {σ : wS} {fz : Nat → Bool} {s : xS} {rd : xRd} {J : mJ} {I Im : mI} {Jm : mJ} (h : RelS t σ fz s rd J I Im Jm) : @@N@@.rT I Im := h.2.2.2.2.2.2.2.2.1
theorem p_trace {t : Nat} {a : Int32} {s : xS} {rd : xRd} {J : mJ} {I Im : mI} {Jm : mJ} (h : Rel t s rd J I Im Jm) : x_X0_trace a s rd J I (fun r => m_trace a Im Jm (RelQ (t + 1) s rd J I r)) := by
  have no : ∀ z, RelQ (t + 1) s rd J I z z Im Jm := fun z => ⟨rfl, h.same⟩
  obtain ⟨h0, σ, fz, hS⟩ := h.opn
  obtain ⟨n, hn, b1, b2, b3⟩ := hS.rB
  unfold x_X0_trace m_trace
  rw [b1, b2, if30 hn]
  have hm : min n 30 ≤ 30 := Nat.min_le_right _ _
  rcases pk_ix a (show min n 30 < 2 ^ 31 by omega) with e | e | ⟨j, hj, rfl⟩
  · exact br_t e (m_in_c (fun z => absurd z (ix_no (by omega) (.inl e))) (fun _ => br_t rfl (no _)))
  · exact ⟨fun z => m_in_c (fun z => absurd z (ix_no (by omega) (.inr e))) (fun _ => br_t rfl (no _)), fun _ => br_t e (m_in_c (fun z => absurd z (ix_no (by omega) (.inr e))) (fun _ => br_t rfl (no _)))⟩
  · rw [nI_clamp (by omega)]
    exact br_f (nI_pos (by omega)) (br_f (nI_ge hj (by omega)) ⟨vp_in_nI (by omega) (by decide), m_in_c (fun _ => br_f (by decide) ⟨vp_in_nI (by omega) (by decide), b3 j hj, h.same⟩) (fun z => absurd (ix_yes (by omega) hj) z)⟩)
theorem p_many {t : Nat} {a : Int32} {s : xS} {rd : xRd} {J : mJ} {I Im : mI} {Jm : mJ} (h : Rel t s rd J I Im Jm) : x_X0_many a s rd J I (fun r => m_many a Im Jm (RelQ (t + 1) s rd J I r)) := by
  obtain ⟨q0, q1, q2, q3, q4, q5, q6, q7, q8, q9, q10⟩ := h.eqs
  obtain ⟨h0, σ, fz, hS⟩ := h.opn
  obtain ⟨n, hn, b1, b2, b3⟩ := hS.rB
  obtain ⟨nT, hT, t1, t2, t3⟩ := hS.rT
  obtain ⟨nW, hW, w1, w2, w3⟩ := hS.rW
  have e10 : I 10 2 = Im 0 1 := by first | exact q10 | exact q10.1
  unfold x_X0_many m_many
  rw [b1, b2, if30 hn, t1, t2, w1, w2]
  have rr : ∀ {x y : Int32}, x = y → RelQ (t + 1) s rd J I x y Im Jm := fun e => ⟨e, h.same⟩
  exact ⟨fun c => br_t c (rr q0), fun c0 => ⟨fun c => br_f c0 (br_t c (rr q1)), fun c1 => ⟨fun c => br_f c0 (br_f c1 (br_t c (rr q2))), fun c2 => ⟨fun c => br_f c0 (br_f c1 (br_f c2 (br_t c (rr rfl)))), fun c3 => ⟨fun c => br_f c0 (br_f c1 (br_f c2 (br_f c3 (br_t c (rr rfl))))), fun c4 => ⟨fun c => br_f c0 (br_f c1 (br_f c2 (br_f c3 (br_f c4 (br_t c (rr rfl)))))), fun c5 => ⟨fun c => br_f c0 (br_f c1 (br_f c2 (br_f c3 (br_f c4 (br_f c5 (br_t c (rr q9))))))), fun c6 => ⟨fun c => br_f c0 (br_f c1 (br_f c2 (br_f c3 (br_f c4 (br_f c5 (br_f c6 (br_t c (rr e10)))))))), fun c7 => ⟨fun c => br_f c0 (br_f c1 (br_f c2 (br_f c3 (br_f c4 (br_f c5 (br_f c6 (br_f c7 (br_t c (rr q3))))))))), fun c8 => ⟨fun c => br_f c0 (br_f c1 (br_f c2 (br_f c3 (br_f c4 (br_f c5 (br_f c6 (br_f c7 (br_f c8 (br_t c (rr q8)))))))))), fun c9 => br_f c0 (br_f c1 (br_f c2 (br_f c3 (br_f c4 (br_f c5 (br_f c6 (br_f c7 (br_f c8 (br_f c9 (rr rfl))))))))))⟩⟩⟩⟩⟩⟩⟩⟩⟩⟩
