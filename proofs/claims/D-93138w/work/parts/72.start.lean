set_option maxRecDepth 100000
set_option maxHeartbeats 4000000
/-! THE START: both worlds made, Rel 0 -/
def iX : mI := ic_X0 (fun _ _ => 0)
def iM : mI := ic_X14 (fun _ _ => 0)
def rdX : xRd := rc_X0 (fun _ _ => none)
def j0 : mJ := fun _ _ => 0
def sX : xS := (0, fun _ => 0, fun _ => 0)
def s0 : wS := u2 (u2 (u2 (fun i _ => if i = 8 then 1 else 0) 0 3 10) 0 4 5) 0 7 2
theorem rd_ok : ∀ i, i < 133 → ∀ k, k < (xRl.getD i []).length → xR0 i k = none ∨ rdX i k = xR0 i k := by decide +kernel
theorem rd_eq : xR rdX = rdX := by
  funext i k
  cases e : xR0 i k with
  | none => exact xR_d e
  | some c =>
    rw [xR_c e]
    by_cases hi : i < 133
    · by_cases hk : k < (xRl.getD i []).length
      · rcases rd_ok i hi k hk with g | g
        · rw [g] at e; cases e
        · rw [g, e]
      · have : xR0 i k = none := by
          unfold xR0
          rw [List.getD_eq_getElem?_getD, List.getElem?_eq_none (by omega)]
          rfl
        rw [this] at e; cases e
    · rw [xR0_out k (by omega)] at e; cases e
theorem hx_start : hg kX lX 133 rdX j0 iX = hx sX rdX j0 iX := by
  show (133, kX, lX, iX, j0, rdX) = (133 + 0, xK (fun _ => 0), xL (fun _ => 0), iX, j0, xR rdX)
  rw [rd_eq]
theorem mR_lo : ∀ k, k < 74 → mRf k = rc_X14 (fun _ _ => none) 0 k := by decide +kernel
theorem mR_hi {k : Nat} (h : 74 ≤ k) : rc_X14 (fun _ _ => none) 0 k = none := by
  unfold rc_X14
  repeat rw [u2_ne _ _ (.inr (by omega))]
theorem mR_out {i k : Nat} (h : i ≠ 0) : rc_X14 (fun _ _ => none) i k = none := by
  unfold rc_X14
  repeat rw [u2_ne _ _ (.inl h)]
theorem mRf_hi {k : Nat} (h : 74 ≤ k) : mRf k = none := by
  unfold mRf
  split <;> first | rfl | omega
theorem hm_start : hg mK mL 35 (rc_X14 (fun _ _ => none)) j0 iM = hm iM j0 := by
  have e : rc_X14 (fun _ _ => none) = mR := by
    funext i k
    cases i with
    | zero =>
      by_cases hk : k < 74
      · exact (mR_lo k hk).symm
      · rw [mR_hi (by omega)]
        exact (mRf_hi (by omega)).symm
    | succ i => exact mR_out (by omega)
  show (35, mK, mL, iM, j0, rc_X14 (fun _ _ => none)) = (35, mK, mL, iM, j0, mR)
  rw [e]
theorem WF0 : WF s0 := by
  have z9 : ∀ i k, i ≠ 0 → i ≠ 8 → s0 i k = 0 := fun i k hi h8 => by unfold s0; rw [u2_ne _ _ (.inl hi), u2_ne _ _ (.inl hi), u2_ne _ _ (.inl hi)]; exact if_neg h8
  have z : ∀ i k, (i ≠ 0 ∧ i ≠ 8) → s0 i k = 0 := fun i k hi => z9 i k hi.1 hi.2
  have dg0 : ∀ k, dg 0 k = 0 := fun k => by unfold dg; simp
  refine ⟨⟨by decide, by decide, fun k => by rw [z 2 k (by decide)]; decide, fun k => by rw [z 3 k (by decide)]; decide, fun k => by rw [z 5 k (by decide)]; decide, fun k => by rw [z 6 k (by decide)]; decide⟩, ⟨by decide, by decide, by decide, fun k hk => absurd hk (by show ¬ k < 0; omega)⟩, ⟨by decide, by decide, by decide, by decide, by decide, by decide, by decide⟩, .inr ⟨by decide, by decide⟩, fun k => by rw [z 1 k (by decide)]; decide, fun k hk => absurd hk (by show ¬ k < 0; omega), fun k => by rw [z 4 k (by decide)]; decide, fun k => by rw [z 7 k (by decide)]; decide, fun a b _ _ _ => z 6 _ (by decide), fun c hc => absurd hc (by show ¬ c < 0; omega)⟩
theorem iX_24 : ∀ k, iX 24 k = 0 := by
  intro k
  unfold iX ic_X0 ic_X1_1 ic_X1_12 ic_X10 ic_X13
  repeat rw [u2_ne _ _ (.inl (by decide))]
theorem iM_7 : ∀ k, iM 7 k = 0 := by
  intro k
  unfold iM ic_X14
  repeat rw [u2_ne _ _ (.inl (by decide))]
theorem xG0 : xG 1 s0 iX := by
  refine ⟨?_, ?_, ?_, ?_, ?_, ?_, ?_, ?_⟩
  · show ∀ k, k < 8 → iX 1 k = nI (s0 0 k)
    decide +kernel
  · show ∀ k, k < 4 → iX (1 + 1) k = nI (s0 1 k)
    decide +kernel
  · show ∀ k, k < 4 → iX (1 + 2) k = nI (s0 2 k)
    decide +kernel
  · show ∀ k, k < 4 → iX (1 + 3) k = nI (s0 3 k)
    decide +kernel
  · show ∀ k, k < 4 → iX (1 + 4) k = nI (s0 4 k)
    decide +kernel
  · show ∀ k, k < 28 → iX (1 + 5) k = nI (s0 5 k)
    decide +kernel
  · show ∀ k, k < 16 → iX (1 + 6) k = nI (s0 6 k)
    decide +kernel
  · show iX 10 1 = nI (s0 0 8) ∧ iX 10 0 = nI (s0 0 9) ∧ iX 10 2 = nI (s0 0 11) ∧ ∀ p, p < 4 → iX 11 p = nI (dg (s0 0 10) p)
    decide +kernel
theorem mG0 : mG s0 iM := by
  unfold mG mGv
  refine ⟨by decide +kernel, ⟨by decide +kernel, by decide +kernel, by decide +kernel, by decide +kernel, ?_⟩, ?_, ?_, ?_, by decide +kernel, ?_⟩
  · intro k f hk hf
    exact (show ∀ k, k < 4 → ∀ f, f < 7 → iM 1 (11 * k + 4 + f) = nI (s0 5 (7 * k + f)) by decide +kernel) k hk f hf
  · show ∀ k, k < 16 → iM 2 k = nI (s0 6 k)
    decide +kernel
  · show ∀ k, k < 40 → iM 3 k = nI (s0 7 k)
    decide +kernel
  · show ∀ k, k < 6 → iM 4 k = nI (s0 10 k)
    decide +kernel
  · show ∀ k, k < 210 → iM 6 k = nI (s0 9 k)
    decide +kernel
theorem rel0 : Rel 0 sX rdX j0 iX iM j0 := by
  refine ⟨Nat.le_refl _, s0, fun _ => false, WF0, xG0, mG0, ⟨0, 1, by decide +kernel, by decide, fun k _ => ⟨0, iX_24 k, by decide⟩, by decide +kernel, by decide, ?_⟩, ⟨0, by decide, by decide +kernel, fun m hm => absurd hm (by omega)⟩, fun r hr => absurd hr (by show ¬ r < 0; omega), fun c hc => absurd hc (by show ¬ c < 0; omega), ⟨⟨?_, ?_, ?_⟩, .inl ⟨by decide +kernel, by decide +kernel⟩⟩, ⟨0, by decide, by decide +kernel, by decide +kernel, fun j hj => absurd hj (by omega)⟩, ⟨0, by decide, by decide +kernel, by decide +kernel, fun j hj => absurd hj (by omega)⟩, ⟨0, by decide, by decide +kernel, by decide +kernel, fun j hj => absurd hj (by omega)⟩, ⟨fun k => k, fun k k' _ _ h => h, fun k hk => .inl ((show ∀ k, k < 4 → iX (121 + k) 4 = -1 ∧ iM 26 k = -1 by decide +kernel) k hk)⟩, fun k hk => ⟨4, by decide, (show ∀ k, k < 4 → iX (129 + k) 0 = nI 4 by decide +kernel) k hk, .inr (.inr (.inr (.inl ⟨rfl, (show ∀ k, k < 4 → iM 29 k = -1 by decide +kernel) k hk⟩)))⟩⟩
  · intro k hk
    exact ⟨0, iM_7 k, by decide, fun h => absurd h (by decide)⟩
  · rw [show xR rdX = rdX from rd_eq]
    intro q hq i hi y hy
    have n8 : ∀ i, i < 4 → rdX 8 i = none ∧ rdX 19 i = none := by decide +kernel
    rcases hq with rfl | rfl
    · rw [(n8 i hi).1] at hy; cases hy
    · rw [(n8 i hi).2] at hy; cases hy
  · rw [show xR rdX = rdX from rd_eq]
    intro q hq i hi y hy
    have n9 : ∀ i, i < 6 → rdX 9 i = none ∧ rdX 20 i = none ∧ rdX 96 i = none := by decide +kernel
    rcases hq with rfl | rfl | rfl
    · rw [(n9 i hi).1] at hy; cases hy
    · rw [(n9 i hi).2.1] at hy; cases hy
    · rw [(n9 i hi).2.2] at hy; cases hy
  · rw [show xR rdX = rdX from rd_eq]
    show ∀ k, k < 6 → rdX 94 k = some (1000000 + k)
    decide +kernel
