set_option maxRecDepth 100000
set_option maxHeartbeats 4000000
/-! PLAIN LAW, operations 18: keep, again -/
theorem x_copy_s {src dst L : Nat} {s : xS} {rd : xRd} {J : mJ} {I : mI} {Q : mI → Prop} (h1 : xo s dst 100) (h2 : xo s src 100) (l1 : xlen s dst = L) (l2 : xlen s src = L) (hL : L < 1000) (K : ∀ I', (∀ r, r ≠ dst → I' r = I r) → (∀ k, k < L → I' dst k = I src k) → Q I') : x_X1_copy src dst s rd J I Q := by
  unfold x_X1_copy
  rw [l1, l2, nI_clamp (by omega)]
  have z : (0 : Int32).toNatClampNeg = 0 := rfl
  rw [z]
  refine ⟨h1, h2, ⟨by decide, by decide, nI_pos (by omega), by omega, by omega⟩, K _ (fun r hr => ur_row hr) (fun k hk => ?_)⟩
  rw [ur_self, pk_cpy_in (Nat.zero_le _) (by omega), Nat.zero_add, Nat.sub_zero]
theorem xR0_8 (k : Nat) : xR0 8 k = none := rfl
theorem xR0_9 (k : Nat) : xR0 9 k = none := rfl
theorem xR0_19 (k : Nat) : xR0 19 k = none := rfl
theorem xR0_20 (k : Nat) : xR0 20 k = none := rfl
/-- what a copy of the group is: d from b -/
def grpC (d b : Nat) (I I' : mI) : Prop := (∀ r, r < d ∨ d + 10 < r → I' r = I r) ∧ (∀ k, k < 8 → I' d k = I b k) ∧ (∀ k, k < 4 → I' (d + 1) k = I (b + 1) k) ∧ (∀ k, k < 4 → I' (d + 2) k = I (b + 2) k) ∧ (∀ k, k < 4 → I' (d + 3) k = I (b + 3) k) ∧ (∀ k, k < 4 → I' (d + 4) k = I (b + 4) k) ∧ (∀ k, k < 28 → I' (d + 5) k = I (b + 5) k) ∧ (∀ k, k < 16 → I' (d + 6) k = I (b + 6) k) ∧ (∀ k, k < 3 → I' (d + 9) k = I (b + 9) k) ∧ (∀ k, k < 4 → I' (d + 10) k = I (b + 10) k)
def grpR (d b : Nat) (rd rd' : xRd) : Prop := (∀ r, r ≠ d + 7 → r ≠ d + 8 → rd' r = rd r) ∧ (∀ k, k < 4 → xR rd' (d + 7) k = xR rd (b + 7) k) ∧ (∀ k, k < 6 → xR rd' (d + 8) k = xR rd (b + 8) k)
theorem x_become_12_1_s {s : xS} {rd : xRd} {J : mJ} {I : mI} {Q : xRd → mI → Prop} (hf : rf s rd) (K : ∀ rd' I', grpC 12 1 I I' → grpR 12 1 rd rd' → Q rd' I') : x_X1_become_12_1 s rd J I Q := by
  unfold x_X1_become_12_1
  have sc : ∀ r, r ≠ 12 → (u2 (u2 (u2 (u2 (u2 (u2 (u2 (u2 I 12 0 (I 1 0)) 12 1 (I 1 1)) 12 2 (I 1 2)) 12 3 (I 1 3)) 12 4 (I 1 4)) 12 5 (I 1 5)) 12 6 (I 1 6)) 12 7 (I 1 7)) r = I r := fun r hr => by rw [u2r hr, u2r hr, u2r hr, u2r hr, u2r hr, u2r hr, u2r hr, u2r hr]
  have sc0 : ∀ k, k < 8 → (u2 (u2 (u2 (u2 (u2 (u2 (u2 (u2 I 12 0 (I 1 0)) 12 1 (I 1 1)) 12 2 (I 1 2)) 12 3 (I 1 3)) 12 4 (I 1 4)) 12 5 (I 1 5)) 12 6 (I 1 6)) 12 7 (I 1 7)) 12 k = I 1 k := by
    intro k hk
    have h8 : k = 0 ∨ k = 1 ∨ k = 2 ∨ k = 3 ∨ k = 4 ∨ k = 5 ∨ k = 6 ∨ k = 7 := by omega
    rcases h8 with rfl | rfl | rfl | rfl | rfl | rfl | rfl | rfl <;> rfl
  refine x_copy_s (L := 4) (xo_c (by decide) rfl) (xo_c (by decide) rfl) (xlen_c (by decide) rfl) (xlen_c (by decide) rfl) (by decide) (fun I1 y1 w1 => ?_)
  refine x_copy_s (L := 4) (xo_c (by decide) rfl) (xo_c (by decide) rfl) (xlen_c (by decide) rfl) (xlen_c (by decide) rfl) (by decide) (fun I2 y2 w2 => ?_)
  refine x_copy_s (L := 4) (xo_c (by decide) rfl) (xo_c (by decide) rfl) (xlen_c (by decide) rfl) (xlen_c (by decide) rfl) (by decide) (fun I3 y3 w3 => ?_)
  refine x_copy_s (L := 4) (xo_c (by decide) rfl) (xo_c (by decide) rfl) (xlen_c (by decide) rfl) (xlen_c (by decide) rfl) (by decide) (fun I4 y4 w4 => ?_)
  refine x_copy_s (L := 28) (xo_c (by decide) rfl) (xo_c (by decide) rfl) (xlen_c (by decide) rfl) (xlen_c (by decide) rfl) (by decide) (fun I5 y5 w5 => ?_)
  refine x_copy_s (L := 16) (xo_c (by decide) rfl) (xo_c (by decide) rfl) (xlen_c (by decide) rfl) (xlen_c (by decide) rfl) (by decide) (fun I6 y6 w6 => ?_)
  have e8 : xlen s 8 = 4 := xlen_c (by decide) rfl
  have e19 : xlen s 19 = 4 := xlen_c (by decide) rfl
  have f9 : xlen s 9 = 6 := xlen_c (by decide) rfl
  have f20 : xlen s 20 = 6 := xlen_c (by decide) rfl
  have z0 : (0 : Int32).toNatClampNeg = 0 := rfl
  have z4 : (4 : Int32).toNatClampNeg = 4 := rfl
  have z6 : (6 : Int32).toNatClampNeg = 6 := rfl
  rw [e8, e19, f9, f20, z0, z4, z6]
  have r1 : ∀ k, xR (ur rd 19 (va_cpy (xR rd 8) (xR rd 19) 0 0 4)) 9 k = xR rd 9 k := fun k => xR_row (ur_row (by decide))
  refine ⟨⟨by decide, by decide, by decide, by decide, by decide⟩, fun i hi y hy => hf.1 8 (.inl rfl) i hi y (by rw [Nat.zero_add] at hy; exact hy), ⟨by decide, by decide, by decide, by decide, by decide⟩, fun i hi y hy => hf.2.1 9 (.inl rfl) i hi y (by rw [Nat.zero_add, r1] at hy; exact hy), nm_e ?_⟩
  unfold x_X2_become
  have v11 : xlen s 11 = 4 := xlen_c (by decide) rfl
  have v22 : xlen s 22 = 4 := xlen_c (by decide) rfl
  refine ⟨xo_c (by decide) rfl, xo_c (by decide) rfl, 11, xR_c rfl, 22, xR_c rfl, xo_c (by decide) rfl, xo_c (by decide) rfl, ?_⟩
  rw [v11, v22, z0, z4]
  have fr : ∀ r, r ≠ 12 → r ≠ 13 → r ≠ 14 → r ≠ 15 → r ≠ 16 → r ≠ 17 → r ≠ 18 → I6 r = I r := fun r a0 a1 a2 a3 a4 a5 a6 => by rw [y6 r a6, y5 r a5, y4 r a4, y3 r a3, y2 r a2, y1 r a1, sc r a0]
  refine ⟨⟨by decide, by decide, by decide, by decide, by decide⟩, nm_e (K _ _ ⟨fun r hr => ?_, fun k hk => ?_, fun k hk => ?_, fun k hk => ?_, fun k hk => ?_, fun k hk => ?_, fun k hk => ?_, fun k hk => ?_, fun k hk => ?_, fun k hk => ?_⟩ ⟨fun r r7 r8 => ?_, fun k hk => ?_, fun k hk => ?_⟩)⟩
  · rw [ur_row (by omega), u2r (by omega), u2r (by omega), u2r (by omega)]
    exact fr r (by omega) (by omega) (by omega) (by omega) (by omega) (by omega) (by omega)
  · rw [ur_row (by decide), u2r (by decide), u2r (by decide), u2r (by decide), y6 12 (by decide), y5 12 (by decide), y4 12 (by decide), y3 12 (by decide), y2 12 (by decide), y1 12 (by decide)]
    exact sc0 k hk
  · rw [ur_row (by decide), u2r (by decide), u2r (by decide), u2r (by decide), y6 (12 + 1) (by decide), y5 (12 + 1) (by decide), y4 (12 + 1) (by decide), y3 (12 + 1) (by decide), y2 (12 + 1) (by decide)]
    refine (w1 k hk).trans ?_
    show _ = I 2 k
    rw [sc 2 (by decide)]
  · rw [ur_row (by decide), u2r (by decide), u2r (by decide), u2r (by decide), y6 (12 + 2) (by decide), y5 (12 + 2) (by decide), y4 (12 + 2) (by decide), y3 (12 + 2) (by decide)]
    refine (w2 k hk).trans ?_
    show _ = I 3 k
    rw [y1 3 (by decide), sc 3 (by decide)]
  · rw [ur_row (by decide), u2r (by decide), u2r (by decide), u2r (by decide), y6 (12 + 3) (by decide), y5 (12 + 3) (by decide), y4 (12 + 3) (by decide)]
    refine (w3 k hk).trans ?_
    show _ = I 4 k
    rw [y2 4 (by decide), y1 4 (by decide), sc 4 (by decide)]
  · rw [ur_row (by decide), u2r (by decide), u2r (by decide), u2r (by decide), y6 (12 + 4) (by decide), y5 (12 + 4) (by decide)]
    refine (w4 k hk).trans ?_
    show _ = I 5 k
    rw [y3 5 (by decide), y2 5 (by decide), y1 5 (by decide), sc 5 (by decide)]
  · rw [ur_row (by decide), u2r (by decide), u2r (by decide), u2r (by decide), y6 (12 + 5) (by decide)]
    refine (w5 k hk).trans ?_
    show _ = I 6 k
    rw [y4 6 (by decide), y3 6 (by decide), y2 6 (by decide), y1 6 (by decide), sc 6 (by decide)]
  · rw [ur_row (by decide), u2r (by decide), u2r (by decide), u2r (by decide)]
    refine (w6 k hk).trans ?_
    show _ = I 7 k
    rw [y5 7 (by decide), y4 7 (by decide), y3 7 (by decide), y2 7 (by decide), y1 7 (by decide), sc 7 (by decide)]
  · have h3 : k = 0 ∨ k = 1 ∨ k = 2 := by omega
    have b6 : I6 10 = I 10 := fr 10 (by decide) (by decide) (by decide) (by decide) (by decide) (by decide) (by decide)
    show _ = I 10 k
    rw [ur_row (by decide), ← b6]
    rcases h3 with rfl | rfl | rfl <;> rfl
  · show _ = I 11 k
    rw [show 12 + 10 = 22 from rfl, ur_self, pk_cpy_in (Nat.zero_le _) (by omega), Nat.zero_add, Nat.sub_zero, u2r (by decide), u2r (by decide), u2r (by decide)]
    rw [fr 11 (by decide) (by decide) (by decide) (by decide) (by decide) (by decide) (by decide)]
  · rw [ur_row r8, ur_row r7]
  · rw [show 12 + 7 = 19 from rfl, xR_d (xR0_19 k), ur_row (by decide), ur_self, pk_cpy_in (Nat.zero_le _) (by omega), Nat.zero_add, Nat.sub_zero]
  · rw [show 12 + 8 = 20 from rfl, xR_d (xR0_20 k), ur_self, pk_cpy_in (Nat.zero_le _) (by omega), Nat.zero_add, Nat.sub_zero, r1]
theorem x_become_1_12_s {s : xS} {rd : xRd} {J : mJ} {I : mI} {Q : xRd → mI → Prop} (hf : rf s rd) (K : ∀ rd' I', grpC 1 12 I I' → grpR 1 12 rd rd' → Q rd' I') : x_X1_become_1_12 s rd J I Q := by
  unfold x_X1_become_1_12
  have sc : ∀ r, r ≠ 1 → (u2 (u2 (u2 (u2 (u2 (u2 (u2 (u2 I 1 0 (I 12 0)) 1 1 (I 12 1)) 1 2 (I 12 2)) 1 3 (I 12 3)) 1 4 (I 12 4)) 1 5 (I 12 5)) 1 6 (I 12 6)) 1 7 (I 12 7)) r = I r := fun r hr => by rw [u2r hr, u2r hr, u2r hr, u2r hr, u2r hr, u2r hr, u2r hr, u2r hr]
  have sc0 : ∀ k, k < 8 → (u2 (u2 (u2 (u2 (u2 (u2 (u2 (u2 I 1 0 (I 12 0)) 1 1 (I 12 1)) 1 2 (I 12 2)) 1 3 (I 12 3)) 1 4 (I 12 4)) 1 5 (I 12 5)) 1 6 (I 12 6)) 1 7 (I 12 7)) 1 k = I 12 k := by
    intro k hk
    have h8 : k = 0 ∨ k = 1 ∨ k = 2 ∨ k = 3 ∨ k = 4 ∨ k = 5 ∨ k = 6 ∨ k = 7 := by omega
    rcases h8 with rfl | rfl | rfl | rfl | rfl | rfl | rfl | rfl <;> rfl
  refine x_copy_s (L := 4) (xo_c (by decide) rfl) (xo_c (by decide) rfl) (xlen_c (by decide) rfl) (xlen_c (by decide) rfl) (by decide) (fun I1 y1 w1 => ?_)
  refine x_copy_s (L := 4) (xo_c (by decide) rfl) (xo_c (by decide) rfl) (xlen_c (by decide) rfl) (xlen_c (by decide) rfl) (by decide) (fun I2 y2 w2 => ?_)
  refine x_copy_s (L := 4) (xo_c (by decide) rfl) (xo_c (by decide) rfl) (xlen_c (by decide) rfl) (xlen_c (by decide) rfl) (by decide) (fun I3 y3 w3 => ?_)
  refine x_copy_s (L := 4) (xo_c (by decide) rfl) (xo_c (by decide) rfl) (xlen_c (by decide) rfl) (xlen_c (by decide) rfl) (by decide) (fun I4 y4 w4 => ?_)
  refine x_copy_s (L := 28) (xo_c (by decide) rfl) (xo_c (by decide) rfl) (xlen_c (by decide) rfl) (xlen_c (by decide) rfl) (by decide) (fun I5 y5 w5 => ?_)
  refine x_copy_s (L := 16) (xo_c (by decide) rfl) (xo_c (by decide) rfl) (xlen_c (by decide) rfl) (xlen_c (by decide) rfl) (by decide) (fun I6 y6 w6 => ?_)
  have e19 : xlen s 19 = 4 := xlen_c (by decide) rfl
  have e8 : xlen s 8 = 4 := xlen_c (by decide) rfl
  have f20 : xlen s 20 = 6 := xlen_c (by decide) rfl
  have f9 : xlen s 9 = 6 := xlen_c (by decide) rfl
  have z0 : (0 : Int32).toNatClampNeg = 0 := rfl
  have z4 : (4 : Int32).toNatClampNeg = 4 := rfl
  have z6 : (6 : Int32).toNatClampNeg = 6 := rfl
  rw [e19, e8, f20, f9, z0, z4, z6]
  have r1 : ∀ k, xR (ur rd 8 (va_cpy (xR rd 19) (xR rd 8) 0 0 4)) 20 k = xR rd 20 k := fun k => xR_row (ur_row (by decide))
  refine ⟨⟨by decide, by decide, by decide, by decide, by decide⟩, fun i hi y hy => hf.1 19 (.inr rfl) i hi y (by rw [Nat.zero_add] at hy; exact hy), ⟨by decide, by decide, by decide, by decide, by decide⟩, fun i hi y hy => hf.2.1 20 (.inr (.inl rfl)) i hi y (by rw [Nat.zero_add, r1] at hy; exact hy), nm_e ?_⟩
  unfold x_X2_become
  have v22 : xlen s 22 = 4 := xlen_c (by decide) rfl
  have v11 : xlen s 11 = 4 := xlen_c (by decide) rfl
  refine ⟨xo_c (by decide) rfl, xo_c (by decide) rfl, 22, xR_c rfl, 11, xR_c rfl, xo_c (by decide) rfl, xo_c (by decide) rfl, ?_⟩
  rw [v22, v11, z0, z4]
  have fr : ∀ r, r ≠ 1 → r ≠ 2 → r ≠ 3 → r ≠ 4 → r ≠ 5 → r ≠ 6 → r ≠ 7 → I6 r = I r := fun r a0 a1 a2 a3 a4 a5 a6 => by rw [y6 r a6, y5 r a5, y4 r a4, y3 r a3, y2 r a2, y1 r a1, sc r a0]
  refine ⟨⟨by decide, by decide, by decide, by decide, by decide⟩, nm_e (K _ _ ⟨fun r hr => ?_, fun k hk => ?_, fun k hk => ?_, fun k hk => ?_, fun k hk => ?_, fun k hk => ?_, fun k hk => ?_, fun k hk => ?_, fun k hk => ?_, fun k hk => ?_⟩ ⟨fun r r7 r8 => ?_, fun k hk => ?_, fun k hk => ?_⟩)⟩
  · rw [ur_row (by omega), u2r (by omega), u2r (by omega), u2r (by omega)]
    exact fr r (by omega) (by omega) (by omega) (by omega) (by omega) (by omega) (by omega)
  · rw [ur_row (by decide), u2r (by decide), u2r (by decide), u2r (by decide), y6 1 (by decide), y5 1 (by decide), y4 1 (by decide), y3 1 (by decide), y2 1 (by decide), y1 1 (by decide)]
    exact sc0 k hk
  · rw [ur_row (by decide), u2r (by decide), u2r (by decide), u2r (by decide), y6 (1 + 1) (by decide), y5 (1 + 1) (by decide), y4 (1 + 1) (by decide), y3 (1 + 1) (by decide), y2 (1 + 1) (by decide)]
    refine (w1 k hk).trans ?_
    show _ = I 13 k
    rw [sc 13 (by decide)]
  · rw [ur_row (by decide), u2r (by decide), u2r (by decide), u2r (by decide), y6 (1 + 2) (by decide), y5 (1 + 2) (by decide), y4 (1 + 2) (by decide), y3 (1 + 2) (by decide)]
    refine (w2 k hk).trans ?_
    show _ = I 14 k
    rw [y1 14 (by decide), sc 14 (by decide)]
  · rw [ur_row (by decide), u2r (by decide), u2r (by decide), u2r (by decide), y6 (1 + 3) (by decide), y5 (1 + 3) (by decide), y4 (1 + 3) (by decide)]
    refine (w3 k hk).trans ?_
    show _ = I 15 k
    rw [y2 15 (by decide), y1 15 (by decide), sc 15 (by decide)]
  · rw [ur_row (by decide), u2r (by decide), u2r (by decide), u2r (by decide), y6 (1 + 4) (by decide), y5 (1 + 4) (by decide)]
    refine (w4 k hk).trans ?_
    show _ = I 16 k
    rw [y3 16 (by decide), y2 16 (by decide), y1 16 (by decide), sc 16 (by decide)]
  · rw [ur_row (by decide), u2r (by decide), u2r (by decide), u2r (by decide), y6 (1 + 5) (by decide)]
    refine (w5 k hk).trans ?_
    show _ = I 17 k
    rw [y4 17 (by decide), y3 17 (by decide), y2 17 (by decide), y1 17 (by decide), sc 17 (by decide)]
  · rw [ur_row (by decide), u2r (by decide), u2r (by decide), u2r (by decide)]
    refine (w6 k hk).trans ?_
    show _ = I 18 k
    rw [y5 18 (by decide), y4 18 (by decide), y3 18 (by decide), y2 18 (by decide), y1 18 (by decide), sc 18 (by decide)]
  · have h3 : k = 0 ∨ k = 1 ∨ k = 2 := by omega
    have b6 : I6 21 = I 21 := fr 21 (by decide) (by decide) (by decide) (by decide) (by decide) (by decide) (by decide)
    show _ = I 21 k
    rw [ur_row (by decide), ← b6]
    rcases h3 with rfl | rfl | rfl <;> rfl
  · show _ = I 22 k
    rw [show 1 + 10 = 11 from rfl, ur_self, pk_cpy_in (Nat.zero_le _) (by omega), Nat.zero_add, Nat.sub_zero, u2r (by decide), u2r (by decide), u2r (by decide)]
    rw [fr 22 (by decide) (by decide) (by decide) (by decide) (by decide) (by decide) (by decide)]
  · rw [ur_row r8, ur_row r7]
  · rw [show 1 + 7 = 8 from rfl, xR_d (xR0_8 k), ur_row (by decide), ur_self, pk_cpy_in (Nat.zero_le _) (by omega), Nat.zero_add, Nat.sub_zero]
  · rw [show 1 + 8 = 9 from rfl, xR_d (xR0_9 k), ur_self, pk_cpy_in (Nat.zero_le _) (by omega), Nat.zero_add, Nat.sub_zero, r1]
theorem rR.mv {q q' : Nat} {σ : wS} {s s' : xS} {rd rd' : xRd} {fz fz' : Nat → Bool} {I I' : mI} (hr : rR q σ s rd fz I) (h : old s rd fz I s' rd' fz' I') (h4 : σ 0 1 ≤ 4) (hq : ∀ k, k < 4 → xR rd' q' k = xR rd q k) : rR q' σ s' rd' fz' I' := by
  intro r hlt
  obtain ⟨o, br, e1, e2, e3, e4, e5, e6, e7, e8, e9⟩ := hr r hlt
  refine ⟨o, br, (hq r (by omega)).trans e1, h.ko e2, e3, (h.kr e3 e2.1 0).trans e4, h.ko e5, (h.kl e5).trans e6, e7, ?_, fun k hk => ?_⟩
  · rw [(h.2.2 br e7 e5.1).2.1]; exact e8
  · rw [(h.2.2 br e7 e5.1).2.2 e8]; exact e9 k hk
theorem rC.mv {q q' : Nat} {σ : wS} {s s' : xS} {rd rd' : xRd} {fz fz' : Nat → Bool} {I I' : mI} (hr : rC q σ s rd fz I) (h : old s rd fz I s' rd' fz' I') (h6 : σ 0 2 ≤ 6) (hq : ∀ k, k < 6 → xR rd' q' k = xR rd q k) : rC q' σ s' rd' fz' I' := by
  intro c hlt
  obtain ⟨g1, g2, o, cd, e1, e2, e3, e4, e5, e6, n, e7, e8⟩ := hr c hlt
  refine ⟨g1, g2, o, cd, (hq c (by omega)).trans e1, h.ko e2, e3, ?_, ?_, (h.kr e3 e2.1 1).trans e6, n, e7, e8.to h⟩
  · rw [(h.2.2 o e3 e2.1).2.1]; exact e4
  · rw [(h.2.2 o e3 e2.1).2.2 e4]; exact e5
theorem grpC.xG {d b : Nat} {σ : wS} {I I' : mI} (h : grpC d b I I') (hx : @@N@@.xG b σ I) : @@N@@.xG d σ I' := by
  obtain ⟨_, c0, c1, c2, c3, c4, c5, c6, c9, c10⟩ := h
  obtain ⟨s1, s2, s3, s4, s5, s6, s7, t1, t2, t3, t4⟩ := hx
  exact ⟨fun k hk => (c0 k hk).trans (s1 k hk), fun k hk => (c1 k hk).trans (s2 k hk), fun k hk => (c2 k hk).trans (s3 k hk), fun k hk => (c3 k hk).trans (s4 k hk), fun k hk => (c4 k hk).trans (s5 k hk), fun k hk => (c5 k hk).trans (s6 k hk), fun k hk => (c6 k hk).trans (s7 k hk), (c9 1 (by decide)).trans t1, (c9 0 (by decide)).trans t2, (c9 2 (by decide)).trans t3, fun k hk => (c10 k hk).trans (t4 k hk)⟩
theorem m_moveK {a1 L p : Nat} {I0 : mI} {J : mJ} {Q : mI → mJ → Prop} (ha : a1 < 35) (hk : mK a1 = 100) (hl : mL a1 = L) (h33 : a1 ≠ 33) (h0 : a1 ≠ 0) (hp : p + L ≤ 400) (h72 : I0 0 72 = nI p) (K : ∀ I', (∀ r, r ≠ 33 → r ≠ 0 → I' r = I0 r) → (∀ f, f ≠ 72 → I' 0 f = I0 0 f) → I' 0 72 = nI (p + L) → (∀ j, I' 33 j = if p ≤ j ∧ j < p + L then I0 a1 (j - p) else I0 33 j) → Q I' J) : m_move a1 (nI L) 1 I0 J Q := by
  unfold m_move
  have lp : ∀ n i I, L - i < n → i ≤ L → (∀ r, r ≠ 33 → r ≠ 0 → I r = I0 r) → (∀ f, f ≠ 72 → I 0 f = I0 0 f) → I 0 72 = nI (p + i) → (∀ j, I 33 j = if p ≤ j ∧ j < p + i then I0 a1 (j - p) else I0 33 j) → m_move_l3 Q n a1 (nI L) 1 (nI i) I J := by
    intro n
    induction n with
    | zero => intro i I g; exact absurd g (Nat.not_lt_zero _)
    | succ n ih =>
      intro i I g1 g2 g3 g4 g5 g6
      unfold m_move_l3 m_move_j42
      refine pk_le L i (fun le => ?_) (fun lt => br_f (by decide) ⟨⟨ha, hk⟩, ?_, ?_, ?_⟩) rfl rfl (by omega) (by omega)
      · have e : i = L := by omega
        subst e
        exact K I g3 g4 g5 g6
      · rw [hl]; exact vp_in_nI lt (by omega)
      · rw [g5]; exact vp_in_nI (by omega) (by decide)
      · rw [g5, nI_clamp (by omega), nI_clamp (by omega), nI_1, u2r (show 0 ≠ 33 by decide), g5, nI_1]
        refine ih (i + 1) _ (by omega) (by omega) (fun r r1 r2 => by rw [u2r r2, u2r r1]; exact g3 r r1 r2) (fun f hf => by rw [u2_ne _ _ (Or.inr hf), u2r (by decide)]; exact g4 f hf) (u2_self _ _ _ _) (fun j => ?_)
        rw [u2r (show 33 ≠ 0 by decide)]
        by_cases e : j = p + i
        · rw [e, u2_self, if_pos (by omega), show p + i - p = i by omega, g3 a1 h33 h0]
        · rw [u2_ne _ _ (Or.inr e), g6 j]
          by_cases e2 : p ≤ j ∧ j < p + i
          · rw [if_pos e2, if_pos (by omega)]
          · rw [if_neg e2, if_neg (by omega)]
  exact ⟨L + 1, lp (L + 1) 0 I0 (by omega) (by omega) (fun _ _ _ => rfl) (fun _ _ => rfl) h72 (fun j => by rw [if_neg (by omega)])⟩
theorem m_moveA {a1 L p : Nat} {I0 : mI} {J : mJ} {Q : mI → mJ → Prop} (ha : a1 < 35) (hk : mK a1 = 100) (hl : mL a1 = L) (h33 : a1 ≠ 33) (h0 : a1 ≠ 0) (hp : p + L ≤ 400) (h72 : I0 0 72 = nI p) (K : ∀ I', (∀ r, r ≠ a1 → r ≠ 0 → I' r = I0 r) → (∀ f, f ≠ 72 → I' 0 f = I0 0 f) → I' 0 72 = nI (p + L) → (∀ k, k < L → I' a1 k = I0 33 (p + k)) → Q I' J) : m_move a1 (nI L) 0 I0 J Q := by
  unfold m_move
  have lp : ∀ n i I, L - i < n → i ≤ L → (∀ r, r ≠ a1 → r ≠ 0 → I r = I0 r) → (∀ f, f ≠ 72 → I 0 f = I0 0 f) → I 0 72 = nI (p + i) → (∀ k, k < i → I a1 k = I0 33 (p + k)) → m_move_l3 Q n a1 (nI L) 0 (nI i) I J := by
    intro n
    induction n with
    | zero => intro i I g; exact absurd g (Nat.not_lt_zero _)
    | succ n ih =>
      intro i I g1 g2 g3 g4 g5 g6
      unfold m_move_l3 m_move_j42
      refine pk_le L i (fun le => ?_) (fun lt => br_t rfl ⟨?_, ⟨ha, hk⟩, ?_, ?_⟩) rfl rfl (by omega) (by omega)
      · have e : i = L := by omega
        subst e
        exact K I g3 g4 g5 g6
      · rw [g5]; exact vp_in_nI (by omega) (by decide)
      · rw [hl]; exact vp_in_nI lt (by omega)
      · rw [g5, nI_clamp (by omega), nI_clamp (by omega), nI_1, u2r (Ne.symm h0), g5, nI_1]
        refine ih (i + 1) _ (by omega) (by omega) (fun r r1 r2 => by rw [u2r r2, u2r r1]; exact g3 r r1 r2) (fun f hf => by rw [u2_ne _ _ (Or.inr hf), u2r (Ne.symm h0)]; exact g4 f hf) (u2_self _ _ _ _) (fun k hk => ?_)
        rw [u2r h0]
        by_cases e : k = i
        · rw [e, u2_self, g3 33 (Ne.symm h33) (by decide)]
        · rw [u2_ne _ _ (Or.inr e)]; exact g6 k (by omega)
  exact ⟨L + 1, lp (L + 1) 0 I0 (by omega) (by omega) (fun _ _ _ => rfl) (fun _ _ => rfl) h72 (fun k hk => absurd hk (Nat.not_lt_zero _))⟩
/-- the counts, laid out -/
def cnts (I : mI) : mI :=
  let I1 := u2 (u2 (u2 (u2 (u2 I 0 72 0) 34 0 (I 0 0)) 34 1 (I 0 1)) 34 2 (I 0 2)) 34 3 (I 0 3)
  let I2 := u2 (u2 (u2 (u2 I1 34 4 (I1 0 4)) 34 5 (I1 0 5)) 34 6 (I1 0 6)) 34 7 (I1 0 7)
  u2 (u2 (u2 (u2 I2 34 8 (I2 0 8)) 34 9 (I2 0 9)) 34 10 (I2 0 10)) 34 11 (I2 0 12)
theorem cnts_r {I : mI} {r : Nat} (h : r ≠ 34) (h0 : r ≠ 0) : cnts I r = I r := by
  unfold cnts
  rw [u2r h, u2r h, u2r h, u2r h, u2r h, u2r h, u2r h, u2r h, u2r h, u2r h, u2r h, u2r h, u2r h0]
theorem cnts_0 {I : mI} {f : Nat} (h : f ≠ 72) : cnts I 0 f = I 0 f := by
  unfold cnts
  rw [u2r (by decide), u2r (by decide), u2r (by decide), u2r (by decide), u2r (by decide), u2r (by decide), u2r (by decide), u2r (by decide), u2r (by decide), u2r (by decide), u2r (by decide), u2r (by decide), u2_ne _ _ (Or.inr h)]
theorem cnts_72 {I : mI} : cnts I 0 72 = nI 0 := rfl
theorem cnts_34 {I : mI} {k : Nat} (hk : k < 12) : cnts I 34 k = mcnt I k := by
  have h : k = 0 ∨ k = 1 ∨ k = 2 ∨ k = 3 ∨ k = 4 ∨ k = 5 ∨ k = 6 ∨ k = 7 ∨ k = 8 ∨ k = 9 ∨ k = 10 ∨ k = 11 := by omega
  rcases h with rfl | rfl | rfl | rfl | rfl | rfl | rfl | rfl | rfl | rfl | rfl | rfl <;> rfl
theorem m_moveAll_c {a : Int32} {I : mI} {J : mJ} {Q : mI → mJ → Prop} (h : m_move 34 (nI 12) a (cnts I) J (fun I4 J5 => m_move 1 (nI 44) a I4 J5 (fun I6 J7 => m_move 2 (nI 16) a I6 J7 (fun I8 J9 => m_move 3 (nI 40) a I8 J9 (fun I10 J11 => m_move 4 (nI 6) a I10 J11 (fun I12 J13 => m_move 5 (nI 6) a I12 J13 (fun I14 J15 => m_move 6 (nI 210) a I14 J15 (fun I16 J17 => Q I16 J17)))))))) : m_moveAll a I J Q := by
  unfold m_moveAll
  exact nm_e (nm_e (nm_e h))
theorem mGv.congr {σ : wS} {c p mi ri ce cd wy c' p' mi' ri' ce' cd' wy' : Nat → Int32} (h : mGv σ c p mi ri ce cd wy) (h1 : ∀ k, k < 12 → c' k = c k) (h2 : ∀ j, j < 44 → p' j = p j) (h3 : ∀ j, j < 16 → mi' j = mi j) (h4 : ∀ j, j < 40 → ri' j = ri j) (h5 : ∀ j, j < 6 → ce' j = ce j) (h6 : ∀ j, j < 6 → cd' j = cd j) (h7 : ∀ j, j < 210 → wy' j = wy j) : mGv σ c' p' mi' ri' ce' cd' wy' := by
  obtain ⟨⟨c0, c1, c2, c3, c4, c5, c6, c7, c8, c9, c10, c11⟩, ⟨p0, p1, p2, p3, p4⟩, q1, q2, q3, q4, q5⟩ := h
  exact ⟨⟨(h1 0 (by decide)).trans c0, (h1 1 (by decide)).trans c1, (h1 2 (by decide)).trans c2, (h1 3 (by decide)).trans c3, (h1 4 (by decide)).trans c4, (h1 5 (by decide)).trans c5, (h1 6 (by decide)).trans c6, (h1 7 (by decide)).trans c7, (h1 8 (by decide)).trans c8, (h1 9 (by decide)).trans c9, (h1 10 (by decide)).trans c10, (h1 11 (by decide)).trans c11⟩,
    ⟨fun k hk => (h2 _ (by omega)).trans (p0 k hk), fun k hk => (h2 _ (by omega)).trans (p1 k hk), fun k hk => (h2 _ (by omega)).trans (p2 k hk), fun k hk => (h2 _ (by omega)).trans (p3 k hk), fun k f hk hf => (h2 _ (by omega)).trans (p4 k f hk hf)⟩, fun k hk => (h3 k hk).trans (q1 k hk), fun k hk => (h4 k hk).trans (q2 k hk), fun k hk => (h5 k hk).trans (q3 k hk), fun k hk => (h6 k hk).trans (q4 k hk), fun k hk => (h7 k hk).trans (q5 k hk)⟩
theorem p_keep {t : Nat} {s : xS} {rd : xRd} {J : mJ} {I Im : mI} {Jm : mJ} (h : Rel t s rd J I Im Jm) : x_X0_keep s rd J I (fun r rd' I' => m_keep Im Jm (RelQ (t + 1) s rd' J I' r)) := by
  obtain ⟨h0, σ, fz, hS⟩ := h.opn
  obtain ⟨a1, a2, a3, a4, a5, a6, a7, a8, a9, a10, a11, a12, a13⟩ := hS
  unfold x_X0_keep
  refine x_become_12_1_s a8.1 (fun rd' I' hg hr => ?_)
  unfold m_keep
  refine m_moveAll_c (m_moveK (p := 0) (by decide) rfl rfl (by decide) (by decide) (by decide) cnts_72 (fun b1 y1 z1 w1 v1 => ?_))
  refine m_moveK (p := 12) (by decide) rfl rfl (by decide) (by decide) (by decide) w1 (fun b2 y2 z2 w2 v2 => ?_)
  refine m_moveK (p := 56) (by decide) rfl rfl (by decide) (by decide) (by decide) w2 (fun b3 y3 z3 w3 v3 => ?_)
  refine m_moveK (p := 72) (by decide) rfl rfl (by decide) (by decide) (by decide) w3 (fun b4 y4 z4 w4 v4 => ?_)
  refine m_moveK (p := 112) (by decide) rfl rfl (by decide) (by decide) (by decide) w4 (fun b5 y5 z5 w5 v5 => ?_)
  refine m_moveK (p := 118) (by decide) rfl rfl (by decide) (by decide) (by decide) w5 (fun b6 y6 z6 w6 v6 => ?_)
  refine m_moveK (p := 124) (by decide) rfl rfl (by decide) (by decide) (by decide) w6 (fun b7 y7 z7 w7 v7 => ?_)
  have g : ∀ r, r ≠ 0 → r ≠ 33 → r ≠ 34 → b7 r = Im r := fun r r0 r3 r4 => by rw [y7 r r3 r0, y6 r r3 r0, y5 r r3 r0, y4 r r3 r0, y3 r r3 r0, y2 r r3 r0, y1 r r3 r0, cnts_r r4 r0]
  have g0 : ∀ f, f ≠ 72 → b7 0 f = Im 0 f := fun f hf => by rw [z7 f hf, z6 f hf, z5 f hf, z4 f hf, z3 f hf, z2 f hf, z1 f hf, cnts_0 hf]
  have gm : ∀ r, r ≠ 0 → r ≠ 33 → r ≠ 34 → u2 b7 0 70 1 r = Im r := fun r r0 r3 r4 => by rw [u2r r0]; exact g r r0 r3 r4
  have gm0 : ∀ f, f ≠ 70 → f ≠ 72 → u2 b7 0 70 1 0 f = Im 0 f := fun f h1 h2 => by rw [u2_ne _ _ (Or.inr h1)]; exact g0 f h2
  have gI : ∀ r, r ≠ 0 → r < 12 ∨ 22 < r → u2 I' 0 2 1 r = I r := fun r r0 hr => by rw [u2r r0]; exact hg.1 r (by omega)
  have gI0 : ∀ f, f ≠ 2 → u2 I' 0 2 1 0 f = I 0 f := fun f hf => by rw [u2_ne _ _ (Or.inr hf), hg.1 0 (by decide)]
  have gR : ∀ r k, r ≠ 19 → r ≠ 20 → xR rd' r k = xR rd r k := fun r k h1 h2 => xR_row (hr.1 r h1 h2)
  have ho : old s rd fz I s rd' fz (u2 I' 0 2 1) := ⟨Nat.le_refl _, fun _ _ => ⟨rfl, rfl⟩, fun r h1 _ => ⟨hr.1 r (by omega) (by omega), rfl, fun _ => gI r (by omega) (by omega)⟩⟩
  have hP := a1.2.2.1
  have ec : mcnt (u2 b7 0 70 1) = mcnt Im ∨ True := .inr trivial
  refine ⟨rfl, RelS.cls (σ := σ) (fz := fz) ⟨a1, a2.to (fun r r1 r2 => gI r (by omega) (by omega)), a3.to (fun r r1 r2 => gm r (by omega) (by omega) (by omega)) (fun k hk => gm0 k (by omega) (by omega)), a4.pe ⟨rfl, rfl, rfl, rfl, rfl, rfl⟩ (by rw [gI 23 (by decide) (by decide)]) (gI 24 (by decide) (by decide)) (gm0 18 (by decide) (by decide)) (gm 7 (by decide) (by decide) (by decide)), a5.sig rfl rfl (gm0 34 (by decide) (by decide)), a6.to ho (fun k => gR 8 k (by decide) (by decide)), a7.to ho (fun k => gR 9 k (by decide) (by decide)), ⟨⟨?_, ?_, ?_⟩, .inr ⟨u2_self _ _ _ _, u2_self _ _ _ _, σ, a1, ?_, ?_, ?_, ?_⟩⟩, ?_, ?_, ?_, ?_, ?_⟩ (by omega)⟩
  · rintro q (rfl | rfl) i hi y hy
    · exact a8.1.1 8 (.inl rfl) i hi y (by rw [← gR 8 i (by decide) (by decide)]; exact hy)
    · exact a8.1.1 8 (.inl rfl) i hi y (by rw [← hr.2.1 i hi]; exact hy)
  · rintro q (rfl | rfl | rfl) i hi y hy
    · exact a8.1.2.1 9 (.inl rfl) i hi y (by rw [← gR 9 i (by decide) (by decide)]; exact hy)
    · exact a8.1.2.1 9 (.inl rfl) i hi y (by rw [← hr.2.2 i hi]; exact hy)
    · exact a8.1.2.1 96 (.inr (.inr rfl)) i hi y (by rw [← gR 96 i (by decide) (by decide)]; exact hy)
  · intro k hk
    exact (gR 94 k (by decide) (by decide)).trans (a8.1.2.2 k hk)
  · exact (hg.xG a2).to (fun r r1 r2 => u2r (by omega))
  · unfold mKp
    rw [u2r (show 33 ≠ 0 by decide)]
    refine a3.congr (fun k hk => ?_) (fun j hj => ?_) (fun j hj => ?_) (fun j hj => ?_) (fun j hj => ?_) (fun j hj => ?_) (fun j hj => ?_)
    · rw [v7, if_neg (by omega), v6, if_neg (by omega), v5, if_neg (by omega), v4, if_neg (by omega), v3, if_neg (by omega), v2, if_neg (by omega), v1, if_pos (by omega), Nat.sub_zero, cnts_34 hk]
    · show b7 33 (12 + j) = _
      rw [v7, if_neg (by omega), v6, if_neg (by omega), v5, if_neg (by omega), v4, if_neg (by omega), v3, if_neg (by omega), v2, if_pos (by omega), show 12 + j - 12 = j by omega, y1 1 (by decide) (by decide), cnts_r (by decide) (by decide)]
    · show b7 33 (56 + j) = _
      rw [v7, if_neg (by omega), v6, if_neg (by omega), v5, if_neg (by omega), v4, if_neg (by omega), v3, if_pos (by omega), show 56 + j - 56 = j by omega, y2 2 (by decide) (by decide), y1 2 (by decide) (by decide), cnts_r (by decide) (by decide)]
    · show b7 33 (72 + j) = _
      rw [v7, if_neg (by omega), v6, if_neg (by omega), v5, if_neg (by omega), v4, if_pos (by omega), show 72 + j - 72 = j by omega, y3 3 (by decide) (by decide), y2 3 (by decide) (by decide), y1 3 (by decide) (by decide), cnts_r (by decide) (by decide)]
    · show b7 33 (112 + j) = _
      rw [v7, if_neg (by omega), v6, if_neg (by omega), v5, if_pos (by omega), show 112 + j - 112 = j by omega, y4 4 (by decide) (by decide), y3 4 (by decide) (by decide), y2 4 (by decide) (by decide), y1 4 (by decide) (by decide), cnts_r (by decide) (by decide)]
    · show b7 33 (118 + j) = _
      rw [v7, if_neg (by omega), v6, if_pos (by omega), show 118 + j - 118 = j by omega, y5 5 (by decide) (by decide), y4 5 (by decide) (by decide), y3 5 (by decide) (by decide), y2 5 (by decide) (by decide), y1 5 (by decide) (by decide), cnts_r (by decide) (by decide)]
    · show b7 33 (124 + j) = _
      rw [v7, if_pos (by omega), show 124 + j - 124 = j by omega, y6 6 (by decide) (by decide), y5 6 (by decide) (by decide), y4 6 (by decide) (by decide), y3 6 (by decide) (by decide), y2 6 (by decide) (by decide), y1 6 (by decide) (by decide), cnts_r (by decide) (by decide)]
  · exact a6.mv ho hP.1 (fun k hk => hr.2.1 k hk)
  · exact a7.mv ho hP.2.1 (fun k hk => hr.2.2 k hk)
  · exact a9.to (gI0 8 (by decide)) (gI 92 (by decide) (by decide)) (gm0 39 (by decide) (by decide)) (gm 19 (by decide) (by decide) (by decide))
  · exact a10.to (gI0 12 (by decide)) (fun r r1 r2 => gI r (by omega) (by omega)) (gm0 57 (by decide) (by decide)) (gm 25 (by decide) (by decide) (by decide))
  · exact a11.to (gI0 17 (by decide)) (gI 127 (by decide) (by decide)) (gm0 68 (by decide) (by decide)) (gm 32 (by decide) (by decide) (by decide))
  · exact a12.to2 (fun r hr => gI r (by omega) (by omega)) (fun r k r1 r2 => gR r k (by omega) (by omega)) (fun r r1 r2 => gm r (by omega) (by omega) (by omega))
  · exact a13.old ho (fun r r1 r2 => gI r (by omega) (by omega)) (fun r k r1 r2 => gR r k (by omega) (by omega)) (fun r r1 r2 => gm r (by omega) (by omega) (by omega))
/-- the counts, put back -/
def cbk (I : mI) : mI :=
  let I4 := u2 (u2 (u2 (u2 I 0 0 (I 34 0)) 0 1 (I 34 1)) 0 2 (I 34 2)) 0 3 (I 34 3)
  let I5 := u2 (u2 (u2 (u2 I4 0 4 (I4 34 4)) 0 5 (I4 34 5)) 0 6 (I4 34 6)) 0 7 (I4 34 7)
  u2 (u2 (u2 (u2 I5 0 8 (I5 34 8)) 0 9 (I5 34 9)) 0 10 (I5 34 10)) 0 12 (I5 34 11)
theorem cbk_r {I : mI} {r : Nat} (h : r ≠ 0) : cbk I r = I r := by
  unfold cbk
  rw [u2r h, u2r h, u2r h, u2r h, u2r h, u2r h, u2r h, u2r h, u2r h, u2r h, u2r h, u2r h]
theorem cbk_0 {I : mI} {f : Nat} (h : 12 < f) : cbk I 0 f = I 0 f := by
  unfold cbk
  rw [u2_ne _ _ (Or.inr (by omega)), u2_ne _ _ (Or.inr (by omega)), u2_ne _ _ (Or.inr (by omega)), u2_ne _ _ (Or.inr (by omega)), u2_ne _ _ (Or.inr (by omega)), u2_ne _ _ (Or.inr (by omega)), u2_ne _ _ (Or.inr (by omega)), u2_ne _ _ (Or.inr (by omega)), u2_ne _ _ (Or.inr (by omega)), u2_ne _ _ (Or.inr (by omega)), u2_ne _ _ (Or.inr (by omega)), u2_ne _ _ (Or.inr (by omega))]
theorem cbk_c {I : mI} {k : Nat} (hk : k < 12) : mcnt (cbk I) k = I 34 k := by
  have h : k = 0 ∨ k = 1 ∨ k = 2 ∨ k = 3 ∨ k = 4 ∨ k = 5 ∨ k = 6 ∨ k = 7 ∨ k = 8 ∨ k = 9 ∨ k = 10 ∨ k = 11 := by omega
  rcases h with rfl | rfl | rfl | rfl | rfl | rfl | rfl | rfl | rfl | rfl | rfl | rfl <;> rfl
theorem p_again {t : Nat} {s : xS} {rd : xRd} {J : mJ} {I Im : mI} {Jm : mJ} (h : Rel t s rd J I Im Jm) : x_X0_again s rd J I (fun r rd' I' => m_again Im Jm (RelQ (t + 1) s rd' J I' r)) := by
  obtain ⟨h0, σ, fz, hS⟩ := h.opn
  have hSS := hS
  obtain ⟨a1, a2, a3, a4, a5, a6, a7, a8, a9, a10, a11, a12, a13⟩ := hS
  unfold x_X0_again
  rcases a8.2 with ⟨k1, k2⟩ | ⟨k1, k2, κ, c1, c2, c3, c4, c5⟩
  · refine br_t k1 ?_
    unfold m_again
    exact br_t k2 ⟨rfl, h.same⟩
  refine br_f (by rw [k1]; decide) (x_become_1_12_s a8.1 (fun rd' I' hg hr => ?_))
  unfold m_again
  refine br_f (by rw [k2]; decide) (m_moveAll_c (m_moveA (p := 0) (by decide) rfl rfl (by decide) (by decide) (by decide) cnts_72 (fun b1 y1 z1 w1 v1 => ?_)))
  refine m_moveA (p := 12) (by decide) rfl rfl (by decide) (by decide) (by decide) w1 (fun b2 y2 z2 w2 v2 => ?_)
  refine m_moveA (p := 56) (by decide) rfl rfl (by decide) (by decide) (by decide) w2 (fun b3 y3 z3 w3 v3 => ?_)
  refine m_moveA (p := 72) (by decide) rfl rfl (by decide) (by decide) (by decide) w3 (fun b4 y4 z4 w4 v4 => ?_)
  refine m_moveA (p := 112) (by decide) rfl rfl (by decide) (by decide) (by decide) w4 (fun b5 y5 z5 w5 v5 => ?_)
  refine m_moveA (p := 118) (by decide) rfl rfl (by decide) (by decide) (by decide) w5 (fun b6 y6 z6 w6 v6 => ?_)
  refine m_moveA (p := 124) (by decide) rfl rfl (by decide) (by decide) (by decide) w6 (fun b7 y7 z7 w7 v7 => ?_)
  refine nm_e (nm_e (nm_e ?_))
  show RelQ (t + 1) s rd' J I' 1 1 (u2 (u2 (cbk b7) 0 34 (-1)) 0 18 ((cbk b7) 0 18 + 1)) Jm
  have g : ∀ r, r ≠ 0 → 7 ≤ r → r ≠ 34 → b7 r = Im r := fun r r0 r6 r4 => by rw [y7 r (by omega) r0, y6 r (by omega) r0, y5 r (by omega) r0, y4 r (by omega) r0, y3 r (by omega) r0, y2 r (by omega) r0, y1 r r4 r0, cnts_r r4 r0]
  have g0 : ∀ f, f ≠ 72 → b7 0 f = Im 0 f := fun f hf => by rw [z7 f hf, z6 f hf, z5 f hf, z4 f hf, z3 f hf, z2 f hf, z1 f hf, cnts_0 hf]
  have s33 : cnts Im 33 = Im 33 := cnts_r (by decide) (by decide)
  have gm : ∀ r, r ≠ 0 → 7 ≤ r → r ≠ 34 → u2 (u2 (cbk b7) 0 34 (-1)) 0 18 ((cbk b7) 0 18 + 1) r = Im r := fun r r0 r6 r4 => by rw [u2r r0, u2r r0, cbk_r r0]; exact g r r0 r6 r4
  have gm0 : ∀ f, 12 < f → f ≠ 34 → f ≠ 18 → f ≠ 72 → u2 (u2 (cbk b7) 0 34 (-1)) 0 18 ((cbk b7) 0 18 + 1) 0 f = Im 0 f := fun f h1 h2 h3 h4 => by rw [u2_ne _ _ (Or.inr h3), u2_ne _ _ (Or.inr h2), cbk_0 h1]; exact g0 f h4
  have gI : ∀ r, r < 1 ∨ 11 < r → I' r = I r := fun r hr => hg.1 r (by omega)
  have gR : ∀ r k, r ≠ 8 → r ≠ 9 → xR rd' r k = xR rd r k := fun r k h1 h2 => xR_row (hr.1 r h1 h2)
  have ho : old s rd fz I s rd' fz I' := ⟨Nat.le_refl _, fun _ _ => ⟨rfl, rfl⟩, fun r h1 _ => ⟨hr.1 r (by omega) (by omega), rfl, fun _ => gI r (by omega)⟩⟩
  have hP := c1.2.2.1
  have r33 : u2 (u2 (cbk b7) 0 34 (-1)) 0 18 ((cbk b7) 0 18 + 1) 33 = Im 33 := gm 33 (by decide) (by decide) (by decide)
  refine ⟨rfl, RelS.cls (σ := κ) (fz := fz) ⟨c1, hg.xG c2, ?_, a4.bump (by rw [gI 23 (by decide)]) (gI 24 (by decide)) ?_ (gm 7 (by decide) (by decide) (by decide)), ⟨0, by decide, ?_, fun m hm => absurd hm (by omega)⟩, c4.mv ho hP.1 (fun k hk => hr.2.1 k hk), c5.mv ho hP.2.1 (fun k hk => hr.2.2 k hk), ⟨⟨?_, ?_, ?_⟩, .inr ⟨by rw [gI 0 (by decide)]; exact k1, by rw [gm0 70 (by decide) (by decide) (by decide) (by decide)]; exact k2, κ, c1, c2.to (fun r r1 r2 => gI r (by omega)), by rw [r33]; exact c3, c4.to ho (fun k => gR 19 k (by decide) (by decide)), c5.to ho (fun k => gR 20 k (by decide) (by decide))⟩⟩, ?_, ?_, ?_, ?_, ?_⟩ (by omega)⟩
  · unfold mG
    have mc : ∀ k, k < 12 → mcnt (u2 (u2 (cbk b7) 0 34 (-1)) 0 18 ((cbk b7) 0 18 + 1)) k = mcnt (cbk b7) k := by
      intro k hk
      unfold mcnt
      split
      · rw [u2_ne _ _ (Or.inr (by decide)), u2_ne _ _ (Or.inr (by decide))]
      · rw [u2_ne _ _ (Or.inr (by omega)), u2_ne _ _ (Or.inr (by omega))]
    have rr : ∀ r, r ≠ 0 → u2 (u2 (cbk b7) 0 34 (-1)) 0 18 ((cbk b7) 0 18 + 1) r = b7 r := fun r r0 => by rw [u2r r0, u2r r0, cbk_r r0]
    rw [rr 1 (by decide), rr 2 (by decide), rr 3 (by decide), rr 4 (by decide), rr 5 (by decide), rr 6 (by decide)]
    have k3 : mGv κ (Im 33) (fun j => Im 33 (12 + j)) (fun j => Im 33 (56 + j)) (fun j => Im 33 (72 + j)) (fun j => Im 33 (112 + j)) (fun j => Im 33 (118 + j)) (fun j => Im 33 (124 + j)) := c3
    have q1 : b1 33 = Im 33 := by rw [y1 33 (by decide) (by decide), s33]
    have q2 : b2 33 = Im 33 := by rw [y2 33 (by decide) (by decide), q1]
    have q3 : b3 33 = Im 33 := by rw [y3 33 (by decide) (by decide), q2]
    have q4 : b4 33 = Im 33 := by rw [y4 33 (by decide) (by decide), q3]
    have q5 : b5 33 = Im 33 := by rw [y5 33 (by decide) (by decide), q4]
    have q6 : b6 33 = Im 33 := by rw [y6 33 (by decide) (by decide), q5]
    refine k3.congr (fun k hk => ?_) (fun j hj => ?_) (fun j hj => ?_) (fun j hj => ?_) (fun j hj => ?_) (fun j hj => ?_) (fun j hj => ?_)
    · rw [mc k hk, cbk_c hk, y7 34 (by decide) (by decide), y6 34 (by decide) (by decide), y5 34 (by decide) (by decide), y4 34 (by decide) (by decide), y3 34 (by decide) (by decide), y2 34 (by decide) (by decide), v1 k hk, s33, Nat.zero_add]
    · rw [y7 1 (by decide) (by decide), y6 1 (by decide) (by decide), y5 1 (by decide) (by decide), y4 1 (by decide) (by decide), y3 1 (by decide) (by decide), v2 j hj, q1]
    · rw [y7 2 (by decide) (by decide), y6 2 (by decide) (by decide), y5 2 (by decide) (by decide), y4 2 (by decide) (by decide), v3 j hj, q2]
    · rw [y7 3 (by decide) (by decide), y6 3 (by decide) (by decide), y5 3 (by decide) (by decide), v4 j hj, q3]
    · rw [y7 4 (by decide) (by decide), y6 4 (by decide) (by decide), v5 j hj, q4]
    · rw [y7 5 (by decide) (by decide), v6 j hj, q5]
    · rw [v7 j hj, q6]
  · rw [u2_self, cbk_0 (by decide), g0 18 (by decide)]
  · rw [u2_ne _ _ (Or.inr (by decide)), u2_self]; rfl
  · rintro q (rfl | rfl) i hi y hy
    · exact a8.1.1 19 (.inr rfl) i hi y (by rw [← hr.2.1 i hi]; exact hy)
    · exact a8.1.1 19 (.inr rfl) i hi y (by rw [← gR 19 i (by decide) (by decide)]; exact hy)
  · rintro q (rfl | rfl | rfl) i hi y hy
    · exact a8.1.2.1 20 (.inr (.inl rfl)) i hi y (by rw [← hr.2.2 i hi]; exact hy)
    · exact a8.1.2.1 20 (.inr (.inl rfl)) i hi y (by rw [← gR 20 i (by decide) (by decide)]; exact hy)
    · exact a8.1.2.1 96 (.inr (.inr rfl)) i hi y (by rw [← gR 96 i (by decide) (by decide)]; exact hy)
  · intro k hk
    exact (gR 94 k (by decide) (by decide)).trans (a8.1.2.2 k hk)
  · exact a9.to (by rw [gI 0 (by decide)]) (gI 92 (by decide)) (gm0 39 (by decide) (by decide) (by decide) (by decide)) (gm 19 (by decide) (by decide) (by decide))
  · exact a10.to (by rw [gI 0 (by decide)]) (fun r r1 r2 => gI r (by omega)) (gm0 57 (by decide) (by decide) (by decide) (by decide)) (gm 25 (by decide) (by decide) (by decide))
  · exact a11.to (by rw [gI 0 (by decide)]) (gI 127 (by decide)) (gm0 68 (by decide) (by decide) (by decide) (by decide)) (gm 32 (by decide) (by decide) (by decide))
  · exact a12.to2 (fun r hr => gI r (by omega)) (fun r k r1 r2 => gR r k (by omega) (by omega)) (fun r r1 r2 => gm r (by omega) (by omega) (by omega))
  · exact a13.old ho (fun r r1 r2 => gI r (by omega)) (fun r k r1 r2 => gR r k (by omega) (by omega)) (fun r r1 r2 => gm r (by omega) (by omega) (by omega))
