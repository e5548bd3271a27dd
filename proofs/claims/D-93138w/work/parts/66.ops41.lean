set_option maxRecDepth 100000
set_option maxHeartbeats 4000000
/-! PLAIN LAW, operations 41: act -/
/-- the bodies l have run: the row R, their number in field c of the object -/
def tz (R c : Nat) (l : List Int32) (I : mI) : mI := fun r k => if r = R ∧ k < l.length then l.getD k 0 else if r = 0 ∧ k = c then nI l.length else I r k
theorem tz_far {R c : Nat} {l : List Int32} {I : mI} {r k : Nat} (h1 : r ≠ R) (h2 : r ≠ 0 ∨ k ≠ c) : tz R c l I r k = I r k := by
  unfold tz
  rw [if_neg (fun z => h1 z.1), if_neg (fun z => h2.elim (fun y => y z.1) (fun y => y z.2))]
theorem tz_cnt {R c : Nat} {l : List Int32} {I : mI} (h : R ≠ 0) : tz R c l I 0 c = nI l.length := by
  unfold tz
  rw [if_neg (fun z => h z.1.symm), if_pos ⟨rfl, rfl⟩]
theorem tz_run {R c : Nat} {l : List Int32} {I : mI} {b : Int32} (h : R ≠ 0) : u2 (u2 (tz R c l I) R l.length b) 0 c (nI l.length + 1) = tz R c (l ++ [b]) I := by
  funext r k
  have len : (l ++ [b]).length = l.length + 1 := by simp
  by_cases e0 : r = 0 ∧ k = c
  · obtain ⟨rfl, rfl⟩ := e0
    rw [u2_self, tz_cnt h, len, nI_1]
  · rw [u2_ne _ _ (by rcases Decidable.not_and_iff_or_not.mp e0 with z | z; exact .inl z; exact .inr z)]
    by_cases e1 : r = R ∧ k = l.length
    · obtain ⟨rfl, rfl⟩ := e1
      rw [u2_self]
      unfold tz
      rw [if_pos ⟨rfl, by rw [len]; omega⟩]
      simp
    · rw [u2_ne _ _ (by rcases Decidable.not_and_iff_or_not.mp e1 with z | z; exact .inl z; exact .inr z)]
      unfold tz
      rw [if_neg e0, if_neg e0]
      by_cases e2 : r = R ∧ k < l.length
      · rw [if_pos e2, if_pos ⟨e2.1, by rw [len]; omega⟩]
        simp [List.getD_eq_getElem?_getD, List.getElem?_append_left e2.2]
      · rw [if_neg e2, if_neg (fun z => e2 ⟨z.1, by have := z.2; rw [len] at this; have h9 : k ≠ l.length := fun y => e1 ⟨z.1, y⟩; omega⟩)]
theorem tz_nil {R c : Nat} {I : mI} (h : I 0 c = 0) : tz R c [] I = I := by
  funext r k
  unfold tz
  rw [if_neg (fun z => absurd z.2 (by simp))]
  by_cases e : r = 0 ∧ k = c
  · rw [if_pos e, e.1, e.2, h]; rfl
  · rw [if_neg e]
theorem x_ran_z {l : List Int32} {b : Int32} {s : xS} {rd : xRd} {J : mJ} {I : mI} {Q : mI → Prop} (hl : l.length < 30) (h : Q (tz 127 17 (l ++ [b]) I)) : x_X0_ran b s rd J (tz 127 17 l I) Q := by
  unfold x_X0_ran x_X0_ran_j19
  rw [tz_cnt (by decide), nI_clamp (by omega)]
  refine pk_le 30 l.length (fun le => absurd le (by omega)) (fun _ => ⟨vp_in_nI hl (by decide), ?_⟩) rfl rfl (by omega) (by omega)
  rw [u2r (show 0 ≠ 127 by decide), tz_cnt (by decide), tz_run (by decide)]
  exact h
theorem m_ran_z {l : List Int32} {b : Int32} {I : mI} {J : mJ} {A : mI → mJ → Prop} (hl : l.length < 30) (h : A (tz 32 68 (l ++ [b]) I) J) : m_ran b (tz 32 68 l I) J A := by
  unfold m_ran
  rw [tz_cnt (by decide), nI_clamp (by omega)]
  refine pk_le 30 l.length (fun le => absurd le (by omega)) (fun _ => ⟨vp_in_nI hl (by decide), ?_⟩) rfl rfl (by omega) (by omega)
  rw [tz_run (by decide)]
  exact h
/-- a thing in the class's heap; the model's -/
def tH (m : Nat) (num a : Int32) (q : Nat) (s : xS) (rd : xRd) (I : mI) : Prop := 133 ≤ q ∧ xo s q (21 + m) ∧ I q 0 = num ∧ I q 1 = a ∧ ∀ j, 2 ≤ j → j < tN m → xR rd q j = some 0
def tM (m : Nat) (num a : Int32) (Im : mI) : Prop := Im 0 64 = nI m ∧ Im 0 65 = num ∧ Im 0 66 = a
theorem tH.n {m q : Nat} {num a : Int32} {s : xS} {rd : xRd} {I : mI} (h : tH m num a q s rd I) (l : List Int32) : tz 127 17 l I q 0 = num := by
  have := h.1
  rw [tz_far (by omega) (.inl (by omega))]; exact h.2.2.1
theorem tH.a {m q : Nat} {num a : Int32} {s : xS} {rd : xRd} {I : mI} (h : tH m num a q s rd I) (l : List Int32) : tz 127 17 l I q 1 = a := by
  have := h.1
  rw [tz_far (by omega) (.inl (by omega))]; exact h.2.2.2.1
theorem tM.k {m : Nat} {num a : Int32} {Im : mI} (h : tM m num a Im) (l : List Int32) : tz 32 68 l Im 0 64 = nI m := by rw [tz_far (by decide) (.inr (by decide))]; exact h.1
theorem tM.n {m : Nat} {num a : Int32} {Im : mI} (h : tM m num a Im) (l : List Int32) : tz 32 68 l Im 0 65 = num := by rw [tz_far (by decide) (.inr (by decide))]; exact h.2.1
theorem tM.a {m : Nat} {num a : Int32} {Im : mI} (h : tM m num a Im) (l : List Int32) : tz 32 68 l Im 0 66 = a := by rw [tz_far (by decide) (.inr (by decide))]; exact h.2.2
theorem tM.ne {m : Nat} {num a : Int32} {Im : mI} (h : tM m num a Im) (l : List Int32) (v : Nat) (h1 : m ≤ 9) (h2 : v ≤ 9) (h3 : m ≠ v) : ¬ tz 32 68 l Im 0 64 = nI v := fun z => h3 ((nI_eq (by omega) (by omega)).mp ((h.k l).symm.trans z))
theorem i32_sub0 {a b : Int32} : a - b = 0 ↔ a = b := by
  constructor
  · intro h
    have h2 := congrArg (fun z => z + b) h
    simpa using h2
  · rintro rfl
    simp
theorem x_X21_eats_c22_z {q : Nat} {x num a : Int32} {l : List Int32} {s : xS} {rd : xRd} {J : mJ} {I : mI} {QX : Nat → mI → Prop} {Q : Int32 → mI → Prop} (hT : tH 1 num a q s rd I) (hl : l.length + 1 ≤ 30) (h : Q (x + a) (tz 127 17 (l ++ [10]) I)) : x_X21_eats_c22 q x s rd J (tz 127 17 l I) QX Q := by
  unfold x_X21_eats_c22
  refine ⟨hT.2.1, hT.2.2.2.2 2 (by decide) (by decide), x_ran_z (by omega) ?_⟩
  rw [hT.a]
  exact h
theorem x_X28_stays_c22_z {q : Nat} {x num a : Int32} {l : List Int32} {s : xS} {rd : xRd} {J : mJ} {I : mI} {QX : Nat → mI → Prop} {Q : Int32 → mI → Prop} (hT : tH 1 num a q s rd I) (hl : l.length + 1 ≤ 30) (h : Q ((x + a) * 2) (tz 127 17 (l ++ [10]) I)) : x_X28_stays_c22 q x s rd J (tz 127 17 l I) QX Q := by
  unfold x_X28_stays_c22
  exact ⟨hT.2.1, x_X21_eats_c22_z hT hl h⟩
theorem x_X21_stays_c22_z {q : Nat} {x num a : Int32} {l : List Int32} {s : xS} {rd : xRd} {J : mJ} {I : mI} {QX : Nat → mI → Prop} {Q : Int32 → mI → Prop} (hT : tH 1 num a q s rd I) (hl : l.length + 2 ≤ 30) (h : Q ((x + a) * 2) (tz 127 17 (l ++ [11, 10]) I)) : x_X21_stays_c22 q x s rd J (tz 127 17 l I) QX Q := by
  unfold x_X21_stays_c22
  refine ⟨hT.2.1, hT.2.2.2.2 2 (by decide) (by decide), x_ran_z (by omega) (x_X28_stays_c22_z hT (by first | omega | (simp only [List.length_append, List.length_cons, List.length_nil]; omega)) ?_)⟩
  rw [List.append_assoc]
  exact h
theorem x_X22_stays_c22_z {q : Nat} {x num a : Int32} {l : List Int32} {s : xS} {rd : xRd} {J : mJ} {I : mI} {QX : Nat → mI → Prop} {Q : Int32 → mI → Prop} (hT : tH 1 num a q s rd I) (hl : l.length + 3 ≤ 30) (h : Q (((x + a) * 2) - 4) (tz 127 17 (l ++ [20, 11, 10]) I)) : x_X22_stays_c22 q x s rd J (tz 127 17 l I) QX Q := by
  unfold x_X22_stays_c22
  refine ⟨hT.2.1, hT.2.2.2.2 3 (by decide) (by decide), x_ran_z (by omega) (x_X21_stays_c22_z hT (by first | omega | (simp only [List.length_append, List.length_cons, List.length_nil]; omega)) ?_)⟩
  rw [List.append_assoc]
  exact h
theorem x_X21_flies_c22_z {q : Nat} {y num a : Int32} {l : List Int32} {s : xS} {rd : xRd} {J : mJ} {I : mI} {QX : Nat → mI → Prop} {Q : Int32 → mI → Prop} (hT : tH 1 num a q s rd I) (hl : l.length + 1 ≤ 30) (hs : a ≠ num → Q (y / (a - num)) (tz 127 17 (l ++ [12]) I)) (hn : a = num → QX 5 (tz 127 17 (l ++ [12]) I)) : x_X21_flies_c22 q y s rd J (tz 127 17 l I) QX Q := by
  unfold x_X21_flies_c22
  refine ⟨hT.2.1, hT.2.2.2.2 2 (by decide) (by decide), x_ran_z (by omega) ?_⟩
  rw [hT.a, hT.n, i32_sub0]
  exact ⟨hn, hs⟩
theorem x_X21_tells_c22_z {q : Nat} {x num a : Int32} {l : List Int32} {s : xS} {rd : xRd} {J : mJ} {I : mI} {QX : Nat → mI → Prop} {Q : Int32 → mI → Prop} (hT : tH 1 num a q s rd I) (hl : l.length + 4 ≤ 30) (h : Q ((((x + a) * 2) - 4) ^^^ num) (tz 127 17 (l ++ [13, 20, 11, 10]) I)) : x_X21_tells_c22 q x s rd J (tz 127 17 l I) QX Q := by
  unfold x_X21_tells_c22
  refine ⟨hT.2.1, hT.2.2.2.2 2 (by decide) (by decide), x_ran_z (by omega) (x_X22_stays_c22_z hT (by first | omega | (simp only [List.length_append, List.length_cons, List.length_nil]; omega)) ?_)⟩
  rw [List.append_assoc, hT.n]
  exact h
theorem x_X21_eats_c23_z {q : Nat} {x num a : Int32} {l : List Int32} {s : xS} {rd : xRd} {J : mJ} {I : mI} {QX : Nat → mI → Prop} {Q : Int32 → mI → Prop} (hT : tH 2 num a q s rd I) (hl : l.length + 1 ≤ 30) (h : Q (x + a) (tz 127 17 (l ++ [10]) I)) : x_X21_eats_c23 q x s rd J (tz 127 17 l I) QX Q := by
  unfold x_X21_eats_c23
  refine ⟨hT.2.1, hT.2.2.2.2 2 (by decide) (by decide), x_ran_z (by omega) ?_⟩
  rw [hT.a]
  exact h
theorem x_X23_eats_c23_z {q : Nat} {x num a : Int32} {l : List Int32} {s : xS} {rd : xRd} {J : mJ} {I : mI} {QX : Nat → mI → Prop} {Q : Int32 → mI → Prop} (hT : tH 2 num a q s rd I) (hl : l.length + 2 ≤ 30) (h : Q ((x + a) * 3) (tz 127 17 (l ++ [30, 10]) I)) : x_X23_eats_c23 q x s rd J (tz 127 17 l I) QX Q := by
  unfold x_X23_eats_c23
  refine ⟨hT.2.1, hT.2.2.2.2 4 (by decide) (by decide), x_ran_z (by omega) (x_X21_eats_c23_z hT (by first | omega | (simp only [List.length_append, List.length_cons, List.length_nil]; omega)) ?_)⟩
  rw [List.append_assoc]
  exact h
theorem x_X28_stays_c23_z {q : Nat} {x num a : Int32} {l : List Int32} {s : xS} {rd : xRd} {J : mJ} {I : mI} {QX : Nat → mI → Prop} {Q : Int32 → mI → Prop} (hT : tH 2 num a q s rd I) (hl : l.length + 2 ≤ 30) (h : Q (((x + a) * 3) * 2) (tz 127 17 (l ++ [30, 10]) I)) : x_X28_stays_c23 q x s rd J (tz 127 17 l I) QX Q := by
  unfold x_X28_stays_c23
  exact ⟨hT.2.1, x_X23_eats_c23_z hT hl h⟩
theorem x_X21_stays_c23_z {q : Nat} {x num a : Int32} {l : List Int32} {s : xS} {rd : xRd} {J : mJ} {I : mI} {QX : Nat → mI → Prop} {Q : Int32 → mI → Prop} (hT : tH 2 num a q s rd I) (hl : l.length + 3 ≤ 30) (h : Q (((x + a) * 3) * 2) (tz 127 17 (l ++ [11, 30, 10]) I)) : x_X21_stays_c23 q x s rd J (tz 127 17 l I) QX Q := by
  unfold x_X21_stays_c23
  refine ⟨hT.2.1, hT.2.2.2.2 2 (by decide) (by decide), x_ran_z (by omega) (x_X28_stays_c23_z hT (by first | omega | (simp only [List.length_append, List.length_cons, List.length_nil]; omega)) ?_)⟩
  rw [List.append_assoc]
  exact h
theorem x_X22_stays_c23_z {q : Nat} {x num a : Int32} {l : List Int32} {s : xS} {rd : xRd} {J : mJ} {I : mI} {QX : Nat → mI → Prop} {Q : Int32 → mI → Prop} (hT : tH 2 num a q s rd I) (hl : l.length + 4 ≤ 30) (h : Q ((((x + a) * 3) * 2) - 4) (tz 127 17 (l ++ [20, 11, 30, 10]) I)) : x_X22_stays_c23 q x s rd J (tz 127 17 l I) QX Q := by
  unfold x_X22_stays_c23
  refine ⟨hT.2.1, hT.2.2.2.2 3 (by decide) (by decide), x_ran_z (by omega) (x_X21_stays_c23_z hT (by first | omega | (simp only [List.length_append, List.length_cons, List.length_nil]; omega)) ?_)⟩
  rw [List.append_assoc]
  exact h
theorem x_X21_flies_c23_z {q : Nat} {y num a : Int32} {l : List Int32} {s : xS} {rd : xRd} {J : mJ} {I : mI} {QX : Nat → mI → Prop} {Q : Int32 → mI → Prop} (hT : tH 2 num a q s rd I) (hl : l.length + 1 ≤ 30) (hs : a ≠ num → Q (y / (a - num)) (tz 127 17 (l ++ [12]) I)) (hn : a = num → QX 5 (tz 127 17 (l ++ [12]) I)) : x_X21_flies_c23 q y s rd J (tz 127 17 l I) QX Q := by
  unfold x_X21_flies_c23
  refine ⟨hT.2.1, hT.2.2.2.2 2 (by decide) (by decide), x_ran_z (by omega) ?_⟩
  rw [hT.a, hT.n, i32_sub0]
  exact ⟨hn, hs⟩
theorem x_X21_tells_c23_z {q : Nat} {x num a : Int32} {l : List Int32} {s : xS} {rd : xRd} {J : mJ} {I : mI} {QX : Nat → mI → Prop} {Q : Int32 → mI → Prop} (hT : tH 2 num a q s rd I) (hl : l.length + 5 ≤ 30) (h : Q (((((x + a) * 3) * 2) - 4) ^^^ num) (tz 127 17 (l ++ [13, 20, 11, 30, 10]) I)) : x_X21_tells_c23 q x s rd J (tz 127 17 l I) QX Q := by
  unfold x_X21_tells_c23
  refine ⟨hT.2.1, hT.2.2.2.2 2 (by decide) (by decide), x_ran_z (by omega) (x_X22_stays_c23_z hT (by first | omega | (simp only [List.length_append, List.length_cons, List.length_nil]; omega)) ?_)⟩
  rw [List.append_assoc, hT.n]
  exact h
theorem x_X23_tells_c23_z {q : Nat} {x num a : Int32} {l : List Int32} {s : xS} {rd : xRd} {J : mJ} {I : mI} {QX : Nat → mI → Prop} {Q : Int32 → mI → Prop} (hT : tH 2 num a q s rd I) (hl : l.length + 7 ≤ 30) (hs : a ≠ num → Q ((((((x + a) * 3) * 2) - 4) ^^^ num) + ((num + 1) / (a - num))) (tz 127 17 (l ++ [31, 13, 20, 11, 30, 10, 12]) I)) (hn : a = num → QX 5 (tz 127 17 (l ++ [31, 13, 20, 11, 30, 10, 12]) I)) : x_X23_tells_c23 q x s rd J (tz 127 17 l I) QX Q := by
  unfold x_X23_tells_c23
  refine ⟨hT.2.1, hT.2.2.2.2 4 (by decide) (by decide), x_ran_z (by omega) (x_X21_tells_c23_z hT (by first | omega | (simp only [List.length_append, List.length_cons, List.length_nil]; omega)) ?_)⟩
  rw [hT.n]
  refine x_X21_flies_c23_z hT (by first | omega | (simp only [List.length_append, List.length_cons, List.length_nil]; omega)) (fun z => ?_) (fun z => ?_)
  · rw [List.append_assoc, List.append_assoc]; exact hs z
  · rw [List.append_assoc, List.append_assoc]; exact hn z
theorem x_X21_eats_c24_z {q : Nat} {x num a : Int32} {l : List Int32} {s : xS} {rd : xRd} {J : mJ} {I : mI} {QX : Nat → mI → Prop} {Q : Int32 → mI → Prop} (hT : tH 3 num a q s rd I) (hl : l.length + 1 ≤ 30) (h : Q (x + a) (tz 127 17 (l ++ [10]) I)) : x_X21_eats_c24 q x s rd J (tz 127 17 l I) QX Q := by
  unfold x_X21_eats_c24
  refine ⟨hT.2.1, hT.2.2.2.2 2 (by decide) (by decide), x_ran_z (by omega) ?_⟩
  rw [hT.a]
  exact h
theorem x_X23_eats_c24_z {q : Nat} {x num a : Int32} {l : List Int32} {s : xS} {rd : xRd} {J : mJ} {I : mI} {QX : Nat → mI → Prop} {Q : Int32 → mI → Prop} (hT : tH 3 num a q s rd I) (hl : l.length + 2 ≤ 30) (h : Q ((x + a) * 3) (tz 127 17 (l ++ [30, 10]) I)) : x_X23_eats_c24 q x s rd J (tz 127 17 l I) QX Q := by
  unfold x_X23_eats_c24
  refine ⟨hT.2.1, hT.2.2.2.2 4 (by decide) (by decide), x_ran_z (by omega) (x_X21_eats_c24_z hT (by first | omega | (simp only [List.length_append, List.length_cons, List.length_nil]; omega)) ?_)⟩
  rw [List.append_assoc]
  exact h
theorem x_X24_eats_c24_z {q : Nat} {x num a : Int32} {l : List Int32} {s : xS} {rd : xRd} {J : mJ} {I : mI} {QX : Nat → mI → Prop} {Q : Int32 → mI → Prop} (hT : tH 3 num a q s rd I) (hl : l.length + 3 ≤ 30) (h : Q (((x + a) * 3) ^^^ a) (tz 127 17 (l ++ [40, 30, 10]) I)) : x_X24_eats_c24 q x s rd J (tz 127 17 l I) QX Q := by
  unfold x_X24_eats_c24
  refine ⟨hT.2.1, hT.2.2.2.2 5 (by decide) (by decide), x_ran_z (by omega) (x_X23_eats_c24_z hT (by first | omega | (simp only [List.length_append, List.length_cons, List.length_nil]; omega)) ?_)⟩
  rw [List.append_assoc, hT.a]
  exact h
theorem x_X28_stays_c24_z {q : Nat} {x num a : Int32} {l : List Int32} {s : xS} {rd : xRd} {J : mJ} {I : mI} {QX : Nat → mI → Prop} {Q : Int32 → mI → Prop} (hT : tH 3 num a q s rd I) (hl : l.length + 3 ≤ 30) (h : Q ((((x + a) * 3) ^^^ a) * 2) (tz 127 17 (l ++ [40, 30, 10]) I)) : x_X28_stays_c24 q x s rd J (tz 127 17 l I) QX Q := by
  unfold x_X28_stays_c24
  exact ⟨hT.2.1, x_X24_eats_c24_z hT hl h⟩
theorem x_X21_stays_c24_z {q : Nat} {x num a : Int32} {l : List Int32} {s : xS} {rd : xRd} {J : mJ} {I : mI} {QX : Nat → mI → Prop} {Q : Int32 → mI → Prop} (hT : tH 3 num a q s rd I) (hl : l.length + 4 ≤ 30) (h : Q ((((x + a) * 3) ^^^ a) * 2) (tz 127 17 (l ++ [11, 40, 30, 10]) I)) : x_X21_stays_c24 q x s rd J (tz 127 17 l I) QX Q := by
  unfold x_X21_stays_c24
  refine ⟨hT.2.1, hT.2.2.2.2 2 (by decide) (by decide), x_ran_z (by omega) (x_X28_stays_c24_z hT (by first | omega | (simp only [List.length_append, List.length_cons, List.length_nil]; omega)) ?_)⟩
  rw [List.append_assoc]
  exact h
theorem x_X22_stays_c24_z {q : Nat} {x num a : Int32} {l : List Int32} {s : xS} {rd : xRd} {J : mJ} {I : mI} {QX : Nat → mI → Prop} {Q : Int32 → mI → Prop} (hT : tH 3 num a q s rd I) (hl : l.length + 5 ≤ 30) (h : Q (((((x + a) * 3) ^^^ a) * 2) - 4) (tz 127 17 (l ++ [20, 11, 40, 30, 10]) I)) : x_X22_stays_c24 q x s rd J (tz 127 17 l I) QX Q := by
  unfold x_X22_stays_c24
  refine ⟨hT.2.1, hT.2.2.2.2 3 (by decide) (by decide), x_ran_z (by omega) (x_X21_stays_c24_z hT (by first | omega | (simp only [List.length_append, List.length_cons, List.length_nil]; omega)) ?_)⟩
  rw [List.append_assoc]
  exact h
theorem x_X21_flies_c24_z {q : Nat} {y num a : Int32} {l : List Int32} {s : xS} {rd : xRd} {J : mJ} {I : mI} {QX : Nat → mI → Prop} {Q : Int32 → mI → Prop} (hT : tH 3 num a q s rd I) (hl : l.length + 1 ≤ 30) (hs : a ≠ num → Q (y / (a - num)) (tz 127 17 (l ++ [12]) I)) (hn : a = num → QX 5 (tz 127 17 (l ++ [12]) I)) : x_X21_flies_c24 q y s rd J (tz 127 17 l I) QX Q := by
  unfold x_X21_flies_c24
  refine ⟨hT.2.1, hT.2.2.2.2 2 (by decide) (by decide), x_ran_z (by omega) ?_⟩
  rw [hT.a, hT.n, i32_sub0]
  exact ⟨hn, hs⟩
theorem x_X24_flies_c24_z {q : Nat} {y num a : Int32} {l : List Int32} {s : xS} {rd : xRd} {J : mJ} {I : mI} {QX : Nat → mI → Prop} {Q : Int32 → mI → Prop} (hT : tH 3 num a q s rd I) (hl : l.length + 2 ≤ 30) (hs : a ≠ num → Q ((y - 1) / (a - num)) (tz 127 17 (l ++ [41, 12]) I)) (hn : a = num → QX 5 (tz 127 17 (l ++ [41, 12]) I)) : x_X24_flies_c24 q y s rd J (tz 127 17 l I) QX Q := by
  unfold x_X24_flies_c24
  refine ⟨hT.2.1, hT.2.2.2.2 5 (by decide) (by decide), x_ran_z (by omega) (x_X21_flies_c24_z hT (by first | omega | (simp only [List.length_append, List.length_cons, List.length_nil]; omega)) (fun z => ?_) (fun z => ?_))⟩
  · rw [List.append_assoc]; exact hs z
  · rw [List.append_assoc]; exact hn z
theorem x_X21_tells_c24_z {q : Nat} {x num a : Int32} {l : List Int32} {s : xS} {rd : xRd} {J : mJ} {I : mI} {QX : Nat → mI → Prop} {Q : Int32 → mI → Prop} (hT : tH 3 num a q s rd I) (hl : l.length + 6 ≤ 30) (h : Q ((((((x + a) * 3) ^^^ a) * 2) - 4) ^^^ num) (tz 127 17 (l ++ [13, 20, 11, 40, 30, 10]) I)) : x_X21_tells_c24 q x s rd J (tz 127 17 l I) QX Q := by
  unfold x_X21_tells_c24
  refine ⟨hT.2.1, hT.2.2.2.2 2 (by decide) (by decide), x_ran_z (by omega) (x_X22_stays_c24_z hT (by first | omega | (simp only [List.length_append, List.length_cons, List.length_nil]; omega)) ?_)⟩
  rw [List.append_assoc, hT.n]
  exact h
theorem x_X23_tells_c24_z {q : Nat} {x num a : Int32} {l : List Int32} {s : xS} {rd : xRd} {J : mJ} {I : mI} {QX : Nat → mI → Prop} {Q : Int32 → mI → Prop} (hT : tH 3 num a q s rd I) (hl : l.length + 9 ≤ 30) (hs : a ≠ num → Q (((((((x + a) * 3) ^^^ a) * 2) - 4) ^^^ num) + (((num + 1) - 1) / (a - num))) (tz 127 17 (l ++ [31, 13, 20, 11, 40, 30, 10, 41, 12]) I)) (hn : a = num → QX 5 (tz 127 17 (l ++ [31, 13, 20, 11, 40, 30, 10, 41, 12]) I)) : x_X23_tells_c24 q x s rd J (tz 127 17 l I) QX Q := by
  unfold x_X23_tells_c24
  refine ⟨hT.2.1, hT.2.2.2.2 4 (by decide) (by decide), x_ran_z (by omega) (x_X21_tells_c24_z hT (by first | omega | (simp only [List.length_append, List.length_cons, List.length_nil]; omega)) ?_)⟩
  rw [hT.n]
  refine x_X24_flies_c24_z hT (by first | omega | (simp only [List.length_append, List.length_cons, List.length_nil]; omega)) (fun z => ?_) (fun z => ?_)
  · rw [List.append_assoc, List.append_assoc]; exact hs z
  · rw [List.append_assoc, List.append_assoc]; exact hn z
theorem x_X21_eats_c25_z {q : Nat} {x num a : Int32} {l : List Int32} {s : xS} {rd : xRd} {J : mJ} {I : mI} {QX : Nat → mI → Prop} {Q : Int32 → mI → Prop} (hT : tH 4 num a q s rd I) (hl : l.length + 1 ≤ 30) (h : Q (x + a) (tz 127 17 (l ++ [10]) I)) : x_X21_eats_c25 q x s rd J (tz 127 17 l I) QX Q := by
  unfold x_X21_eats_c25
  refine ⟨hT.2.1, hT.2.2.2.2 2 (by decide) (by decide), x_ran_z (by omega) ?_⟩
  rw [hT.a]
  exact h
theorem x_X28_stays_c25_z {q : Nat} {x num a : Int32} {l : List Int32} {s : xS} {rd : xRd} {J : mJ} {I : mI} {QX : Nat → mI → Prop} {Q : Int32 → mI → Prop} (hT : tH 4 num a q s rd I) (hl : l.length + 1 ≤ 30) (h : Q ((x + a) * 2) (tz 127 17 (l ++ [10]) I)) : x_X28_stays_c25 q x s rd J (tz 127 17 l I) QX Q := by
  unfold x_X28_stays_c25
  exact ⟨hT.2.1, x_X21_eats_c25_z hT hl h⟩
theorem x_X21_stays_c25_z {q : Nat} {x num a : Int32} {l : List Int32} {s : xS} {rd : xRd} {J : mJ} {I : mI} {QX : Nat → mI → Prop} {Q : Int32 → mI → Prop} (hT : tH 4 num a q s rd I) (hl : l.length + 2 ≤ 30) (h : Q ((x + a) * 2) (tz 127 17 (l ++ [11, 10]) I)) : x_X21_stays_c25 q x s rd J (tz 127 17 l I) QX Q := by
  unfold x_X21_stays_c25
  refine ⟨hT.2.1, hT.2.2.2.2 2 (by decide) (by decide), x_ran_z (by omega) (x_X28_stays_c25_z hT (by first | omega | (simp only [List.length_append, List.length_cons, List.length_nil]; omega)) ?_)⟩
  rw [List.append_assoc]
  exact h
theorem x_X25_stays_c25_z {q : Nat} {x num a : Int32} {l : List Int32} {s : xS} {rd : xRd} {J : mJ} {I : mI} {QX : Nat → mI → Prop} {Q : Int32 → mI → Prop} (hT : tH 4 num a q s rd I) (hl : l.length + 3 ≤ 30) (h : Q (0 - ((x + a) * 2)) (tz 127 17 (l ++ [50, 11, 10]) I)) : x_X25_stays_c25 q x s rd J (tz 127 17 l I) QX Q := by
  unfold x_X25_stays_c25
  refine ⟨hT.2.1, hT.2.2.2.2 3 (by decide) (by decide), x_ran_z (by omega) (x_X21_stays_c25_z hT (by first | omega | (simp only [List.length_append, List.length_cons, List.length_nil]; omega)) ?_)⟩
  rw [List.append_assoc]
  exact h
theorem x_X21_flies_c25_z {q : Nat} {y num a : Int32} {l : List Int32} {s : xS} {rd : xRd} {J : mJ} {I : mI} {QX : Nat → mI → Prop} {Q : Int32 → mI → Prop} (hT : tH 4 num a q s rd I) (hl : l.length + 1 ≤ 30) (hs : a ≠ num → Q (y / (a - num)) (tz 127 17 (l ++ [12]) I)) (hn : a = num → QX 5 (tz 127 17 (l ++ [12]) I)) : x_X21_flies_c25 q y s rd J (tz 127 17 l I) QX Q := by
  unfold x_X21_flies_c25
  refine ⟨hT.2.1, hT.2.2.2.2 2 (by decide) (by decide), x_ran_z (by omega) ?_⟩
  rw [hT.a, hT.n, i32_sub0]
  exact ⟨hn, hs⟩
theorem x_X21_tells_c25_z {q : Nat} {x num a : Int32} {l : List Int32} {s : xS} {rd : xRd} {J : mJ} {I : mI} {QX : Nat → mI → Prop} {Q : Int32 → mI → Prop} (hT : tH 4 num a q s rd I) (hl : l.length + 4 ≤ 30) (h : Q ((0 - ((x + a) * 2)) ^^^ num) (tz 127 17 (l ++ [13, 50, 11, 10]) I)) : x_X21_tells_c25 q x s rd J (tz 127 17 l I) QX Q := by
  unfold x_X21_tells_c25
  refine ⟨hT.2.1, hT.2.2.2.2 2 (by decide) (by decide), x_ran_z (by omega) (x_X25_stays_c25_z hT (by first | omega | (simp only [List.length_append, List.length_cons, List.length_nil]; omega)) ?_)⟩
  rw [List.append_assoc, hT.n]
  exact h
theorem x_X26_eats_z {q : Nat} {x num a : Int32} {l : List Int32} {s : xS} {rd : xRd} {J : mJ} {I : mI} {QX : Nat → mI → Prop} {Q : Int32 → mI → Prop} (hT : tH 5 num a q s rd I) (hl : l.length + 1 ≤ 30) (h : Q (a - x) (tz 127 17 (l ++ [60]) I)) : x_X26_eats q x s rd J (tz 127 17 l I) QX Q := by
  unfold x_X26_eats
  refine ⟨hT.2.1, hT.2.2.2.2 2 (by decide) (by decide), x_ran_z (by omega) ?_⟩
  rw [hT.a]
  exact h
theorem x_X26_stays_z {q : Nat} {x num a : Int32} {l : List Int32} {s : xS} {rd : xRd} {J : mJ} {I : mI} {QX : Nat → mI → Prop} {Q : Int32 → mI → Prop} (hT : tH 5 num a q s rd I) (hl : l.length + 2 ≤ 30) (h : Q ((a - x) + num) (tz 127 17 (l ++ [61, 60]) I)) : x_X26_stays q x s rd J (tz 127 17 l I) QX Q := by
  unfold x_X26_stays
  refine ⟨hT.2.1, hT.2.2.2.2 2 (by decide) (by decide), x_ran_z (by omega) (x_X26_eats_z hT (by first | omega | (simp only [List.length_append, List.length_cons, List.length_nil]; omega)) ?_)⟩
  rw [List.append_assoc, hT.n]
  exact h
theorem x_X26_flies_z {q : Nat} {y num a : Int32} {l : List Int32} {s : xS} {rd : xRd} {J : mJ} {I : mI} {QX : Nat → mI → Prop} {Q : Int32 → mI → Prop} (hT : tH 5 num a q s rd I) (hl : l.length + 1 ≤ 30) (h : Q (y &&& a) (tz 127 17 (l ++ [62]) I)) : x_X26_flies q y s rd J (tz 127 17 l I) QX Q := by
  unfold x_X26_flies
  refine ⟨hT.2.1, hT.2.2.2.2 2 (by decide) (by decide), x_ran_z (by omega) ?_⟩
  rw [hT.a]
  exact h
theorem x_X26_tells_z {q : Nat} {x num a : Int32} {l : List Int32} {s : xS} {rd : xRd} {J : mJ} {I : mI} {QX : Nat → mI → Prop} {Q : Int32 → mI → Prop} (hT : tH 5 num a q s rd I) (hl : l.length + 3 ≤ 30) (h : Q (((a - x) + num) * 7) (tz 127 17 (l ++ [63, 61, 60]) I)) : x_X26_tells q x s rd J (tz 127 17 l I) QX Q := by
  unfold x_X26_tells
  refine ⟨hT.2.1, hT.2.2.2.2 2 (by decide) (by decide), x_ran_z (by omega) (x_X26_stays_z hT (by first | omega | (simp only [List.length_append, List.length_cons, List.length_nil]; omega)) ?_)⟩
  rw [List.append_assoc]
  exact h
theorem x_X27_eats_z {q : Nat} {x num a : Int32} {l : List Int32} {s : xS} {rd : xRd} {J : mJ} {I : mI} {QX : Nat → mI → Prop} {Q : Int32 → mI → Prop} (hT : tH 6 num a q s rd I) (hl : l.length + 1 ≤ 30) (h : Q (x - a) (tz 127 17 (l ++ [70]) I)) : x_X27_eats q x s rd J (tz 127 17 l I) QX Q := by
  unfold x_X27_eats
  refine ⟨hT.2.1, hT.2.2.2.2 2 (by decide) (by decide), x_ran_z (by omega) ?_⟩
  rw [hT.a]
  exact h
theorem x_X27_stays_z {q : Nat} {x num a : Int32} {l : List Int32} {s : xS} {rd : xRd} {J : mJ} {I : mI} {QX : Nat → mI → Prop} {Q : Int32 → mI → Prop} (hT : tH 6 num a q s rd I) (hl : l.length + 1 ≤ 30) (h : Q (x * num) (tz 127 17 (l ++ [71]) I)) : x_X27_stays q x s rd J (tz 127 17 l I) QX Q := by
  unfold x_X27_stays
  refine ⟨hT.2.1, hT.2.2.2.2 2 (by decide) (by decide), x_ran_z (by omega) ?_⟩
  rw [hT.n]
  exact h
theorem x_X27_flies_z {q : Nat} {x num a : Int32} {l : List Int32} {s : xS} {rd : xRd} {J : mJ} {I : mI} {QX : Nat → mI → Prop} {Q : Int32 → mI → Prop} (hT : tH 6 num a q s rd I) (hl : l.length + 3 ≤ 30) (h : Q ((x - a) + (x * num)) (tz 127 17 (l ++ [72, 70, 71]) I)) : x_X27_flies q x s rd J (tz 127 17 l I) QX Q := by
  unfold x_X27_flies
  refine ⟨hT.2.1, hT.2.2.2.2 2 (by decide) (by decide), x_ran_z (by omega) (x_X27_eats_z hT (by first | omega | (simp only [List.length_append, List.length_cons, List.length_nil]; omega)) (x_X27_stays_z hT (by first | omega | (simp only [List.length_append, List.length_cons, List.length_nil]; omega)) ?_))⟩
  rw [List.append_assoc, List.append_assoc]
  exact h
theorem x_X27_tells_z {q : Nat} {x num a : Int32} {l : List Int32} {s : xS} {rd : xRd} {J : mJ} {I : mI} {QX : Nat → mI → Prop} {Q : Int32 → mI → Prop} (hT : tH 6 num a q s rd I) (hl : l.length + 4 ≤ 30) (h : Q (((x - a) + (x * num)) ^^^ a) (tz 127 17 (l ++ [73, 72, 70, 71]) I)) : x_X27_tells q x s rd J (tz 127 17 l I) QX Q := by
  unfold x_X27_tells
  refine ⟨hT.2.1, hT.2.2.2.2 2 (by decide) (by decide), x_ran_z (by omega) (x_X27_flies_z hT (by first | omega | (simp only [List.length_append, List.length_cons, List.length_nil]; omega)) ?_)⟩
  rw [List.append_assoc, hT.a]
  exact h
theorem m_eats_z1 {x num a : Int32} {l : List Int32} {J : mJ} {I : mI} {A : Int32 → mI → mJ → Prop} (hM : tM 1 num a I) (hl : l.length + 1 ≤ 30) (h : A (x + a) (tz 32 68 (l ++ [10]) I) J) : m_eatsIt x (tz 32 68 l I) J A := by
  unfold m_eatsIt m_eatsIt_j57 m_eatsIt_j73 m_eatsIt_j78 m_eatsIt_j89 m_eatsIt_j110
  refine br_f (hM.ne _ 5 (by decide) (by decide) (by decide)) (br_f (hM.ne _ 6 (by decide) (by decide) (by decide)) (br_f (hM.ne _ 3 (by decide) (by decide) (by decide)) (br_f (hM.ne _ 2 (by decide) (by decide) (by decide)) (br_f (hM.ne _ 3 (by decide) (by decide) (by decide)) (br_t rfl (m_ran_z (by first | omega | (simp only [List.length_append, List.length_cons, List.length_nil]; omega)) (br_t rfl (br_f (hM.ne _ 3 (by decide) (by decide) (by decide)) (?_)))))))))
  rw [hM.a, Int32.mul_one]
  exact h
theorem m_ps_z1 {x num a : Int32} {l : List Int32} {J : mJ} {I : mI} {A : Int32 → mI → mJ → Prop} (hM : tM 1 num a I) (hl : l.length + 2 ≤ 30) (h : A ((x + a) * 2) (tz 32 68 (l ++ [11, 10]) I) J) : m_patchStays x (tz 32 68 l I) J A := by
  unfold m_patchStays
  refine m_ran_z (by omega) (m_eats_z1 hM (by first | omega | (simp only [List.length_append, List.length_cons, List.length_nil]; omega)) ?_)
  rw [List.append_assoc]
  exact h
theorem m_st_z1 {x num a : Int32} {l : List Int32} {J : mJ} {I : mI} {A : Int32 → mI → mJ → Prop} (hM : tM 1 num a I) (hl : l.length + 3 ≤ 30) (h : A (((x + a) * 2) - 4) (tz 32 68 (l ++ [20, 11, 10]) I) J) : m_staysIt x (tz 32 68 l I) J A := by
  unfold m_staysIt
  refine br_f (hM.ne _ 4 (by decide) (by decide) (by decide)) (br_f (hM.ne _ 5 (by decide) (by decide) (by decide)) (br_f (hM.ne _ 6 (by decide) (by decide) (by decide)) (m_ran_z (by omega) (m_ps_z1 hM (by first | omega | (simp only [List.length_append, List.length_cons, List.length_nil]; omega)) ?_))))
  rw [List.append_assoc]
  exact h
theorem m_fl_z1 {y num a : Int32} {l : List Int32} {J : mJ} {I : mI} {A : Int32 → mI → mJ → Prop} (hM : tM 1 num a I) (hl : l.length + 1 ≤ 30) (hs : a ≠ num → A (y / (a - num)) (tz 32 68 (l ++ [12]) I) J) (hn : a = num → A (0) (u2 (tz 32 68 (l ++ [12]) I) 0 69 1) J) : m_fliesIt y (tz 32 68 l I) J A := by
  unfold m_fliesIt m_fliesIt_j70
  refine br_f (hM.ne _ 5 (by decide) (by decide) (by decide)) (br_f (hM.ne _ 6 (by decide) (by decide) (by decide)) (br_f (hM.ne _ 3 (by decide) (by decide) (by decide)) (m_ran_z (by first | omega | (simp only [List.length_append, List.length_cons, List.length_nil]; omega)) (?_))))
  rw [hM.a, hM.n]
  exact br_c (fun z => hn z) (fun z => ⟨fun y => z (i32_sub0.mp y), hs z⟩)
theorem m_pt_z1 {x num a : Int32} {l : List Int32} {J : mJ} {I : mI} {A : Int32 → mI → mJ → Prop} (hM : tM 1 num a I) (hl : l.length + 4 ≤ 30) (h : A ((((x + a) * 2) - 4) ^^^ num) (tz 32 68 (l ++ [13, 20, 11, 10]) I) J) : m_patchTells x (tz 32 68 l I) J A := by
  unfold m_patchTells
  refine m_ran_z (by omega) (m_st_z1 hM (by first | omega | (simp only [List.length_append, List.length_cons, List.length_nil]; omega)) ?_)
  rw [List.append_assoc, hM.n]
  exact h
theorem m_tl_z1 {x num a : Int32} {l : List Int32} {J : mJ} {I : mI} {A : Int32 → mI → mJ → Prop} (hM : tM 1 num a I) (hl : l.length + 4 ≤ 30) (h : A ((((x + a) * 2) - 4) ^^^ num) (tz 32 68 (l ++ [13, 20, 11, 10]) I) J) : m_tellsIt x (tz 32 68 l I) J A := by
  unfold m_tellsIt m_tellsIt_j65
  exact br_f (hM.ne _ 5 (by decide) (by decide) (by decide)) (br_f (hM.ne _ 6 (by decide) (by decide) (by decide)) (br_f (hM.ne _ 2 (by decide) (by decide) (by decide)) (br_f (hM.ne _ 3 (by decide) (by decide) (by decide)) (m_pt_z1 hM (by first | omega | (simp only [List.length_append, List.length_cons, List.length_nil]; omega)) h))))
theorem m_eats_z2 {x num a : Int32} {l : List Int32} {J : mJ} {I : mI} {A : Int32 → mI → mJ → Prop} (hM : tM 2 num a I) (hl : l.length + 2 ≤ 30) (h : A ((x + a) * 3) (tz 32 68 (l ++ [30, 10]) I) J) : m_eatsIt x (tz 32 68 l I) J A := by
  unfold m_eatsIt m_eatsIt_j57 m_eatsIt_j73 m_eatsIt_j78 m_eatsIt_j89 m_eatsIt_j110
  refine br_f (hM.ne _ 5 (by decide) (by decide) (by decide)) (br_f (hM.ne _ 6 (by decide) (by decide) (by decide)) (br_f (hM.ne _ 3 (by decide) (by decide) (by decide)) (br_t (hM.k _) (br_f (by decide) (m_ran_z (by first | omega | (simp only [List.length_append, List.length_cons, List.length_nil]; omega)) (m_ran_z (by first | omega | (simp only [List.length_append, List.length_cons, List.length_nil]; omega)) (br_f (by decide) (br_f (hM.ne _ 3 (by decide) (by decide) (by decide)) (?_)))))))))
  rw [List.append_assoc, hM.a]
  exact h
theorem m_ps_z2 {x num a : Int32} {l : List Int32} {J : mJ} {I : mI} {A : Int32 → mI → mJ → Prop} (hM : tM 2 num a I) (hl : l.length + 3 ≤ 30) (h : A (((x + a) * 3) * 2) (tz 32 68 (l ++ [11, 30, 10]) I) J) : m_patchStays x (tz 32 68 l I) J A := by
  unfold m_patchStays
  refine m_ran_z (by omega) (m_eats_z2 hM (by first | omega | (simp only [List.length_append, List.length_cons, List.length_nil]; omega)) ?_)
  rw [List.append_assoc]
  exact h
theorem m_st_z2 {x num a : Int32} {l : List Int32} {J : mJ} {I : mI} {A : Int32 → mI → mJ → Prop} (hM : tM 2 num a I) (hl : l.length + 4 ≤ 30) (h : A ((((x + a) * 3) * 2) - 4) (tz 32 68 (l ++ [20, 11, 30, 10]) I) J) : m_staysIt x (tz 32 68 l I) J A := by
  unfold m_staysIt
  refine br_f (hM.ne _ 4 (by decide) (by decide) (by decide)) (br_f (hM.ne _ 5 (by decide) (by decide) (by decide)) (br_f (hM.ne _ 6 (by decide) (by decide) (by decide)) (m_ran_z (by omega) (m_ps_z2 hM (by first | omega | (simp only [List.length_append, List.length_cons, List.length_nil]; omega)) ?_))))
  rw [List.append_assoc]
  exact h
theorem m_fl_z2 {y num a : Int32} {l : List Int32} {J : mJ} {I : mI} {A : Int32 → mI → mJ → Prop} (hM : tM 2 num a I) (hl : l.length + 1 ≤ 30) (hs : a ≠ num → A (y / (a - num)) (tz 32 68 (l ++ [12]) I) J) (hn : a = num → A (0) (u2 (tz 32 68 (l ++ [12]) I) 0 69 1) J) : m_fliesIt y (tz 32 68 l I) J A := by
  unfold m_fliesIt m_fliesIt_j70
  refine br_f (hM.ne _ 5 (by decide) (by decide) (by decide)) (br_f (hM.ne _ 6 (by decide) (by decide) (by decide)) (br_f (hM.ne _ 3 (by decide) (by decide) (by decide)) (m_ran_z (by first | omega | (simp only [List.length_append, List.length_cons, List.length_nil]; omega)) (?_))))
  rw [hM.a, hM.n]
  exact br_c (fun z => hn z) (fun z => ⟨fun y => z (i32_sub0.mp y), hs z⟩)
theorem m_pt_z2 {x num a : Int32} {l : List Int32} {J : mJ} {I : mI} {A : Int32 → mI → mJ → Prop} (hM : tM 2 num a I) (hl : l.length + 5 ≤ 30) (h : A (((((x + a) * 3) * 2) - 4) ^^^ num) (tz 32 68 (l ++ [13, 20, 11, 30, 10]) I) J) : m_patchTells x (tz 32 68 l I) J A := by
  unfold m_patchTells
  refine m_ran_z (by omega) (m_st_z2 hM (by first | omega | (simp only [List.length_append, List.length_cons, List.length_nil]; omega)) ?_)
  rw [List.append_assoc, hM.n]
  exact h
theorem m_tl_z2 {x num a : Int32} {l : List Int32} {J : mJ} {I : mI} {A : Int32 → mI → mJ → Prop} (hM : tM 2 num a I) (hl : l.length + 7 ≤ 30) (hs : a ≠ num → A ((((((x + a) * 3) * 2) - 4) ^^^ num) + ((num + 1) / (a - num))) (tz 32 68 (l ++ [31, 13, 20, 11, 30, 10, 12]) I) J) (hn : a = num → A ((((((x + a) * 3) * 2) - 4) ^^^ num) + 0) (u2 (tz 32 68 (l ++ [31, 13, 20, 11, 30, 10, 12]) I) 0 69 1) J) : m_tellsIt x (tz 32 68 l I) J A := by
  unfold m_tellsIt m_tellsIt_j65
  refine br_f (hM.ne _ 5 (by decide) (by decide) (by decide)) (br_f (hM.ne _ 6 (by decide) (by decide) (by decide)) (br_t (hM.k _) (m_ran_z (by first | omega | (simp only [List.length_append, List.length_cons, List.length_nil]; omega)) (m_pt_z2 hM (by first | omega | (simp only [List.length_append, List.length_cons, List.length_nil]; omega)) ?_))))
  rw [hM.n]
  refine m_fl_z2 hM (by first | omega | (simp only [List.length_append, List.length_cons, List.length_nil]; omega)) (fun z => ?_) (fun z => ?_)
  · rw [List.append_assoc, List.append_assoc]; exact hs z
  · rw [List.append_assoc, List.append_assoc]; exact hn z
theorem m_eats_z3 {x num a : Int32} {l : List Int32} {J : mJ} {I : mI} {A : Int32 → mI → mJ → Prop} (hM : tM 3 num a I) (hl : l.length + 3 ≤ 30) (h : A (((x + a) * 3) ^^^ a) (tz 32 68 (l ++ [40, 30, 10]) I) J) : m_eatsIt x (tz 32 68 l I) J A := by
  unfold m_eatsIt m_eatsIt_j57 m_eatsIt_j73 m_eatsIt_j78 m_eatsIt_j89 m_eatsIt_j110
  refine br_f (hM.ne _ 5 (by decide) (by decide) (by decide)) (br_f (hM.ne _ 6 (by decide) (by decide) (by decide)) (br_t (hM.k _) (m_ran_z (by first | omega | (simp only [List.length_append, List.length_cons, List.length_nil]; omega)) (br_f (hM.ne _ 2 (by decide) (by decide) (by decide)) (br_t (hM.k _) (br_f (by decide) (m_ran_z (by first | omega | (simp only [List.length_append, List.length_cons, List.length_nil]; omega)) (m_ran_z (by first | omega | (simp only [List.length_append, List.length_cons, List.length_nil]; omega)) (br_f (by decide) (br_t (hM.k _) ?_))))))))))
  rw [List.append_assoc, List.append_assoc, hM.a]
  exact h
theorem m_ps_z3 {x num a : Int32} {l : List Int32} {J : mJ} {I : mI} {A : Int32 → mI → mJ → Prop} (hM : tM 3 num a I) (hl : l.length + 4 ≤ 30) (h : A ((((x + a) * 3) ^^^ a) * 2) (tz 32 68 (l ++ [11, 40, 30, 10]) I) J) : m_patchStays x (tz 32 68 l I) J A := by
  unfold m_patchStays
  refine m_ran_z (by omega) (m_eats_z3 hM (by first | omega | (simp only [List.length_append, List.length_cons, List.length_nil]; omega)) ?_)
  rw [List.append_assoc]
  exact h
theorem m_st_z3 {x num a : Int32} {l : List Int32} {J : mJ} {I : mI} {A : Int32 → mI → mJ → Prop} (hM : tM 3 num a I) (hl : l.length + 5 ≤ 30) (h : A (((((x + a) * 3) ^^^ a) * 2) - 4) (tz 32 68 (l ++ [20, 11, 40, 30, 10]) I) J) : m_staysIt x (tz 32 68 l I) J A := by
  unfold m_staysIt
  refine br_f (hM.ne _ 4 (by decide) (by decide) (by decide)) (br_f (hM.ne _ 5 (by decide) (by decide) (by decide)) (br_f (hM.ne _ 6 (by decide) (by decide) (by decide)) (m_ran_z (by omega) (m_ps_z3 hM (by first | omega | (simp only [List.length_append, List.length_cons, List.length_nil]; omega)) ?_))))
  rw [List.append_assoc]
  exact h
theorem m_fl_z3 {y num a : Int32} {l : List Int32} {J : mJ} {I : mI} {A : Int32 → mI → mJ → Prop} (hM : tM 3 num a I) (hl : l.length + 2 ≤ 30) (hs : a ≠ num → A ((y - 1) / (a - num)) (tz 32 68 (l ++ [41, 12]) I) J) (hn : a = num → A (0) (u2 (tz 32 68 (l ++ [41, 12]) I) 0 69 1) J) : m_fliesIt y (tz 32 68 l I) J A := by
  unfold m_fliesIt m_fliesIt_j70
  refine br_f (hM.ne _ 5 (by decide) (by decide) (by decide)) (br_f (hM.ne _ 6 (by decide) (by decide) (by decide)) (br_t (hM.k _) (m_ran_z (by first | omega | (simp only [List.length_append, List.length_cons, List.length_nil]; omega)) (m_ran_z (by first | omega | (simp only [List.length_append, List.length_cons, List.length_nil]; omega)) (?_)))))
  rw [List.append_assoc, hM.a, hM.n]
  exact br_c (fun z => hn z) (fun z => ⟨fun y => z (i32_sub0.mp y), hs z⟩)
theorem m_pt_z3 {x num a : Int32} {l : List Int32} {J : mJ} {I : mI} {A : Int32 → mI → mJ → Prop} (hM : tM 3 num a I) (hl : l.length + 6 ≤ 30) (h : A ((((((x + a) * 3) ^^^ a) * 2) - 4) ^^^ num) (tz 32 68 (l ++ [13, 20, 11, 40, 30, 10]) I) J) : m_patchTells x (tz 32 68 l I) J A := by
  unfold m_patchTells
  refine m_ran_z (by omega) (m_st_z3 hM (by first | omega | (simp only [List.length_append, List.length_cons, List.length_nil]; omega)) ?_)
  rw [List.append_assoc, hM.n]
  exact h
theorem m_tl_z3 {x num a : Int32} {l : List Int32} {J : mJ} {I : mI} {A : Int32 → mI → mJ → Prop} (hM : tM 3 num a I) (hl : l.length + 9 ≤ 30) (hs : a ≠ num → A (((((((x + a) * 3) ^^^ a) * 2) - 4) ^^^ num) + (((num + 1) - 1) / (a - num))) (tz 32 68 (l ++ [31, 13, 20, 11, 40, 30, 10, 41, 12]) I) J) (hn : a = num → A (((((((x + a) * 3) ^^^ a) * 2) - 4) ^^^ num) + 0) (u2 (tz 32 68 (l ++ [31, 13, 20, 11, 40, 30, 10, 41, 12]) I) 0 69 1) J) : m_tellsIt x (tz 32 68 l I) J A := by
  unfold m_tellsIt m_tellsIt_j65
  refine br_f (hM.ne _ 5 (by decide) (by decide) (by decide)) (br_f (hM.ne _ 6 (by decide) (by decide) (by decide)) (br_f (hM.ne _ 2 (by decide) (by decide) (by decide)) (br_t (hM.k _) (m_ran_z (by first | omega | (simp only [List.length_append, List.length_cons, List.length_nil]; omega)) (m_pt_z3 hM (by first | omega | (simp only [List.length_append, List.length_cons, List.length_nil]; omega)) ?_)))))
  rw [hM.n]
  refine m_fl_z3 hM (by first | omega | (simp only [List.length_append, List.length_cons, List.length_nil]; omega)) (fun z => ?_) (fun z => ?_)
  · rw [List.append_assoc, List.append_assoc]; exact hs z
  · rw [List.append_assoc, List.append_assoc]; exact hn z
theorem m_eats_z4 {x num a : Int32} {l : List Int32} {J : mJ} {I : mI} {A : Int32 → mI → mJ → Prop} (hM : tM 4 num a I) (hl : l.length + 1 ≤ 30) (h : A (x + a) (tz 32 68 (l ++ [10]) I) J) : m_eatsIt x (tz 32 68 l I) J A := by
  unfold m_eatsIt m_eatsIt_j57 m_eatsIt_j73 m_eatsIt_j78 m_eatsIt_j89 m_eatsIt_j110
  refine br_f (hM.ne _ 5 (by decide) (by decide) (by decide)) (br_f (hM.ne _ 6 (by decide) (by decide) (by decide)) (br_f (hM.ne _ 3 (by decide) (by decide) (by decide)) (br_f (hM.ne _ 2 (by decide) (by decide) (by decide)) (br_f (hM.ne _ 3 (by decide) (by decide) (by decide)) (br_t rfl (m_ran_z (by first | omega | (simp only [List.length_append, List.length_cons, List.length_nil]; omega)) (br_t rfl (br_f (hM.ne _ 3 (by decide) (by decide) (by decide)) (?_)))))))))
  rw [hM.a, Int32.mul_one]
  exact h
theorem m_ps_z4 {x num a : Int32} {l : List Int32} {J : mJ} {I : mI} {A : Int32 → mI → mJ → Prop} (hM : tM 4 num a I) (hl : l.length + 2 ≤ 30) (h : A ((x + a) * 2) (tz 32 68 (l ++ [11, 10]) I) J) : m_patchStays x (tz 32 68 l I) J A := by
  unfold m_patchStays
  refine m_ran_z (by omega) (m_eats_z4 hM (by first | omega | (simp only [List.length_append, List.length_cons, List.length_nil]; omega)) ?_)
  rw [List.append_assoc]
  exact h
theorem m_st_z4 {x num a : Int32} {l : List Int32} {J : mJ} {I : mI} {A : Int32 → mI → mJ → Prop} (hM : tM 4 num a I) (hl : l.length + 3 ≤ 30) (h : A (0 - ((x + a) * 2)) (tz 32 68 (l ++ [50, 11, 10]) I) J) : m_staysIt x (tz 32 68 l I) J A := by
  unfold m_staysIt
  refine br_t (hM.k _) (m_ran_z (by omega) (m_ps_z4 hM (by first | omega | (simp only [List.length_append, List.length_cons, List.length_nil]; omega)) ?_))
  rw [List.append_assoc]
  exact h
theorem m_fl_z4 {y num a : Int32} {l : List Int32} {J : mJ} {I : mI} {A : Int32 → mI → mJ → Prop} (hM : tM 4 num a I) (hl : l.length + 1 ≤ 30) (hs : a ≠ num → A (y / (a - num)) (tz 32 68 (l ++ [12]) I) J) (hn : a = num → A (0) (u2 (tz 32 68 (l ++ [12]) I) 0 69 1) J) : m_fliesIt y (tz 32 68 l I) J A := by
  unfold m_fliesIt m_fliesIt_j70
  refine br_f (hM.ne _ 5 (by decide) (by decide) (by decide)) (br_f (hM.ne _ 6 (by decide) (by decide) (by decide)) (br_f (hM.ne _ 3 (by decide) (by decide) (by decide)) (m_ran_z (by first | omega | (simp only [List.length_append, List.length_cons, List.length_nil]; omega)) (?_))))
  rw [hM.a, hM.n]
  exact br_c (fun z => hn z) (fun z => ⟨fun y => z (i32_sub0.mp y), hs z⟩)
theorem m_pt_z4 {x num a : Int32} {l : List Int32} {J : mJ} {I : mI} {A : Int32 → mI → mJ → Prop} (hM : tM 4 num a I) (hl : l.length + 4 ≤ 30) (h : A ((0 - ((x + a) * 2)) ^^^ num) (tz 32 68 (l ++ [13, 50, 11, 10]) I) J) : m_patchTells x (tz 32 68 l I) J A := by
  unfold m_patchTells
  refine m_ran_z (by omega) (m_st_z4 hM (by first | omega | (simp only [List.length_append, List.length_cons, List.length_nil]; omega)) ?_)
  rw [List.append_assoc, hM.n]
  exact h
theorem m_tl_z4 {x num a : Int32} {l : List Int32} {J : mJ} {I : mI} {A : Int32 → mI → mJ → Prop} (hM : tM 4 num a I) (hl : l.length + 4 ≤ 30) (h : A ((0 - ((x + a) * 2)) ^^^ num) (tz 32 68 (l ++ [13, 50, 11, 10]) I) J) : m_tellsIt x (tz 32 68 l I) J A := by
  unfold m_tellsIt m_tellsIt_j65
  exact br_f (hM.ne _ 5 (by decide) (by decide) (by decide)) (br_f (hM.ne _ 6 (by decide) (by decide) (by decide)) (br_f (hM.ne _ 2 (by decide) (by decide) (by decide)) (br_f (hM.ne _ 3 (by decide) (by decide) (by decide)) (m_pt_z4 hM (by first | omega | (simp only [List.length_append, List.length_cons, List.length_nil]; omega)) h))))
theorem m_eats_z5 {x num a : Int32} {l : List Int32} {J : mJ} {I : mI} {A : Int32 → mI → mJ → Prop} (hM : tM 5 num a I) (hl : l.length + 1 ≤ 30) (h : A (a - x) (tz 32 68 (l ++ [60]) I) J) : m_eatsIt x (tz 32 68 l I) J A := by
  unfold m_eatsIt m_eatsIt_j57 m_eatsIt_j73 m_eatsIt_j78 m_eatsIt_j89 m_eatsIt_j110
  refine br_t (hM.k _) (m_ran_z (by omega) ?_)
  rw [hM.a]
  exact h
theorem m_st_z5 {x num a : Int32} {l : List Int32} {J : mJ} {I : mI} {A : Int32 → mI → mJ → Prop} (hM : tM 5 num a I) (hl : l.length + 2 ≤ 30) (h : A ((a - x) + num) (tz 32 68 (l ++ [61, 60]) I) J) : m_staysIt x (tz 32 68 l I) J A := by
  unfold m_staysIt
  refine br_f (hM.ne _ 4 (by decide) (by decide) (by decide)) (br_t (hM.k _) (m_ran_z (by omega) (m_eats_z5 hM (by first | omega | (simp only [List.length_append, List.length_cons, List.length_nil]; omega)) ?_)))
  rw [List.append_assoc, hM.n]
  exact h
theorem m_fl_z5 {y num a : Int32} {l : List Int32} {J : mJ} {I : mI} {A : Int32 → mI → mJ → Prop} (hM : tM 5 num a I) (hl : l.length + 1 ≤ 30) (h : A (y &&& a) (tz 32 68 (l ++ [62]) I) J) : m_fliesIt y (tz 32 68 l I) J A := by
  unfold m_fliesIt m_fliesIt_j70
  refine br_t (hM.k _) (m_ran_z (by omega) ?_)
  rw [hM.a]
  exact h
theorem m_tl_z5 {x num a : Int32} {l : List Int32} {J : mJ} {I : mI} {A : Int32 → mI → mJ → Prop} (hM : tM 5 num a I) (hl : l.length + 3 ≤ 30) (h : A (((a - x) + num) * 7) (tz 32 68 (l ++ [63, 61, 60]) I) J) : m_tellsIt x (tz 32 68 l I) J A := by
  unfold m_tellsIt m_tellsIt_j65
  refine br_t (hM.k _) (m_ran_z (by omega) (m_st_z5 hM (by first | omega | (simp only [List.length_append, List.length_cons, List.length_nil]; omega)) ?_))
  rw [List.append_assoc]
  exact h
theorem m_eats_z6 {x num a : Int32} {l : List Int32} {J : mJ} {I : mI} {A : Int32 → mI → mJ → Prop} (hM : tM 6 num a I) (hl : l.length + 1 ≤ 30) (h : A (x - a) (tz 32 68 (l ++ [70]) I) J) : m_eatsIt x (tz 32 68 l I) J A := by
  unfold m_eatsIt m_eatsIt_j57 m_eatsIt_j73 m_eatsIt_j78 m_eatsIt_j89 m_eatsIt_j110
  refine br_f (hM.ne _ 5 (by decide) (by decide) (by decide)) (br_t (hM.k _) (m_ran_z (by omega) ?_))
  rw [hM.a]
  exact h
theorem m_st_z6 {x num a : Int32} {l : List Int32} {J : mJ} {I : mI} {A : Int32 → mI → mJ → Prop} (hM : tM 6 num a I) (hl : l.length + 1 ≤ 30) (h : A (x * num) (tz 32 68 (l ++ [71]) I) J) : m_staysIt x (tz 32 68 l I) J A := by
  unfold m_staysIt
  refine br_f (hM.ne _ 4 (by decide) (by decide) (by decide)) (br_f (hM.ne _ 5 (by decide) (by decide) (by decide)) (br_t (hM.k _) (m_ran_z (by omega) ?_)))
  rw [hM.n]
  exact h
theorem m_fl_z6 {x num a : Int32} {l : List Int32} {J : mJ} {I : mI} {A : Int32 → mI → mJ → Prop} (hM : tM 6 num a I) (hl : l.length + 3 ≤ 30) (h : A ((x - a) + (x * num)) (tz 32 68 (l ++ [72, 70, 71]) I) J) : m_fliesIt x (tz 32 68 l I) J A := by
  unfold m_fliesIt m_fliesIt_j70
  refine br_f (hM.ne _ 5 (by decide) (by decide) (by decide)) (br_t (hM.k _) (m_ran_z (by omega) (m_eats_z6 hM (by first | omega | (simp only [List.length_append, List.length_cons, List.length_nil]; omega)) (m_st_z6 hM (by first | omega | (simp only [List.length_append, List.length_cons, List.length_nil]; omega)) ?_))))
  rw [List.append_assoc, List.append_assoc]
  exact h
theorem m_tl_z6 {x num a : Int32} {l : List Int32} {J : mJ} {I : mI} {A : Int32 → mI → mJ → Prop} (hM : tM 6 num a I) (hl : l.length + 4 ≤ 30) (h : A (((x - a) + (x * num)) ^^^ a) (tz 32 68 (l ++ [73, 72, 70, 71]) I) J) : m_tellsIt x (tz 32 68 l I) J A := by
  unfold m_tellsIt m_tellsIt_j65
  refine br_f (hM.ne _ 5 (by decide) (by decide) (by decide)) (br_t (hM.k _) (m_ran_z (by omega) (m_fl_z6 hM (by first | omega | (simp only [List.length_append, List.length_cons, List.length_nil]; omega)) ?_)))
  rw [List.append_assoc, hM.a]
  exact h
/-- what an act comes to: the bodies, the answer, may it divide by nought -/
def tRes : Nat → Nat → Int32 → Int32 → Int32 → List Int32 × Int32 × Bool
  | 1, 0, x, num, a => ([10], (x + a), false)
  | 1, 1, x, num, a => ([20, 11, 10], (((x + a) * 2) - 4), false)
  | 1, 2, x, num, a => ([12], (x / (a - num)), true)
  | 1, 3, x, num, a => ([13, 20, 11, 10], ((((x + a) * 2) - 4) ^^^ num), false)
  | 2, 0, x, num, a => ([30, 10], ((x + a) * 3), false)
  | 2, 1, x, num, a => ([20, 11, 30, 10], ((((x + a) * 3) * 2) - 4), false)
  | 2, 2, x, num, a => ([12], (x / (a - num)), true)
  | 2, 3, x, num, a => ([31, 13, 20, 11, 30, 10, 12], ((((((x + a) * 3) * 2) - 4) ^^^ num) + ((num + 1) / (a - num))), true)
  | 3, 0, x, num, a => ([40, 30, 10], (((x + a) * 3) ^^^ a), false)
  | 3, 1, x, num, a => ([20, 11, 40, 30, 10], (((((x + a) * 3) ^^^ a) * 2) - 4), false)
  | 3, 2, x, num, a => ([41, 12], ((x - 1) / (a - num)), true)
  | 3, 3, x, num, a => ([31, 13, 20, 11, 40, 30, 10, 41, 12], (((((((x + a) * 3) ^^^ a) * 2) - 4) ^^^ num) + (((num + 1) - 1) / (a - num))), true)
  | 4, 0, x, num, a => ([10], (x + a), false)
  | 4, 1, x, num, a => ([50, 11, 10], (0 - ((x + a) * 2)), false)
  | 4, 2, x, num, a => ([12], (x / (a - num)), true)
  | 4, 3, x, num, a => ([13, 50, 11, 10], ((0 - ((x + a) * 2)) ^^^ num), false)
  | 5, 0, x, num, a => ([60], (a - x), false)
  | 5, 1, x, num, a => ([61, 60], ((a - x) + num), false)
  | 5, 2, x, num, a => ([62], (x &&& a), false)
  | 5, 3, x, num, a => ([63, 61, 60], (((a - x) + num) * 7), false)
  | 6, 0, x, num, a => ([70], (x - a), false)
  | 6, 1, x, num, a => ([71], (x * num), false)
  | 6, 2, x, num, a => ([72, 70, 71], ((x - a) + (x * num)), false)
  | 6, 3, x, num, a => ([73, 72, 70, 71], (((x - a) + (x * num)) ^^^ a), false)
  | _, _, _, _, _ => ([], 0, false)
theorem x_acted_z {m b q : Nat} {x num a : Int32} {s : xS} {rd : xRd} {J : mJ} {I : mI} {QX : Nat → mI → Prop} {Q : Int32 → mI → Prop} (h1 : 1 ≤ m) (h6 : m ≤ 6) (hb : b < 4) (hT : tH m num a q s rd I) (h0 : I 0 17 = 0) (hs : (tRes m b x num a).2.2 = false ∨ a ≠ num → Q (tRes m b x num a).2.1 (tz 127 17 (tRes m b x num a).1 I)) (hn : (tRes m b x num a).2.2 = true → a = num → QX 5 (tz 127 17 (tRes m b x num a).1 I)) : x_X0_acted q (nI b) x s rd J I QX Q := by
  rw [show x_X0_acted q (nI b) x s rd J I QX Q = x_X0_acted q (nI b) x s rd J (tz 127 17 [] I) QX Q by rw [tz_nil h0]]
  unfold x_X0_acted
  rcases lt4 hb with rfl | rfl | rfl | rfl <;> rcases le6 h1 h6 with rfl | rfl | rfl | rfl | rfl | rfl
  · exact br_t rfl (.inl (⟨hT.2.1, x_X21_eats_c22_z hT (by decide) (hs (.inl rfl))⟩))
  · exact br_t rfl (.inr (.inl (⟨hT.2.1, x_X23_eats_c23_z hT (by decide) (hs (.inl rfl))⟩)))
  · exact br_t rfl (.inr (.inr (.inl (⟨hT.2.1, x_X24_eats_c24_z hT (by decide) (hs (.inl rfl))⟩))))
  · exact br_t rfl (.inr (.inr (.inr (.inl (⟨hT.2.1, x_X21_eats_c25_z hT (by decide) (hs (.inl rfl))⟩)))))
  · exact br_t rfl (.inr (.inr (.inr (.inr (.inl (⟨hT.2.1, x_X26_eats_z hT (by decide) (hs (.inl rfl))⟩))))))
  · exact br_t rfl (.inr (.inr (.inr (.inr (.inr (⟨hT.2.1, x_X27_eats_z hT (by decide) (hs (.inl rfl))⟩))))))
  · exact br_f (by decide) (br_t rfl (.inl (⟨hT.2.1, x_X22_stays_c22_z hT (by decide) (hs (.inl rfl))⟩)))
  · exact br_f (by decide) (br_t rfl (.inr (.inl (⟨hT.2.1, x_X22_stays_c23_z hT (by decide) (hs (.inl rfl))⟩))))
  · exact br_f (by decide) (br_t rfl (.inr (.inr (.inl (⟨hT.2.1, x_X22_stays_c24_z hT (by decide) (hs (.inl rfl))⟩)))))
  · exact br_f (by decide) (br_t rfl (.inr (.inr (.inr (.inl (⟨hT.2.1, x_X25_stays_c25_z hT (by decide) (hs (.inl rfl))⟩))))))
  · exact br_f (by decide) (br_t rfl (.inr (.inr (.inr (.inr (.inl (⟨hT.2.1, x_X26_stays_z hT (by decide) (hs (.inl rfl))⟩)))))))
  · exact br_f (by decide) (br_t rfl (.inr (.inr (.inr (.inr (.inr (⟨hT.2.1, x_X27_stays_z hT (by decide) (hs (.inl rfl))⟩)))))))
  · exact br_f (by decide) (br_f (by decide) (br_t rfl (.inl (⟨hT.2.1, x_X21_flies_c22_z hT (by decide) (fun z => hs (.inr z)) (fun z => hn rfl z)⟩))))
  · exact br_f (by decide) (br_f (by decide) (br_t rfl (.inr (.inl (⟨hT.2.1, x_X21_flies_c23_z hT (by decide) (fun z => hs (.inr z)) (fun z => hn rfl z)⟩)))))
  · exact br_f (by decide) (br_f (by decide) (br_t rfl (.inr (.inr (.inl (⟨hT.2.1, x_X24_flies_c24_z hT (by decide) (fun z => hs (.inr z)) (fun z => hn rfl z)⟩))))))
  · exact br_f (by decide) (br_f (by decide) (br_t rfl (.inr (.inr (.inr (.inl (⟨hT.2.1, x_X21_flies_c25_z hT (by decide) (fun z => hs (.inr z)) (fun z => hn rfl z)⟩)))))))
  · exact br_f (by decide) (br_f (by decide) (br_t rfl (.inr (.inr (.inr (.inr (.inl (⟨hT.2.1, x_X26_flies_z hT (by decide) (hs (.inl rfl))⟩))))))))
  · exact br_f (by decide) (br_f (by decide) (br_t rfl (.inr (.inr (.inr (.inr (.inr (⟨hT.2.1, x_X27_flies_z hT (by decide) (hs (.inl rfl))⟩))))))))
  · exact br_f (by decide) (br_f (by decide) (br_f (by decide) (.inl (⟨hT.2.1, x_X21_tells_c22_z hT (by decide) (hs (.inl rfl))⟩))))
  · exact br_f (by decide) (br_f (by decide) (br_f (by decide) (.inr (.inl (⟨hT.2.1, x_X23_tells_c23_z hT (by decide) (fun z => hs (.inr z)) (fun z => hn rfl z)⟩)))))
  · exact br_f (by decide) (br_f (by decide) (br_f (by decide) (.inr (.inr (.inl (⟨hT.2.1, x_X23_tells_c24_z hT (by decide) (fun z => hs (.inr z)) (fun z => hn rfl z)⟩))))))
  · exact br_f (by decide) (br_f (by decide) (br_f (by decide) (.inr (.inr (.inr (.inl (⟨hT.2.1, x_X21_tells_c25_z hT (by decide) (hs (.inl rfl))⟩)))))))
  · exact br_f (by decide) (br_f (by decide) (br_f (by decide) (.inr (.inr (.inr (.inr (.inl (⟨hT.2.1, x_X26_tells_z hT (by decide) (hs (.inl rfl))⟩))))))))
  · exact br_f (by decide) (br_f (by decide) (br_f (by decide) (.inr (.inr (.inr (.inr (.inr (⟨hT.2.1, x_X27_tells_z hT (by decide) (hs (.inl rfl))⟩))))))))
def mOp (b : Nat) (x : Int32) (I : mI) (J : mJ) (A : Int32 → mI → mJ → Prop) : Prop := if b = 0 then m_eatsIt x I J A else if b = 1 then m_staysIt x I J A else if b = 2 then m_fliesIt x I J A else m_tellsIt x I J A
theorem mOp_z {m b : Nat} {x num a : Int32} {I : mI} {J : mJ} {A : Int32 → mI → mJ → Prop} (h1 : 1 ≤ m) (h6 : m ≤ 6) (hb : b < 4) (hM : tM m num a I) (h0 : I 0 68 = 0) (hs : (tRes m b x num a).2.2 = false ∨ a ≠ num → A (tRes m b x num a).2.1 (tz 32 68 (tRes m b x num a).1 I) J) (hn : (tRes m b x num a).2.2 = true → a = num → ∀ v, A v (u2 (tz 32 68 (tRes m b x num a).1 I) 0 69 1) J) : mOp b x I J A := by
  rw [show mOp b x I J A = mOp b x (tz 32 68 [] I) J A by rw [tz_nil h0]]
  rcases lt4 hb with rfl | rfl | rfl | rfl <;> rcases le6 h1 h6 with rfl | rfl | rfl | rfl | rfl | rfl
  · exact m_eats_z1 hM (by decide) (hs (.inl rfl))
  · exact m_eats_z2 hM (by decide) (hs (.inl rfl))
  · exact m_eats_z3 hM (by decide) (hs (.inl rfl))
  · exact m_eats_z4 hM (by decide) (hs (.inl rfl))
  · exact m_eats_z5 hM (by decide) (hs (.inl rfl))
  · exact m_eats_z6 hM (by decide) (hs (.inl rfl))
  · exact m_st_z1 hM (by decide) (hs (.inl rfl))
  · exact m_st_z2 hM (by decide) (hs (.inl rfl))
  · exact m_st_z3 hM (by decide) (hs (.inl rfl))
  · exact m_st_z4 hM (by decide) (hs (.inl rfl))
  · exact m_st_z5 hM (by decide) (hs (.inl rfl))
  · exact m_st_z6 hM (by decide) (hs (.inl rfl))
  · exact m_fl_z1 hM (by decide) (fun z => hs (.inr z)) (fun z => hn rfl z _)
  · exact m_fl_z2 hM (by decide) (fun z => hs (.inr z)) (fun z => hn rfl z _)
  · exact m_fl_z3 hM (by decide) (fun z => hs (.inr z)) (fun z => hn rfl z _)
  · exact m_fl_z4 hM (by decide) (fun z => hs (.inr z)) (fun z => hn rfl z _)
  · exact m_fl_z5 hM (by decide) (hs (.inl rfl))
  · exact m_fl_z6 hM (by decide) (hs (.inl rfl))
  · exact m_tl_z1 hM (by decide) (hs (.inl rfl))
  · exact m_tl_z2 hM (by decide) (fun z => hs (.inr z)) (fun z => hn rfl z _)
  · exact m_tl_z3 hM (by decide) (fun z => hs (.inr z)) (fun z => hn rfl z _)
  · exact m_tl_z4 hM (by decide) (hs (.inl rfl))
  · exact m_tl_z5 hM (by decide) (hs (.inl rfl))
  · exact m_tl_z6 hM (by decide) (hs (.inl rfl))
theorem RelS.bod {t : Nat} {σ : wS} {fz : Nat → Bool} {s : xS} {rd : xRd} {J : mJ} {I I' Im Im' : mI} {Jm : mJ} (hS : RelS t σ fz s rd J I Im Jm) (g : ∀ r, r ≠ 0 → r ≠ 127 → I' r = I r) (g0 : ∀ f, f ≠ 17 → I' 0 f = I 0 f) (m : ∀ r, r ≠ 0 → r ≠ 32 → Im' r = Im r) (m0 : ∀ f, f < 64 ∨ f = 70 → Im' 0 f = Im 0 f) (hB : @@N@@.rB I' Im') : RelS t σ fz s rd J I' Im' Jm := by
  obtain ⟨a1, a2, a3, ⟨rn, st, y1, y2, y3, y4, y5, y6⟩, ⟨d, w1, w2, w3⟩, a6, a7, a8, a9, a10, a11, a12, a13⟩ := hS
  have ho : old s rd fz I s rd fz I' := old.rfl'.mod (fun r r1 r2 => ⟨rfl, rfl, fun _ => g r (by omega) (by omega)⟩)
  exact ⟨a1, a2.to (fun r r1 r2 => g r (by omega) (by omega)), a3.to (fun r r1 r2 => m r (by omega) (by omega)) (fun k hk => m0 k (by omega)), ⟨rn, st, by rw [g 23 (by decide) (by decide)]; exact y1, y2, by rw [g 24 (by decide) (by decide)]; exact y3, by rw [m0 18 (by decide)]; exact y4, y5, by rw [m 7 (by decide) (by decide)]; exact y6⟩, ⟨d, w1, by rw [m0 34 (by decide)]; exact w2, w3⟩, a6.to ho (fun _ => rfl), a7.to ho (fun _ => rfl),
    a8.to ho (g0 2 (by decide)) (fun r r1 r2 => g r (by omega) (by omega)) (fun _ => ⟨rfl, rfl⟩) (m0 70 (by decide)) (m 33 (by decide) (by decide)) a8.1, a9.to (g0 8 (by decide)) (g 92 (by decide) (by decide)) (m0 39 (by decide)) (m 19 (by decide) (by decide)), a10.to (g0 12 (by decide)) (fun r r1 r2 => g r (by omega) (by omega)) (m0 57 (by decide)) (m 25 (by decide) (by decide)), hB, a12.to2 (fun r hr => g r (by omega) (by omega)) (fun _ _ _ _ => rfl) (fun r r1 r2 => m r (by omega) (by omega)), a13.to (fun r r1 r2 => g r (by omega) (by omega)) (fun r r1 r2 => m r (by omega) (by omega))⟩
theorem tz_row {R c : Nat} {l : List Int32} {I : mI} {r : Nat} (h1 : r ≠ R) (h2 : r ≠ 0) : tz R c l I r = I r := funext fun _ => tz_far h1 (.inl h2)
theorem tRes_len {m b : Nat} {x num a : Int32} (h1 : 1 ≤ m) (h6 : m ≤ 6) (hb : b < 4) : (tRes m b x num a).1.length ≤ 30 := by
  rcases lt4 hb with rfl | rfl | rfl | rfl <;> rcases le6 h1 h6 with rfl | rfl | rfl | rfl | rfl | rfl <;> exact Nat.le_of_ble_eq_true rfl
theorem p_act {t : Nat} (ht : t ≤ 64) {a b x : Int32} {s : xS} {rd : xRd} {J : mJ} {I Im : mI} {Jm : mJ} (h : Rel t s rd J I Im Jm) : x_X0_act a b x s rd J I (fun r s' rd' J' I' => m_act a b x Im Jm (RelQ (t + 1) s' rd' J' I' r)) := by
  obtain ⟨h0, σ, fz, hS9⟩ := h.opn
  generalize eI : u2 I 0 17 0 = I0
  generalize eM : u2 Im 0 68 0 = M0
  have i0 : I0 0 17 = 0 := by rw [← eI]; exact u2_self _ _ _ _
  have m0 : M0 0 68 = 0 := by rw [← eM]; exact u2_self _ _ _ _
  have hS : RelS t σ fz s rd J I0 M0 Jm := hS9.bod (fun r hr _ => by rw [← eI]; exact u2r hr) (fun f hf => by rw [← eI]; exact u2_ne _ _ (.inr hf)) (fun r hr _ => by rw [← eM]; exact u2r hr) (fun f hf => by rw [← eM]; exact u2_ne _ _ (.inr (by omega))) ⟨0, by decide, i0, m0, fun j hj => absurd hj (by omega)⟩
  have no : RelQ (t + 1) s rd J I0 0 0 M0 Jm := ⟨rfl, (RelS.cls hS h0).same⟩
  unfold x_X0_act
  rw [eI]
  refine (show x_X0_isShelf a s rd J I0 _ from by
    unfold x_X0_isShelf
    refine x_in_c (fun y => ⟨.inr rfl, br_f (by decide) ?_⟩) (fun y => ⟨.inl rfl, br_t rfl (by unfold m_act; rw [eM]; exact m_isShelf_c (fun z => absurd z y) (fun _ => br_t rfl no))⟩)
    obtain ⟨k, _, hk3, rfl⟩ := in_of (lo := 0) (hi := 3) (by decide) (by decide) y
    have hk : k < 4 := by omega
    have vin : vp_in (nI k) 4 := vp_in_nI hk (by decide)
    have cl : (nI k).toNatClampNeg = k := nI_clamp (by omega)
    refine x_in_c (fun z => br_f (by decide) ?_) (fun z => br_t rfl (by unfold m_act; rw [eM]; exact m_sh_c hk (br_f (by decide) (m_in_c (fun u => absurd u z) (fun _ => br_t rfl no)))))
    obtain ⟨c, _, hc3, rfl⟩ := in_of (lo := 0) (hi := 3) (by decide) (by decide) z
    have hc : c < 4 := by omega
    rw [cl]
    refine ⟨vin, 129 + k, xR128 hk, ?_⟩
    rcases held_s hS hk (show s.1 < 900000 by omega) with ⟨m1, x1⟩ | ⟨ar, q, n, hq, hn, e1, e2, e3, e4, m1, x1⟩ | ⟨m, num, ab, hm1, hm6, m1, m2, m3, m4, m5, x1⟩
    · refine x1 _ ⟨fun _ => ?_, fun v hv => nomatch hv⟩
      unfold m_act
      rw [eM]
      exact m_sh_c hk (br_f (by decide) (m_in_c (fun _ => br_f (by decide) (m1 _ (m_in_c (fun u => absurd u (by decide)) (fun _ => br_t rfl no)))) (fun u => absurd z u)))
    · have key : m_act (nI k) (nI c) x Im Jm (RelQ (t + 1) s rd J I0 0) := by
        unfold m_act
        rw [eM]
        exact m_sh_c hk (br_f (by decide) (m_in_c (fun _ => br_f (by decide) (m1 _ (m_in_c (fun u => absurd u (by decide)) (fun _ => br_t rfl no)))) (fun u => absurd z u)))
      refine x1 _ ⟨fun hv => absurd hv (by simp), fun v hv => ?_⟩
      cases hv
      rcases lt4 hq with rfl | rfl | rfl | rfl
      · exact .inr (.inl ⟨e1, key⟩)
      · exact .inr (.inr (.inl ⟨e1, key⟩))
      · exact .inl ⟨e1, key⟩
      · exact .inr (.inr (.inr (.inl ⟨e1, key⟩)))
    · refine x1 _ (fun q s' rd' J' I' hT => ⟨fun hv => absurd hv (by simp), fun v hv => ?_⟩)
      cases hv
      have ho := hT.xo
      have hR := hS.made hT
      have hs' : s'.1 ≤ 600 * (t + 1) := by
        obtain ⟨-, rfl, -⟩ := hT
        show s.1 + 1 ≤ _
        omega
      have hq : q = 133 + s.1 := hT.1
      have i0' : I' 0 17 = 0 := by rw [(hT.2.2.1 0 (by omega)).1]; exact i0
      have hH : tH m num ab q s' rd' I' := ⟨by omega, ho, hT.2.2.2.1, hT.2.2.2.2.1, hT.2.2.2.2.2⟩
      -- the model's way to the act
      let M1 : mI := u2 (u2 (u2 (u2 M0 0 64 (nI m)) 0 65 num) 0 66 ab) 0 69 0
      have hM : tM m num ab M1 := ⟨by show u2 (u2 (u2 (u2 M0 0 64 (nI m)) 0 65 num) 0 66 ab) 0 69 0 0 64 = _; rw [u2_ne _ _ (.inr (by decide)), u2_ne _ _ (.inr (by decide)), u2_ne _ _ (.inr (by decide)), u2_self], by show u2 (u2 (u2 (u2 M0 0 64 (nI m)) 0 65 num) 0 66 ab) 0 69 0 0 65 = _; rw [u2_ne _ _ (.inr (by decide)), u2_ne _ _ (.inr (by decide)), u2_self], by show u2 (u2 (u2 (u2 M0 0 64 (nI m)) 0 65 num) 0 66 ab) 0 69 0 0 66 = _; rw [u2_ne _ _ (.inr (by decide)), u2_self]⟩
      have m68 : M1 0 68 = 0 := by
        show u2 (u2 (u2 (u2 M0 0 64 (nI m)) 0 65 num) 0 66 ab) 0 69 0 0 68 = _
        rw [u2_ne _ _ (.inr (by decide)), u2_ne _ _ (.inr (by decide)), u2_ne _ _ (.inr (by decide)), u2_ne _ _ (.inr (by decide))]
        exact m0
      have m69 : ∀ l, tz 32 68 l M1 0 69 = 0 := fun l => by rw [tz_far (by decide) (.inr (by decide))]; exact u2_self _ _ _ _
      have rest : ∀ f, f < 64 ∨ f = 70 → M1 0 f = M0 0 f := fun f hf => by
        show u2 (u2 (u2 (u2 M0 0 64 (nI m)) 0 65 num) 0 66 ab) 0 69 0 0 f = _
        rw [u2_ne _ _ (.inr (by omega)), u2_ne _ _ (.inr (by omega)), u2_ne _ _ (.inr (by omega)), u2_ne _ _ (.inr (by omega))]
      have rows : ∀ r, r ≠ 0 → M1 r = M0 r := fun r hr => by
        show u2 (u2 (u2 (u2 M0 0 64 (nI m)) 0 65 num) 0 66 ab) 0 69 0 r = _
        rw [u2r hr, u2r hr, u2r hr, u2r hr]
      -- the ends
      have lenl := tRes_len (x := x) (num := num) (a := ab) hm1 hm6 hc
      generalize eR : tRes m c x num ab = R at *
      have hRel : ∀ Mf : mI, (∀ r, r ≠ 0 → r ≠ 32 → Mf r = M0 r) → (∀ f, f < 64 ∨ f = 70 → Mf 0 f = M0 0 f) → Mf 0 68 = nI R.1.length → (∀ j, j < R.1.length → Mf 32 j = R.1.getD j 0) → ∀ v, RelQ (t + 1) s' rd' J' (tz 127 17 R.1 I') v v Mf Jm := by
        intro Mf g1 g2 g3 g4 v
        refine ⟨rfl, RelS.cls (hR.bod (fun r r1 r2 => tz_row r2 r1) (fun f hf => tz_far (by decide) (.inr hf)) g1 g2 ⟨R.1.length, by omega, tz_cnt (by decide), ?_, fun j hj => ?_⟩) hs'⟩
        · rw [g3, Nat.min_eq_left lenl]
        · rw [Nat.min_eq_left lenl] at hj
          rw [g4 j hj]
          show (if 127 = 127 ∧ j < R.1.length then _ else _) = _
          rw [if_pos ⟨rfl, hj⟩]
      have tzM : ∀ r, r ≠ 0 → r ≠ 32 → tz 32 68 R.1 M1 r = M0 r := fun r r1 r2 => (tz_row r2 r1).trans (rows r r1)
      have tzF : ∀ f, f < 64 ∨ f = 70 → tz 32 68 R.1 M1 0 f = M0 0 f := fun f hf => (tz_far (by decide) (.inr (by omega))).trans (rest f hf)
      have tzL : ∀ j, j < R.1.length → tz 32 68 R.1 M1 32 j = R.1.getD j 0 := fun j hj => by
        show (if 32 = 32 ∧ j < R.1.length then _ else _) = _
        rw [if_pos ⟨rfl, hj⟩]
      have way : ∀ v : Int32, ((R.2.2 = false ∨ ab ≠ num) ∧ v = R.2.1) ∨ (R.2.2 = true ∧ ab = num ∧ v = -15) → m_act (nI k) (nI c) x Im Jm (RelQ (t + 1) s' rd' J' (tz 127 17 R.1 I') v) := by
        intro v hv
        have go : mOp c x M1 Jm (fun r I4 J5 => m_act_j153 (RelQ (t + 1) s' rd' J' (tz 127 17 R.1 I') v) r I4 J5) := by
          refine mOp_z hm1 hm6 hc hM m68 (fun z => ?_) (fun z1 z2 v' => ?_)
          · rw [eR] at z ⊢
            unfold m_act_j153
            rcases hv with ⟨_, rfl⟩ | ⟨g1, g2, _⟩
            · exact br_t (m69 _) (hRel _ tzM tzF (tz_cnt (by decide)) tzL _)
            · rcases z with z | z
              · exact absurd (g1.symm.trans z) (by decide)
              · exact absurd g2 z
          · rw [eR] at z1 ⊢
            unfold m_act_j153
            rcases hv with ⟨g, _⟩ | ⟨_, _, rfl⟩
            · rcases g with g | g
              · exact absurd (g.symm.trans z1) (by decide)
              · exact absurd z2 g
            · refine br_f (by rw [u2_self]; decide) (hRel _ (fun r r1 r2 => (u2r r1).trans (tzM r r1 r2)) (fun f hf => (u2_ne _ _ (.inr (by omega))).trans (tzF f hf)) ((u2_ne _ _ (.inr (by decide))).trans (tz_cnt (by decide))) (fun j hj => (congrFun (u2r (by decide)) j).trans (tzL j hj)) _)
        have j102 : m_act_j102 (RelQ (t + 1) s' rd' J' (tz 127 17 R.1 I') v) (nI c) x ab (u2 (u2 M0 0 64 (nI m)) 0 65 num) Jm := by
          unfold m_act_j102
          rcases lt4 hc with rfl | rfl | rfl | rfl
          · exact br_t rfl go
          · exact br_f (by decide) (br_t rfl go)
          · exact br_f (by decide) (br_f (by decide) (br_t rfl go))
          · exact br_f (by decide) (br_f (by decide) (br_f (by decide) go))
        unfold m_act
        rw [eM]
        refine m_sh_c hk (br_f (by decide) (m_in_c (fun _ => br_f (by decide) (m1 _ (m_in_c (fun _ => br_f (by decide) (m1 _ (m2 _ _ (fun r hr => u2r hr) (u2_ne _ _ (.inr (by decide))) ?_))) (fun u => absurd ⟨nI_le (a := 1) (by omega) (by omega), nI_le (b := 6) (by omega) (by decide)⟩ u)))) (fun u => absurd z u)))
        have e64 : u2 M0 0 64 (nI m) 0 64 = nI m := u2_self _ _ _ _
        rw [e64]
        by_cases e5 : m = 5
        · refine br_t (by rw [e5]; rfl) (m3 e5 _ _ (fun r hr => by rw [u2r hr, u2r hr]) j102)
        · refine br_f (fun y => e5 ((nI_eq (b := 5) (by omega) (by decide)).mp y)) ?_
          by_cases e6 : m = 6
          · refine br_t (by rw [e6]; rfl) ?_
            rw [u2_ne _ _ (.inr (by decide)), ← m4 e6]
            exact j102
          · refine br_f (fun y => e6 ((nI_eq (b := 6) (by omega) (by decide)).mp y)) ?_
            have e12 : u2 M0 0 64 (nI m) 0 12 = u2 (u2 M0 0 64 (nI m)) 0 65 num 0 12 := (u2_ne _ _ (.inr (by decide))).symm
            rw [e12]
            exact m5 (by omega) _ _ (by rw [u2_ne _ _ (.inr (by decide)), u2_ne _ _ (.inr (by decide))]) j102
      have fin : x_X0_acted q (nI c) x s' rd' J' I' (fun c22 I21 => c22 = 5 ∧ m_act (nI k) (nI c) x Im Jm (RelQ (t + 1) s' rd' J' I21 (-15))) (fun r20 I19 => m_act (nI k) (nI c) x Im Jm (RelQ (t + 1) s' rd' J' I19 r20)) :=
        x_acted_z hm1 hm6 hc hH i0' (fun zz => by rw [eR] at zz ⊢; exact way _ (.inl ⟨zz, rfl⟩)) (fun z1 z2 => by rw [eR] at z1 ⊢; exact ⟨rfl, way _ (.inr ⟨z1, z2, rfl⟩)⟩)
      rcases le6 hm1 hm6 with rfl | rfl | rfl | rfl | rfl | rfl
      · exact .inr (.inr (.inr (.inr (.inl ⟨ho, fin⟩))))
      · exact .inr (.inr (.inr (.inr (.inr (.inl ⟨ho, fin⟩)))))
      · exact .inr (.inr (.inr (.inr (.inr (.inr (.inl ⟨ho, fin⟩))))))
      · exact .inr (.inr (.inr (.inr (.inr (.inr (.inr (.inl ⟨ho, fin⟩)))))))
      · exact .inr (.inr (.inr (.inr (.inr (.inr (.inr (.inr (.inl ⟨ho, fin⟩))))))))
      · exact .inr (.inr (.inr (.inr (.inr (.inr (.inr (.inr (.inr ⟨ho, fin⟩)))))))))
