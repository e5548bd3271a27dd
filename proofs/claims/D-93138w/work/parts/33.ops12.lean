set_option maxRecDepth 100000
set_option maxHeartbeats 4000000
/-! PLAIN LAW, operations 12: the Round and the odometer; rate, stay -/
theorem Rel.fr {t t' : Nat} {s : xS} {rd : xRd} {J J' : mJ} {I I' Im Im' : mI} {Jm Jm' : mJ} (h : Rel t s rd J I Im Jm) (gI : ∀ r, r < 25 ∨ r = 92 ∨ 100 ≤ r → I' r = I r) (gJ : ∀ r, 121 ≤ r → J' r = J r) (gm : ∀ r, (1 ≤ r ∧ r ≤ 7) ∨ r = 19 ∨ 25 ≤ r → Im' r = Im r) (gf : ∀ f, f ≤ 18 ∨ f = 34 ∨ f = 39 ∨ f = 57 ∨ f = 68 ∨ f = 70 → Im' 0 f = Im 0 f) (g15 : Jm' 15 = Jm 15) (g28 : Jm' 28 = Jm 28) (ht : t ≤ t' := by omega) : Rel t' s rd J' I' Im' Jm' := by
  obtain ⟨h0, σ, fz, hS⟩ := h.opn
  have hd := hS.2.2.2.2.1
  have ho : old s rd fz I s rd fz I' := old.same (fun r hr => gI r (by omega))
  refine RelS.cls (hS.gen2 ho hS.1 (hS.2.1.to (fun r r1 r2 => gI r (by omega))) (hS.2.2.1.to (fun r r1 r2 => gm r (by omega)) (fun k hk => gf k (by omega))) (hS.2.2.2.1.pe ⟨rfl, rfl, rfl, rfl, rfl, rfl⟩ (by rw [gI 23 (by omega)]) (gI 24 (by omega)) (gf 18 (by omega)) (gm 7 (by omega))) ?_ (hS.2.2.2.2.2.1.to ho (fun _ => rfl)) (hS.2.2.2.2.2.2.1.to ho (fun _ => rfl)) (fun r hr => gI r (by omega)) (fun r r1 r2 => gI r (by omega)) (fun r r1 r2 => gJ r r1) (fun _ _ _ => rfl) (fun r hr => gm r (by omega)) (fun f hf => gf f (by omega)) g28 hS.2.2.2.2.2.2.2.1.1) (by omega)
  obtain ⟨d, w1, w2, w3⟩ := hd
  exact ⟨d, w1, by rw [gf 34 (by omega)]; exact w2, fun m hm need hn => by rw [g15]; exact w3 m hm need hn⟩
/-- what a tuple brings, what it takes -/
def tB (σ : wS) (d : Nat → Nat) : Nat → Nat
  | 0 => 0
  | i + 1 => tB σ d i + bsum σ i (d i)
def tC (σ : wS) (d : Nat → Nat) : Nat → Nat
  | 0 => σ 0 4
  | i + 1 => tC σ d i + d i
theorem tB_le {σ : wS} {d : Nat → Nat} (hw : wf σ) : ∀ i, (∀ j, j < i → d j ≤ 6) → tB σ d i ≤ 180 * i := by
  intro i
  induction i with
  | zero => intro _; exact Nat.le_refl _
  | succ i ih =>
    intro h
    have a := ih (fun j hj => h j (by omega))
    have b := bsum_le hw i (d i)
    have c := h i (by omega)
    show tB σ d i + bsum σ i (d i) ≤ _
    omega
theorem tC_le {σ : wS} {d : Nat → Nat} : ∀ i, (∀ j, j < i → d j ≤ 6) → tC σ d i ≤ σ 0 4 + 6 * i ∧ σ 0 4 ≤ tC σ d i := by
  intro i
  induction i with
  | zero => intro _; exact ⟨Nat.le_refl _, Nat.le_refl _⟩
  | succ i ih =>
    intro h
    have a := ih (fun j hj => h j (by omega))
    have c := h i (by omega)
    show tC σ d i + d i ≤ _ ∧ _ ≤ tC σ d i + d i
    omega
theorem tB_z {σ : wS} {d : Nat → Nat} : ∀ i, (∀ j, j < i → d j = 0) → tB σ d i = 0 ∧ tC σ d i = σ 0 4 := by
  intro i
  induction i with
  | zero => intro _; exact ⟨rfl, rfl⟩
  | succ i ih =>
    intro h
    obtain ⟨a, b⟩ := ih (fun j hj => h j (by omega))
    show tB σ d i + bsum σ i (d i) = 0 ∧ tC σ d i + d i = _
    rw [h i (by omega), a, b]
    exact ⟨rfl, rfl⟩
theorem tB_congr {σ : wS} {d d' : Nat → Nat} : ∀ i, (∀ j, j < i → d j = d' j) → tB σ d i = tB σ d' i ∧ tC σ d i = tC σ d' i := by
  intro i
  induction i with
  | zero => intro _; exact ⟨rfl, rfl⟩
  | succ i ih =>
    intro h
    obtain ⟨a, b⟩ := ih (fun j hj => h j (by omega))
    show tB σ d i + bsum σ i (d i) = tB σ d' i + bsum σ i (d' i) ∧ tC σ d i + d i = tC σ d' i + d' i
    rw [a, b, h i (by omega)]
    exact ⟨rfl, rfl⟩
/-- the model's numbers at a tuple -/
def mRd (σ : wS) (I0 I : mI) (d : Nat → Nat) (x y : Nat) : Prop := (∀ r, r ≠ 0 → r ≠ 13 → r ≠ 14 → I r = I0 r) ∧ (∀ f, f ≠ 31 → f ≠ 32 → I 0 f = I0 0 f) ∧ I 0 31 = nI x ∧ I 0 32 = nI y ∧ (∀ k, k < 4 → I 13 k = nI (d k)) ∧ (∀ k, k < σ 0 0 → d k ≤ σ 2 k) ∧ x ≤ 720 ∧ 1 ≤ y ∧ y ≤ 84
theorem mRd.mP {σ : wS} {I0 I : mI} {d : Nat → Nat} {x y : Nat} (h : mRd σ I0 I d x y) (hM : mP σ I0) : mP σ I := by
  obtain ⟨g, g0, _⟩ := h
  obtain ⟨a1, a2, a3, a4, a5, a6⟩ := hM
  refine ⟨(g0 8 (by decide) (by decide)).trans a1, (g0 2 (by decide) (by decide)).trans a2, ?_, ?_, ?_, ?_⟩
  · rw [g 1 (by decide) (by decide) (by decide)]; exact a3
  · rw [g 1 (by decide) (by decide) (by decide)]; exact a4
  · rw [g 1 (by decide) (by decide) (by decide)]; exact a5
  · rw [g 2 (by decide) (by decide) (by decide)]; exact a6
/-- the class's numbers at a prefix of a tuple -/
def xT (I0 I : mI) (d : Nat → Nat) (i : Nat) : Prop := (∀ r, r ≠ 70 → r ≠ 71 → r ≠ 72 → I r = I0 r) ∧ ∀ k, k < i → I 71 k = nI (d k)
/-- what's best so far, on both sides -/
def bst (σ : wS) (I Im : mI) (x y : Nat) : Prop := I 70 2 = nI x ∧ I 70 3 = nI y ∧ ∀ k, k < σ 0 0 → I 72 k = Im 14 k
/-- nothing tried so far -/
def fst0 (σ : wS) (I Im : mI) (d : Nat → Nat) (x y i : Nat) : Prop := I 70 3 = 0 ∧ x = 0 ∧ y = σ 0 4 ∧ (∀ k, k < 4 → Im 14 k = nI 0) ∧ ∀ k, k < 4 → d k = 0
def cp14 (I : mI) : Nat → mI
  | 0 => I
  | i + 1 => u2 (cp14 I i) 14 i (cp14 I i 13 i)
theorem cp14_r {I : mI} {r : Nat} (h : r ≠ 14) : ∀ i, cp14 I i r = I r := by
  intro i
  induction i with
  | zero => rfl
  | succ i ih =>
    show u2 (cp14 I i) 14 i (cp14 I i 13 i) r = _
    rw [u2r h]
    exact ih
theorem cp14_14 {I : mI} {k : Nat} : ∀ i, k < i → cp14 I i 14 k = I 13 k := by
  intro i
  induction i with
  | zero => intro h; exact absurd h (Nat.not_lt_zero _)
  | succ i ih =>
    intro h
    show u2 (cp14 I i) 14 i (cp14 I i 13 i) 14 k = _
    by_cases e : k = i
    · rw [e, u2_self, cp14_r (by decide)]
    · rw [u2_ne _ _ (Or.inr e)]
      exact ih (by omega)
theorem m_round_cp {I1 : mI} {J : mJ} {Q : mI → mJ → Prop} {k53 : Int32 → mI → mJ → Prop} (h : m_findRound_j162 Q k53 (cp14 I1 4) J) :
    ∀ n i, 4 - i < n → i ≤ 4 → m_findRound_l136 Q k53 n (nI i) (cp14 I1 i) J := by
  intro n
  induction n with
  | zero => intro i g; omega
  | succ n ih =>
    intro i g1 g2
    unfold m_findRound_l136
    refine pk_le 4 i (fun le => ?_) (fun lt => ?_) rfl rfl (by omega) (by omega)
    · have e : i = 4 := by omega
      subst e
      exact h
    · rw [nI_clamp (by omega), nI_1]
      have v : vp_in (nI i) 4 := vp_in_nI lt (by decide)
      exact ⟨v, v, ih (i + 1) (by omega) (by omega)⟩
/-- the model's heap, a better tuple kept -/
def rkp (I : mI) (x y : Nat) : mI := cp14 (u2 (u2 I 0 31 (nI x)) 0 32 (nI y)) 4
theorem rkp_ok {σ : wS} {I0 I : mI} {d : Nat → Nat} {x y x' y' : Nat} (hR : mRd σ I0 I d x y) (h : x' ≤ 720 ∧ 1 ≤ y' ∧ y' ≤ 84) : mRd σ I0 (rkp I x' y') d x' y' ∧ ∀ k, k < 4 → rkp I x' y' 14 k = nI (d k) := by
  obtain ⟨z1, z2, z3, z4, z5, z6, _⟩ := hR
  have z5' : ∀ k, k < 4 → u2 (u2 I 0 31 (nI x')) 0 32 (nI y') 13 k = nI (d k) := fun k hk => by rw [u2r (by decide), u2r (by decide)]; exact z5 k hk
  unfold rkp
  refine ⟨⟨fun r r1 r2 r3 => by rw [cp14_r r3, u2r r1, u2r r1]; exact z1 r r1 r2 r3, fun f f1 f2 => by rw [cp14_r (by decide), u2_ne _ _ (Or.inr f2), u2_ne _ _ (Or.inr f1)]; exact z2 f f1 f2, by rw [cp14_r (by decide), u2_ne _ _ (Or.inr (by decide)), u2_self], by rw [cp14_r (by decide), u2_self], fun k hk => by rw [cp14_r (by decide)]; exact z5' k hk, z6, h⟩, fun k hk => by rw [cp14_14 4 hk]; exact z5' k hk⟩
/-- the model at a full tuple: compares, keeps, goes on -/
theorem m_round_at {σ : wS} {I0 I : mI} {J : mJ} {d : Nat → Nat} {x y : Nat} {Q : mI → mJ → Prop} {n : Nat} (hw : wf σ) (h4 : σ 0 4 ≤ 60) (h41 : 1 ≤ σ 0 4) (hM : mP σ I0) (e4 : I0 0 4 = nI (σ 0 4)) (hR : mRd σ I0 I d x y)
    (h1 : tB σ d (σ 0 0) * y ≤ x * tC σ d (σ 0 0) → m_goesOn I J (fun r6 I7 J8 => m_findRound_l53 Q n r6 I7 J8))
    (h2 : ¬ tB σ d (σ 0 0) * y ≤ x * tC σ d (σ 0 0) → m_goesOn (rkp I (tB σ d (σ 0 0)) (tC σ d (σ 0 0))) J (fun r6 I7 J8 => m_findRound_l53 Q n r6 I7 J8)) : m_findRound_l53 Q (n + 1) 1 I J := by
  have hP := hw.1
  have d6 : ∀ j, j < σ 0 0 → d j ≤ 6 := fun j hj => Nat.le_trans (hR.2.2.2.2.2.1 j hj) (hw.2.2.1 j)
  have bx := hR.2.2.2.2.2.2
  unfold m_findRound_l53
  refine br_f (by decide) ⟨5, ?_⟩
  have lp : ∀ m i, 4 - i < m → i ≤ σ 0 0 → m_findRound_l67 Q (fun b0 I J => m_findRound_l53 Q n b0 I J) m (nI (tB σ d i)) (nI (tC σ d i)) (nI i) I J := by
    intro m
    induction m with
    | zero => intro i g; exact absurd g (Nat.not_lt_zero _)
    | succ m ih =>
      intro i g1 g2
      unfold m_findRound_l67
      rw [(hR.mP hM).1]
      have tb := tB_le (σ := σ) (d := d) hw i (fun j hj => d6 j (by omega))
      have tc := tC_le (σ := σ) (d := d) i (fun j hj => d6 j (by omega))
      refine pk_le (σ 0 0) i (fun le => ?_) (fun lt => ?_) rfl rfl (by omega) (by omega)
      · have e : i = σ 0 0 := by omega
        subst e
        rw [hR.2.2.1, hR.2.2.2.1, pk_mul, pk_mul]
        have m1 : tB σ d (σ 0 0) * y ≤ 720 * 84 := Nat.mul_le_mul (by omega) (by omega)
        have m2 : x * tC σ d (σ 0 0) ≤ 720 * 84 := Nat.mul_le_mul (by omega) (by omega)
        refine pk_le (tB σ d (σ 0 0) * y) (x * tC σ d (σ 0 0)) (fun le => ?_) (fun lt => ⟨5, ?_⟩) rfl rfl (by omega) (by omega)
        · unfold m_findRound_j162
          exact h1 le
        · refine m_round_cp ?_ 5 0 (by omega) (by omega)
          unfold m_findRound_j162
          exact h2 (by omega)
      · have hi4 : i < 4 := by omega
        rw [nI_clamp (by omega), hR.2.2.2.2.1 i hi4]
        have v : vp_in (nI i) 4 := vp_in_nI hi4 (by decide)
        refine ⟨v, m_brings_s hw (hR.mP hM) hi4 (hR.2.2.2.2.2.1 i lt) ⟨v, ?_⟩⟩
        rw [hR.2.2.2.2.1 i hi4, nI_add, nI_add, nI_1]
        exact nm_e (ih (i + 1) (by omega) (by omega))
  have z := lp 5 0 (by omega) (by omega)
  have e := hR.2.1 4 (by decide) (by decide)
  rw [e, e4]
  exact z
theorem aI_pred (i : Nat) : nI i + (-1) = aI i := by
  cases i with
  | zero => decide
  | succ k => rw [pk_m1, aI_s]
theorem aI_pred' (i : Nat) : nI i - 1 = aI i := by
  cases i with
  | zero => decide
  | succ k => rw [nI_pred, aI_s]
def dset (d : Nat → Nat) (i c : Nat) : Nat → Nat := fun k => if k = i then c else d k
theorem dset_s {d : Nat → Nat} {i c : Nat} : dset d i c i = c := if_pos rfl
theorem dset_n {d : Nat → Nat} {i c k : Nat} (h : k ≠ i) : dset d i c k = d k := if_neg h
theorem x_tries_s {σ : wS} {s : xS} {rd : xRd} {J : mJ} {I0 Im0 : mI} {Jm : mJ} {W : (mI → mJ → Prop) → Prop} (hw : wf σ) (h4 : σ 0 4 ≤ 60) (h41 : 1 ≤ σ 0 4) (hP : xP σ I0) (hM : mP σ Im0) (e4 : Im0 0 4 = nI (σ 0 4)) :
    ∀ m i f (d : Nat → Nat) x y (I Im : mI) (Q : mI → Prop), i + m = σ 0 0 → m < f → xT I0 I d i → mRd σ Im0 Im d x y → (∀ k, i ≤ k → k < 4 → d k = 0) → (bst σ I Im x y ∨ fst0 σ I Im d x y i) → (∀ QM, (∃ n, m_findRound_l53 QM n 1 Im Jm) → W QM) →
    (∀ I' Im' x' y', xT I0 I' d i → mRd σ Im0 Im' d x' y' → bst σ I' Im' x' y' → (∀ QM, (∃ n n', m_goesOn_l7 (fun r6 I7 J8 => m_findRound_l53 QM n r6 I7 J8) n' (aI i) Im' Jm) → W QM) → Q I') → x_X4_tries f (nI i) (nI (tB σ d i)) (nI (tC σ d i)) s rd J I Q := by
  have hP4 := hw.1
  intro m
  induction m with
  | zero =>
    intro i f d x y I Im Q h1 hf hx hR hz hb hin K
    have ei : i = σ 0 0 := by omega
    subst ei
    rw [show f = (f - 1) + 1 by omega]
    have d6 : ∀ j, j < σ 0 0 → d j ≤ 6 := fun j hj => Nat.le_trans (hR.2.2.2.2.2.1 j hj) (hw.2.2.1 j)
    have bx := hR.2.2.2.2.2.2
    have tb := tB_le (σ := σ) (d := d) hw (σ 0 0) d6
    have tc := tC_le (σ := σ) (d := d) (σ 0 0) d6
    have i1 : I 1 0 = nI (σ 0 0) := by rw [hx.1 1 (by decide) (by decide) (by decide)]; exact hP.1
    have gon : ∀ {Im' : mI} {QM : mI → mJ → Prop} {n : Nat}, mP σ Im' → (∃ n', m_goesOn_l7 (fun r6 I7 J8 => m_findRound_l53 QM n r6 I7 J8) n' (aI (σ 0 0)) Im' Jm) → m_goesOn Im' Jm (fun r6 I7 J8 => m_findRound_l53 QM n r6 I7 J8) := by
      intro Im' QM n hp hh
      unfold m_goesOn
      rw [hp.1, aI_pred']
      exact hh
    have keep : ∀ Im' x' y', x' = tB σ d (σ 0 0) → y' = tC σ d (σ 0 0) → mRd σ Im0 Im' d x' y' → (∀ k, k < 4 → Im' 14 k = nI (d k)) → (∀ QM, (∃ n n', m_goesOn_l7 (fun r6 I7 J8 => m_findRound_l53 QM n r6 I7 J8) n' (aI (σ 0 0)) Im' Jm) → W QM) → ∀ pf, x_X4_tries_j99 Q pf (nI (tB σ d (σ 0 0))) (nI (tC σ d (σ 0 0))) s rd J I := by
      intro Im' x' y' ex ey hR' h14 hgo pf
      subst ex
      subst ey
      have e71 : xlen s 71 = 4 := xlen_c (by decide) rfl
      have e72 : xlen s 72 = 4 := xlen_c (by decide) rfl
      unfold x_X4_tries_j99
      rw [e71, e72]
      refine ⟨by decide, nm_e (K _ Im' _ _ ⟨fun r r1 r2 r3 => ?_, fun k hk => ?_⟩ hR' ⟨?_, ?_, fun k hk => ?_⟩ hgo)⟩
      · rw [ur_row r3, u2r r1, u2r r1]; exact hx.1 r r1 r2 r3
      · rw [ur_row (by decide), u2r (by decide), u2r (by decide)]; exact hx.2 k hk
      · rw [ur_row (by decide), u2_ne _ _ (Or.inr (by decide)), u2_self]
      · rw [ur_row (by decide), u2_self]
      · rw [ur_self]
        have e : va_cpy (u2 (u2 I 70 2 (nI (tB σ d (σ 0 0)))) 70 3 (nI (tC σ d (σ 0 0))) 71) (u2 (u2 I 70 2 (nI (tB σ d (σ 0 0)))) 70 3 (nI (tC σ d (σ 0 0))) 72) (0 : Int32).toNatClampNeg (0 : Int32).toNatClampNeg (4 : Int32).toNatClampNeg k = u2 (u2 I 70 2 (nI (tB σ d (σ 0 0)))) 70 3 (nI (tC σ d (σ 0 0))) 71 ((0 : Int32).toNatClampNeg + (k - (0 : Int32).toNatClampNeg)) := pk_cpy_in (Nat.zero_le _) (by show k < 0 + 4; omega)
        rw [e, show (0 : Int32).toNatClampNeg = 0 from rfl, Nat.zero_add, Nat.sub_zero, u2r (by decide), u2r (by decide), hx.2 k hk, h14 k (by omega)]
    unfold x_X4_tries x_X4_tries_b
    rw [i1]
    refine br_t (nI_le (Nat.le_refl _) (by omega)) ?_
    rcases hb with ⟨b1, b2, b3⟩ | ⟨b1, b2, b3, b4, b5⟩
    · rw [b1, b2, nI_l (by omega), nI_l (by omega), nI_l (by omega), nI_l (by omega)]
      refine br_f (nI_ne0 (by omega) (by omega)) ?_
      have m1 : tB σ d (σ 0 0) * y ≤ 720 * 84 := Nat.mul_le_mul (by omega) (by omega)
      have m2 : x * tC σ d (σ 0 0) ≤ 720 * 84 := Nat.mul_le_mul (by omega) (by omega)
      have ec : lg_cmp (lN (tB σ d (σ 0 0)) * lN y) (lN x * lN (tC σ d (σ 0 0))) ≤ 0 ↔ tB σ d (σ 0 0) * y ≤ x * tC σ d (σ 0 0) := by
        rw [lg_cmp_le, show lN (tB σ d (σ 0 0)) * lN y = lN (tB σ d (σ 0 0) * y) from (Int64.ofNat_mul _ _).symm, show lN x * lN (tC σ d (σ 0 0)) = lN (x * tC σ d (σ 0 0)) from (Int64.ofNat_mul _ _).symm]
        exact pk_lLE (by omega) (by omega)
      refine ⟨fun c => K I Im x y hx hR ⟨b1, b2, b3⟩ (fun QM ⟨n, hn⟩ => hin QM ⟨n + 1, m_round_at hw h4 h41 hM e4 hR (fun _ => gon (hR.mP hM) hn) (fun z => absurd (ec.mp c) z)⟩), fun c => ?_⟩
      obtain ⟨k1, k2⟩ := rkp_ok (x' := tB σ d (σ 0 0)) (y' := tC σ d (σ 0 0)) hR (by omega)
      exact keep _ _ _ rfl rfl k1 k2 (fun QM ⟨n, hn⟩ => hin QM ⟨n + 1, m_round_at hw h4 h41 hM e4 hR (fun z => absurd (ec.mpr z) c) (fun _ => gon (k1.mP hM) hn)⟩) _
    · refine br_t b1 ?_
      obtain ⟨z1, z2⟩ := tB_z (σ := σ) (d := d) (σ 0 0) (fun j hj => b5 j (by omega))
      refine keep Im x y (by rw [b2, z1]) (by rw [b3, z2]) hR (fun k hk => by rw [b4 k hk, b5 k hk]) (fun QM ⟨n, hn⟩ => hin QM ⟨n + 1, m_round_at hw h4 h41 hM e4 hR (fun _ => gon (hR.mP hM) hn) (fun z => absurd (by rw [z1, b2]; omega) z)⟩) _
  | succ m ih =>
    intro i f d x y I Im Q h1 hf hx hR hz hb hin K
    have hi : i < 4 := by omega
    have h6 := hw.2.2.1 i
    rw [show f = (f - 1) + 1 by omega]
    have i1 : I 1 0 = nI (σ 0 0) := by rw [hx.1 1 (by decide) (by decide) (by decide)]; exact hP.1
    unfold x_X4_tries x_X4_tries_b
    rw [i1]
    refine br_f (nI_ge (by omega) (by omega)) ⟨σ 2 i + 2, ?_⟩
    have vi : vp_in (nI i) 4 := vp_in_nI hi (by decide)
    have lp : ∀ g c (I Im : mI) x y, σ 2 i + 1 - c < g → c ≤ σ 2 i → xT I0 I d i → mRd σ Im0 Im (dset d i c) x y → (bst σ I Im x y ∨ (fst0 σ I Im (dset d i c) x y i)) → (∀ QM, (∃ n, m_findRound_l53 QM n 1 Im Jm) → W QM) → x_X4_tries_l17 Q (fun a1 a2 a3 s rd J I Q => x_X4_tries (f - 1) a1 a2 a3 s rd J I Q) g (nI i) (nI (tB σ d i)) (nI (tC σ d i)) (nI c) s rd J I := by
      intro g
      induction g with
      | zero => intro c I Im x y g; exact absurd g (Nat.not_lt_zero _)
      | succ g ihg =>
        intro c I Im x y g1 g2 hx hR hb hin
        have i3 : I 3 i = nI (σ 2 i) := by rw [hx.1 3 (by decide) (by decide) (by decide)]; exact hP.2.2.1 i hi
        have hP' : ∀ v, xP σ (u2 I 71 i v) := fun v => by
          obtain ⟨q1, q2, q3, q4, q5, q6⟩ := hP
          have zz : ∀ r, r ≠ 71 → r ≠ 70 → r ≠ 72 → u2 I 71 i v r = I0 r := fun r a b c => by rw [u2r a]; exact hx.1 r b a c
          unfold xP
          rw [zz 1 (by decide) (by decide) (by decide), zz 3 (by decide) (by decide) (by decide), zz 4 (by decide) (by decide) (by decide), zz 6 (by decide) (by decide) (by decide), zz 7 (by decide) (by decide) (by decide)]
          exact ⟨q1, q2, q3, q4, q5, q6⟩
        unfold x_X4_tries_l17
        rw [nI_clamp (by omega), i3]
        refine ⟨vi, br_f (nI_nlt g2 (by omega)) ⟨vi, x_broughtIn_s hw (hP' _) hi g2 ?_⟩⟩
        rw [nI_1, nI_1, nI_add, nI_add]
        have eB : tB σ d i + bsum σ i c = tB σ (dset d i c) (i + 1) := by
          show _ = tB σ (dset d i c) i + bsum σ i (dset d i c i)
          rw [dset_s, ← (tB_congr (σ := σ) (d := d) (d' := dset d i c) i (fun j hj => (dset_n (by omega)).symm)).1]
        have eC : tC σ d i + c = tC σ (dset d i c) (i + 1) := by
          show _ = tC σ (dset d i c) i + dset d i c i
          rw [dset_s, ← (tB_congr (σ := σ) (d := d) (d' := dset d i c) i (fun j hj => (dset_n (by omega)).symm)).2]
        rw [eB, eC]
        refine ih (i + 1) (f - 1) (dset d i c) x y (u2 I 71 i (nI c)) Im _ (by omega) (by omega) ⟨fun r r1 r2 r3 => by rw [u2r r2]; exact hx.1 r r1 r2 r3, fun k hk => ?_⟩ hR (fun k k1 k2 => by rw [dset_n (by omega)]; exact hz k (by omega) k2) ?_ hin (fun I' Im' x' y' hx' hR' hb' hgo => ?_)
        · by_cases e : k = i
          · rw [e, u2_self, dset_s]
          · rw [u2_ne _ _ (Or.inr e), dset_n e]; exact hx.2 k (by omega)
        · rcases hb with ⟨b1, b2, b3⟩ | ⟨b1, b2, b3, b4, b5⟩
          · exact .inl ⟨by rw [u2r (by decide)]; exact b1, by rw [u2r (by decide)]; exact b2, fun k hk => by rw [u2r (by decide)]; exact b3 k hk⟩
          · exact .inr ⟨by rw [u2r (by decide)]; exact b1, b2, b3, b4, b5⟩
        · have hx2 : xT I0 I' d i := ⟨hx'.1, fun k hk => by rw [hx'.2 k (by omega), dset_n (by omega)]⟩
          have m13 : Im' 13 i = nI c := by rw [hR'.2.2.2.2.1 i hi, dset_s]
          have nn : ¬ nI i < 0 := nI_pos (by omega)
          have nn' : (0 : Int32) ≤ nI i := nI_pos' (by omega)
          have set13 : ∀ c', c' ≤ σ 2 i → mRd σ Im0 (u2 Im' 13 i (nI c')) (dset d i c') x' y' := by
            intro c' hc'
            obtain ⟨z1, z2, z3, z4, z5, z6, z7⟩ := hR'
            refine ⟨fun r r1 r2 r3 => by rw [u2r r2]; exact z1 r r1 r2 r3, fun f f1 f2 => by rw [u2r (by decide)]; exact z2 f f1 f2, by rw [u2r (by decide)]; exact z3, by rw [u2r (by decide)]; exact z4, fun k hk => ?_, fun k hk => ?_, z7⟩
            · by_cases e : k = i
              · rw [e, u2_self, dset_s]
              · rw [u2_ne _ _ (Or.inr e), dset_n e, z5 k hk, dset_n e]
            · by_cases e : k = i
              · rw [e, dset_s]; exact hc'
              · rw [dset_n e]; have := z6 k hk; rw [dset_n e] at this; exact this
          have bst' : ∀ v, bst σ I' (u2 Im' 13 i v) x' y' := fun v => ⟨hb'.1, hb'.2.1, fun k hk => by rw [u2r (by decide)]; exact hb'.2.2 k hk⟩
          by_cases top : c = σ 2 i
          · have d0 : dset d i 0 = d := by
              funext k
              by_cases e : k = i
              · rw [e, dset_s, hz i (Nat.le_refl _) hi]
              · rw [dset_n e]
            have R0 := set13 0 (by omega)
            rw [d0] at R0
            have i3' : I' 3 i = nI (σ 2 i) := by rw [hx2.1 3 (by decide) (by decide) (by decide)]; exact hP.2.2.1 i hi
            rw [show g = (g - 1) + 1 by omega]
            unfold x_X4_tries_l17
            rw [nI_clamp (by omega), i3']
            refine ⟨vi, br_t (nI_lt (by omega) (by omega)) (K I' (u2 Im' 13 i (nI 0)) x' y' hx2 R0 (bst' _) (fun QM ⟨n, n', hn⟩ => hgo QM ⟨n, n' + 1, ?_⟩))⟩
            rw [aI_s]
            unfold m_goesOn_l7
            rw [nI_clamp (by omega), m13, aI_pred]
            exact br_f nn ⟨vi, m_topOf_s (hR'.mP hM) hi (br_t (by rw [top]) ⟨vi, hn⟩)⟩
          · refine ihg (c + 1) I' (u2 Im' 13 i (nI (c + 1))) x' y' (by omega) (by omega) hx2 (set13 (c + 1) (by omega)) (.inl (bst' _)) (fun QM ⟨n, hn⟩ => hgo QM ⟨n, 1, ?_⟩)
            rw [aI_s]
            unfold m_goesOn_l7 m_goesOn_j38
            rw [nI_clamp (by omega), m13]
            refine br_f nn ⟨vi, m_topOf_s (hR'.mP hM) hi (br_f (fun y => top ((nI_eq (by omega) (by omega)).mp y)) (br_t nn' ⟨vi, vi, by show m_findRound_l53 QM n 1 (u2 Im' 13 i (Im' 13 i + 1)) Jm; rw [m13, nI_1]; exact hn⟩))⟩
    have d0 : dset d i 0 = d := by
      funext k
      by_cases e : k = i
      · rw [e, dset_s, hz i (Nat.le_refl _) hi]
      · rw [dset_n e]
    refine lp (σ 2 i + 2) 0 I Im x y (by omega) (by omega) hx (by rw [d0]; exact hR) (by rw [d0]; exact hb) hin
def z13 (I : mI) : Nat → mI
  | 0 => I
  | i + 1 => u2 (u2 (z13 I i) 13 i 0) 14 i 0
theorem z13_r {I : mI} {r : Nat} (h : r ≠ 13) (h2 : r ≠ 14) : ∀ i, z13 I i r = I r := by
  intro i
  induction i with
  | zero => rfl
  | succ i ih =>
    show u2 (u2 (z13 I i) 13 i 0) 14 i 0 r = _
    rw [u2r h2, u2r h]
    exact ih
theorem z13_z {I : mI} {k : Nat} : ∀ i, k < i → z13 I i 13 k = nI 0 ∧ z13 I i 14 k = nI 0 := by
  intro i
  induction i with
  | zero => intro h; exact absurd h (Nat.not_lt_zero _)
  | succ i ih =>
    intro h
    show u2 (u2 (z13 I i) 13 i 0) 14 i 0 13 k = _ ∧ u2 (u2 (z13 I i) 13 i 0) 14 i 0 14 k = _
    rw [u2r (show 13 ≠ 14 by decide)]
    by_cases e : k = i
    · rw [e, u2_self, u2_self]; exact ⟨rfl, rfl⟩
    · rw [u2_ne _ _ (Or.inr e), u2_ne _ _ (Or.inr e), u2r (show 14 ≠ 13 by decide)]
      exact ih (by omega)
theorem m_find_in {σ : wS} {I : mI} {J : mJ} (hw : wf σ) (h41 : 1 ≤ σ 0 4 ∧ σ 0 4 ≤ 60) (hP0 : 0 < σ 0 0) (hM : mP σ I) (e4 : I 0 4 = nI (σ 0 4)) : ∃ I', mRd σ I I' (fun _ => 0) 0 (σ 0 4) ∧ (∀ k, k < 4 → I' 14 k = nI 0) ∧ ∀ QM, (∃ n, m_findRound_l53 QM n 1 I' J) → m_findRound I J QM := by
  have hP4 := hw.1
  refine ⟨u2 (u2 (z13 I 4) 0 31 0) 0 32 (nI (σ 0 4)), ⟨fun r r1 r2 r3 => by rw [u2r r1, u2r r1, z13_r r2 r3], fun f f1 f2 => by rw [u2_ne _ _ (Or.inr f2), u2_ne _ _ (Or.inr f1), z13_r (by decide) (by decide)], by rw [u2_ne _ _ (Or.inr (by decide)), u2_self]; rfl, u2_self _ _ _ _, fun k hk => by rw [u2r (by decide), u2r (by decide)]; exact (z13_z 4 hk).1, fun k hk => Nat.zero_le _, by omega, by omega, by omega⟩, fun k hk => by rw [u2r (by decide), u2r (by decide)]; exact (z13_z 4 hk).2, fun QM hh => ?_⟩
  unfold m_findRound
  have lp : ∀ n i, 4 - i < n → i ≤ 4 → m_findRound_l2 QM n (nI i) (z13 I i) J := by
    intro n
    induction n with
    | zero => intro i g; exact absurd g (Nat.not_lt_zero _)
    | succ n ih =>
      intro i g1 g2
      unfold m_findRound_l2
      refine pk_le 4 i (fun le => ?_) (fun lt => ?_) rfl rfl (by omega) (by omega)
      · have e : i = 4 := by omega
        subst e
        rw [z13_r (by decide) (by decide) 4, hM.1, e4]
        unfold m_findRound_j52
        exact br_f (nI_nle hP0 (by omega)) hh
      · have v : vp_in (nI i) 4 := vp_in_nI lt (by decide)
        rw [nI_clamp (by omega), nI_1]
        exact ⟨v, v, ih (i + 1) (by omega) (by omega)⟩
  exact ⟨5, lp 5 0 (by omega) (by omega)⟩
theorem x_find_s {t : Nat} {σ : wS} {fz : Nat → Bool} {s : xS} {rd : xRd} {J : mJ} {I Im : mI} {Jm : mJ} {Q : mI → Prop} (h0 : s.1 ≤ 600 * t) (hS : RelS t σ fz s rd J I Im Jm) (hP0 : 0 < σ 0 0)
    (K : ∀ I' Im' x y, Rel (t + 1) s rd J I' Im' Jm → bst σ I' Im' x y → 1 ≤ y → y ≤ 84 → x ≤ 720 → Im' 0 31 = nI x → Im' 0 32 = nI y → (∀ QM : mI → mJ → Prop, QM Im' Jm → m_findRound Im Jm QM) → Q I') : x_X4_finds s rd J I Q := by
  have hw := hS.1.1
  have hP4 := hw.1
  have h41 := hS.1.2.2.1.2.2.1
  have e4m : Im 0 4 = nI (σ 0 4) := hS.2.2.1.1.2.2.2.2.1
  have e4x : I 1 4 = nI (σ 0 4) := hS.2.1.1 4 (by decide)
  obtain ⟨I1, a1, a2, a3⟩ := m_find_in (J := Jm) hw h41 hP0 hS.2.2.1.mP e4m
  unfold x_X4_finds
  rw [e4x]
  have z := x_tries_s (s := s) (rd := rd) (J := J) (I0 := I) (Im0 := Im) (Jm := Jm) (W := fun QM => m_findRound Im Jm QM) hw h41.2 h41.1 hS.2.1.xP hS.2.2.1.mP e4m (σ 0 0) 0 6 (fun _ => 0) 0 (σ 0 4) (u2 I 70 3 0) I1 (fun I1 => Q I1) (by omega) (by omega) ⟨fun r r1 r2 r3 => u2r r1, fun k hk => absurd hk (Nat.not_lt_zero _)⟩ a1 (fun _ _ _ => rfl) (.inr ⟨u2_self _ _ _ _, rfl, rfl, a2, fun _ _ => rfl⟩) a3
    (fun I' Im' x' y' b1 b2 b3 b4 => K I' Im' x' y' ((hS.cls h0).fr (fun r hr => b1.1 r (by omega) (by omega) (by omega)) (fun _ _ => rfl) (fun r hr => b2.1 r (by omega) (by omega) (by omega)) (fun f hf => b2.2.1 f (by omega) (by omega)) rfl rfl) b3 b2.2.2.2.2.2.2.2.1 b2.2.2.2.2.2.2.2.2 b2.2.2.2.2.2.2.1 b2.2.2.1 b2.2.2.2.1 (fun QM hq => b4 QM ⟨1, 1, ?_⟩))
  · exact z
  · unfold m_goesOn_l7 m_goesOn_j38
    rw [aI_0]
    refine br_t (by decide) (br_f (by decide) ?_)
    show m_findRound_l53 QM 1 0 Im' Jm
    unfold m_findRound_l53
    exact br_t rfl hq
theorem p_rate {t : Nat} {a : Int32} {s : xS} {rd : xRd} {J : mJ} {I Im : mI} {Jm : mJ} (h : Rel t s rd J I Im Jm) : x_X0_rate a s rd J I (fun r I' => m_rate a Im Jm (RelQ (t + 1) s rd J I' r)) := by
  have no : ∀ z, RelQ (t + 1) s rd J I z z Im Jm := fun z => ⟨rfl, h.same⟩
  obtain ⟨q0, _⟩ := h.eqs
  obtain ⟨h0, σ, fz, hS⟩ := h.opn
  have hw := hS.1.1
  unfold x_X0_rate
  refine x_in_c (fun q => br_f (by decide) ?_) (fun q => br_t rfl (by unfold m_rate; exact m_in_c (fun z => absurd z q) (fun _ => br_t rfl (no _))))
  refine br_c (fun z => by unfold m_rate; exact m_in_c (fun _ => br_f (by decide) (br_t (by rw [← q0]; exact z) (no _))) (fun y => absurd q y)) (fun z => ?_)
  have hP0 : 0 < σ 0 0 := by
    refine Nat.pos_of_ne_zero (fun e => z ?_)
    rw [hS.2.1.1 0 (by decide), e]; rfl
  refine x_find_s h0 hS hP0 (fun I' Im' x y hr hb y1 y2 x1 m31 m32 hm => ?_)
  obtain ⟨z1, z2, z3⟩ := gcd_ok (a := x) (b := y) (by omega) (by omega)
  rw [hb.1, hb.2.1, nI_l (by omega), nI_l (by omega)]
  refine x_divisor_s (by omega) (by omega) ?_
  rw [lN_32 z2]
  have mo : ∀ r, ((a = 0 → r = nI x / nI (Nat.gcd x y)) ∧ (¬ a = 0 → r = nI y / nI (Nat.gcd x y))) → m_rate a Im Jm (RelQ (t + 1) s rd J I' r) := by
    intro r hrr
    unfold m_rate m_rate_j40
    refine m_in_c (fun _ => br_f (by decide) (br_f (by rw [← q0]; exact z) (hm _ ?_))) (fun y => absurd q y)
    rw [m31, m32]
    exact ⟨fun c => m_divisor_s (by omega) (by omega) ⟨z1, hrr.1 c, hr⟩, fun c => m_divisor_s (by omega) (by omega) ⟨z1, hrr.2 c, hr⟩⟩
  exact ⟨fun c => ⟨z1, mo _ ⟨fun _ => rfl, fun u => absurd c u⟩⟩, fun c => ⟨z1, mo _ ⟨fun u => absurd u c, fun _ => rfl⟩⟩⟩
theorem p_stay {t : Nat} {a : Int32} {s : xS} {rd : xRd} {J : mJ} {I Im : mI} {Jm : mJ} (h : Rel t s rd J I Im Jm) : x_X0_stay a s rd J I (fun r I' => m_stay a Im Jm (RelQ (t + 1) s rd J I' r)) := by
  have no : ∀ z, RelQ (t + 1) s rd J I z z Im Jm := fun z => ⟨rfl, h.same⟩
  obtain ⟨q0, _⟩ := h.eqs
  obtain ⟨h0, σ, fz, hS⟩ := h.opn
  have hw := hS.1.1
  unfold x_X0_stay
  refine x_isPatch_c (fun q => br_f (by decide) ?_) (fun q => br_t rfl (by unfold m_stay; exact m_isPatch_c (fun z => absurd (by rw [q0]; exact z) q) (fun _ => br_t rfl (no _))))
  have q' : 0 ≤ a ∧ a ≤ nI (σ 0 0) - 1 := by rw [← hS.2.1.1 0 (by decide)]; exact q
  obtain ⟨p, hp, rfl⟩ := pt_of hw.1 q'
  have hp4 : p < 4 := by have := hw.1; omega
  refine x_find_s h0 hS (by omega) (fun I' Im' x y hr hb y1 y2 x1 m31 m32 hm => ?_)
  have v : vp_in (nI p) 4 := vp_in_nI hp4 (by decide)
  rw [nI_clamp (by omega)]
  refine ⟨v, ?_⟩
  unfold m_stay
  refine m_isPatch_c (fun _ => br_f (by decide) (hm _ ?_)) (fun y => absurd (by rw [← q0]; exact q) y)
  rw [nI_clamp (by omega)]
  exact ⟨v, hb.2.2 p hp, hr⟩
