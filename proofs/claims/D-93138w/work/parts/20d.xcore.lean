set_option maxRecDepth 100000
set_option maxHeartbeats 4000000
/-! PLAIN LAW, the class: acts on a trip, the most -/
theorem nI_or {a b k : Nat} (hb : b < 2 ^ k) (h : 2 ^ k * a + b < 2 ^ 32) : nI (2 ^ k * a) ||| nI b = nI (2 ^ k * a + b) := by
  apply Int32.toBitVec_inj.mp
  apply BitVec.eq_of_toNat_eq
  rw [Int32.toBitVec_or, BitVec.toNat_or, pk_tn (by omega), pk_tn (Nat.lt_of_le_of_lt (Nat.le_add_left _ _) h), pk_tn h, Nat.two_pow_add_eq_or_of_lt hb]
def xP (σ : wS) (I : mI) : Prop := I 1 0 = nI (σ 0 0) ∧ I 1 3 = nI (σ 0 3) ∧ (∀ k, k < 4 → I 3 k = nI (σ 2 k)) ∧ (∀ k, k < 4 → I 4 k = nI (σ 3 k)) ∧ (∀ j, j < 28 → I 6 j = nI (σ 5 j)) ∧ (∀ j, j < 16 → I 7 j = nI (σ 6 j))
theorem xP.to {σ : wS} {I I' : mI} (h : xP σ I) (g : ∀ r, r < 8 → I' r = I r) : xP σ I' := by
  unfold xP
  rw [g 1 (by omega), g 3 (by omega), g 4 (by omega), g 6 (by omega), g 7 (by omega)]
  exact h
def tr (I : mI) (t f m a c g : Nat) : Prop := I t 1 = nI m ∧ I t 0 = nI a ∧ I t 2 = nI g ∧ ∀ p, p < 4 → I f p = nI (dg c p)
theorem tr.to {I I' : mI} {t f m a c g : Nat} (h : tr I t f m a c g) (h1 : I' t = I t) (h2 : I' f = I f) : tr I' t f m a c g := by
  unfold tr
  rw [h1, h2]
  exact h
def tS (s : xS) (rd : xRd) (t f : Nat) : Prop := xo s t 2 ∧ xR rd t 3 = some f ∧ xo s f 100 ∧ xlen s f = 4 ∧ 7 < t ∧ 7 < f ∧ t ≠ f ∧ t ≠ 23 ∧ t ≠ 24 ∧ f ≠ 23 ∧ f ≠ 24
/-- but for a trip nothing is changed -/
def ot (t f : Nat) (I I' : mI) : Prop := ∀ r, r ≠ t → r ≠ f → I' r = I r
theorem ot.refl {t f : Nat} {I : mI} : ot t f I I := fun _ _ _ => rfl
theorem ot.trans {t f : Nat} {I I' I2 : mI} (h : ot t f I I') (g : ot t f I' I2) : ot t f I I2 := fun r h1 h2 => (g r h1 h2).trans (h r h1 h2)
theorem ot.setT {t f k : Nat} {I I' : mI} {v : Int32} (h : ot t f I I') : ot t f I (u2 I' t k v) := fun r h1 h2 => (u2_row h1).trans (h r h1 h2)
theorem ot.setF {t f k : Nat} {I I' : mI} {v : Int32} (h : ot t f I I') : ot t f I (u2 I' f k v) := fun r h1 h2 => (u2_row h2).trans (h r h1 h2)
theorem ot.xP {σ : wS} {s : xS} {rd : xRd} {t f : Nat} {I I' : mI} (h : ot t f I I') (hT : tS s rd t f) (hP : xP σ I) : xP σ I' := hP.to (fun r hr => h r (by have := hT.2.2.2.2.1; omega) (by have := hT.2.2.2.2.2.1; omega))
theorem x_takes_s {σ : wS} {s : xS} {rd : xRd} {J : mJ} {I : mI} {t m a e : Nat} {Q : Int32 → Prop} (hw : wf σ) (hP : xP σ I) (ho : xo s t 2) (h1 : I t 1 = nI m) (h2 : I t 0 = nI a) (hm : m ≤ 20) (ha : a < 4) (he : e < 5) (h : Q (nI (tk σ m a e))) : x_X1_takes t (aI e) s rd J I Q := by
  have hP0 := hw.1
  have hD := hw.2.1
  have z : tk σ m a e = 0 → Q 0 := fun q => by rw [q] at h; exact h
  have fin : ∀ k, k ≤ 5 → (tk σ m a e = if m + k ≤ σ 0 3 then k else 0) → x_X1_takes_j47 Q t (nI k) s rd J I := by
    intro k hk5 hk
    unfold x_X1_takes_j47
    rw [h1, nI_add]
    refine ⟨ho, pk_lt (σ 0 3) (m + k) (fun q => z (by rw [hk, if_neg (by omega)])) (fun q => ?_) hP.2.1 rfl (by omega) (by omega)⟩
    rw [hk, if_pos (by omega)] at h
    exact h
  unfold x_X1_takes
  refine pk_eq (σ 0 0) 0 (fun q => z ?_) (fun q => ?_) hP.1 rfl (by omega) (by omega)
  · cases e with
    | zero => simp only [tk]; rw [if_pos q]
    | succ b => simp only [tk]; rw [if_pos (by omega)]
  rw [hP.1, h2]
  cases e with
  | zero =>
    rw [aI_0]
    refine br_f (m1_nle (by omega)) ⟨ho, br_f (fun q => m1_ne (by omega) q.symm) (br_t rfl (fin 1 (by omega) ?_))⟩
    simp only [tk]
    rw [if_neg q]
  | succ b =>
    rw [aI_s]
    refine pk_le (σ 0 0) b (fun q3 => z (by simp only [tk]; rw [if_pos q3])) (fun q3 => ?_) rfl rfl (by omega) (by omega)
    refine ⟨ho, pk_eq b a (fun q4 => z (by simp only [tk]; rw [if_neg (by omega), if_pos q4])) (fun q4 => ?_) rfl rfl (by omega) (by omega)⟩
    refine br_f (m1_ne (by omega)) ?_
    have e1 : (4 : Int32) * nI a + nI b = nI (4 * a + b) := by rw [l4, pk_mul, nI_add]
    rw [e1, nI_clamp (by omega), hP.2.2.2.2.2 (4 * a + b) (by omega)]
    refine ⟨vp_in_nI (by omega) (by decide), fin _ (hw.2.2.2.2.2 _) ?_⟩
    simp only [tk]
    rw [if_neg (by omega), if_neg q4]
/-- a minute goes by: the foods -/
theorem x_passes_lp {σ : wS} {s : xS} {rd : xRd} {J : mJ} {I0 : mI} {t f m a c g : Nat} {Q : mI → Prop} (hw : wf σ) (hP : xP σ I0) (hT : tS s rd t f) (hm : m < 1000) (hc : c < 2401 ∧ ∀ q, q < σ 0 0 → dg c q ≤ σ 2 q)
    (h : ∀ I', ot t f I0 I' → tr I' t f m a (flN σ m (σ 0 0) c) g → Q I') : ∀ n p I, σ 0 0 - p < n → p ≤ σ 0 0 → ot t f I0 I → tr I t f m a (flN σ m p c) g → x_X1_passes_l12 Q n t (nI p) s rd J I := by
  intro n
  induction n with
  | zero => intro p I h1 _; omega
  | succ n ih =>
    intro p I h1 h2 ho htr
    have hP4 := hw.1
    have hP' := ho.xP hT hP
    unfold x_X1_passes_l12
    refine pk_le (σ 0 0) p (fun h3 => ?_) (fun h3 => ?_) hP'.1 rfl (by omega) (by omega)
    · have e : p = σ 0 0 := by omega
      subst e
      exact h I ho htr
    · have hp4 : p < 4 := by omega
      have hx := flN_ok (m := m) hw hc p h2
      have h9 := hw.2.2.2.1 p
      have h6 := hw.2.2.1 p
      have hdl := hx.2 p h3
      have vin : vp_in (nI p) 4 := vp_in_nI hp4 (by decide)
      have fin : ∀ v, v = nI (dg (flN σ m (p + 1) c) p) → (∀ q, q < 4 → q ≠ p → dg (flN σ m (p + 1) c) q = dg (flN σ m p c) q) → x_X1_passes_j84 Q (fun b0 b1 s rd J I => x_X1_passes_l12 Q n b0 b1 s rd J I) t (nI p) f (nI p) v s rd J I := by
        intro v hv hq
        unfold x_X1_passes_j84
        rw [hT.2.2.2.1, nI_clamp (by omega)]
        refine ⟨hT.2.2.1, vin, ?_⟩
        rw [nI_1]
        refine ih (p + 1) _ (by omega) (by omega) ho.setF ?_
        have hne := hT.2.2.2.2.2.2.1
        refine ⟨?_, ?_, ?_, fun q hq4 => ?_⟩
        · rw [u2_row hne]; exact htr.1
        · rw [u2_row hne]; exact htr.2.1
        · rw [u2_row hne]; exact htr.2.2.1
        · by_cases e : q = p
          · rw [e, u2_self, hv]
          · rw [u2_ne _ _ (Or.inr e), htr.2.2.2 q hq4, hq q hq4 e]
      have no : ¬ (0 < σ 3 p ∧ m % σ 3 p = 0 ∧ dg (flN σ m p c) p < σ 2 p) → flN σ m (p + 1) c = flN σ m p c := by
        intro q
        show fl1 σ m p (flN σ m p c) = _
        unfold fl1
        rw [if_neg q]
        rfl
      have j47 : ¬ (0 < σ 3 p ∧ m % σ 3 p = 0) → x_X1_passes_j47 Q (fun b0 b1 s rd J I => x_X1_passes_l12 Q n b0 b1 s rd J I) t (nI p) s rd J I := by
        intro q
        have e := no (fun z => q ⟨z.1, z.2.1⟩)
        unfold x_X1_passes_j47 x_X1_passes_j48
        refine ⟨hT.1, f, hT.2.1, br_t rfl ⟨f, hT.2.1, hT.2.2.1, by rw [hT.2.2.2.1]; exact vin, ?_⟩⟩
        refine fin _ ?_ (fun _ _ _ => by rw [e])
        rw [nI_clamp (by omega), htr.2.2.2 p hp4, e]
      refine ⟨vin, ?_⟩
      rw [nI_clamp (by omega), hP'.2.2.2.1 p hp4, htr.1]
      refine pk_le (σ 3 p) 0 (fun h4 => j47 (by omega)) (fun h4 => ?_) rfl rfl (by omega) (by omega)
      refine ⟨hT.1, vin, nI_ne0 h4 (by omega), ?_⟩
      rw [pk_rem (by omega) h4 (by omega)]
      refine pk_eq (m % σ 3 p) 0 (fun h5 => ?_) (fun h5 => j47 (by omega)) rfl rfl (Nat.lt_of_le_of_lt (Nat.mod_le _ _) (by omega)) (by omega)
      unfold x_X1_passes_j48
      refine ⟨hT.1, f, hT.2.1, br_f (by decide) ⟨vin, f, hT.2.1, hT.2.2.1, by rw [hT.2.2.2.1]; exact vin, ?_⟩⟩
      have hd := dg_lt (flN σ m p c) p
      rw [nI_clamp (by omega), htr.2.2.2 p hp4, hP'.2.2.1 p hp4, nI_1]
      refine fin _ ?_ ?_
      · by_cases h7 : dg (flN σ m p c) p < σ 2 p
        · have e : flN σ m (p + 1) c = flN σ m p c + 7 ^ p := by
            show fl1 σ m p (flN σ m p c) = _
            unfold fl1
            rw [if_pos ⟨h4, h5, h7⟩]
          rw [e, (dg_add hp4 hx.1 (by omega)).2 p hp4, if_pos rfl]
          by_cases h8 : dg (flN σ m p c) p + 1 < σ 2 p
          · rw [if_pos ((nI_ltI (by omega) (by omega)).mpr h8)]
          · rw [if_neg (fun z => h8 ((nI_ltI (by omega) (by omega)).mp z))]
            exact congrArg nI (by omega)
        · rw [no (fun z => h7 z.2.2), if_neg (fun z => h7 (by have := (nI_ltI (by omega) (by omega)).mp z; omega))]
          exact congrArg nI (by omega)
      · intro q hq4 hq
        by_cases h7 : dg (flN σ m p c) p < σ 2 p
        · have e : flN σ m (p + 1) c = flN σ m p c + 7 ^ p := by
            show fl1 σ m p (flN σ m p c) = _
            unfold fl1
            rw [if_pos ⟨h4, h5, h7⟩]
          rw [e, (dg_add hp4 hx.1 (by omega)).2 q hq4, if_neg hq]
          rfl
        · rw [no (fun z => h7 z.2.2)]
theorem x_passes_s {σ : wS} {s : xS} {rd : xRd} {J : mJ} {I : mI} {t f m a c g : Nat} {Q : mI → Prop} (hw : wf σ) (hP : xP σ I) (hT : tS s rd t f) (hm : m + 1 < 1000) (hc : c < 2401 ∧ ∀ q, q < σ 0 0 → dg c q ≤ σ 2 q) (htr : tr I t f m a c g)
    (h : ∀ I', ot t f I I' → tr I' t f (m + 1) a (flN σ (m + 1) (σ 0 0) c) g → Q I') : x_X1_passes t s rd J I Q := by
  unfold x_X1_passes
  rw [htr.1, nI_1]
  have hne := hT.2.2.2.2.2.2.1
  refine ⟨hT.1, σ 0 0 + 1, x_passes_lp (I0 := I) (a := a) (g := g) hw hP hT hm hc h (σ 0 0 + 1) 0 _ (by omega) (by omega) ot.refl.setT ⟨u2_self _ _ _ _, ?_, ?_, fun p hp => ?_⟩⟩
  · rw [u2_ne _ _ (Or.inr (by decide))]; exact htr.2.1
  · rw [u2_ne _ _ (Or.inr (by decide))]; exact htr.2.2.1
  · rw [u2_row (Ne.symm hne)]; exact htr.2.2.2 p hp
theorem x_does_lp {σ : wS} {s : xS} {rd : xRd} {J : mJ} {I0 : mI} {t f m a c g e k : Nat} {Q : mI → Prop} (hw : wf σ) (hP : xP σ I0) (hT : tS s rd t f) (hm : m ≤ 20) (hk : k ≤ 5) (he : e < 5) (hc : c < 2401 ∧ ∀ q, q < σ 0 0 → dg c q ≤ σ 2 q)
    (h : ∀ I', ot t f I0 I' → tr I' t f (m + k) (nA a e) (adv σ m c k) g → Q I') : ∀ n j I, k - j < n → j ≤ k → ot t f I0 I → tr I t f (m + j) a (adv σ m c j) g → x_X1_does_l65 Q n t (aI e) (nI k) (nI j) s rd J I := by
  intro n
  induction n with
  | zero => intro j I h1 _; omega
  | succ n ih =>
    intro j I h1 h2 ho htr
    unfold x_X1_does_l65
    have hne := hT.2.2.2.2.2.2.1
    refine pk_le k j (fun h3 => ?_) (fun h3 => ?_) rfl rfl (by omega) (by omega)
    · have e5 : j = k := by omega
      subst e5
      cases e with
      | zero =>
        rw [aI_0]
        refine br_t rfl ⟨hT.1, h _ ho.setT ⟨?_, ?_, ?_, fun p hp => ?_⟩⟩
        · rw [u2_ne _ _ (Or.inr (by decide))]; exact htr.1
        · rw [u2_self]; exact htr.2.1
        · rw [u2_ne _ _ (Or.inr (by decide))]; exact htr.2.2.1
        · rw [u2_row (Ne.symm hne)]; exact htr.2.2.2 p hp
      | succ b =>
        rw [aI_s]
        refine br_f (m1_ne (by omega)) ⟨hT.1, h _ ho.setT ⟨?_, u2_self _ _ _ _, ?_, fun p hp => ?_⟩⟩
        · rw [u2_ne _ _ (Or.inr (by decide))]; exact htr.1
        · rw [u2_ne _ _ (Or.inr (by decide))]; exact htr.2.2.1
        · rw [u2_row (Ne.symm hne)]; exact htr.2.2.2 p hp
    · refine x_passes_s hw (ho.xP hT hP) hT (by omega) (adv_ok hw hc j) htr (fun I' q1 q2 => ?_)
      rw [nI_1]
      exact ih (j + 1) I' (by omega) (by omega) (ho.trans q1) q2
theorem x_brings_s {σ : wS} {s : xS} {rd : xRd} {J : mJ} {I : mI} {a k : Nat} {Q : Int32 → Prop} (hP : xP σ I) (ha : a < 4) (hk : k < 7) (h : Q (nI (σ 5 (7 * a + k)))) : x_X1_brings (nI a) (nI k) s rd J I Q := by
  unfold x_X1_brings
  have e1 : (7 : Int32) * nI a + nI k = nI (7 * a + k) := by rw [l7, pk_mul, nI_add]
  rw [e1, nI_clamp (by omega), hP.2.2.2.2.1 _ (by omega)]
  exact ⟨vp_in_nI (by omega) (by decide), h⟩
theorem x_less {d : Nat} (hd : d < 7) : (if (0 : Int32) < nI d - 1 then nI d - 1 else 0) = nI (d - 1) := by
  have h : d = 0 ∨ d = 1 ∨ d = 2 ∨ d = 3 ∨ d = 4 ∨ d = 5 ∨ d = 6 := by omega
  rcases h with rfl | rfl | rfl | rfl | rfl | rfl | rfl <;> decide
theorem x_does_s {σ : wS} {s : xS} {rd : xRd} {J : mJ} {I : mI} {t f m a c g e : Nat} {Q : mI → Prop} (hw : wf σ) (hP : xP σ I) (hT : tS s rd t f) (hs : stok σ m a c) (he : e < 5) (hk : tk σ m a e ≠ 0) (htr : tr I t f m a c g)
    (h : ∀ I', ot t f I I' → tr I' t f (m + tk σ m a e) (nA a e) (nC σ m a c e) (g + gn σ a c e) → Q I') : x_X1_does t (aI e) s rd J I Q := by
  have ha := hs.2.1
  have hne := hT.2.2.2.2.2.2.1
  have hd := dg_lt c a
  unfold x_X1_does
  refine x_takes_s hw hP hT.1 htr.1 htr.2.1 hs.1 ha he ?_
  cases e with
  | zero =>
    rw [aI_0]
    refine br_t rfl ⟨hT.1, f, hT.2.1, hT.2.2.1, ?_⟩
    rw [htr.2.1, nI_clamp (by omega), htr.2.2.2 a ha, hT.2.2.2.1]
    refine ⟨vp_in_nI ha (by decide), x_brings_s hP ha hd ⟨f, hT.2.1, f, hT.2.1, hT.2.2.1, by rw [hT.2.2.2.1]; exact vp_in_nI ha (by decide), hT.2.2.1, by rw [hT.2.2.2.1]; exact vp_in_nI ha (by decide), nm_e ?_⟩⟩
    rw [u2_row (Ne.symm hne), htr.2.2.2 a ha, x_less hd, htr.2.2.1, nI_add]
    unfold x_X1_does_j62
    have ho : ot t f I (u2 (u2 I t 2 (nI (g + σ 5 (7 * a + dg c a)))) f a (nI (dg c a - 1))) := ot.refl.setT.setF
    refine ⟨tk σ m a 0 + 1, x_does_lp (e := 0) (m := m) (a := a) (c := c1 a c 0) (g := g + gn σ a c 0) hw (ho.xP hT hP) hT hs.1 (tk_5 hw) he (c1_ok hw ha hs.2.2 0) (fun I' q1 q2 => h I' (ho.trans q1) q2) (tk σ m a 0 + 1) 0 _ (by omega) (by omega) ot.refl ⟨?_, ?_, ?_, fun p hp => ?_⟩⟩
    · rw [u2_row hne, u2_ne _ _ (Or.inr (by decide))]; exact htr.1
    · rw [u2_row hne, u2_ne _ _ (Or.inr (by decide))]; exact htr.2.1
    · rw [u2_row hne, u2_self]; rfl
    · show _ = nI (dg (c - (if 0 < dg c a then 7 ^ a else 0)) p)
      by_cases e2 : p = a
      · subst e2
        rw [u2_self]
        by_cases h3 : 0 < dg c p
        · rw [if_pos h3, (dg_sub hp hs.2.2.1 h3).2 p hp, if_pos rfl]
        · rw [if_neg h3, Nat.sub_zero]
          exact congrArg nI (by omega)
      · rw [u2_ne _ _ (Or.inr e2), u2_row (Ne.symm hne), htr.2.2.2 p hp]
        by_cases h3 : 0 < dg c a
        · rw [if_pos h3, (dg_sub ha hs.2.2.1 h3).2 p hp, if_neg e2, Nat.sub_zero]
        · rw [if_neg h3, Nat.sub_zero]
  | succ b =>
    refine br_f (by rw [aI_s]; exact m1_ne (by omega)) ?_
    unfold x_X1_does_j62
    exact ⟨tk σ m a (b + 1) + 1, x_does_lp (e := b + 1) (m := m) (a := a) (c := c) (g := g) hw hP hT hs.1 (tk_5 hw) he hs.2.2 (fun I' q1 q2 => h I' q1 q2) (tk σ m a (b + 1) + 1) 0 I (by omega) (by omega) ot.refl htr⟩
theorem ur_row {α : Type} {I : Nat → Nat → α} {i r : Nat} {g : Nat → α} (h : r ≠ i) : ur I i g r = I r := by
  funext b
  unfold ur
  rw [if_neg h]
theorem ur_self {α : Type} {I : Nat → Nat → α} {i : Nat} {g : Nat → α} : ur I i g i = g := by
  funext b
  unfold ur
  rw [if_pos rfl]
theorem x_become_s {s : xS} {rd : xRd} {J : mJ} {I : mI} {t0 f0 t1 f1 m a c g : Nat} {Q : mI → Prop} (hT0 : tS s rd t0 f0) (hT1 : tS s rd t1 f1) (hn : t0 ≠ t1 ∧ t0 ≠ f1 ∧ f0 ≠ t1 ∧ f0 ≠ f1) (htr : tr I t1 f1 m a c g)
    (h : ∀ I', ot t0 f0 I I' → tr I' t0 f0 m a c g → Q I') : x_X2_become t0 t1 s rd J I Q := by
  have hne := hT0.2.2.2.2.2.2.1
  unfold x_X2_become
  refine ⟨hT1.1, hT0.1, f1, hT1.2.1, f0, hT0.2.1, hT1.2.2.1, hT0.2.2.1, ⟨by decide, by decide, by decide, by rw [hT1.2.2.2.1]; decide, by rw [hT0.2.2.2.1]; decide⟩, nm_e ?_⟩
  refine h _ (fun r h1 h2 => ?_) ⟨?_, ?_, ?_, fun p hp => ?_⟩
  · rw [ur_row h2, u2_row h1, u2_row h1, u2_row h1]
  · rw [ur_row hne, u2_ne _ _ (Or.inr (by decide)), u2_self]; exact htr.1
  · rw [ur_row hne, u2_ne _ _ (Or.inr (by decide)), u2_ne _ _ (Or.inr (by decide)), u2_self]; exact htr.2.1
  · rw [ur_row hne, u2_self]; exact htr.2.2.1
  · rw [ur_self]
    have e : va_cpy ((u2 (u2 (u2 I t0 0 (I t1 0)) t0 1 (I t1 1)) t0 2 (I t1 2)) f1) ((u2 (u2 (u2 I t0 0 (I t1 0)) t0 1 (I t1 1)) t0 2 (I t1 2)) f0) (0 : Int32).toNatClampNeg (0 : Int32).toNatClampNeg (4 : Int32).toNatClampNeg p = (u2 (u2 (u2 I t0 0 (I t1 0)) t0 1 (I t1 1)) t0 2 (I t1 2)) f1 p := by
      have z0 : (0 : Int32).toNatClampNeg = 0 := rfl
      have z4 : (4 : Int32).toNatClampNeg = 4 := rfl
      rw [z0, z4, pk_cpy_in (Nat.zero_le _) (show p < 0 + 4 by omega)]
      show _ = (u2 (u2 (u2 I t0 0 (I t1 0)) t0 1 (I t1 1)) t0 2 (I t1 2)) f1 p
      congr 1
      show 0 + (p - 0) = p
      omega
    rw [e, u2_row (Ne.symm hn.2.1), u2_row (Ne.symm hn.2.1), u2_row (Ne.symm hn.2.1)]
    exact htr.2.2.2 p hp
/-! the memo -/
def wth (σ : wS) (rn : Nat) (f : Nat → Int32) : Prop := ∀ k, k < 201684 → ∃ w, f k = nI w ∧ w < 1024 * (rn + 1) ∧ (w / 1024 = rn → ∀ m a c, stok σ m a c → keyX m a c = k → w % 1024 = V σ m a c)
def xm (σ : wS) (rn : Nat) (I : mI) : Prop := xP σ I ∧ I 23 2 = nI rn ∧ wth σ rn (I 24)
theorem xm.to {σ : wS} {rn : Nat} {I I' : mI} (h : xm σ rn I) (g : ∀ r, r < 25 → r < 8 ∨ r = 23 ∨ r = 24 → I' r = I r) : xm σ rn I' :=
  ⟨h.1.to (fun r hr => g r (by omega) (by omega)), by rw [g 23 (by omega) (by omega)]; exact h.2.1, by rw [g 24 (by omega) (by omega)]; exact h.2.2⟩
theorem x_place_s {s : xS} {rd : xRd} {J : mJ} {I : mI} {t f m a c g : Nat} {Q : Int32 → Prop} (hT : tS s rd t f) (htr : tr I t f m a c g) (h : Q (nI (keyX m a c))) : x_X3_placeOf t s rd J I Q := by
  have step : ∀ n k v, k < 4 → x_X3_placeOf_l14 Q n t (nI (7 * v + dg c k)) (nI (k + 1)) s rd J I → x_X3_placeOf_l14 Q (n + 1) t (nI v) (nI k) s rd J I := by
    intro n k v hk hh
    unfold x_X3_placeOf_l14
    refine br_f (fun q => by have := (nI_leI (a := 4) (b := k) (by decide) (by omega)).mp q; omega) ⟨hT.1, f, hT.2.1, hT.2.2.1, ?_⟩
    rw [hT.2.2.2.1, nI_clamp (by omega), htr.2.2.2 k hk, l7, pk_mul, nI_add, nI_1]
    exact ⟨vp_in_nI hk (by decide), nm_e hh⟩
  unfold x_X3_placeOf
  refine ⟨hT.1, ?_⟩
  rw [htr.1, htr.2.1, l4, pk_mul, nI_add]
  refine nm_e ⟨5, ?_⟩
  refine step 4 0 _ (by omega) (step 3 1 _ (by omega) (step 2 2 _ (by omega) (step 1 3 _ (by omega) ?_)))
  unfold x_X3_placeOf_l14
  exact br_t (by decide) h
/-- the trips of 'most' -/
theorem tS_d {s : xS} {rd : xRd} {d : Nat} (hd : d < 22) : tS s rd (26 + 2 * d) (27 + 2 * d) ∧ xR rd 25 d = some (26 + 2 * d) := by
  have h1 : ∀ d, d < 22 → xK0 (26 + 2 * d) = 2 ∧ xR0 (26 + 2 * d) 3 = some (27 + 2 * d) ∧ xK0 (27 + 2 * d) = 100 ∧ xL0 (27 + 2 * d) = 4 ∧ xR0 25 d = some (26 + 2 * d) := by decide
  obtain ⟨a1, a2, a3, a4, a5⟩ := h1 d hd
  exact ⟨⟨xo_c (by omega) a1, xR_c a2, xo_c (by omega) a3, xlen_c (by omega) a4, by omega, by omega, by omega, by omega, by omega, by omega, by omega⟩, xR_c a5⟩
theorem tS_10 {s : xS} {rd : xRd} : tS s rd 10 11 := ⟨xo_c (by decide) rfl, xR_c rfl, xo_c (by decide) rfl, xlen_c (by decide) rfl, by decide, by decide, by decide, by decide, by decide, by decide, by decide⟩
theorem tS_97 {s : xS} {rd : xRd} : tS s rd 97 98 := ⟨xo_c (by decide) rfl, xR_c rfl, xo_c (by decide) rfl, xlen_c (by decide) rfl, by decide, by decide, by decide, by decide, by decide, by decide, by decide⟩
/-- what 'most' may change from a depth on -/
def fr (deep : Nat) (I I' : mI) : Prop := ∀ r, r ≠ 24 → r < 26 + 2 * deep ∨ 70 ≤ r → I' r = I r
theorem fr.refl {d : Nat} {I : mI} : fr d I I := fun _ _ _ => rfl
theorem fr.trans {d : Nat} {I I' I2 : mI} (h : fr d I I') (g : fr d I' I2) : fr d I I2 := fun r h1 h2 => (g r h1 h2).trans (h r h1 h2)
theorem fr.up {d : Nat} {I I' : mI} (h : fr (d + 1) I I') : fr d I I' := fun r h1 h2 => h r h1 (by omega)
theorem ot.fr {d : Nat} {I I' : mI} (h : ot (26 + 2 * d) (27 + 2 * d) I I') (hd : d < 22) : fr d I I' := fun r _ h2 => h r (by omega) (by omega)
theorem x_by_s {pf : Nat → Int32 → xS → xRd → mJ → mI → (Int32 → mI → Prop) → Prop} {σ : wS} {s : xS} {rd : xRd} {J : mJ} {I : mI} {rn t f deep m a c g e : Nat} {Q : Int32 → mI → Prop} (hw : wf σ) (hM : xm σ rn I) (hT : tS s rd t f) (hs : stok σ m a c) (he : e < 5) (htr : tr I t f m a c g) (hd : deep < 22) (ht : (t < 26 + 2 * deep ∨ 70 ≤ t) ∧ (f < 26 + 2 * deep ∨ 70 ≤ f))
    (hpf : ∀ I' m' a' c' g' Q', stok σ m' a' c' → m < m' → xm σ rn I' → tr I' (26 + 2 * deep) (27 + 2 * deep) m' a' c' g' → (∀ I2, fr (deep + 1) I' I2 → xm σ rn I2 → Q' (nI (V σ m' a' c')) I2) → pf (26 + 2 * deep) (nI (deep + 1)) s rd J I' Q')
    (h0 : tk σ m a e = 0 → Q (-1) I) (h1 : tk σ m a e ≠ 0 → ∀ I', fr deep I I' → xm σ rn I' → Q (nI (vb σ m a c e)) I') : x_X3_by pf t (aI e) (nI deep) s rd J I Q := by
  have hk5 := tk_5 (σ := σ) (m := m) (a := a) (e := e) hw
  obtain ⟨hTd, hRd⟩ := tS_d (s := s) (rd := rd) hd
  unfold x_X3_by
  refine x_takes_s hw hM.1 hT.1 htr.1 htr.2.1 hs.1 hs.2.1 he ?_
  refine pk_eq (tk σ m a e) 0 h0 (fun hk => ?_) rfl rfl (by omega) (by omega)
  rw [nI_clamp (by omega)]
  refine ⟨vp_in_nI hd (by decide), _, hRd, hTd.1, ?_⟩
  refine x_become_s hTd hT ⟨by omega, by omega, by omega, by omega⟩ htr (fun I4 q1 q2 => ?_)
  have hM4 : xm σ rn I4 := hM.to (fun r hr1 hr2 => q1 r (by omega) (by omega))
  refine x_does_s hw hM4.1 hTd hs he hk q2 (fun I6 q3 q4 => ?_)
  have hM6 : xm σ rn I6 := hM4.to (fun r hr1 hr2 => q3 r (by omega) (by omega))
  have ht6 : tr I6 t f m a c g := (htr.to (q1 t (by omega) (by omega)) (q1 f (by omega) (by omega))).to (q3 t (by omega) (by omega)) (q3 f (by omega) (by omega))
  refine ⟨hT.1, ?_⟩
  rw [q4.2.2.1, ht6.2.2.1, pk_sub (Nat.le_add_right _ _), Nat.add_sub_cancel_left, nI_1]
  refine hpf I6 _ _ _ _ _ (nx_ok hw hs hk) (by omega) hM6 q4 (fun I2 z1 z2 => ?_)
  rw [nI_add]
  have e1 : gn σ a c e + V σ (m + tk σ m a e) (nA a e) (nC σ m a c e) = vb σ m a c e := by unfold vb; rw [if_neg hk]
  rw [e1]
  exact h1 hk I2 (((q1.trans q3).fr hd).trans z1.up) z2
theorem x_from_s {σ : wS} {s : xS} {rd : xRd} {J : mJ} {rn : Nat} (hw : wf σ) (hrn : rn < 2000000) : ∀ n t f deep m a c g I (Q : Int32 → mI → Prop), 21 - m < n → tS s rd t f → deep ≤ m → (t < 26 + 2 * deep ∨ 70 ≤ t) ∧ (f < 26 + 2 * deep ∨ 70 ≤ f) → stok σ m a c → xm σ rn I → tr I t f m a c g →
    (∀ I', fr deep I I' → xm σ rn I' → Q (nI (V σ m a c)) I') → x_X3_from n t (nI deep) s rd J I Q := by
  intro n
  induction n with
  | zero => intro t f deep m a c g I Q h1; omega
  | succ n ih =>
    intro t f deep m a c g I Q h1 hT hd ht hs hM htr h
    have hm := hs.1
    have hP4 := hw.1
    have hk := keyX_lt (c := c) hm hs.2.1
    obtain ⟨w, e1, e2, e3⟩ := hM.2.2 _ hk
    have hV := V_le hw m a c
    unfold x_X3_from x_X3_from_b
    refine x_place_s hT htr ?_
    have vin : vp_in (nI (keyX m a c)) 201684 := vp_in_nI hk (by decide)
    rw [nI_clamp (by omega), e1, hM.2.1, pk_shrN (by omega) _ 10 (by decide), pk_andN (by omega) 10 (by decide)]
    refine ⟨vin, pk_eq (w / 2 ^ 10) rn (fun q => ⟨vin, ?_⟩) (fun q => ?_) rfl rfl (by omega) (by omega)⟩
    · rw [show w % 2 ^ 10 = V σ m a c from e3 q m a c hs rfl]
      exact h I fr.refl hM
    · have loop : ∀ k e I', 5 - e < k → e ≤ σ 0 0 + 1 → fr deep I I' → xm σ rn I' → x_X3_from_l39 Q (fun a1 a2 s rd J I Q => x_X3_from n a1 a2 s rd J I Q) k t (nI deep) (nI (keyX m a c)) (nI (mxF (vb σ m a c) e)) (aI e) s rd J I' := by
        intro k
        induction k with
        | zero => intro e I' g1; omega
        | succ k ihk =>
          intro e I' g1 g2 g3 g4
          have hb : mxF (vb σ m a c) e ≤ 600 := mxF_le e (fun _ _ => vb_le hw)
          unfold x_X3_from_l39
          rw [g4.1.1]
          by_cases h5 : e = σ 0 0 + 1
          · refine br_t ((aI_le (by omega) (by omega)).mpr (by omega)) ⟨vin, ?_⟩
            rw [g4.2.1, nI_clamp (by omega), h5, ← V_eqP hw, pk_shlN _ 10 (by decide) (by omega), Nat.mul_comm rn (2 ^ 10), nI_or (k := 10) (by omega) (by omega)]
            refine h _ (fun r r1 r2 => (u2_row r1).trans (g3 r r1 r2)) ⟨g4.1.to (fun r hr => u2_row (by omega)), ?_, ?_⟩
            · rw [u2_row (by decide)]; exact g4.2.1
            · intro k' hk'
              by_cases e6 : k' = keyX m a c
              · refine ⟨2 ^ 10 * rn + V σ m a c, by rw [e6, u2_self], by omega, fun _ m' a' c' hs' hk2 => ?_⟩
                obtain ⟨rfl, rfl, rfl⟩ := keyX_inj hs'.2.1 hs.2.1 hs'.2.2.1 hs.2.2.1 (hk2.trans e6)
                omega
              · rw [u2_ne _ _ (Or.inr e6)]
                exact g4.2.2 k' hk'
          · refine br_f (fun q => h5 (by have := (aI_le (by omega) (by omega)).mp q; omega)) ?_
            have htr' : tr I' t f m a c g := htr.to (g3 t hT.2.2.2.2.2.2.2.2.1 ht.1) (g3 f hT.2.2.2.2.2.2.2.2.2.2 ht.2)
            refine x_by_s hw g4 hT hs (by omega) htr' (by omega) ht (fun I2 m' a' c' g' Q' s1 s2 s3 s4 s5 => ?_) (fun hk0 => ?_) (fun hk0 I2 s1 s2 => ?_)
            · obtain ⟨hTd, _⟩ := tS_d (s := s) (rd := rd) (show deep < 22 by omega)
              exact ih _ _ (deep + 1) m' a' c' g' I2 Q' (by omega) hTd (by omega) ⟨by omega, by omega⟩ s1 s3 s4 s5
            · refine nm_e ?_
              rw [if_neg (fun q => by rw [Int32.lt_iff_toInt_lt, nI_toInt (by omega), show (-1 : Int32).toInt = -1 by decide] at q; omega), aI_next]
              have e7 : mxF (vb σ m a c) (e + 1) = mxF (vb σ m a c) e := by
                show max _ _ = _
                have : vb σ m a c e = 0 := by unfold vb; rw [if_pos hk0]
                rw [this]
                exact Nat.max_eq_left (Nat.zero_le _)
              rw [← e7]
              exact ihk (e + 1) I' (by omega) (by omega) g3 g4
            · refine nm_e ?_
              have hv := vb_le (e := e) (m := m) (a := a) (c := c) hw
              have e7 : (if nI (mxF (vb σ m a c) e) < nI (vb σ m a c e) then nI (vb σ m a c e) else nI (mxF (vb σ m a c) e)) = nI (mxF (vb σ m a c) (e + 1)) := by
                show _ = nI (max _ _)
                by_cases h8 : mxF (vb σ m a c) e < vb σ m a c e
                · rw [if_pos ((nI_ltI (by omega) (by omega)).mpr h8), Nat.max_eq_right (by omega)]
                · rw [if_neg (fun z => h8 ((nI_ltI (by omega) (by omega)).mp z)), Nat.max_eq_left (by omega)]
              rw [e7, aI_next]
              exact ihk (e + 1) I2 (by omega) (by omega) (g3.trans s1) s2
      exact ⟨6, loop 6 0 I (by omega) (by omega) fr.refl hM⟩
