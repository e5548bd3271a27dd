set_option maxRecDepth 100000
set_option maxHeartbeats 4000000
/-! PLAIN LAW, the model: patches, ways, acts -/
theorem l0 : (0 : Int32) = nI 0 := rfl
theorem l1 : (1 : Int32) = nI 1 := rfl
theorem l2 : (2 : Int32) = nI 2 := rfl
theorem l4 : (4 : Int32) = nI 4 := rfl
theorem l7 : (7 : Int32) = nI 7 := rfl
theorem l11 : (11 : Int32) = nI 11 := rfl
theorem l1024 : (1024 : Int32) = nI 1024 := rfl
theorem l2401 : (2401 : Int32) = nI 2401 := rfl
def mP (σ : wS) (I : mI) : Prop := I 0 8 = nI (σ 0 0) ∧ I 0 2 = nI (σ 0 3) ∧ (∀ k, k < 4 → I 1 (11 * k + 1) = nI (σ 2 k)) ∧ (∀ k, k < 4 → I 1 (11 * k + 2) = nI (σ 3 k)) ∧ (∀ k f, k < 4 → f < 7 → I 1 (11 * k + 4 + f) = nI (σ 5 (7 * k + f))) ∧ (∀ a b, a < 4 → b < 4 → I 2 (4 * a + b) = nI (σ 6 (4 * a + b)))
theorem mP.to {σ : wS} {I I' : mI} (h : mP σ I) (h1 : I' 0 8 = I 0 8) (h2 : I' 0 2 = I 0 2) (h3 : I' 1 = I 1) (h4 : I' 2 = I 2) : mP σ I' := by
  unfold mP
  rw [h1, h2, h3, h4]
  exact h
theorem m_unit_s {p : Nat} {I : mI} {J : mJ} {Q : Int32 → mI → mJ → Prop} (hp : p < 4) (h : Q (nI (7 ^ p)) I J) : m_unit (nI p) I J Q := by
  unfold m_unit
  rcases lt4 hp with rfl | rfl | rfl | rfl
  · exact br_t rfl h
  · exact br_f (by decide) (br_t rfl h)
  · exact br_f (by decide) (br_f (by decide) (br_t rfl h))
  · exact br_f (by decide) (br_f (by decide) (br_f (by decide) h))
theorem m_foodIn_s {c p : Nat} {I : mI} {J : mJ} {Q : Int32 → mI → mJ → Prop} (hp : p < 4) (hc : c < 2401) (h : Q (nI (dg c p)) I J) : m_foodIn (nI c) (nI p) I J Q := by
  unfold m_foodIn
  obtain ⟨h1, h2⟩ := p7b hp
  refine m_unit_s hp ⟨nI_ne0 h1 (by omega), ?_⟩
  rw [pk_div (by omega) h1 (by omega), l7, pk_rem (Nat.lt_of_le_of_lt (Nat.div_le_self _ _) (by omega)) (by decide) (by decide)]
  exact h
theorem m_topOf_s {σ : wS} {k : Nat} {I : mI} {J : mJ} {Q : Int32 → mI → mJ → Prop} (hM : mP σ I) (hk : k < 4) (h : Q (nI (σ 2 k)) I J) : m_topOf (nI k) I J Q := by
  unfold m_topOf
  have e1 : (11 : Int32) * nI k + 1 = nI (11 * k + 1) := by rw [l11, l1, pk_mul, nI_add]
  rw [e1, nI_clamp (by omega), hM.2.2.1 k hk]
  exact ⟨vp_in_nI (by omega) (by decide), h⟩
theorem m_yieldIn_s {σ : wS} {k f : Nat} {I : mI} {J : mJ} {Q : Int32 → mI → mJ → Prop} (hM : mP σ I) (hk : k < 4) (hf : f < 7) (h : Q (nI (σ 5 (7 * k + f))) I J) : m_yieldIn (nI k) (nI f) I J Q := by
  unfold m_yieldIn
  have e1 : (11 : Int32) * nI k + 4 + nI f = nI (11 * k + 4 + f) := by rw [l11, l4, pk_mul, nI_add, nI_add]
  rw [e1, nI_clamp (by omega), hM.2.2.2.2.1 k f hk hf]
  exact ⟨vp_in_nI (by omega) (by decide), h⟩
theorem m_filled_lp {σ : wS} {m c : Nat} {I : mI} {J : mJ} {Q : Int32 → mI → mJ → Prop} (hw : wf σ) (hM : mP σ I) (hm : m < 1000) (hc : c < 2401 ∧ ∀ q, q < σ 0 0 → dg c q ≤ σ 2 q) (h : Q (nI (flN σ m (σ 0 0) c)) I J) : ∀ n p, σ 0 0 - p < n → p ≤ σ 0 0 → m_filled_l5 Q n (nI m) (nI (flN σ m p c)) (nI p) I J := by
  intro n
  induction n with
  | zero => intro p h1 _; omega
  | succ n ih =>
    intro p h1 h2
    have hP := hw.1
    unfold m_filled_l5
    refine pk_le (σ 0 0) p (fun h3 => ?_) (fun h3 => ?_) hM.1 rfl (by omega) (by omega)
    · have e : p = σ 0 0 := by omega
      rw [e]
      exact h
    · have hp4 : p < 4 := by omega
      have hx := flN_ok (m := m) hw hc p h2
      have e1 : (11 : Int32) * nI p + 2 = nI (11 * p + 2) := by rw [l11, l2, pk_mul, nI_add]
      have fin : ∀ v, v = nI (flN σ m (p + 1) c) → m_filled_l5 Q n (nI m) v (nI p + 1) I J := by
        intro v hv
        rw [hv, nI_1]
        exact ih (p + 1) (by omega) (by omega)
      have no : ¬ (0 < σ 3 p ∧ m % σ 3 p = 0 ∧ dg (flN σ m p c) p < σ 2 p) → m_filled_j64 Q (fun b0 b1 b2 I J => m_filled_l5 Q n b0 b1 b2 I J) (nI m) (nI p) (nI (flN σ m p c)) I J := by
        intro h4
        unfold m_filled_j64 m_filled_j65
        refine fin _ ?_
        rw [l0, nI_add]
        show _ = nI (fl1 σ m p (flN σ m p c))
        unfold fl1
        rw [if_neg h4]
      have h9 := hw.2.2.2.1 p
      have h6 := hw.2.2.1 p
      rw [e1, nI_clamp (by omega), hM.2.2.2.1 p hp4]
      refine ⟨vp_in_nI (by omega) (by decide), nm_e ?_⟩
      refine pk_le (σ 3 p) 0 (fun h4 => no (by omega)) (fun h4 => ?_) rfl rfl (by omega) (by omega)
      refine ⟨nI_ne0 h4 (by omega), ?_⟩
      rw [pk_rem (by omega) h4 (by omega)]
      refine pk_eq (m % σ 3 p) 0 (fun h5 => ?_) (fun h5 => no (by omega)) rfl rfl (Nat.lt_of_le_of_lt (Nat.mod_le _ _) (by omega)) (by omega)
      refine m_foodIn_s hp4 hx.1 (m_topOf_s hM hp4 ?_)
      have hd := dg_lt (flN σ m p c) p
      refine pk_le (σ 2 p) (dg (flN σ m p c) p) (fun h7 => no (by omega)) (fun h7 => ?_) rfl rfl (by omega) (by omega)
      refine m_unit_s hp4 ?_
      unfold m_filled_j65
      refine fin _ ?_
      rw [nI_add]
      show _ = nI (fl1 σ m p (flN σ m p c))
      unfold fl1
      rw [if_pos ⟨h4, h5, h7⟩]
theorem m_filled_s {σ : wS} {m c : Nat} {I : mI} {J : mJ} {Q : Int32 → mI → mJ → Prop} (hw : wf σ) (hM : mP σ I) (hm : m < 1000) (hc : c < 2401 ∧ ∀ q, q < σ 0 0 → dg c q ≤ σ 2 q) (h : Q (nI (flN σ m (σ 0 0) c)) I J) : m_filled (nI c) (nI m) I J Q := by
  unfold m_filled
  exact ⟨σ 0 0 + 1, m_filled_lp hw hM hm hc h (σ 0 0 + 1) 0 (by omega) (by omega)⟩
/-- but for where an act leads nothing is changed -/
def nxo (I I' : mI) : Prop := (∀ r, r ≠ 0 → I' r = I r) ∧ ∀ k, k < 19 ∨ 22 < k → I' 0 k = I 0 k
theorem nxo.refl {I : mI} : nxo I I := ⟨fun _ _ => rfl, fun _ _ => rfl⟩
theorem u2_row {I : mI} {i k r : Nat} {v : Int32} (h : r ≠ i) : u2 I i k v r = I r := funext fun b => u2_ne _ _ (Or.inl h)
theorem nxo.set {I I' : mI} (h : nxo I I') {k : Nat} {v : Int32} (hk : 19 ≤ k) (hk2 : k ≤ 22) : nxo I (u2 I' 0 k v) := by
  refine ⟨fun r hr => (u2_row hr).trans (h.1 r hr), fun j hj => ?_⟩
  rw [u2_ne _ _ (Or.inr (by omega))]
  exact h.2 j hj
theorem nxo.mP {σ : wS} {I I' : mI} (h : nxo I I') (hM : mP σ I) : mP σ I' := hM.to (h.2 8 (by omega)) (h.2 2 (by omega)) (h.1 1 (by decide)) (h.1 2 (by decide))
/-- minutes go by -/
theorem m_leads_lp {σ : wS} {m c t : Nat} {I0 : mI} {J : mJ} {Q : Int32 → mI → mJ → Prop} (hw : wf σ) (hM : mP σ I0) (hm : m ≤ 20) (ht : t ≤ 5) (hc : c < 2401 ∧ ∀ q, q < σ 0 0 → dg c q ≤ σ 2 q)
    (h : ∀ I', I' 0 19 = nI (m + t) → I' 0 21 = nI (adv σ m c t) → I' 0 20 = I0 0 20 → I' 0 22 = I0 0 22 → nxo I0 I' → Q 1 I' J) : ∀ n k I, t - k < n → k ≤ t → I 0 21 = nI (adv σ m c k) → I 0 20 = I0 0 20 → I 0 22 = I0 0 22 → nxo I0 I → m_leads_l140 Q n (nI m) (nI t) (nI (k + 1)) I J := by
  intro n
  induction n with
  | zero => intro k I h1 _; omega
  | succ n ih =>
    intro k I h1 h2 h3 h4 h5 h6
    unfold m_leads_l140
    refine pk_lt t (k + 1) (fun h7 => ?_) (fun h7 => ?_) rfl rfl (by omega) (by omega)
    · have e : k = t := by omega
      subst e
      rw [nI_add]
      refine h _ (u2_self _ _ _ _) ?_ ?_ ?_ (h6.set (by omega) (by omega))
      · rw [u2_ne _ _ (Or.inr (by decide))]; exact h3
      · rw [u2_ne _ _ (Or.inr (by decide))]; exact h4
      · rw [u2_ne _ _ (Or.inr (by decide))]; exact h5
    · have hM2 := h6.mP hM
      rw [h3, nI_add]
      refine m_filled_s hw hM2 (by omega) (adv_ok hw hc k) ?_
      rw [nI_1]
      refine ih (k + 1) _ (by omega) (by omega) (u2_self _ _ _ _) ?_ ?_ (h6.set (by omega) (by omega))
      · rw [u2_ne _ _ (Or.inr (by decide))]; exact h4
      · rw [u2_ne _ _ (Or.inr (by decide))]; exact h5
theorem m_leads_t {σ : wS} {m a c e : Nat} {I : mI} {J : mJ} {Q : Int32 → mI → mJ → Prop} (hw : wf σ) (hM : mP σ I) (hs : stok σ m a c) (he : e < 5)
    (t : Nat) (ht : t ≤ 5) (hte : tk σ m a e = if m + t ≤ σ 0 3 then t else 0)
    (h0 : tk σ m a e = 0 → Q 0 I J)
    (h1 : tk σ m a e ≠ 0 → ∀ I', I' 0 19 = nI (m + tk σ m a e) → I' 0 20 = nI (nA a e) → I' 0 21 = nI (nC σ m a c e) → I' 0 22 = nI (gn σ a c e) → nxo I I' → Q 1 I' J) : m_leads_j45 Q (nI m) (nI a) (nI c) (aI e) (nI t) I J := by
  have hm := hs.1
  have ha := hs.2.1
  unfold m_leads_j45
  refine pk_eq t 0 (fun h2 => h0 (by rw [hte, h2]; split <;> rfl)) (fun h2 => ?_) rfl rfl (by omega) (by omega)
  rw [nI_add]
  have hD := hw.2.1
  refine pk_le (m + t) (σ 0 3) (fun h3 => ?_) (fun h3 => h0 (by rw [hte, if_neg (by omega)])) rfl hM.2.1 (by omega) (by omega)
  rw [if_pos h3] at hte
  have hne : tk σ m a e ≠ 0 := by omega
  have fin : ∀ I', I' 0 20 = nI (nA a e) → I' 0 22 = nI (gn σ a c e) → I' 0 21 = nI (c1 a c e) → nxo I I' → m_leads_j137 Q (nI m) (nI t) I' J := by
    intro I' g1 g2 g3 g4
    unfold m_leads_j137
    refine ⟨t + 1, m_leads_lp (I0 := I') hw (g4.mP hM) hm ht (c1_ok hw ha hs.2.2 e) ?_ (t + 1) 0 I' (by omega) (by omega) g3 rfl rfl nxo.refl⟩
    intro I2 q1 q2 q3 q4 q5
    refine h1 hne I2 (by rw [q1, hte]) (q3.trans g1) ?_ (q4.trans g2) ⟨fun r hr => (q5.1 r hr).trans (g4.1 r hr), fun k hk => (q5.2 k hk).trans (g4.2 k hk)⟩
    rw [q2]
    unfold nC
    rw [hte]
  cases e with
  | zero =>
    rw [aI_0]
    refine br_t rfl ?_
    unfold m_leads_j88
    refine br_t rfl ?_
    refine m_foodIn_s ha hs.2.2.1 ?_
    have g : nxo I (u2 (u2 (u2 I 0 22 0) 0 21 (nI c)) 0 20 (nI a)) := ((nxo.refl.set (by omega) (by omega)).set (by omega) (by omega)).set (by omega) (by omega)
    refine m_yieldIn_s (g.mP hM) ha (dg_lt _ _) ?_
    have hd := dg_lt c a
    have e21 : (u2 (u2 (u2 I 0 22 0) 0 21 (nI c)) 0 20 (nI a)) 0 21 = nI c := by
      rw [u2_ne _ _ (Or.inr (by decide)), u2_self]
    have e20 : (u2 (u2 (u2 I 0 22 0) 0 21 (nI c)) 0 20 (nI a)) 0 20 = nI a := u2_self _ _ _ _
    refine pk_le (dg c a) 0 (fun h4 => ?_) (fun h4 => ?_) rfl rfl (by omega) (by omega)
    · unfold m_leads_j133
      rw [e21]
      refine fin _ ?_ ?_ ?_ ((g.set (by omega) (by omega)).set (by omega) (by omega))
      · rw [u2_ne _ _ (Or.inr (by decide)), u2_ne _ _ (Or.inr (by decide))]; exact e20
      · rw [u2_ne _ _ (Or.inr (by decide)), u2_self]; rfl
      · rw [u2_self, l0, pk_sub (Nat.zero_le _)]
        show _ = nI (c - (if 0 < dg c a then 7 ^ a else 0))
        rw [if_neg (by omega)]
    · refine m_unit_s ha ?_
      unfold m_leads_j133
      rw [e21]
      refine fin _ ?_ ?_ ?_ ((g.set (by omega) (by omega)).set (by omega) (by omega))
      · rw [u2_ne _ _ (Or.inr (by decide)), u2_ne _ _ (Or.inr (by decide))]; exact e20
      · rw [u2_ne _ _ (Or.inr (by decide)), u2_self]; rfl
      · rw [u2_self, pk_sub (dg_sub ha hs.2.2.1 h4).1]
        show _ = nI (c - (if 0 < dg c a then 7 ^ a else 0))
        rw [if_pos h4]
  | succ b =>
    rw [aI_s]
    refine br_f (m1_ne (by omega)) ?_
    unfold m_leads_j88
    refine br_f (m1_ne (by omega)) ?_
    refine fin _ (u2_self _ _ _ _) ?_ ?_ (((nxo.refl.set (by omega) (by omega)).set (by omega) (by omega)).set (by omega) (by omega))
    · rw [u2_ne _ _ (Or.inr (by decide)), u2_ne _ _ (Or.inr (by decide)), u2_self]; rfl
    · rw [u2_ne _ _ (Or.inr (by decide)), u2_self]; rfl
/-- an act: 0 if it may not be; else where it leads -/
theorem m_leads_s {σ : wS} {m a c e : Nat} {I : mI} {J : mJ} {Q : Int32 → mI → mJ → Prop} (hw : wf σ) (hM : mP σ I) (hs : stok σ m a c) (he : e < 5) (h0 : tk σ m a e = 0 → Q 0 I J)
    (h1 : tk σ m a e ≠ 0 → ∀ I', I' 0 19 = nI (m + tk σ m a e) → I' 0 20 = nI (nA a e) → I' 0 21 = nI (nC σ m a c e) → I' 0 22 = nI (gn σ a c e) → nxo I I' → Q 1 I' J) : m_leads (nI m) (nI a) (nI c) (aI e) I J Q := by
  have hP := hw.1
  have hm := hs.1
  have ha := hs.2.1
  unfold m_leads
  refine pk_eq (σ 0 0) 0 (fun h2 => h0 ?_) (fun h2 => ?_) hM.1 rfl (by omega) (by omega)
  · cases e with
    | zero => simp only [tk]; rw [if_pos h2]
    | succ b => simp only [tk]; rw [if_pos (by omega)]
  rw [hM.1]
  cases e with
  | zero =>
    rw [aI_0]
    refine br_f (m1_nle (by omega)) (br_f (fun q => m1_ne (by omega) q.symm) (br_t rfl ?_))
    refine m_leads_t (e := 0) hw hM hs he 1 (by omega) ?_ h0 h1
    simp only [tk]
    rw [if_neg h2]
  | succ b =>
    rw [aI_s]
    refine pk_le (σ 0 0) b (fun h3 => h0 (by simp only [tk]; rw [if_pos h3])) (fun h3 => ?_) rfl rfl (by omega) (by omega)
    refine pk_eq b a (fun h4 => h0 (by simp only [tk]; rw [if_neg (by omega), if_pos h4])) (fun h4 => ?_) rfl rfl (by omega) (by omega)
    refine br_f (m1_ne (by omega)) ?_
    have e1 : (4 : Int32) * nI a + nI b = nI (4 * a + b) := by rw [l4, pk_mul, nI_add]
    rw [e1, nI_clamp (by omega), hM.2.2.2.2.2 a b ha (by omega)]
    refine ⟨vp_in_nI (by omega) (by decide), ?_⟩
    refine m_leads_t (e := b + 1) hw hM hs he (σ 6 (4 * a + b)) (hw.2.2.2.2.2 _) ?_ h0 h1
    simp only [tk]
    rw [if_neg (by omega), if_neg h4]
