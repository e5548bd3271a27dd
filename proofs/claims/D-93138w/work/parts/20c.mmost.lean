set_option maxRecDepth 100000
set_option maxHeartbeats 4000000
/-! PLAIN LAW, the model: the most, on a pile -/
def fnd (σ : wS) (st : Nat) (f : Nat → Int32) : Prop := ∀ k, k < 201684 → ∃ w, f k = nI w ∧ w < 1024 * (st + 1) ∧ (w / 1024 = st → ∀ m a c, stok σ m a c → keyM m a c = k → w % 1024 = V σ m a c)
def mm (σ : wS) (st : Nat) (I : mI) : Prop := mP σ I ∧ I 0 18 = nI st ∧ fnd σ st (I 7)
/-- what 'most' may change -/
def mso (I I' : mI) : Prop := (∀ r, r ≠ 0 → r ≠ 7 → r < 8 ∨ 12 < r → I' r = I r) ∧ ∀ k, k < 19 ∨ 22 < k → I' 0 k = I 0 k
def fb (I I' : mI) (top : Nat) : Prop := ∀ r j, 8 ≤ r → r ≤ 12 → j < top → I' r j = I r j
def frm (σ : wS) (I : mI) (top m a c e : Nat) : Prop := I 8 top = nI m ∧ I 9 top = nI a ∧ I 10 top = nI c ∧ I 11 top = aI e ∧ I 12 top = nI (mxF (vb σ m a c) e)
theorem mso.refl {I : mI} : mso I I := ⟨fun _ _ _ _ => rfl, fun _ _ => rfl⟩
theorem mso.trans {I I' I2 : mI} (h : mso I I') (g : mso I' I2) : mso I I2 := ⟨fun r h1 h2 h3 => (g.1 r h1 h2 h3).trans (h.1 r h1 h2 h3), fun k hk => (g.2 k hk).trans (h.2 k hk)⟩
theorem nxo.mso {I I' : mI} (h : nxo I I') : mso I I' := ⟨fun r h1 _ _ => h.1 r h1, h.2⟩
theorem mso.set {I I' : mI} (h : mso I I') {i k : Nat} {v : Int32} (hi : 7 ≤ i) (hi2 : i ≤ 12) : mso I (u2 I' i k v) := by
  refine ⟨fun r h1 h2 h3 => (u2_row (by omega)).trans (h.1 r h1 h2 h3), fun j hj => ?_⟩
  rw [u2_ne _ _ (Or.inl (by omega))]
  exact h.2 j hj
theorem mso.mP {σ : wS} {I I' : mI} (h : mso I I') (hM : mP σ I) : mP σ I' := hM.to (h.2 8 (by omega)) (h.2 2 (by omega)) (h.1 1 (by decide) (by decide) (by omega)) (h.1 2 (by decide) (by decide) (by omega))
theorem nxo.mm {σ : wS} {st : Nat} {I I' : mI} (h : nxo I I') (hM : mm σ st I) : mm σ st I' := ⟨h.mP hM.1, (h.2 18 (by omega)).trans hM.2.1, by rw [h.1 7 (by decide)]; exact hM.2.2⟩
theorem nxo.toFrm {σ : wS} {I I' : mI} {top m a c e : Nat} (h : nxo I I') (hM : frm σ I top m a c e) : frm σ I' top m a c e := by
  unfold frm
  rw [h.1 8 (by decide), h.1 9 (by decide), h.1 10 (by decide), h.1 11 (by decide), h.1 12 (by decide)]
  exact hM
theorem nxo.fb {I0 I I' : mI} {top : Nat} (h : nxo I I') (hM : fb I0 I top) : fb I0 I' top := fun r j h1 h2 h3 => by rw [h.1 r (by omega)]; exact hM r j h1 h2 h3
theorem fb.set {I I' : mI} {top i k : Nat} {v : Int32} (h : fb I I' top) (hk : top ≤ k) : fb I (u2 I' i k v) top := fun r j h1 h2 h3 => by
  rw [u2_ne _ _ (Or.inr (by omega))]
  exact h r j h1 h2 h3
theorem mm.set {σ : wS} {st : Nat} {I : mI} (h : mm σ st I) {i k : Nat} {v : Int32} (hi : 8 ≤ i) : mm σ st (u2 I i k v) := by
  refine ⟨h.1.to ?_ ?_ (u2_row (by omega)) (u2_row (by omega)), ?_, ?_⟩
  · exact u2_ne _ _ (Or.inl (by omega))
  · exact u2_ne _ _ (Or.inl (by omega))
  · rw [u2_ne _ _ (Or.inl (by omega))]; exact h.2.1
  · rw [u2_row (by omega)]; exact h.2.2
theorem mm.put {σ : wS} {st m a c : Nat} {I : mI} (hw : wf σ) (h : mm σ st I) (hs : stok σ m a c) : mm σ st (u2 I 7 (keyM m a c) (nI (1024 * st + V σ m a c))) := by
  refine ⟨h.1.to ?_ ?_ (u2_row (by omega)) (u2_row (by omega)), ?_, ?_⟩
  · exact u2_ne _ _ (Or.inl (by omega))
  · exact u2_ne _ _ (Or.inl (by omega))
  · rw [u2_ne _ _ (Or.inl (by omega))]; exact h.2.1
  · intro k hk
    have hV := V_le hw m a c
    by_cases e : k = keyM m a c
    · refine ⟨1024 * st + V σ m a c, by rw [e, u2_self], by omega, fun _ m' a' c' hs' hk' => ?_⟩
      obtain ⟨rfl, rfl, rfl⟩ := keyM_inj hs'.2.1 hs.2.1 hs'.2.2.1 hs.2.2.1 (hk'.trans e)
      omega
    · rw [u2_ne _ _ (Or.inr e)]
      exact h.2.2 k hk
theorem aI_3 {e : Nat} (he : e ≤ 5) : (3 : Int32) < aI e ↔ e = 5 := by
  have h : e = 0 ∨ e = 1 ∨ e = 2 ∨ e = 3 ∨ e = 4 ∨ e = 5 := by omega
  rcases h with rfl | rfl | rfl | rfl | rfl | rfl <;> decide
theorem m_keyOf_s {m a c : Nat} {I : mI} {J : mJ} {Q : Int32 → mI → mJ → Prop} (h : Q (nI (keyM m a c)) I J) : m_keyOf (nI m) (nI a) (nI c) I J Q := by
  unfold m_keyOf
  rw [l2401, l4, pk_mul, nI_add, pk_mul, nI_add]
  exact h
/-- whether a state is found -/
theorem m_isFound_s {σ : wS} {st m a c : Nat} {I : mI} {J : mJ} {Q : Int32 → mI → mJ → Prop} (hM : mm σ st I) (hst : st < 1000) (hs : stok σ m a c)
    (h1 : I 7 (keyM m a c) = nI (1024 * st + V σ m a c) → Q 1 I J) (h0 : I 7 (keyM m a c) ≠ nI (1024 * st + V σ m a c) → Q 0 I J) (hV : V σ m a c < 1024) : m_isFound (nI (keyM m a c)) I J Q := by
  have hk := keyM_lt hs.1 hs.2.1 hs.2.2.1
  obtain ⟨w, e1, e2, e3⟩ := hM.2.2 _ hk
  unfold m_isFound
  rw [nI_clamp (by omega), hM.2.1, e1, l1024, pk_div (by omega) (by decide) (by decide)]
  refine ⟨vp_in_nI hk (by decide), pk_eq (w / 1024) st (fun h => h1 ?_) (fun h => h0 ?_) rfl rfl (by omega) (by omega)⟩
  · have h5 := e3 h m a c hs rfl
    rw [e1]
    exact congrArg nI (by omega)
  · rw [e1]
    intro q
    rw [nI_eq (by omega) (by omega)] at q
    omega
theorem m_pile_s {σ : wS} {st top m a c : Nat} {I0 I : mI} {J : mJ} {Q : mI → mJ → Prop} (ht : top < 24) (hM : mm σ st I) (hso : mso I0 I)
    (h : ∀ I', mso I0 I' → mm σ st I' → frm σ I' top m a c 0 → (∀ r j, 8 ≤ r → r ≤ 12 → j ≠ top → I' r j = I r j) → I' 7 = I 7 → (∀ k, I' 0 k = I 0 k) → Q I' J) : m_pile (nI top) (nI m) (nI a) (nI c) I J Q := by
  unfold m_pile
  have hv : vp_in (nI top) 24 := vp_in_nI ht (by decide)
  rw [nI_clamp (by omega)]
  refine ⟨hv, hv, hv, hv, hv, h _ ?_ ?_ ?_ ?_ ?_ ?_⟩
  · exact ((((hso.set (by omega) (by omega)).set (by omega) (by omega)).set (by omega) (by omega)).set (by omega) (by omega)).set (by omega) (by omega)
  · exact ((((hM.set (by omega)).set (by omega)).set (by omega)).set (by omega)).set (by omega)
  · refine ⟨?_, ?_, ?_, ?_, ?_⟩
    · rw [u2_row (by omega), u2_row (by omega), u2_row (by omega), u2_row (by omega), u2_self]
    · rw [u2_row (by omega), u2_row (by omega), u2_row (by omega), u2_self]
    · rw [u2_row (by omega), u2_row (by omega), u2_self]
    · rw [u2_row (by omega), u2_self]; rfl
    · rw [u2_self]; rfl
  · intro r j _ _ hj
    rw [u2_ne _ _ (Or.inr hj), u2_ne _ _ (Or.inr hj), u2_ne _ _ (Or.inr hj), u2_ne _ _ (Or.inr hj), u2_ne _ _ (Or.inr hj)]
  · rw [u2_row (by omega), u2_row (by omega), u2_row (by omega), u2_row (by omega), u2_row (by omega)]
  · intro k
    rw [u2_ne _ _ (Or.inl (by omega)), u2_ne _ _ (Or.inl (by omega)), u2_ne _ _ (Or.inl (by omega)), u2_ne _ _ (Or.inl (by omega)), u2_ne _ _ (Or.inl (by omega))]
section
variable {σ : wS} {st top m a c e1 : Nat} {I0 : mI} {J : mJ} {Q : Int32 → mI → mJ → Prop} {A1 A2 A3 : Int32} {k28 : Int32 → Int32 → Int32 → Int32 → mI → mJ → Prop}
/-- the value is put in, the next act is tried -/
theorem m_most_v {k36 : Int32 → Int32 → Int32 → Int32 → Int32 → mI → mJ → Prop} {e v : Nat} {I : mI} (hw : wf σ) (ht : top ≤ 20) (hv : v = vb σ m a c e) (hso : mso I0 I) (hfb : fb I0 I top) (hM : mm σ st I) (hf : frm σ I top m a c e)
    (h : ∀ I', mso I0 I' → fb I0 I' top → mm σ st I' → frm σ I' top m a c (e + 1) → I' 7 = I 7 → k36 A1 A2 A3 (nI top) 0 I' J) : m_most_j163 Q k36 A1 A2 A3 (nI top) 0 (nI v) I J := by
  have hin : vp_in (nI top) 24 := vp_in_nI (by omega) (by decide)
  have hv6 : v ≤ 600 := by rw [hv]; exact vb_le hw
  have hm6 : mxF (vb σ m a c) e ≤ 600 := mxF_le e (fun k _ => vb_le hw)
  have go : ∀ y, y = mxF (vb σ m a c) (e + 1) → m_most_j195 Q k36 A1 A2 A3 (nI top) 0 (nI top) (nI y) I J := by
    intro y hy
    unfold m_most_j195 m_most_j207
    rw [nI_clamp (by omega)]
    refine ⟨hin, hin, hin, h _ ((hso.set (by omega) (by omega)).set (by omega) (by omega)) ((hfb.set (Nat.le_refl _)).set (Nat.le_refl _)) ((hM.set (by omega)).set (by omega)) ?_ ?_⟩
    · refine ⟨?_, ?_, ?_, ?_, ?_⟩
      · rw [u2_row (by omega), u2_row (by omega)]; exact hf.1
      · rw [u2_row (by omega), u2_row (by omega)]; exact hf.2.1
      · rw [u2_row (by omega), u2_row (by omega)]; exact hf.2.2.1
      · rw [u2_self, hf.2.2.2.1, aI_next]
      · rw [u2_row (by omega), u2_self, hy]
    · rw [u2_row (by omega), u2_row (by omega)]
  unfold m_most_j163
  rw [nI_clamp (by omega), hf.2.2.2.2]
  refine ⟨hin, pk_le v (mxF (vb σ m a c) e) (fun h1 => ⟨hin, go _ ?_⟩) (fun h1 => go _ ?_) rfl rfl (by omega) (by omega)⟩
  · show _ = max _ _
    rw [← hv]
    exact (Nat.max_eq_left h1).symm
  · show _ = max _ _
    rw [← hv]
    exact (Nat.max_eq_right (by omega)).symm
/-- one frame's acts, up to the first that leads to a state that isn't found -/
theorem m_most_in (hw : wf σ) (hst : st < 1000) (ht : top ≤ 20) (hs : stok σ m a c)
    (hpop : ∀ I', mso I0 I' → fb I0 I' top → mm σ st I' → I' 7 (keyM m a c) = nI (1024 * st + V σ m a c) → k28 A1 A2 A3 (nI top + (-1)) I' J)
    (hpush : ∀ e I', e1 ≤ e → e < 5 → tk σ m a e ≠ 0 → mso I0 I' → fb I0 I' top → mm σ st I' → frm σ I' top m a c e → frm σ I' (top + 1) (m + tk σ m a e) (nA a e) (nC σ m a c e) 0 → k28 A1 A2 A3 (nI (top + 1)) I' J) :
    ∀ n e I, 5 - e + 1 < n → e ≤ 5 → mso I0 I → fb I0 I top → mm σ st I → frm σ I top m a c e → (∀ j, e ≤ j → j < e1 → tk σ m a j ≠ 0 → I 7 (keyM (m + tk σ m a j) (nA a j) (nC σ m a c j)) = nI (1024 * st + V σ (m + tk σ m a j) (nA a j) (nC σ m a c j))) → m_most_l36 Q k28 n A1 A2 A3 (nI top) 0 I J := by
  have hin : vp_in (nI top) 24 := vp_in_nI (by omega) (by decide)
  have hin1 : top + 1 < 24 := by omega
  intro n
  induction n with
  | zero => intro e I h1; omega
  | succ n ih =>
    intro e I h1 h2 hso hfb hM hf hH
    unfold m_most_l36
    rw [nI_clamp (by omega), hf.2.2.2.1]
    refine br_t rfl ⟨hin, ?_⟩
    by_cases h5 : e = 5
    · subst h5
      refine br_t ((aI_3 (by omega)).mpr rfl) ?_
      unfold m_most_j210
      rw [nI_clamp (by omega), hf.1, hf.2.1, hf.2.2.1]
      refine br_t rfl ⟨hin, hin, hin, m_keyOf_s ⟨hin, vp_in_nI (keyM_lt hs.1 hs.2.1 hs.2.2.1) (by decide), ?_⟩⟩
      have hk := keyM_lt hs.1 hs.2.1 hs.2.2.1
      unfold m_most_j287
      rw [nI_clamp (by omega), hM.2.1, hf.2.2.2.2, l1024, pk_mul, nI_add, ← V_eq hw]
      refine hpop _ (hso.set (by omega) (by omega)) ?_ (mm.put hw hM hs) (u2_self _ _ _ _)
      intro r j h3 h4 h5
      rw [u2_ne _ _ (Or.inl (by omega))]
      exact hfb r j h3 h4 h5
    · have he5 : e < 5 := by omega
      refine br_f (fun q => h5 ((aI_3 (by omega)).mp q)) ⟨hin, hin, hin, hin, ?_⟩
      rw [hf.1, hf.2.1, hf.2.2.1]
      refine m_leads_s hw hM.1 hs he5 (fun h0 => ?_) (fun h0 I' g1 g2 g3 g4 g => ?_)
      · refine br_t rfl ?_
        unfold m_most_j110
        refine br_t rfl ?_
        unfold m_most_j130 m_most_j131
        refine br_t rfl (br_t rfl ?_)
        refine m_most_v (v := 0) hw ht ?_ hso hfb hM hf (fun I' q1 q2 q3 q4 q5 => ih (e + 1) I' (by omega) (by omega) q1 q2 q3 q4 (fun j hj1 hj2 hj3 => by rw [q5]; exact hH j (by omega) hj2 hj3))
        unfold vb
        rw [if_pos h0]
      · have hM' := g.mm hM
        have hs' := nx_ok (c := c) hw hs h0
        have hf' := g.toFrm hf
        have hso' := hso.trans g.mso
        have hfb' := g.fb hfb
        have hk := keyM_lt hs'.1 hs'.2.1 hs'.2.2.1
        have hV := V_le hw (m + tk σ m a e) (nA a e) (nC σ m a c e)
        have hg := gn_le hw a c e
        refine br_f (by decide) ?_
        rw [g1, g2, g3]
        refine m_keyOf_s ?_
        unfold m_most_j110
        refine br_f (by decide) (m_isFound_s hM' hst hs' (fun q => ?_) (fun q => ?_) (by omega))
        · refine br_f (by decide) ?_
          unfold m_most_j130 m_most_j131
          refine br_t rfl (br_f (by decide) ⟨vp_in_nI hk (by decide), ?_⟩)
          rw [nI_clamp (by omega), q, g4, l1024, pk_rem (by omega) (by decide) (by decide), nI_add]
          refine m_most_v hw ht ?_ hso' hfb' hM' hf' (fun I' q1 q2 q3 q4 q5 => ih (e + 1) I' (by omega) (by omega) q1 q2 q3 q4 (fun j hj1 hj2 hj3 => by rw [q5, g.1 7 (by decide)]; exact hH j (by omega) hj2 hj3))
          unfold vb
          rw [if_neg h0]
          omega
        · refine br_t rfl ?_
          unfold m_most_j131
          refine br_f (by decide) ?_
          unfold m_most_j207
          have hn : n = (n - 1) + 1 := by omega
          rw [hn]
          show m_most_l36 Q k28 (n - 1 + 1) A1 A2 A3 (nI top) 1 I' J
          unfold m_most_l36
          refine br_f (by decide) ?_
          unfold m_most_j210
          refine br_f (by decide) ?_
          rw [g1, g2, g3, nI_1]
          refine m_pile_s (I0 := I0) hin1 hM' hso' (fun I2 q1 q2 q3 q4 q5 q6 => ?_)
          unfold m_most_j287
          refine hpush e I2 ?_ he5 h0 q1 ?_ q2 ?_ q3
          · refine Nat.le_of_not_lt (fun hlt => q ?_)
            rw [g.1 7 (by decide)]
            exact hH e (Nat.le_refl _) hlt h0
          · intro r j h6 h7 h8
            rw [q4 r j h6 h7 (by omega)]
            exact hfb' r j h6 h7 h8
          · unfold frm
            rw [q4 8 top (by omega) (by omega) (by omega), q4 9 top (by omega) (by omega) (by omega), q4 10 top (by omega) (by omega) (by omega), q4 11 top (by omega) (by omega) (by omega), q4 12 top (by omega) (by omega) (by omega)]
            exact hf'
end
/-- how many rounds of the outer loop do -/
def mB : Nat → Nat
  | 0 => 1
  | d + 1 => 5 * (1 + mB d) + 1
theorem m_most_run {σ : wS} {st : Nat} {J : mJ} {Q : Int32 → mI → mJ → Prop} {A1 A2 A3 : Int32} (hw : wf σ) (hst : st < 1000) : ∀ d top m a c I N, 21 - m ≤ d → top ≤ m → stok σ m a c → mm σ st I → frm σ I top m a c 0 →
    (∀ I', mso I I' → fb I I' top → mm σ st I' → I' 7 (keyM m a c) = nI (1024 * st + V σ m a c) → ∀ n, N ≤ n → m_most_l28 Q n A1 A2 A3 (nI top + (-1)) I' J) → ∀ n, N + mB d ≤ n → m_most_l28 Q n A1 A2 A3 (nI top) I J := by
  intro d
  induction d with
  | zero => intro top m a c I N h1 h2 hs; have := hs.1; omega
  | succ d ih =>
    intro top m a c I0 N h1 h2 hs hM0 hf0 hpop
    have hm := hs.1
    have key : ∀ r e1 e I, 5 - e1 ≤ r → e1 ≤ 5 → e ≤ e1 → mso I0 I → fb I0 I top → mm σ st I → frm σ I top m a c e → (∀ j, e ≤ j → j < e1 → tk σ m a j ≠ 0 → I 7 (keyM (m + tk σ m a j) (nA a j) (nC σ m a c j)) = nI (1024 * st + V σ (m + tk σ m a j) (nA a j) (nC σ m a c j))) →
        ∀ n, N + (5 - e1) * (1 + mB d) + 1 ≤ n → m_most_l28 Q n A1 A2 A3 (nI top) I J := by
      intro r
      induction r with
      | zero =>
        intro e1 e I g1 g2 g3 hso hfb hM hf hH n hn
        have hn1 : n = (n - 1) + 1 := by omega
        rw [hn1]
        unfold m_most_l28
        refine br_f (nI_pos (by omega)) ⟨7, m_most_in (I0 := I0) (e1 := e1) hw hst (by omega) hs (fun I' q1 q2 q3 q4 => hpop I' q1 q2 q3 q4 _ (by omega)) (fun e' I' q1 q2 => by omega) 7 e I (by omega) (by omega) hso hfb hM hf hH⟩
      | succ r ihr =>
        intro e1 e I g1 g2 g3 hso hfb hM hf hH n hn
        have hn1 : n = (n - 1) + 1 := by omega
        rw [hn1]
        unfold m_most_l28
        refine br_f (nI_pos (by omega)) ⟨7, m_most_in (I0 := I0) (e1 := e1) hw hst (by omega) hs (fun I' q1 q2 q3 q4 => hpop I' q1 q2 q3 q4 _ (by omega)) (fun e' I' q1 q2 q3 q4 q5 q6 q7 q8 => ?_) 7 e I (by omega) (by omega) hso hfb hM hf hH⟩
        have hlt : m < m + tk σ m a e' := by omega
        refine ih (top + 1) _ _ _ I' (N + (5 - (e' + 1)) * (1 + mB d) + 1) (by omega) (by omega) (nx_ok hw hs q3) q6 q8 (fun I2 p1 p2 p3 p4 n2 hn2 => ?_) _ ?_
        · rw [pk_m1]
          refine ihr (e' + 1) e' I2 (by omega) (by omega) (by omega) (q4.trans p1) ?_ p3 ?_ ?_ n2 hn2
          · intro r j z1 z2 z3
            exact (p2 r j z1 z2 (by omega)).trans (q5 r j z1 z2 z3)
          · unfold frm
            rw [p2 8 top (by omega) (by omega) (by omega), p2 9 top (by omega) (by omega) (by omega), p2 10 top (by omega) (by omega) (by omega), p2 11 top (by omega) (by omega) (by omega), p2 12 top (by omega) (by omega) (by omega)]
            exact q7
          · intro j j1 j2 _
            have : j = e' := by omega
            subst this
            exact p4
        · have h5 : 5 - e1 = (5 - (e' + 1)) + 1 + (e' - e1) := by omega
          have h6 : (5 - e1) * (1 + mB d) = (5 - (e' + 1)) * (1 + mB d) + (1 + mB d) + (e' - e1) * (1 + mB d) := by rw [h5, Nat.add_mul, Nat.add_mul, Nat.one_mul]
          omega
    intro n hn
    refine key 5 0 0 I0 (by omega) (by omega) (by omega) mso.refl (fun _ _ _ _ _ => rfl) hM0 hf0 (fun j _ hj => by omega) n ?_
    have : N + mB (d + 1) = N + (5 * (1 + mB d) + 1) := rfl
    omega
theorem m_most_s {σ : wS} {st m a c : Nat} {I : mI} {J : mJ} {Q : Int32 → mI → mJ → Prop} (hw : wf σ) (hst : st < 1000) (hM : mm σ st I) (hs : stok σ m a c) (h : ∀ I', mso I I' → mm σ st I' → Q (nI (V σ m a c)) I' J) : m_most (nI m) (nI a) (nI c) I J Q := by
  have hk := keyM_lt hs.1 hs.2.1 hs.2.2.1
  have hV := V_le hw m a c
  have hend : ∀ I' a4, a4 < 0 → mso I I' → mm σ st I' → I' 7 (keyM m a c) = nI (1024 * st + V σ m a c) → ∀ n, 1 ≤ n → m_most_l28 Q n (nI m) (nI a) (nI c) a4 I' J := by
    intro I' a4 h4 q1 q2 q3 n hn
    have hn1 : n = (n - 1) + 1 := by omega
    rw [hn1]
    unfold m_most_l28
    refine br_t h4 (m_keyOf_s ⟨vp_in_nI hk (by decide), ?_⟩)
    rw [nI_clamp (by omega), q3, l1024, pk_rem (by omega) (by decide) (by decide)]
    have e : (1024 * st + V σ m a c) % 1024 = V σ m a c := by omega
    rw [e]
    exact h I' q1 q2
  unfold m_most
  refine m_keyOf_s (m_isFound_s hM hst hs (fun q => ?_) (fun q => ?_) (by omega))
  · refine br_f (by decide) ?_
    unfold m_most_j18
    refine m_pile_s (top := 0) (I0 := I) (by omega) hM mso.refl (fun I' p1 p2 p3 p4 p5 p6 => ⟨1, hend I' _ (by decide) p1 p2 (by rw [p5]; exact q) 1 (by omega)⟩)
  · refine br_t rfl ?_
    unfold m_most_j18
    refine m_pile_s (top := 0) (I0 := I) (by omega) hM mso.refl (fun I' p1 p2 p3 p4 p5 p6 => ⟨1 + mB 21, ?_⟩)
    refine m_most_run hw hst 21 0 m a c I' 1 (by omega) (by omega) hs p2 p3 (fun I2 z1 z2 z3 z4 n hn => hend I2 _ (by decide) (p1.trans z1) z3 z4 n hn) _ (by omega)
