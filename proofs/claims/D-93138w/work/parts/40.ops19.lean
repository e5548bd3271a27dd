set_option maxRecDepth 100000
set_option maxHeartbeats 4000000
/-! PLAIN LAW, operations 19: conditions -/
/-- what a sign of a value says at a trip -/
def vS (σ : wS) (m a c g v : Nat) : Nat :=
  if 3000 ≤ v then v - 3000 else if 300 ≤ v then (if v - 300 < σ 0 0 then σ 6 (4 * a + (v - 300)) else 0) else if 200 ≤ v then (if v - 200 < σ 0 0 then dg c (v - 200) else 0)
  else if v = 100 then (if σ 0 0 = 0 then 0 else σ 5 (7 * a + dg c a)) else if v = 101 then σ 0 3 - m else if v = 102 then g else a
theorem x_pt_c {P : Nat} {p : Nat} {s : xS} {rd : xRd} {J : mJ} {I : mI} {Q : Int32 → Prop} (hP : P ≤ 4) (hI : I 1 0 = nI P) (hp : p < 4) (h1 : p < P → Q 1) (h0 : ¬ p < P → Q 0) : x_X0_isPatch (nI p) s rd J I Q := by
  refine x_isPatch_c (fun y => ?_) (fun y => ?_) <;> rw [hI] at y
  · by_cases e : p < P
    · exact h1 e
    · exact absurd y (ix_no (by omega) (.inr (nI_le (by omega) (by omega))))
  · by_cases e : p < P
    · exact absurd (ix_yes (by omega) e) y
    · exact h0 e
theorem m_pt_c {P : Nat} {p : Nat} {I : mI} {J : mJ} {Q : Int32 → mI → mJ → Prop} (hP : P ≤ 4) (hI : I 0 8 = nI P) (hp : p < 4) (h1 : p < P → Q 1 I J) (h0 : ¬ p < P → Q 0 I J) : m_isPatch (nI p) I J Q := by
  refine m_isPatch_c (fun y => ?_) (fun y => ?_) <;> rw [hI] at y
  · by_cases e : p < P
    · exact h1 e
    · exact absurd y (ix_no (by omega) (.inr (nI_le (by omega) (by omega))))
  · by_cases e : p < P
    · exact absurd (ix_yes (by omega) e) y
    · exact h0 e
theorem x_value_s {σ : wS} {s : xS} {rd : xRd} {J : mJ} {I : mI} {t f m a c g v : Nat} {x y : Int32} {Q : Int32 → Prop} (hw : wf σ) (hP : xP σ I) (hT : tS s rd t f) (htr : tr I t f m a c g) (hm : m ≤ 20) (ha : a < 4) (hat : a < σ 0 0 ∨ (σ 0 0 = 0 ∧ a = 0)) (hv : valR x y v) (h : Q (nI (vS σ m a c g v))) : x_X0_value t x y s rd J I Q := by
  have hP4 := hw.1
  obtain ⟨t1, t2, t3, t4⟩ := htr
  unfold x_X0_value
  rcases hv with ⟨n, hn, rfl, rfl, rfl⟩ | ⟨p, hp, rfl, rfl, rfl⟩ | ⟨p, hp, rfl, rfl, rfl⟩ | ⟨k, hk, rfl, rfl⟩
  · unfold vS at h
    rw [if_pos (by omega), show 3000 + n - 3000 = n by omega] at h
    exact br_t rfl h
  · unfold vS at h
    rw [if_neg (by omega), if_neg (by omega), if_pos (by omega), show 200 + p - 200 = p by omega] at h
    refine br_f (by decide) (br_t rfl (x_pt_c hP4 hP.1 (by omega) (fun e => br_f (by decide) ?_) (fun e => br_t rfl (by rw [if_neg e] at h; exact h))))
    rw [if_pos e] at h
    rw [nI_clamp (by omega)]
    exact ⟨hT.1, f, hT.2.1, hT.2.2.1, by rw [hT.2.2.2.1]; exact vp_in_nI (by omega) (by decide), by rw [t4 p (by omega)]; exact h⟩
  · unfold vS at h
    rw [if_neg (by omega), if_pos (by omega), show 300 + p - 300 = p by omega] at h
    refine br_f (by decide) (br_f (by decide) (br_t rfl (x_pt_c hP4 hP.1 (by omega) (fun e => br_f (by decide) ⟨hT.1, ?_⟩) (fun e => br_t rfl (by rw [if_neg e] at h; exact h)))))
    rw [if_pos e] at h
    rw [t2]
    refine x_pt_c hP4 hP.1 ha (fun e2 => br_f (by decide) ?_) (fun e2 => absurd e2 (by omega))
    have e4 : (4 : Int32) * nI a + nI p = nI (4 * a + p) := by rw [l4, pk_mul, nI_add]
    rw [e4, nI_clamp (by omega), hP.2.2.2.2.2 _ (by omega)]
    exact ⟨vp_in_nI (by omega) (by decide), h⟩
  · have hk' : k = 0 ∨ k = 1 ∨ k = 2 ∨ k = 3 := by omega
    rcases hk' with rfl | rfl | rfl | rfl
    · refine br_f (by decide) (br_f (by decide) (br_f (by decide) (br_t (by decide) ⟨hT.1, ?_⟩)))
      rw [t2]
      have h' : Q (nI (if σ 0 0 = 0 then 0 else σ 5 (7 * a + dg c a))) := h
      refine x_pt_c hP4 hP.1 ha (fun e2 => br_f (by decide) ?_) (fun e2 => br_t rfl (by rw [if_pos (by omega)] at h'; exact h'))
      rw [if_neg (by omega)] at h'
      rw [nI_clamp (by omega)]
      exact ⟨f, hT.2.1, hT.2.2.1, by rw [hT.2.2.2.1]; exact vp_in_nI ha (by decide), by rw [t4 a ha]; exact x_brings_s hP ha (dg_lt _ _) h'⟩
    · refine br_f (by decide) (br_f (by decide) (br_f (by decide) (br_f (by decide) (br_t (by decide) ⟨hT.1, ?_⟩))))
      have h' : Q (nI (σ 0 3 - m)) := h
      rw [hP.2.1, t1, clampI (by have := hw.2.1; omega) (by omega)]
      exact h'
    · refine br_f (by decide) (br_f (by decide) (br_f (by decide) (br_f (by decide) (br_f (by decide) (br_t (by decide) ⟨hT.1, ?_⟩)))))
      rw [t3]
      exact h
    · refine br_f (by decide) (br_f (by decide) (br_f (by decide) (br_f (by decide) (br_f (by decide) (br_f (by decide) ⟨hT.1, ?_⟩)))))
      rw [t2]
      exact h
/-- the model's trip in question -/
def aT (I : mI) (m a c g : Nat) : Prop := I 0 51 = nI m ∧ I 0 52 = nI a ∧ I 0 53 = nI c ∧ I 0 54 = nI g
theorem m_valueOf_s {σ : wS} {I : mI} {J : mJ} {m a c g v : Nat} {x y : Int32} {Q : Int32 → mI → mJ → Prop} (hw : wf σ) (hM : mP σ I) (hT : aT I m a c g) (hm : m ≤ 20) (ha : a < 4) (hc : c < 2401) (hv : valR x y v) (h : Q (nI (vS σ m a c g v)) I J) : m_valueOf (nI v) I J Q := by
  have hP4 := hw.1
  have h20 := hw.2.1
  obtain ⟨t1, t2, t3, t4⟩ := hT
  have nl : ∀ {n k : Nat}, k ≤ n → n < 10000 → ¬ nI n < nI k := fun h1 h2 => nI_nlt h1 (by omega)
  have ne : ∀ {n k : Nat}, n ≠ k → n < 10000 → k < 10000 → ¬ nI n = nI k := fun h1 h2 h3 e => h1 ((nI_eq (by omega) (by omega)).mp e)
  have sm : ∀ {n : Nat}, n < 200 → (m_valueOf_j28 Q (nI n) 0 I J → m_valueOf (nI n) I J Q) := by
    intro n hn hh
    unfold m_valueOf
    exact br_t (nI_lt (b := 3000) (by omega) (by decide)) (br_t (nI_lt (b := 200) (by omega) (by decide)) hh)
  have mo : ∀ {q p : Nat}, (q = 200 ∨ q = 300) → p < 4 → (m_valueOf_j28 Q (nI (q + p)) (nI p) I J → m_valueOf (nI (q + p)) I J Q) := by
    intro q p hq hp hh
    unfold m_valueOf
    refine br_t (nI_lt (b := 3000) (by omega) (by decide)) (br_f (nl (k := 200) (by omega) (by omega)) ?_)
    have e : nI (q + p) - nI (q + p) / 100 * 100 = nI p := by
      rw [show (100 : Int32) = nI 100 from rfl, pk_rem (by omega) (by decide) (by decide)]
      congr 1
      omega
    rw [e]
    exact hh
  rcases hv with ⟨n, hn, rfl, rfl, rfl⟩ | ⟨p, hp, rfl, rfl, rfl⟩ | ⟨p, hp, rfl, rfl, rfl⟩ | ⟨k, hk, rfl, rfl⟩
  · unfold vS at h
    rw [if_pos (by omega)] at h
    unfold m_valueOf
    refine br_f (nl (k := 3000) (by omega) (by omega)) ?_
    rw [show (3000 : Int32) = nI 3000 from rfl, pk_sub (by omega)]
    exact h
  · refine mo (.inl rfl) (by omega) ?_
    unfold vS at h
    rw [if_neg (by omega), if_neg (by omega), if_pos (by omega), show 200 + p - 200 = p by omega] at h
    unfold m_valueOf_j28
    rw [pk_sub (by omega), show 200 + p - p = 200 by omega]
    refine br_f (by decide) (br_f (by decide) (br_f (by decide) (br_t (by decide) (m_pt_c hP4 hM.1 (by omega) (fun e => br_f (by decide) ?_) (fun e => br_t rfl (by rw [if_neg e] at h; exact h))))))
    rw [if_pos e] at h
    rw [t3]
    exact m_foodIn_s (by omega) hc h
  · refine mo (.inr rfl) (by omega) ?_
    unfold vS at h
    rw [if_neg (by omega), if_pos (by omega), show 300 + p - 300 = p by omega] at h
    unfold m_valueOf_j28
    rw [pk_sub (by omega), show 300 + p - p = 300 by omega]
    refine br_f (by decide) (br_f (by decide) (br_f (by decide) (br_f (by decide) (br_t (by decide) (m_pt_c hP4 hM.1 (by omega) (fun e => br_f (by decide) ?_) (fun e => br_t rfl (by rw [if_neg e] at h; exact h)))))))
    rw [if_pos e] at h
    have e4 : (4 : Int32) * nI a + nI p = nI (4 * a + p) := by rw [l4, pk_mul, nI_add]
    rw [hM.1, t2, e4, nI_clamp (by omega), hM.2.2.2.2.2 a p ha (by omega)]
    exact br_f (nI_nle (by omega) (by omega)) ⟨vp_in_nI (by omega) (by decide), h⟩
  · have hk' : k = 0 ∨ k = 1 ∨ k = 2 ∨ k = 3 := by omega
    rcases hk' with rfl | rfl | rfl | rfl
    · refine sm (by decide) ?_
      have h' : Q (nI (if σ 0 0 = 0 then 0 else σ 5 (7 * a + dg c a))) I J := h
      unfold m_valueOf_j28
      refine br_t (by decide) ?_
      rw [hM.1, t2, t3]
      refine pk_le (σ 0 0) 0 (fun e => by rw [if_pos (by omega)] at h'; exact h') (fun e => ?_) rfl rfl (by omega) (by decide)
      rw [if_neg (by omega)] at h'
      exact m_foodIn_s ha hc (m_yieldIn_s hM ha (dg_lt _ _) h')
    · refine sm (by decide) ?_
      have h' : Q (nI (σ 0 3 - m)) I J := h
      unfold m_valueOf_j28
      refine br_f (by decide) (br_t (by decide) ?_)
      rw [hM.2.1, t1]
      refine pk_le (σ 0 3) m (fun e => by rw [show σ 0 3 - m = 0 by omega] at h'; exact h') (fun e => ?_) rfl rfl (by omega) (by omega)
      rw [pk_sub (by omega)]
      exact h'
    · refine sm (by decide) ?_
      unfold m_valueOf_j28
      refine br_f (by decide) (br_f (by decide) (br_t (by decide) ?_))
      rw [t4]
      exact h
    · refine sm (by decide) ?_
      unfold m_valueOf_j28
      refine br_f (by decide) (br_f (by decide) (br_f (by decide) (br_f (by decide) (br_f (by decide) ?_))))
      rw [t2]
      exact h
theorem vS_le {σ : wS} (hw : wf σ) {m a c g v : Nat} (hg : g ≤ 600) (ha : a < 4) (hv : v ≤ 3999) : vS σ m a c g v ≤ 1000 := by
  have h6 := hw.2.2.2.2.2
  have h5 := hw.2.2.2.2.1
  have h3 := hw.2.1
  unfold vS
  split
  · omega
  · split
    · split
      · have := h6 (4 * a + (v - 300)); omega
      · omega
    · split
      · split
        · have := dg_lt c (v - 200); omega
        · omega
      · split
        · split
          · omega
          · have := h5 (7 * a + dg c a); omega
        · split
          · omega
          · split <;> omega
theorem valR_le {x y : Int32} {v : Nat} (h : valR x y v) : v ≤ 3999 ∧ 100 ≤ v := by
  rcases h with ⟨n, hn, _, _, rfl⟩ | ⟨p, hp, _, _, rfl⟩ | ⟨p, hp, _, _, rfl⟩ | ⟨k, hk, _, rfl⟩ <;> omega
/-- the model's heap while a condition is worked out -/
def cI (I0 I : mI) : Prop := ∀ r, r ≠ 24 → I r = I0 r
theorem cI.set {I0 I : mI} {h : Nat} {v : Int32} (g : cI I0 I) : cI I0 (u2 I 24 h v) := fun r hr => (u2r hr).trans (g r hr)
theorem cI.mP {σ : wS} {I0 I : mI} (g : cI I0 I) (hM : mP σ I0) : @@N@@.mP σ I := by
  unfold @@N@@.mP
  rw [g 0 (by decide), g 1 (by decide), g 2 (by decide)]
  exact hM
theorem cI.aT {I0 I : mI} {m a c gt : Nat} (g : cI I0 I) (h : aT I0 m a c gt) : @@N@@.aT I m a c gt := by
  unfold @@N@@.aT
  rw [g 0 (by decide)]
  exact h
theorem st_val {σ : wS} {I0 I : mI} {J : mJ} {n k h i E m a c g v : Nat} {x y : Int32} {Q : Int32 → mI → mJ → Prop} (hw : wf σ) (hM : mP σ I0) (hT : aT I0 m a c g) (hm : m ≤ 20) (ha : a < 4) (hc : c < 2401) (gI : cI I0 I) (hk : k < 6) (hE : I0 4 k = nI E) (hE2 : E ≤ 210) (hi : i < E) (hh : h < 210) (hs : I0 6 i = nI v) (hv : valR x y v)
    (K : m_holds_l19 Q n (nI k) (nI (h + 1)) (nI (i + 1)) (u2 I 24 h (nI (vS σ m a c g v))) J) : m_holds_l19 Q (n + 1) (nI k) (nI h) (nI i) I J := by
  obtain ⟨v1, v2⟩ := valR_le hv
  have ne : ∀ {q : Nat}, q < 100 → ¬ nI v = nI q := fun h1 e => by have := (nI_eq (by omega) (by omega)).mp e; omega
  unfold m_holds_l19 m_holds_j139
  rw [nI_clamp (by omega), nI_clamp (by omega), gI 4 (by decide), gI 6 (by decide), hE, hs]
  refine ⟨vp_in_nI hk (by decide), br_f (nI_ge hi (by omega)) ⟨vp_in_nI (by omega) (by decide), br_f (ne (q := 7) (by decide)) (br_f (ne (q := 8) (by decide)) (br_f (ne (q := 9) (by decide)) (m_in_c (fun z => ?_) (fun _ => br_t rfl (m_valueOf_s hw (gI.mP hM) (gI.aT hT) hm ha hc hv ?_)))))⟩⟩
  · exact absurd z.2 (nI_ge (a := 17) (by omega) (by omega))
  · rw [nI_clamp (by omega), nI_1, nI_1]
    exact ⟨vp_in_nI hh (by decide), K⟩
theorem st_not {I0 I : mI} {J : mJ} {n k h i E b : Nat} {Q : Int32 → mI → mJ → Prop} (gI : cI I0 I) (hk : k < 6) (hE : I0 4 k = nI E) (hE2 : E ≤ 210) (hi : i < E) (hh : h < 210) (hs : I0 6 i = nI 7) (hb : b ≤ 1) (hB : I 24 h = nI b)
    (K : m_holds_l19 Q n (nI k) (nI (h + 1)) (nI (i + 1)) (u2 I 24 h (nI (1 - b))) J) : m_holds_l19 Q (n + 1) (nI k) (nI (h + 1)) (nI i) I J := by
  unfold m_holds_l19 m_holds_j139
  rw [nI_clamp (by omega), nI_clamp (by omega), gI 4 (by decide), gI 6 (by decide), hE, hs, nI_pred, nI_clamp (by omega), hB, nI_1]
  have e : (1 : Int32) - nI b = nI (1 - b) := by rw [show (1 : Int32) = nI 1 from rfl, pk_sub hb]
  rw [e]
  have v : vp_in (nI h) 210 := vp_in_nI hh (by decide)
  exact ⟨vp_in_nI hk (by decide), br_f (nI_ge hi (by omega)) ⟨vp_in_nI (by omega) (by decide), br_t rfl ⟨v, v, K⟩⟩⟩
/-- what a sign that joins two makes -/
def jn (q x y : Nat) : Nat := if q = 8 then x * y else if q = 9 then max x y else if q = 15 then (if x < y then 1 else 0) else if q = 16 then (if x = y then 1 else 0) else (if y < x then 1 else 0)
theorem m_joined_s {q x y : Nat} {I : mI} {J : mJ} {Q : Int32 → mI → mJ → Prop} (hx : x ≤ 1000) (hy : y ≤ 1000) (hq : ((q = 8 ∨ q = 9) ∧ x ≤ 1 ∧ y ≤ 1) ∨ q = 15 ∨ q = 16 ∨ q = 17) (h : Q (nI (jn q x y)) I J) : m_joined (nI q) (nI x) (nI y) I J Q := by
  unfold m_joined
  rcases hq with ⟨rfl | rfl, h1, h2⟩ | rfl | rfl | rfl
  · refine br_t rfl ?_
    have e : nI x &&& nI y = nI (jn 8 x y) := (by decide : ∀ x, x ≤ 1 → ∀ y, y ≤ 1 → nI x &&& nI y = nI (jn 8 x y)) x h1 y h2
    rw [e]; exact h
  · refine br_f (by decide) (br_t rfl ?_)
    have e : nI x ||| nI y = nI (jn 9 x y) := (by decide : ∀ x, x ≤ 1 → ∀ y, y ≤ 1 → nI x ||| nI y = nI (jn 9 x y)) x h1 y h2
    rw [e]; exact h
  · have h' : Q (nI (if x < y then 1 else 0)) I J := h
    refine br_f (by decide) (br_f (by decide) (br_f (by decide) (br_f (by decide) (br_f (by decide) (br_f (by decide) (br_f (by decide) (br_t rfl (pk_le y x (fun e => ?_) (fun e => ?_) rfl rfl (by omega) (by omega)))))))))
    · rw [if_neg (by omega)] at h'; exact h'
    · rw [if_pos e] at h'; exact h'
  · have h' : Q (nI (if x = y then 1 else 0)) I J := h
    refine br_f (by decide) (br_f (by decide) (br_f (by decide) (br_f (by decide) (br_f (by decide) (br_f (by decide) (br_f (by decide) (br_f (by decide) (br_t rfl (pk_eq x y (fun e => ?_) (fun e => ?_) rfl rfl (by omega) (by omega))))))))))
    · rw [if_pos e] at h'; exact h'
    · rw [if_neg e] at h'; exact h'
  · have h' : Q (nI (if y < x then 1 else 0)) I J := h
    refine br_f (by decide) (br_f (by decide) (br_f (by decide) (br_f (by decide) (br_f (by decide) (br_f (by decide) (br_f (by decide) (br_f (by decide) (br_f (by decide) (pk_le x y (fun e => ?_) (fun e => ?_) rfl rfl (by omega) (by omega))))))))))
    · rw [if_neg (by omega)] at h'; exact h'
    · rw [if_pos e] at h'; exact h'
theorem st_bin {I0 I : mI} {J : mJ} {n k h i E q x y : Nat} {Q : Int32 → mI → mJ → Prop} (gI : cI I0 I) (hk : k < 6) (hE : I0 4 k = nI E) (hE2 : E ≤ 210) (hi : i < E) (hh : h + 1 < 210) (hs : I0 6 i = nI q) (hx : x ≤ 1000) (hy : y ≤ 1000) (hq : ((q = 8 ∨ q = 9) ∧ x ≤ 1 ∧ y ≤ 1) ∨ q = 15 ∨ q = 16 ∨ q = 17) (hX : I 24 h = nI x) (hY : I 24 (h + 1) = nI y)
    (K : m_holds_l19 Q n (nI k) (nI (h + 1)) (nI (i + 1)) (u2 I 24 h (nI (jn q x y))) J) : m_holds_l19 Q (n + 1) (nI k) (nI (h + 2)) (nI i) I J := by
  unfold m_holds_l19 m_holds_j91 m_holds_j139
  have e1 : nI (h + 2) + (-1) = nI (h + 1) := pk_m1 (h + 1)
  rw [nI_clamp (by omega), nI_clamp (by omega), gI 4 (by decide), gI 6 (by decide), hE, hs, e1, nI_pred h, nI_clamp (show h < 2 ^ 31 by omega), nI_clamp (show h + 1 < 2 ^ 31 by omega), nI_1]
  have v1 : vp_in (nI h) 210 := vp_in_nI (by omega) (by decide)
  have v2 : vp_in (nI (h + 1)) 210 := vp_in_nI hh (by decide)
  have go : vp_in (nI h) 210 ∧ (vp_in (nI (h + 1)) 210 ∧ (m_joined (nI q) (I 24 h) (I 24 (h + 1)) I J (fun r6 I7 J8 => vp_in (nI h) 210 ∧ m_holds_l19 Q n (nI k) (nI (h + 1)) (nI (i + 1)) (u2 I7 24 h r6) J8))) := by
    rw [hX, hY]
    exact ⟨v1, v2, m_joined_s hx hy hq ⟨v1, K⟩⟩
  refine ⟨vp_in_nI hk (by decide), br_f (nI_ge hi (by omega)) ⟨vp_in_nI (by omega) (by decide), ?_⟩⟩
  rcases hq with ⟨rfl | rfl, _⟩ | rfl | rfl | rfl
  · exact br_f (by decide) (br_t rfl go)
  · exact br_f (by decide) (br_f (by decide) (br_t rfl go))
  · exact br_f (by decide) (br_f (by decide) (br_f (by decide) (m_in_c (fun _ => br_f (by decide) go) (fun z => absurd (by decide) z))))
  · exact br_f (by decide) (br_f (by decide) (br_f (by decide) (m_in_c (fun _ => br_f (by decide) go) (fun z => absurd (by decide) z))))
  · exact br_f (by decide) (br_f (by decide) (br_f (by decide) (m_in_c (fun _ => br_f (by decide) go) (fun z => absurd (by decide) z))))
/-! a whole condition -/
def rowL (f : Nat → Int32) : Nat → List Nat → Prop
  | _, [] => True
  | i, x :: L => f i = nI x ∧ rowL f (i + 1) L
theorem rowL.app {f : Nat → Int32} : ∀ (L M : List Nat) i, rowL f i (L ++ M) → rowL f i L ∧ rowL f (i + L.length) M := by
  intro L
  induction L with
  | nil => intro M i h; exact ⟨trivial, h⟩
  | cons x L ih =>
    intro M i h
    obtain ⟨h1, h2⟩ := h
    obtain ⟨a, b⟩ := ih M (i + 1) h2
    refine ⟨⟨h1, a⟩, ?_⟩
    rw [show i + (x :: L).length = i + 1 + L.length by simp only [List.length_cons]; omega]
    exact b
theorem x_cmp_s {x y g : Nat} {r : Int32} {Q : Int32 → Prop} (hx : x ≤ 1000) (hy : y ≤ 1000) (hc : cmpR r g) (h : Q (nI (jn g x y))) : (r = 60 → (nI y ≤ nI x → Q 0) ∧ (¬ nI y ≤ nI x → Q 1)) ∧ (¬ r = 60 → (r = 62 → (nI x ≤ nI y → Q 0) ∧ (¬ nI x ≤ nI y → Q 1)) ∧ (¬ r = 62 → (nI x = nI y → Q 1) ∧ (¬ nI x = nI y → Q 0))) := by
  rcases hc with ⟨rfl, rfl⟩ | ⟨rfl, rfl⟩ | ⟨rfl, rfl⟩
  · have h' : Q (nI (if x < y then 1 else 0)) := h
    refine br_t rfl (pk_le y x (fun e => ?_) (fun e => ?_) rfl rfl (by omega) (by omega))
    · rw [if_neg (by omega)] at h'; exact h'
    · rw [if_pos e] at h'; exact h'
  · have h' : Q (nI (if x = y then 1 else 0)) := h
    refine br_f (by decide) (br_f (by decide) (pk_eq x y (fun e => ?_) (fun e => ?_) rfl rfl (by omega) (by omega)))
    · rw [if_pos e] at h'; exact h'
    · rw [if_neg e] at h'; exact h'
  · have h' : Q (nI (if y < x then 1 else 0)) := h
    refine br_f (by decide) (br_t rfl (pk_le x y (fun e => ?_) (fun e => ?_) rfl rfl (by omega) (by omega)))
    · rw [if_neg (by omega)] at h'; exact h'
    · rw [if_pos e] at h'; exact h'
theorem jn_cmp {r : Int32} {g x y : Nat} (h : cmpR r g) : jn g x y ≤ 1 ∧ (g = 15 ∨ g = 16 ∨ g = 17) := by
  rcases h with ⟨_, rfl⟩ | ⟨_, rfl⟩ | ⟨_, rfl⟩ <;> unfold jn <;> simp <;> split <;> simp
theorem cR_len {s : xS} {rd : xRd} {fz : Nat → Bool} {I : mI} {n cd : Nat} {L : List Nat} (h : cR s rd fz I n cd L) : 1 ≤ L.length := by
  cases n with
  | zero => exact h.elim
  | succ n =>
    rcases h.2 with ⟨L', rfl, _⟩ | ⟨_, v, q, w, rfl, _⟩ | ⟨_, c1, L1, _, rfl, _⟩ | ⟨_, c1, c2, L1, L2, _, _, rfl, _⟩ | ⟨_, c1, c2, L1, L2, _, _, rfl, _⟩ <;> simp <;> omega
/-- the model comes to b over the signs L, at a trip -/
def mCond (σ : wS) (m a c g b : Nat) (L : List Nat) : Prop := ∀ (I0 : mI) (Jm : mJ) (k E : Nat) (R : Int32 → mI → mJ → Prop), mP σ I0 → aT I0 m a c g → k < 6 → I0 4 k = nI E → E ≤ 210 → ∀ (i h : Nat) (Im : mI) (fu : Nat), rowL (I0 6) i L → i + L.length ≤ E → h ≤ i → cI I0 Im → (∀ Im', cI I0 Im' → Im' 24 h = nI b → (∀ x, x < h → Im' 24 x = Im 24 x) → m_holds_l19 R fu (nI k) (nI (h + 1)) (nI (i + L.length)) Im' Jm) → m_holds_l19 R (fu + L.length) (nI k) (nI h) (nI i) Im Jm
/-- class and model come to the same, the model through its stack -/
theorem cond_s {σ : wS} {s : xS} {rd : xRd} {fz : Nat → Bool} {J : mJ} {I : mI} {t f m a c g : Nat} (hw : wf σ) (hP : xP σ I) (hTs : tS s rd t f) (htr : tr I t f m a c g) (hm : m ≤ 20) (ha : a < 4) (hc : c < 2401) (hg : g ≤ 600) (hat : a < σ 0 0 ∨ (σ 0 0 = 0 ∧ a = 0)) :
    ∀ n cd L, cR s rd fz I n cd L → ∃ b, b ≤ 1 ∧ (∀ fu, n ≤ fu → ∀ Q : Int32 → Prop, Q (nI b) → x_xcond fu cd t s rd J I Q) ∧ mCond σ m a c g b L := by
  intro n
  induction n with
  | zero => intro cd L h; exact h.elim
  | succ n ih =>
    intro cd L hcR
    obtain ⟨_, hcR⟩ := hcR
    rcases hcR with ⟨L', rfl, g1⟩ | ⟨ho, v, q, w, rfl, g1, g2, g3⟩ | ⟨ho, c1, L1, e1, rfl, g1⟩ | ⟨ho, c1, c2, L1, L2, e1, e2, rfl, g1, g2⟩ | ⟨ho, c1, c2, L1, L2, e1, e2, rfl, g1, g2⟩
    · obtain ⟨b, hb, hx, hmm⟩ := ih cd L' g1
      refine ⟨b, hb, fun fu hfu Q hQ => hx fu (by omega) Q hQ, fun I0 Jm k E R hM hT hk hE hE2 i h Im fu hr hlen hh gI K => ?_⟩
      obtain ⟨r1, r2, r3, _⟩ := rowL.app L' [7, 7] i hr
      have el : (L' ++ [7, 7]).length = L'.length + 2 := by simp
      rw [el] at hlen K ⊢
      rw [show fu + (L'.length + 2) = fu + 1 + 1 + L'.length by omega]
      refine hmm I0 Jm k E R hM hT hk hE hE2 i h Im (fu + 1 + 1) r1 (by omega) hh gI (fun Im' gI' hB hlow => ?_)
      refine st_not gI' hk hE hE2 (by omega) (by omega) r2 hb hB (st_not gI'.set hk hE hE2 (by omega) (by omega) r3 (b := 1 - b) (by omega) (u2_self _ _ _ _) ?_)
      refine K _ gI'.set.set ?_ (fun x hx => ?_)
      · rw [u2_self, show 1 - (1 - b) = b by omega]
      · rw [u2_ne _ _ (Or.inr (by omega)), u2_ne _ _ (Or.inr (by omega))]; exact hlow x hx
    · obtain ⟨v1, v2⟩ := valR_le g1
      obtain ⟨w1, w2⟩ := valR_le g3
      have bv := vS_le (m := m) (c := c) hw hg ha v1
      have bw := vS_le (m := m) (c := c) hw hg ha w1
      obtain ⟨j1, j2⟩ := jn_cmp (x := vS σ m a c g v) (y := vS σ m a c g w) g2
      refine ⟨jn q (vS σ m a c g v) (vS σ m a c g w), j1, fun fu hfu Q hQ => ?_, fun I0 Jm k E R hM hT hk hE hE2 i h Im fu hr hlen hh gI K => ?_⟩
      · obtain ⟨fu', rfl⟩ : ∃ z, fu = z + 1 := ⟨fu - 1, by omega⟩
        unfold x_xcond x_xcond_b x_X17_holds
        exact .inl ⟨ho, ho, x_value_s hw hP hTs htr hm ha hat g1 (x_value_s hw hP hTs htr hm ha hat g3 (x_cmp_s bv bw g2 hQ))⟩
      · obtain ⟨r1, r2, r3, _⟩ := hr
        have el : [v, w, q].length = 3 := rfl
        rw [el] at hlen K ⊢
        show m_holds_l19 R (fu + 1 + 1 + 1) (nI k) (nI h) (nI i) Im Jm
        refine st_val hw hM hT hm ha hc gI hk hE hE2 (by omega) (by omega) r1 g1 (st_val hw hM hT hm ha hc gI.set hk hE hE2 (by omega) (by omega) r2 g3 (st_bin gI.set.set hk hE hE2 (by omega) (by omega) r3 bv bw (.inr j2) ?_ (u2_self _ _ _ _) ?_))
        · rw [u2_ne _ _ (Or.inr (by omega)), u2_self]
        · refine K _ gI.set.set.set (u2_self _ _ _ _) (fun x hx => ?_)
          rw [u2_ne _ _ (Or.inr (by omega)), u2_ne _ _ (Or.inr (by omega)), u2_ne _ _ (Or.inr (by omega))]
    · obtain ⟨b, hb, hx, hmm⟩ := ih c1 L1 g1
      refine ⟨1 - b, by omega, fun fu hfu Q hQ => ?_, fun I0 Jm k E R hM hT hk hE hE2 i h Im fu hr hlen hh gI K => ?_⟩
      · obtain ⟨fu', rfl⟩ : ∃ z, fu = z + 1 := ⟨fu - 1, by omega⟩
        unfold x_xcond x_xcond_b x_X18_holds
        refine .inr (.inl ⟨ho, ho, c1, e1, hx fu' (by omega) _ ?_⟩)
        refine pk_eq b 0 (fun e => ?_) (fun e => ?_) rfl rfl (by omega) (by decide)
        · rw [e] at hQ; exact hQ
        · rw [show 1 - b = 0 by omega] at hQ; exact hQ
      · obtain ⟨r1, r2, _⟩ := rowL.app L1 [7] i hr
        have el : (L1 ++ [7]).length = L1.length + 1 := by simp
        rw [el] at hlen K ⊢
        rw [show fu + (L1.length + 1) = fu + 1 + L1.length by omega]
        refine hmm I0 Jm k E R hM hT hk hE hE2 i h Im (fu + 1) r1 (by omega) hh gI (fun Im' gI' hB hlow => ?_)
        refine st_not gI' hk hE hE2 (by omega) (by omega) r2 hb hB (K _ gI'.set (u2_self _ _ _ _) (fun x hx => ?_))
        rw [u2_ne _ _ (Or.inr (by omega))]; exact hlow x hx
    · obtain ⟨b1, hb1, hx1, hm1⟩ := ih c1 L1 g1
      obtain ⟨b2, hb2, hx2, hm2⟩ := ih c2 L2 g2
      have jb : jn 8 b1 b2 = b1 * b2 := rfl
      have jl : jn 8 b1 b2 ≤ 1 := (by decide : ∀ x, x ≤ 1 → ∀ y, y ≤ 1 → jn 8 x y ≤ 1) b1 hb1 b2 hb2
      refine ⟨jn 8 b1 b2, jl, fun fu hfu Q hQ => ?_, fun I0 Jm k E R hM hT hk hE hE2 i h Im fu hr hlen hh gI K => ?_⟩
      · obtain ⟨fu', rfl⟩ : ∃ z, fu = z + 1 := ⟨fu - 1, by omega⟩
        unfold x_xcond x_xcond_b x_X19_holds
        refine .inr (.inr (.inl ⟨ho, ho, c1, e1, hx1 fu' (by omega) _ ?_⟩))
        refine pk_eq b1 0 (fun e => ?_) (fun e => ⟨c2, e2, hx2 fu' (by omega) _ ?_⟩) rfl rfl (by omega) (by decide)
        · rw [e] at hQ; rw [show jn 8 0 b2 = 0 from Nat.zero_mul _] at hQ; exact hQ
        · have eb1 : b1 = 1 := by omega
          rw [eb1, show jn 8 1 b2 = b2 from Nat.one_mul _] at hQ
          refine pk_eq b2 0 (fun e => ?_) (fun e => ?_) rfl rfl (by omega) (by decide)
          · rw [e] at hQ; exact hQ
          · rw [show b2 = 1 by omega] at hQ; exact hQ
      · obtain ⟨r12, r3, _⟩ := rowL.app (L1 ++ L2) [8] i hr
        obtain ⟨r1, r2⟩ := rowL.app L1 L2 i r12
        have el : (L1 ++ L2 ++ [8]).length = L1.length + L2.length + 1 := by simp; omega
        have el2 : (L1 ++ L2).length = L1.length + L2.length := by simp
        rw [el] at hlen K ⊢
        rw [el2] at r3
        rw [show fu + (L1.length + L2.length + 1) = fu + 1 + L2.length + L1.length by omega]
        refine hm1 I0 Jm k E R hM hT hk hE hE2 i h Im (fu + 1 + L2.length) r1 (by omega) hh gI (fun Im1 gI1 hB1 hlow1 => ?_)
        have l1' := cR_len g1
        refine hm2 I0 Jm k E R hM hT hk hE hE2 (i + L1.length) (h + 1) Im1 (fu + 1) r2 (by omega) (by omega) gI1 (fun Im2 gI2 hB2 hlow2 => ?_)
        refine st_bin gI2 hk hE hE2 (by omega) (by omega) (by rw [Nat.add_assoc]; exact r3) (by omega) (by omega) (.inl ⟨.inl rfl, hb1, hb2⟩) ((hlow2 h (by omega)).trans hB1) hB2 ?_
        rw [show i + L1.length + L2.length + 1 = i + (L1.length + L2.length + 1) by omega]
        refine K _ gI2.set (u2_self _ _ _ _) (fun x hx => ?_)
        rw [u2_ne _ _ (Or.inr (by omega)), hlow2 x (by omega)]; exact hlow1 x hx
    · obtain ⟨b1, hb1, hx1, hm1⟩ := ih c1 L1 g1
      obtain ⟨b2, hb2, hx2, hm2⟩ := ih c2 L2 g2
      have jl : jn 9 b1 b2 ≤ 1 := (by decide : ∀ x, x ≤ 1 → ∀ y, y ≤ 1 → jn 9 x y ≤ 1) b1 hb1 b2 hb2
      refine ⟨jn 9 b1 b2, jl, fun fu hfu Q hQ => ?_, fun I0 Jm k E R hM hT hk hE hE2 i h Im fu hr hlen hh gI K => ?_⟩
      · obtain ⟨fu', rfl⟩ : ∃ z, fu = z + 1 := ⟨fu - 1, by omega⟩
        unfold x_xcond x_xcond_b x_X20_holds
        refine .inr (.inr (.inr ⟨ho, ho, c1, e1, hx1 fu' (by omega) _ ?_⟩))
        refine pk_eq b1 0 (fun e => ⟨c2, e2, hx2 fu' (by omega) _ ?_⟩) (fun e => ?_) rfl rfl (by omega) (by decide)
        · rw [e, show jn 9 0 b2 = b2 from Nat.zero_max _] at hQ
          refine pk_eq b2 0 (fun e => ?_) (fun e => ?_) rfl rfl (by omega) (by decide)
          · rw [e] at hQ; exact hQ
          · rw [show b2 = 1 by omega] at hQ; exact hQ
        · have eb : jn 9 b1 b2 = 1 := by
            show max b1 b2 = 1
            omega
          rw [eb] at hQ
          exact hQ
      · obtain ⟨r12, r3, _⟩ := rowL.app (L1 ++ L2) [9] i hr
        obtain ⟨r1, r2⟩ := rowL.app L1 L2 i r12
        have el : (L1 ++ L2 ++ [9]).length = L1.length + L2.length + 1 := by simp; omega
        have el2 : (L1 ++ L2).length = L1.length + L2.length := by simp
        rw [el] at hlen K ⊢
        rw [el2] at r3
        rw [show fu + (L1.length + L2.length + 1) = fu + 1 + L2.length + L1.length by omega]
        refine hm1 I0 Jm k E R hM hT hk hE hE2 i h Im (fu + 1 + L2.length) r1 (by omega) hh gI (fun Im1 gI1 hB1 hlow1 => ?_)
        have l1' := cR_len g1
        refine hm2 I0 Jm k E R hM hT hk hE hE2 (i + L1.length) (h + 1) Im1 (fu + 1) r2 (by omega) (by omega) gI1 (fun Im2 gI2 hB2 hlow2 => ?_)
        refine st_bin gI2 hk hE hE2 (by omega) (by omega) (by rw [Nat.add_assoc]; exact r3) (by omega) (by omega) (.inl ⟨.inr rfl, hb1, hb2⟩) ((hlow2 h (by omega)).trans hB1) hB2 ?_
        rw [show i + L1.length + L2.length + 1 = i + (L1.length + L2.length + 1) by omega]
        refine K _ gI2.set (u2_self _ _ _ _) (fun x hx => ?_)
        rw [u2_ne _ _ (Or.inr (by omega)), hlow2 x (by omega)]; exact hlow1 x hx
/-! holds, and the clause -/
theorem rowL.map {f : Nat → Int32} {g : Nat → Nat} : ∀ n b, (∀ j, j < n → f (b + j) = nI (g (b + j))) → rowL f b ((List.range' b n).map g) := by
  intro n
  induction n with
  | zero => intro b _; exact trivial
  | succ n ih =>
    intro b h
    rw [List.range'_succ]
    exact ⟨h 0 (by omega), ih (b + 1) (fun j hj => by have := h (j + 1) (by omega); rw [show b + (j + 1) = b + 1 + j by omega] at this; exact this)⟩
