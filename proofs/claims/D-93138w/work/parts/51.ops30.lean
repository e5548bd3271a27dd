set_option maxRecDepth 100000
set_option maxHeartbeats 4000000
/-! PLAIN LAW, operations 30: values and comparisons on both sides -/
def vOK (T q : Nat) (B : Nat → Nat) (a b : Int32) (v q' : Nat) : Prop := (nOK T q B 999 ∧ a = 0 ∧ b = nI (nv T q B) ∧ v = 3000 + nv T q B ∧ q' = nq T B q) ∨ (∃ k, k < 2 ∧ wq T q B (wd k) ∧ nOK T (nq T B q) B 3 ∧ a = nI (k + 1) ∧ b = nI (nv T (nq T B q) B) ∧ v = 200 + 100 * k + nv T (nq T B q) B ∧ q' = nq T B (nq T B q)) ∨
  (∃ k, 2 ≤ k ∧ k < 6 ∧ wq T q B (wd k) ∧ a = nI (k + 1) ∧ b = 0 ∧ v = 98 + k ∧ q' = nq T B q)
def vBad (T q : Nat) (B : Nat → Nat) (p : Nat) : Prop := (kd T B q = 2 ∧ ¬ nOK T q B 999 ∧ p = q) ∨ (∃ k, k < 2 ∧ wq T q B (wd k) ∧ ¬ nOK T (nq T B q) B 3 ∧ p = nq T B q) ∨ (kd T B q ≠ 2 ∧ (∀ k, k < 6 → ¬ wq T q B (wd k)) ∧ p = q)
theorem v_cases (T q : Nat) (B : Nat → Nat) : (∃ a b v q', vOK T q B a b v q') ∨ ∃ p, vBad T q B p := by
  by_cases k2 : kd T B q = 2
  · by_cases n : nOK T q B 999
    · exact .inl ⟨_, _, _, _, .inl ⟨n, rfl, rfl, rfl, rfl⟩⟩
    · exact .inr ⟨_, .inl ⟨k2, n, rfl⟩⟩
  · by_cases e : ∃ k, k < 6 ∧ wq T q B (wd k)
    · obtain ⟨k, hk, w⟩ := e
      by_cases k1 : k < 2
      · by_cases n : nOK T (nq T B q) B 3
        · exact .inl ⟨_, _, _, _, .inr (.inl ⟨k, k1, w, n, rfl, rfl, rfl, rfl⟩)⟩
        · exact .inr ⟨_, .inr (.inl ⟨k, k1, w, n, rfl⟩)⟩
      · exact .inl ⟨_, _, _, _, .inr (.inr ⟨k, by omega, hk, w, rfl, rfl, rfl, rfl⟩)⟩
    · exact .inr ⟨_, .inr (.inr ⟨k2, fun k hk w => e ⟨k, hk, w⟩, rfl⟩)⟩
theorem vOK.val {T q v q' : Nat} {B : Nat → Nat} {a b : Int32} (h : vOK T q B a b v q') : valR a b v := by
  rcases h with ⟨n, rfl, rfl, rfl, _⟩ | ⟨k, k1, _, n, rfl, rfl, rfl, _⟩ | ⟨k, k1, k2, _, rfl, rfl, rfl, _⟩
  · exact .inl ⟨_, n.2.2, rfl, rfl, rfl⟩
  · rcases (show k = 0 ∨ k = 1 by omega) with rfl | rfl
    · exact .inr (.inl ⟨_, n.2.2, rfl, rfl, by omega⟩)
    · exact .inr (.inr (.inl ⟨_, n.2.2, rfl, rfl, by omega⟩))
  · exact .inr (.inr (.inr ⟨k - 2, by omega, by rw [show 3 + (k - 2) = k + 1 by omega], by omega⟩))
theorem nq_gt {T q : Nat} {B : Nat → Nat} (h : q < T) : q < nq T B q ∧ nq T B q ≤ T := by
  have a := te_le (B := B) (show q ≤ T by omega)
  have b := nq_le (B := B) (show q ≤ T by omega)
  omega
theorem vOK.le {T q v q' : Nat} {B : Nat → Nat} {a b : Int32} (h : vOK T q B a b v q') : q < T ∧ q < q' ∧ q' ≤ T := by
  rcases h with ⟨n, _, _, _, rfl⟩ | ⟨k, k1, w, n, _, _, _, rfl⟩ | ⟨k, k1, k2, w, _, _, _, rfl⟩
  · have z := (kd_2 n.1).1
    have y := nq_gt (B := B) z
    omega
  · have z := (wq_kd (by omega) (by omega) (by omega) w).1
    have y := nq_gt (B := B) z
    have z2 := (kd_2 n.1).1
    have y2 := nq_gt (B := B) z2
    omega
  · have z := (wq_kd (by omega) (by omega) (by omega) w).1
    have y := nq_gt (B := B) z
    omega
theorem vBad.le {T q p : Nat} {B : Nat → Nat} (hq : q ≤ T) (h : vBad T q B p) : p ≤ T := by
  rcases h with ⟨_, _, rfl⟩ | ⟨k, k1, w, n, rfl⟩ | ⟨_, _, rfl⟩
  · exact hq
  · exact (nq_le hq).2
  · exact hq
theorem ne_or {r k a b : Nat} (e : ¬ (r = a ∧ k = b)) : r ≠ a ∨ k ≠ b := by
  by_cases e1 : r = a
  · exact .inr (fun e2 => e ⟨e1, e2⟩)
  · exact .inl e1
theorem NF_9 {T : Nat} {B : Nat → Nat} {I : mI} {q o : Nat} {a b v : Int32} : u2 (NF T B I q o a b) 93 9 v = NF T B I q o v b := by
  funext r k
  by_cases e : r = 93 ∧ k = 9
  · rw [e.1, e.2, u2_self]; rfl
  · rw [u2_ne _ _ (ne_or e)]
    unfold NF
    by_cases er : r = 93
    · have ek : k ≠ 9 := fun e2 => e ⟨er, e2⟩
      simp only [if_pos er, if_neg ek]
    · simp only [if_neg er]
theorem NF_10 {T : Nat} {B : Nat → Nat} {I : mI} {q o : Nat} {a b v : Int32} : u2 (NF T B I q o a b) 93 10 v = NF T B I q o a v := by
  funext r k
  by_cases e : r = 93 ∧ k = 10
  · rw [e.1, e.2, u2_self]; rfl
  · rw [u2_ne _ _ (ne_or e)]
    unfold NF
    by_cases er : r = 93
    · have ek : k ≠ 10 := fun e2 => e ⟨er, e2⟩
      simp only [if_pos er, if_neg ek]
    · simp only [if_neg er]
theorem NF_7 {T : Nat} {B : Nat → Nat} {I : mI} {q o o' : Nat} {a b : Int32} : u2 (NF T B I q o a b) 93 7 (nI o') = NF T B I q o' a b := by
  funext r k
  by_cases e : r = 93 ∧ k = 7
  · rw [e.1, e.2, u2_self]; rfl
  · rw [u2_ne _ _ (ne_or e)]
    unfold NF
    by_cases er : r = 93
    · have ek : k ≠ 7 := fun e2 => e ⟨er, e2⟩
      simp only [if_pos er, if_neg ek]
    · simp only [if_neg er]
theorem x_value_lp {T q o : Nat} {B : Nat → Nat} {s : xS} {rd : xRd} {J : mJ} {I : mI} {a b : Int32} {QX : Nat → mI → Prop} {Q : mI → Prop} (h : xb T B rd I) (hT : T ≤ 200) (hq : q ≤ T)
    (h1 : ∀ k, k < 6 → wq T q B (wd k) → x_X7_value_j58 QX Q (nI (k + 1)) s rd J (NF T B I q o a b)) (h0 : (∀ k, k < 6 → ¬ wq T q B (wd k)) → x_X7_value_j58 QX Q 0 s rd J (NF T B I q o a b)) : ∀ j n, j < n → j ≤ 6 → (∀ k, j ≤ k → k < 6 → ¬ wq T q B (wd k)) → x_X7_value_l33 QX Q n (nI j) s rd J (NF T B I q o a b) := by
  intro j
  induction j with
  | zero =>
    intro n hn _ g
    rw [show n = (n - 1) + 1 by omega]
    unfold x_X7_value_l33
    exact br_t (by decide) (h0 (fun k hk => g k (Nat.zero_le _) hk))
  | succ j ih =>
    intro n hn hj g
    rw [show n = (n - 1) + 1 by omega]
    unfold x_X7_value_l33
    rw [nI_pred, pk_m1, nI_clamp (by omega)]
    refine br_f (nI_nle (by omega) (by omega)) ⟨vp_in_nI (by omega) (by decide), j, h.2.2.2 j (by omega), x_isWord_s h.xs hT hq (by omega) (fun w => br_f (by decide) (h1 j (by omega) w)) (fun nw => br_t rfl (ih (n - 1) (by omega) (by omega) (fun k k1 k2 => ?_)))⟩
    by_cases e : k = j
    · rw [e]; exact nw
    · exact g k (by omega) k2
theorem x_value_st {T q o : Nat} {B : Nat → Nat} {s : xS} {rd : xRd} {J : mJ} {I : mI} {a b : Int32} {QX : Nat → mI → Prop} {Q : mI → Prop} (h : xb T B rd I) (hT : T ≤ 200) (hq : q ≤ T)
    (h2 : kd T B q = 2 → x_X7_number 999 s rd J (NF T B I q o 0 b) (fun c I => QX c I) (fun r I => Q (u2 I 93 10 r)))
    (h1 : ∀ k, k < 6 → wq T q B (wd k) → x_X7_value_j58 QX Q (nI (k + 1)) s rd J (NF T B I q o a b)) (h0 : kd T B q ≠ 2 → (∀ k, k < 6 → ¬ wq T q B (wd k)) → x_X7_value_j58 QX Q 0 s rd J (NF T B I q o a b)) : x_X7_value s rd J (NF T B I q o a b) QX Q := by
  obtain ⟨a1, a2, a3, a4, a5⟩ := h.xs (q := q) (o := o) (a := a) (b := b)
  unfold x_X7_value
  have lp : kd T B q ≠ 2 → ∃ n0, x_X7_value_l33 QX Q n0 6 s rd J (NF T B I q o a b) := fun k2 => ⟨7, x_value_lp h hT hq h1 (h0 k2) 6 7 (by decide) (by decide) (fun k h1 h2 => absurd h2 (by omega))⟩
  refine x_here_s hT hq a1 a2 a3 a4 (fun lt => x_isDigit_s (a3 q lt).1 (fun hd => br_f (by decide) ?_) (fun hd => br_t rfl (lp (fun z => ?_)))) (fun ge => ?_)
  · rw [NF_9]
    exact h2 (te_D lt (cDL hd) hd).2
  · rw [(kd_2 z).2.2] at hd
    exact absurd hd (by decide)
  · unfold x_X7_isDigit
    exact br_t (by decide) (br_t rfl (lp (fun z => ge (kd_2 z).1)))
theorem x_value_ok {T q o v q' : Nat} {B : Nat → Nat} {s : xS} {rd : xRd} {J : mJ} {I : mI} {a b a' b' : Int32} {QX : Nat → mI → Prop} {Q : mI → Prop} (h : xb T B rd I) (hT : T ≤ 200) (hq : q ≤ T) (hv : vOK T q B a' b' v q') (K : Q (NF T B I q' o a' b')) : x_X7_value s rd J (NF T B I q o a b) QX Q := by
  refine x_value_st h hT hq (fun k2 => ?_) (fun k hk w => ?_) (fun k2 nw => ?_)
  · rcases hv with ⟨n, rfl, rfl, rfl, rfl⟩ | ⟨k, k1, w, _⟩ | ⟨k, k1, k3, w, _⟩
    · refine x_number_n (mx := 999) h hT hq (by decide) (fun _ => ?_) (fun z => absurd n z)
      rw [NF_10]
      exact K
    · exact absurd ((wq_kd (by omega) (by omega) (by omega) w).2.2.symm.trans k2) (by decide)
    · exact absurd ((wq_kd (by omega) (by omega) (by omega) w).2.2.symm.trans k2) (by decide)
  · unfold x_X7_value_j58 x_X7_value_j68 x_X7_need
    refine br_f (nI_nle (by omega) (by omega)) (br_f (by decide) (x_next_n h hT hq ?_))
    rw [NF_9, NF_10]
    rcases hv with ⟨n, _⟩ | ⟨k', k1, w', n, rfl, rfl, rfl, rfl⟩ | ⟨k', k1, k3, w', rfl, rfl, rfl, rfl⟩
    · exact absurd ((wq_kd (by omega) (by omega) (by omega) w).2.2.symm.trans n.1) (by decide)
    · have e := wq_uniq (by omega) (by omega) w w'
      subst e
      refine pk_lt 2 (k + 1) (fun gt => absurd gt (by omega)) (fun _ => x_number_n (mx := 3) h hT (nq_le hq).2 (by decide) (fun _ => ?_) (fun z => absurd n z)) rfl rfl (by decide) (by omega)
      rw [NF_10]
      exact K
    · have e := wq_uniq (by omega) (by omega) w w'
      subst e
      exact pk_lt 2 (k + 1) (fun _ => K) (fun le => absurd le (by omega)) rfl rfl (by decide) (by omega)
  · rcases hv with ⟨n, _⟩ | ⟨k', k1, w', _⟩ | ⟨k', k1, k3, w', _⟩
    · exact absurd n.1 k2
    · exact absurd w' (nw k' (by omega))
    · exact absurd w' (nw k' (by omega))
theorem x_value_bad {T q o p : Nat} {B : Nat → Nat} {s : xS} {rd : xRd} {J : mJ} {I : mI} {a b : Int32} (h : xb T B rd I) (hT : T ≤ 200) (hq : q ≤ T) (hv : vBad T q B p) : ∃ a' b', ∀ (QX : Nat → mI → Prop) (Q : mI → Prop), QX 2 (FH T B I p o a' b') → x_X7_value s rd J (NF T B I q o a b) QX Q := by
  rcases hv with ⟨k2, n, rfl⟩ | ⟨k, k1, w, n, rfl⟩ | ⟨k2, nw, rfl⟩
  · refine ⟨0, b, fun QX Q K => x_value_st h hT hq (fun _ => x_number_n (mx := 999) h hT hq (by decide) (fun z => absurd z n) (fun _ => K)) (fun k hk w => ?_) (fun z _ => absurd k2 z)⟩
    exact absurd ((wq_kd (by omega) (by omega) (by omega) w).2.2.symm.trans k2) (by decide)
  · refine ⟨nI (k + 1), b, fun QX Q K => x_value_st h hT hq (fun k2 => ?_) (fun k' hk w' => ?_) (fun _ nw => absurd w (nw k (by omega)))⟩
    · exact absurd ((wq_kd (by omega) (by omega) (by omega) w).2.2.symm.trans k2) (by decide)
    · have e := wq_uniq (by omega) (by omega) w' w
      subst e
      unfold x_X7_value_j58 x_X7_value_j68 x_X7_need
      refine br_f (nI_nle (by omega) (by omega)) (br_f (by decide) (x_next_n h hT hq ?_))
      rw [NF_9]
      exact pk_lt 2 (k' + 1) (fun gt => absurd gt (by omega)) (fun _ => x_number_n (mx := 3) h hT (nq_le hq).2 (by decide) (fun z => absurd z n) (fun _ => K)) rfl rfl (by decide) (by omega)
  · refine ⟨a, b, fun QX Q K => x_value_st h hT hq (fun z => absurd z k2) (fun k hk w => absurd w (nw k hk)) (fun _ _ => ?_)⟩
    unfold x_X7_value_j58 x_X7_value_j68
    exact br_t (by decide) (x_need_n K)
/-! the model's -/
def fl (I : mI) (F : List Nat) : Prop := I 0 49 = nI F.length ∧ ∀ i, i < F.length → I 20 i = nI (F.getD i 0)
def eN (I : mI) (J : mJ) (I' : mI) (J' : mJ) : Prop := (∀ r, r ≠ 0 → r ≠ 20 → I' r = I r) ∧ (∀ k, k ≠ 40 → k ≠ 41 → k ≠ 42 → k ≠ 44 → k ≠ 49 → I' 0 k = I 0 k) ∧ ∀ r, r ≠ 0 → J' r = J r
theorem mN.eN {I I' : mI} {J J' : mJ} (h : mN I J I' J') : @@N@@.eN I J I' J' := ⟨fun r h0 _ => h.1 r h0, fun k h0 h1 h2 _ _ => h.2.1 k h0 h1 h2, h.2.2⟩
theorem eN.trans {I I' I2 : mI} {J J' J2 : mJ} (h : eN I J I' J') (g : eN I' J' I2 J2) : eN I J I2 J2 := ⟨fun r h0 h1 => (g.1 r h0 h1).trans (h.1 r h0 h1), fun k h0 h1 h2 h3 h4 => (g.2.1 k h0 h1 h2 h3 h4).trans (h.2.1 k h0 h1 h2 h3 h4), fun r hr => (g.2.2 r hr).trans (h.2.2 r hr)⟩
theorem eN.rfl' {I : mI} {J : mJ} : eN I J I J := ⟨fun _ _ _ => rfl, fun _ _ _ _ _ _ => rfl, fun _ _ => rfl⟩
theorem ms.to {T q : Nat} {B : Nat → Nat} {I I' : mI} {J J' : mJ} (h : ms T q B I J) (g : ∀ k, 39 ≤ k → k ≤ 42 → I' 0 k = I 0 k) (g19 : I' 19 = I 19) (gj : J' 0 43 = J 0 43) : ms T q B I' J' := by
  unfold ms
  rw [g 39 (by omega) (by omega), g 40 (by omega) (by omega), g 41 (by omega) (by omega), g 42 (by omega) (by omega), g19, gj]
  exact h
theorem fl.to {I I' : mI} {F : List Nat} (h : fl I F) (g : I' 0 49 = I 0 49) (g20 : I' 20 = I 20) : fl I' F := by
  unfold fl
  rw [g, g20]
  exact h
theorem getD_app_l {F G : List Nat} {i : Nat} (h : i < F.length) : (F ++ G).getD i 0 = F.getD i 0 := by rw [List.getD_eq_getElem?_getD, List.getD_eq_getElem?_getD, List.getElem?_append_left h]
theorem getD_app_e {F : List Nat} {v : Nat} : (F ++ [v]).getD F.length 0 = v := by
  rw [List.getD_eq_getElem?_getD, List.getElem?_append_right (Nat.le_refl _), Nat.sub_self]
  rfl
theorem m_emit_s {v : Nat} {F : List Nat} {I : mI} {J : mJ} {Q : mI → mJ → Prop} (hf : fl I F) (h : F.length < 210) (K : ∀ I', eN I J I' J → (∀ k, k ≠ 49 → I' 0 k = I 0 k) → fl I' (F ++ [v]) → Q I' J) : m_emit (nI v) I J Q := by
  unfold m_emit
  rw [hf.1, nI_clamp (by omega), nI_1]
  refine ⟨vp_in_nI h (by decide), K _ ⟨fun r h0 h20 => by rw [u2r h0, u2r h20], fun k h0 h1 h2 h3 h4 => by rw [u2_ne _ _ (Or.inr h4), u2r (by decide)], fun _ _ => rfl⟩ (fun k h4 => by rw [u2_ne _ _ (Or.inr h4), u2r (by decide)]) ⟨by rw [u2_self, List.length_append]; rfl, fun i hi => ?_⟩⟩
  rw [List.length_append] at hi
  have hi' : i < F.length + 1 := hi
  rw [u2r (by decide)]
  by_cases e : i = F.length
  · rw [e, u2_self, getD_app_e]
  · rw [u2_ne _ _ (Or.inr e), getD_app_l (by omega)]
    exact hf.2 i (by omega)
theorem m_wordHere_k {T q k : Nat} {B : Nat → Nat} {I : mI} {J : mJ} {Q : Int32 → mI → mJ → Prop} (hs : ms T q B I J) (h2 : 2 ≤ k) (h6 : k < 6) (w : wq T q B (wd k)) (K : Q (nI (98 + k)) I J) : m_wordHere I J Q := by
  have no : ∀ j, j < 13 → j ≠ k → wq T q B (wd j) → False := fun j hj ne z => ne (wq_uniq hj (by omega) z w)
  unfold m_wordHere
  refine m_isWord_s (k := 2) (h := 13467145) hs (by decide) (by decide) (by decide) rfl (by decide +kernel) (fun z => br_f (by decide) ?_) (fun z2 => br_t rfl ?_)
  · have e := wq_uniq (by decide) (by omega) z w
    subst e
    exact K
  refine m_isWord_s (k := 3) (h := 240023) hs (by decide) (by decide) (by decide) rfl (by decide +kernel) (fun z => br_f (by decide) ?_) (fun z3 => br_t rfl ?_)
  · have e := wq_uniq (by decide) (by omega) z w
    subst e
    exact K
  refine m_isWord_s (k := 4) (h := 5528) hs (by decide) (by decide) (by decide) rfl (by decide +kernel) (fun z => br_f (by decide) ?_) (fun z4 => br_t rfl ?_)
  · have e := wq_uniq (by decide) (by omega) z w
    subst e
    exact K
  refine m_isWord_s (k := 5) (h := 161600) hs (by decide) (by decide) (by decide) rfl (by decide +kernel) (fun z => br_f (by decide) ?_) (fun z5 => ?_)
  · have e := wq_uniq (by decide) (by omega) z w
    subst e
    exact K
  · rcases (show k = 2 ∨ k = 3 ∨ k = 4 ∨ k = 5 by omega) with rfl | rfl | rfl | rfl
    · exact absurd w z2
    · exact absurd w z3
    · exact absurd w z4
    · exact absurd w z5
theorem m_wordHere_0 {T q : Nat} {B : Nat → Nat} {I : mI} {J : mJ} {Q : Int32 → mI → mJ → Prop} (hs : ms T q B I J) (h : ∀ k, 2 ≤ k → k < 6 → ¬ wq T q B (wd k)) (K : Q 0 I J) : m_wordHere I J Q := by
  unfold m_wordHere
  refine m_isWord_s (k := 2) (h := 13467145) hs (by decide) (by decide) (by decide) rfl (by decide +kernel) (fun z => absurd z (h 2 (by decide) (by decide))) (fun z2 => br_t rfl ?_)
  refine m_isWord_s (k := 3) (h := 240023) hs (by decide) (by decide) (by decide) rfl (by decide +kernel) (fun z => absurd z (h 3 (by decide) (by decide))) (fun z3 => br_t rfl ?_)
  refine m_isWord_s (k := 4) (h := 5528) hs (by decide) (by decide) (by decide) rfl (by decide +kernel) (fun z => absurd z (h 4 (by decide) (by decide))) (fun z4 => br_t rfl ?_)
  exact m_isWord_s (k := 5) (h := 161600) hs (by decide) (by decide) (by decide) rfl (by decide +kernel) (fun z => absurd z (h 5 (by decide) (by decide))) (fun z5 => br_t rfl K)
theorem m_food_s {T q : Nat} {B : Nat → Nat} {I : mI} {J : mJ} {Q : Int32 → mI → mJ → Prop} (hs : ms T q B I J) (h1 : wq T q B (wd 0) → Q 1 I J) (h0 : ¬ wq T q B (wd 0) → Q 0 I J) : m_isWord 129442 I J Q := m_isWord_s (k := 0) (h := 129442) hs (by decide) (by decide) (by decide) rfl (by decide +kernel) h1 h0
theorem m_miles_s {T q : Nat} {B : Nat → Nat} {I : mI} {J : mJ} {Q : Int32 → mI → mJ → Prop} (hs : ms T q B I J) (h1 : wq T q B (wd 1) → Q 1 I J) (h0 : ¬ wq T q B (wd 1) → Q 0 I J) : m_isWord 7094782 I J Q := m_isWord_s (k := 1) (h := 7094782) hs (by decide) (by decide) (by decide) rfl (by decide +kernel) h1 h0
theorem m_value_ok {T q v q' : Nat} {B : Nat → Nat} {F : List Nat} {I : mI} {J : mJ} {a b : Int32} {Q : mI → mJ → Prop} (hs : ms T q B I J) (hT : T ≤ 200) (hq : q ≤ T) (hg : I 0 44 = -1) (hf : fl I F) (hF : F.length < 210) (hv : vOK T q B a b v q') (K : ∀ I' J', eN I J I' J' → ms T q' B I' J' → I' 0 44 = -1 → fl I' (F ++ [v]) → Q I' J') : m_wantValue I J Q := by
  have g44 : ∀ {I1 : mI} {J1 : mJ}, mN I J I1 J1 → I1 0 44 = -1 := fun f => by rw [f.2.1 44 (by decide) (by decide) (by decide)]; exact hg
  have gf : ∀ {I1 I2 : mI} {J1 J2 : mJ}, mN I1 J1 I2 J2 → fl I1 F → fl I2 F := fun f x => x.to (f.2.1 49 (by decide) (by decide) (by decide)) (f.1 20 (by decide))
  -- what is told behind a number
  have em : ∀ (I1 : mI) (J1 : mJ) (c n : Nat), mN I J I1 J1 → ms T q' B I1 J1 → v = c + n → m_emit (nI c + nI n) I1 J1 (fun I2 J2 => Q I2 J2) := by
    intro I1 J1 c n f y e
    rw [nI_add, ← e]
    exact m_emit_s (gf f hf) hF (fun I2 z1 z2 z3 => K I2 J1 (f.eN.trans z1) (y.to (fun k h1 h2 => z2 k (by omega)) (z1.1 19 (by decide) (by decide)) rfl) (by rw [z2 44 (by decide)]; exact g44 f) z3)
  unfold m_wantValue m_wantValue_j43 m_wantValue_j67
  rcases hv with ⟨n, _, _, ev, eq'⟩ | ⟨k, k1, w, n, _, _, ev, eq'⟩ | ⟨k, k1, k3, w, _, _, ev, eq'⟩
  · have nw : ∀ k, k < 6 → ¬ wq T q B (wd k) := fun k hk w => absurd ((wq_kd (by omega) (by omega) (by omega) w).2.2.symm.trans n.1) (by decide)
    refine m_wordHere_0 hs (fun k _ hk => nw k hk) (m_food_s hs (fun z => absurd z (nw 0 (by decide))) (fun _ => br_t (by decide) (br_t rfl (m_miles_s hs (fun z => absurd z (nw 1 (by decide))) (fun _ => br_t rfl ?_)))))
    refine m_number_s (mx := 999) hs hT hq hg (by decide) (fun _ I1 J1 f y => ?_) (fun z => absurd n z)
    exact em I1 J1 3000 (nv T q B) f (by rw [eq']; exact y) ev
  · have nw : ∀ j, 2 ≤ j → j < 6 → ¬ wq T q B (wd j) := fun j h2 h6 z => by have := wq_uniq (by omega) (by omega) z w; omega
    refine m_wordHere_0 hs nw (m_food_s hs (fun z => ?_) (fun z => ?_))
    · have e := wq_uniq (by decide) (by omega) z w
      subst e
      refine br_t (by decide) (br_f (by decide) (hs.next hT hq (fun I1 J1 f y => m_number_s (mx := 3) y hT (nq_le hq).2 (g44 f) (by decide) (fun _ I2 J2 f2 y2 => br_f (by decide) ?_) (fun z => absurd n z))))
      exact em I2 J2 200 _ ⟨fun r h => (f2.1 r h).trans (f.1 r h), fun k h0 h1 h2 => (f2.2.1 k h0 h1 h2).trans (f.2.1 k h0 h1 h2), fun r h => (f2.2.2 r h).trans (f.2.2 r h)⟩ (by rw [eq']; exact y2) (by omega)
    · have e : k = 1 := by
        rcases (show k = 0 ∨ k = 1 by omega) with e | e
        · rw [e] at w; exact absurd w z
        · exact e
      subst e
      refine br_t (by decide) (br_t rfl (m_miles_s hs (fun _ => br_f (by decide) (hs.next hT hq (fun I1 J1 f y => m_number_s (mx := 3) y hT (nq_le hq).2 (g44 f) (by decide) (fun _ I2 J2 f2 y2 => br_t rfl ?_) (fun z => absurd n z)))) (fun z => absurd w z)))
      exact em I2 J2 300 _ ⟨fun r h => (f2.1 r h).trans (f.1 r h), fun k h0 h1 h2 => (f2.2.1 k h0 h1 h2).trans (f.2.1 k h0 h1 h2), fun r h => (f2.2.2 r h).trans (f.2.2 r h)⟩ (by rw [eq']; exact y2) (by omega)
  · have no : ∀ {A : Int32 → mI → mJ → Prop}, A 0 I J → m_isWord 129442 I J A := fun h => m_food_s hs (fun z => by have := wq_uniq (by decide) (by omega) z w; omega) (fun _ => h)
    refine m_wordHere_k hs k1 k3 w (no (br_f (nI_nle (by omega) (by omega)) ?_))
    refine m_emit_s hf hF (fun I2 z1 z2 z3 => ?_)
    refine ms.next (hs.to (fun k h1 h2 => z2 k (by omega)) (z1.1 19 (by decide) (by decide)) rfl) hT hq (fun I3 J3 f y => ?_)
    refine K I3 J3 (z1.trans f.eN) (by rw [eq']; exact y) (by rw [f.2.1 44 (by decide) (by decide) (by decide), z2 44 (by decide)]; exact hg) ?_
    rw [ev]
    exact z3.to (f.2.1 49 (by decide) (by decide) (by decide)) (f.1 20 (by decide))
/-- the model after a fault -/
theorem m_emit_b {x : Int32} {n : Nat} {I : mI} {J : mJ} {Q : mI → mJ → Prop} (hn : I 0 49 = nI n) (h : n < 210) (K : ∀ I', eN I J I' J → (∀ k, k ≠ 49 → I' 0 k = I 0 k) → I' 0 49 = nI (n + 1) → Q I' J) : m_emit x I J Q := by
  unfold m_emit
  rw [hn, nI_clamp (by omega), nI_1]
  exact ⟨vp_in_nI h (by decide), K _ ⟨fun r h0 h20 => by rw [u2r h0, u2r h20], fun k h0 h1 h2 h3 h4 => by rw [u2_ne _ _ (Or.inr h4), u2r (by decide)], fun _ _ => rfl⟩ (fun k h4 => by rw [u2_ne _ _ (Or.inr h4), u2r (by decide)]) (u2_self _ _ _ _)⟩
theorem m_value_bad {T q p n : Nat} {B : Nat → Nat} {I : mI} {J : mJ} {Q : mI → mJ → Prop} (hs : ms T q B I J) (hT : T ≤ 200) (hq : q ≤ T) (hg : I 0 44 = -1) (hn : I 0 49 = nI n) (hF : n < 210) (hv : vBad T q B p) (K : ∀ I' J', eN I J I' J' → ms T p B I' J' → I' 0 44 = nI p → I' 0 49 = nI (n + 1) → Q I' J') : m_wantValue I J Q := by
  have em : ∀ (I1 : mI) (J1 : mJ) (x : Int32), mN I J I1 J1 → ms T p B I1 J1 → m_emit x (u2 I1 0 44 (nI p)) J1 (fun I2 J2 => Q I2 J2) := by
    intro I1 J1 x f y
    refine m_emit_b (n := n) (by rw [u2_ne _ _ (Or.inr (by decide)), f.2.1 49 (by decide) (by decide) (by decide)]; exact hn) hF (fun I2 z1 z2 z3 => K I2 J1 ⟨fun r h0 h1 => ?_, fun k h0 h1 h2 h3 h4 => ?_, fun r hr => (z1.2.2 r hr).trans (f.2.2 r hr)⟩ (y.to (fun k h1 h2 => ?_) ?_ rfl) ?_ z3)
    · rw [z1.1 r h0 h1, u2r h0]; exact f.1 r h0
    · rw [z2 k h4, u2_ne _ _ (Or.inr h3)]; exact f.2.1 k h0 h1 h2
    · rw [z2 k (by omega), u2_ne _ _ (Or.inr (by omega))]
    · rw [z1.1 19 (by decide) (by decide), u2r (by decide)]
    · rw [z2 44 (by decide), u2_self]
  have f0 : mN I J I J := ⟨fun _ _ => rfl, fun _ _ _ _ => rfl, fun _ _ => rfl⟩
  unfold m_wantValue m_wantValue_j43 m_wantValue_j67
  rcases hv with ⟨k2, n1, rfl⟩ | ⟨k, k1, w, n1, rfl⟩ | ⟨k2, nw, rfl⟩
  · have nw : ∀ k, k < 6 → ¬ wq T p B (wd k) := fun k hk w => absurd ((wq_kd (by omega) (by omega) (by omega) w).2.2.symm.trans k2) (by decide)
    refine m_wordHere_0 hs (fun k _ hk => nw k hk) (m_food_s hs (fun z => absurd z (nw 0 (by decide))) (fun _ => br_t (by decide) (br_t rfl (m_miles_s hs (fun z => absurd z (nw 1 (by decide))) (fun _ => br_t rfl ?_)))))
    exact m_number_s (mx := 999) hs hT hq hg (by decide) (fun z => absurd z n1) (fun _ x => em I J _ f0 hs)
  · have nw : ∀ j, 2 ≤ j → j < 6 → ¬ wq T q B (wd j) := fun j h2 h6 z => by have := wq_uniq (by omega) (by omega) z w; omega
    have g44 : ∀ {I1 : mI} {J1 : mJ}, mN I J I1 J1 → I1 0 44 = -1 := fun f => by rw [f.2.1 44 (by decide) (by decide) (by decide)]; exact hg
    refine m_wordHere_0 hs nw (m_food_s hs (fun z => ?_) (fun z => ?_))
    · exact br_t (by decide) (br_f (by decide) (hs.next hT hq (fun I1 J1 f y => m_number_s (mx := 3) y hT (nq_le hq).2 (g44 f) (by decide) (fun z => absurd z n1) (fun _ x => br_f (by decide) (em I1 J1 _ f y)))))
    · have e : k = 1 := by
        rcases (show k = 0 ∨ k = 1 by omega) with e | e
        · rw [e] at w; exact absurd w z
        · exact e
      subst e
      exact br_t (by decide) (br_t rfl (m_miles_s hs (fun _ => br_f (by decide) (hs.next hT hq (fun I1 J1 f y => m_number_s (mx := 3) y hT (nq_le hq).2 (g44 f) (by decide) (fun z => absurd z n1) (fun _ x => br_t rfl (em I1 J1 _ f y))))) (fun z => absurd w z)))
  · refine m_wordHere_0 hs (fun k _ hk => nw k hk) (m_food_s hs (fun z => absurd z (nw 0 (by decide))) (fun _ => br_t (by decide) (br_t rfl (m_miles_s hs (fun z => absurd z (nw 1 (by decide))) (fun _ => br_t rfl ?_)))))
    exact m_number_s (mx := 999) hs hT hq hg (by decide) (fun z => absurd z.1 k2) (fun _ x => em I J _ f0 hs)
