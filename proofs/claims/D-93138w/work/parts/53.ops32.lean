set_option maxRecDepth 100000
set_option maxHeartbeats 4000000
/-! PLAIN LAW, operations 32: the model's reading, more steps -/
abbrev rp (k : Nat) : List Nat := List.replicate k 7
theorem rp_mem {k x : Nat} (h : x ∈ rp k) : x ≠ 10 ∧ x ≤ 7 := by
  have e := List.eq_of_mem_replicate h
  omega
theorem rp_len (k : Nat) : (rp k).length = k := List.length_replicate
theorem no2 {T q k j : Nat} {B : Nat → Nat} (hk : k < 13) (hj : j < 13) (ne : k ≠ j) (h : wq T q B (wd k)) : ¬ wq T q B (wd j) := fun g => ne (wq_uniq hk hj h g)
theorem s_ask {T o q q' v g w q1 k : Nat} {B : Nat → Nat} {I0 : mI} {J0 : mJ} {kk : kT} {W : WT} {F S : List Nat} {a1 b1 c a2 b2 : Int32} (hT : T ≤ 200) (hq : q ≤ T) (hl : F.length + S.length + k ≤ q) (hS : St S 7) (nw : ¬ wq T q B (wd 8)) (nm : ¬ mq T q B 40) (h1 : vOK T q B a1 b1 v q1) (hg : gm T q1 B c g) (h2 : vOK T (nq T B q1) B a2 b2 w q') (h : gW T B I0 J0 kk W o 1 q F (S ++ (rp k).reverse)) : gW T B I0 J0 kk W o 0 q' (F ++ [v, w, g] ++ rp k) S := by
  intro QM hh
  obtain ⟨N, n, hh⟩ := hh
  refine h QM ⟨N, n + 1, fun I J hM => ?_⟩
  have x1 := h1.le
  have ll : (S ++ (rp k).reverse).length = S.length + k := by rw [List.length_append, List.length_reverse, rp_len]
  have l3 : (F ++ [v, w, g]).length = F.length + 3 := by rw [List.length_append]; rfl
  unfold m_wantCond_l11
  refine br_f (by decide) (good_ms hM (br_f (by decide) (br_f (by decide) (m_not_s hM.2.1 (fun z => absurd z nw) (fun _ => br_t rfl (m_isMark_s (m := 40) hM.2.1 (by decide) rfl rfl (fun z => absurd z nm) (fun _ => br_t rfl ?_)))))))
  refine ask_ok hT hq (by rw [ll]; omega) h1 hg h2 hM (fun I' J' hM' => ?_)
  exact settle_s (a := 7) (by decide) hS (fun x hx => rp_mem hx) hM' (by rw [l3, rp_len]; omega) (fun I2 hM2 => hh I2 J' hM2)
theorem s_ask_f {T o q p k : Nat} {B : Nat → Nat} {I0 : mI} {J0 : mJ} {kk : kT} {W : WT} {F S : List Nat} (hT : T ≤ 200) (hq : q ≤ T) (hl : F.length + S.length + k ≤ q) (nw : ¬ wq T q B (wd 8)) (nm : ¬ mq T q B 40) (hb : aBad T q B p) (h : gW T B I0 J0 kk W o 1 q F (S ++ (rp k).reverse)) : gFt T I0 J0 kk W p := by
  intro QM hh
  obtain ⟨N, hh⟩ := hh
  refine h QM ⟨N, 2, fun I J hM => ?_⟩
  have ll : (S ++ (rp k).reverse).length = S.length + k := by rw [List.length_append, List.length_reverse, rp_len]
  rw [show (2 : Nat) = 1 + 1 from rfl]
  unfold m_wantCond_l11
  refine br_f (by decide) (good_ms hM (br_f (by decide) (br_f (by decide) (m_not_s hM.2.1 (fun z => absurd z nw) (fun _ => br_t rfl (m_isMark_s (m := 40) hM.2.1 (by decide) rfl rfl (fun z => absurd z nm) (fun _ => br_t rfl ?_)))))))
  refine ask_bad hT hq (by rw [ll]; omega) hb hM (fun I' J' hF => settle_ft hF (fun I2 hF2 => l11_ft (n := 0) hT hF2 (fun I3 hF3 => hh I3 J' hF3)))
theorem s_and {T o q : Nat} {B : Nat → Nat} {I0 : mI} {J0 : mJ} {kk : kT} {W : WT} {F S R : List Nat} (hT : T ≤ 200) (hq : q ≤ T) (hl : F.length + S.length + R.length ≤ q) (hS : St S 8) (hR : ∀ x, x ∈ R → x ≠ 10 ∧ x ≤ 8) (w : wq T q B (wd 10)) (h : gW T B I0 J0 kk W o 0 q F (S ++ R.reverse)) : gW T B I0 J0 kk W o 1 (nq T B q) (F ++ R) (S ++ [8]) := by
  intro QM hh
  obtain ⟨N, n, hh⟩ := hh
  refine h QM ⟨N, n + 1, fun I J hM => ?_⟩
  unfold m_wantCond_l11 m_wantCond_j113 m_wantCond_j130
  refine br_f (by decide) (good_ms hM (br_f (by decide) (br_t rfl (m_and_s hM.2.1 (fun _ => br_f (by decide) (m_and_s hM.2.1 (fun _ => br_f (by decide) ?_) (fun z => absurd w z))) (fun z => absurd w z)))))
  exact settle_s (a := 8) (by decide) hS hR hM (by omega) (fun I2 hM2 => hold_s (x := 8) hT hq hM2 (by omega) (fun I3 J3 hM3 => hh I3 J3 hM3))
theorem s_or {T o q : Nat} {B : Nat → Nat} {I0 : mI} {J0 : mJ} {kk : kT} {W : WT} {F S R : List Nat} (hT : T ≤ 200) (hq : q ≤ T) (hl : F.length + S.length + R.length ≤ q) (hS : St S 9) (hR : ∀ x, x ∈ R → x ≠ 10 ∧ x ≤ 9) (w : wq T q B (wd 11)) (h : gW T B I0 J0 kk W o 0 q F (S ++ R.reverse)) : gW T B I0 J0 kk W o 1 (nq T B q) (F ++ R) (S ++ [9]) := by
  intro QM hh
  obtain ⟨N, n, hh⟩ := hh
  refine h QM ⟨N, n + 1, fun I J hM => ?_⟩
  have na := no2 (by decide) (show 10 < 13 by decide) (by decide) w
  unfold m_wantCond_l11 m_wantCond_j113 m_wantCond_j130
  refine br_f (by decide) (good_ms hM (br_f (by decide) (br_t rfl (m_and_s hM.2.1 (fun z => absurd z na) (fun _ => br_t rfl (m_or_s hM.2.1 (fun _ => br_f (by decide) (m_and_s hM.2.1 (fun z => absurd z na) (fun _ => br_t rfl ?_))) (fun z => absurd w z)))))))
  exact settle_s (a := 9) (by decide) hS hR hM (by omega) (fun I2 hM2 => hold_s (x := 9) hT hq hM2 (by omega) (fun I3 J3 hM3 => hh I3 J3 hM3))
theorem MS.pop {T q x : Nat} {B : Nat → Nat} {I0 I : mI} {J0 J : mJ} {F S : List Nat} (h : MS T B I0 J0 q F (S ++ [x]) I J) (hl : S.length < 2 ^ 30) : MS T B I0 J0 q F S (u2 I 0 50 (I 0 50 - 1)) J := by
  refine ⟨⟨fun r a b c => by rw [u2r a]; exact h.1.1 r a b c, fun k a b c d e g => by rw [u2_ne _ _ (Or.inr g)]; exact h.1.2.1 k a b c d e g, h.1.2.2⟩, h.2.1.to (fun k h1 h2 => u2_ne _ _ (Or.inr (by omega))) (u2r (by decide)) rfl, by rw [u2_ne _ _ (Or.inr (by decide))]; exact h.2.2.1, h.2.2.2.1.to (u2_ne _ _ (Or.inr (by decide))) (u2r (by decide)), h.2.2.2.2.pop ?_ (u2r (by decide))⟩
  rw [u2_self, h.len.2, len1, nI_pred]
theorem s_close {T o q k : Nat} {B : Nat → Nat} {I0 : mI} {J0 : mJ} {kk : kT} {W : WT} {F S R : List Nat} (hT : T ≤ 200) (hq : q ≤ T) (ho : o < 3) (hl : F.length + S.length + k + 1 + R.length ≤ q) (hS : St S 7) (hR : ∀ x, x ∈ R → x ≠ 10 ∧ x ≤ 9) (na : ¬ wq T q B (wd 10)) (nb : ¬ wq T q B (wd 11)) (w : mq T q B 41) (h : gW T B I0 J0 kk W (o + 1) 0 q F (S ++ (rp k).reverse ++ [10] ++ R.reverse)) : gW T B I0 J0 kk W o 0 (nq T B q) (F ++ R ++ rp k) S := by
  intro QM hh
  obtain ⟨N, n, hh⟩ := hh
  refine h QM ⟨N, n + 1, fun I J hM => ?_⟩
  have ll : (S ++ (rp k).reverse).length = S.length + k := by rw [List.length_append, List.length_reverse, rp_len]
  unfold m_wantCond_l11
  rw [pk_m1]
  refine br_f (by decide) (good_ms hM (br_f (by decide) (br_t rfl (m_and_s hM.2.1 (fun z => absurd z na) (fun _ => br_t rfl (m_or_s hM.2.1 (fun z => absurd z nb) (fun _ => br_t rfl (br_f (nI_nle (by omega) (by omega)) ?_))))))))
  refine settle_s (a := 9) (by decide) (.inr ⟨_, 10, rfl, by decide, .inl rfl⟩) hR hM (by rw [len1, ll]; omega) (fun I2 hM2 => ?_)
  have hM3 := hM2.pop (by rw [ll]; omega)
  refine m_isMark_s (m := 41) hM3.2.1 (by decide) rfl rfl (fun _ => m_want_y hM3.2.1 hT hq hM3.2.2.1 (fun I4 J4 f y => ?_)) (fun z => absurd w z)
  have hM4 := hM3.mN f y
  exact settle_s (a := 7) (by decide) hS (fun x hx => rp_mem hx) hM4 (by rw [List.length_append, rp_len]; omega) (fun I5 hM5 => hh I5 J4 hM5)
theorem s_close_f {T o q k : Nat} {B : Nat → Nat} {I0 : mI} {J0 : mJ} {kk : kT} {W : WT} {F S R : List Nat} (hT : T ≤ 200) (hq : q ≤ T) (ho : o < 3) (hl : F.length + S.length + k + 1 + R.length ≤ q) (hR : ∀ x, x ∈ R → x ≠ 10 ∧ x ≤ 9) (na : ¬ wq T q B (wd 10)) (nb : ¬ wq T q B (wd 11)) (w : ¬ mq T q B 41) (h : gW T B I0 J0 kk W (o + 1) 0 q F (S ++ (rp k).reverse ++ [10] ++ R.reverse)) : gFt T I0 J0 kk W q := by
  intro QM hh
  obtain ⟨N, hh⟩ := hh
  refine h QM ⟨N, 2, fun I J hM => ?_⟩
  have ll : (S ++ (rp k).reverse).length = S.length + k := by rw [List.length_append, List.length_reverse, rp_len]
  rw [show (2 : Nat) = 1 + 1 from rfl]
  unfold m_wantCond_l11
  rw [pk_m1]
  refine br_f (by decide) (good_ms hM (br_f (by decide) (br_t rfl (m_and_s hM.2.1 (fun z => absurd z na) (fun _ => br_t rfl (m_or_s hM.2.1 (fun z => absurd z nb) (fun _ => br_t rfl (br_f (nI_nle (by omega) (by omega)) ?_))))))))
  refine settle_s (a := 9) (by decide) (.inr ⟨_, 10, rfl, by decide, .inl rfl⟩) hR hM (by rw [len1, ll]; omega) (fun I2 hM2 => ?_)
  have hM3 := hM2.pop (by rw [ll]; omega)
  refine m_isMark_s (m := 41) hM3.2.1 (by decide) rfl rfl (fun z => absurd z w) (fun _ => m_want_n hM3.2.1 hM3.2.2.1 ?_)
  exact settle_ft (hM3.ft hq (by rw [ll, List.length_append]; omega)) (fun I5 hF5 => l11_ft (n := 0) hT hF5 (fun I6 hF6 => hh I6 J hF6))
theorem s_end {T q : Nat} {B : Nat → Nat} {I0 : mI} {J0 : mJ} {kk : kT} {W : WT} {F S R : List Nat} (hT : T ≤ 200) (hq : q ≤ T) (hl : F.length + S.length + R.length ≤ q) (hS : St S 9) (hR : ∀ x, x ∈ R → x ≠ 10 ∧ x ≤ 9) (na : ¬ wq T q B (wd 10)) (nb : ¬ wq T q B (wd 11)) (h : gW T B I0 J0 kk W 0 0 q F (S ++ R.reverse)) : gEd T B I0 J0 kk W q (F ++ R) S := by
  intro QM hh
  obtain ⟨N, hh⟩ := hh
  refine h QM ⟨N, 2, fun I J hM => ?_⟩
  rw [show (2 : Nat) = 1 + 1 from rfl]
  unfold m_wantCond_l11
  refine br_f (by decide) (good_ms hM (br_f (by decide) (br_t rfl (m_and_s hM.2.1 (fun z => absurd z na) (fun _ => br_t rfl (m_or_s hM.2.1 (fun z => absurd z nb) (fun _ => br_t rfl (br_t (by decide) ?_))))))))
  unfold m_wantCond_l11 m_wantCond_j196
  exact br_t rfl (settle_s (a := 9) (by decide) hS hR hM (by omega) (fun I2 hM2 => hh I2 J hM2))
/-- the start -/
theorem s_start {T q : Nat} {B : Nat → Nat} {I0 : mI} {J0 : mJ} {kk : kT} {W : WT} {F : List Nat} (h : ∀ QM : Int32 → mI → mJ → Prop, (∃ N, ∀ I J, cF I0 J0 I J → ms T q B I J → I 0 44 = -1 → fl I F → m_wantCond I J (kk QM N)) → W QM) : gW T B I0 J0 kk W 0 1 q F [] := by
  intro QM hh
  obtain ⟨N, n, hh⟩ := hh
  refine h QM ⟨N, fun I J c y x f => ⟨n, ?_⟩⟩
  refine hh _ _ ⟨⟨fun r a b c' => by rw [u2r a]; exact c.1 r a b c', fun k a b c' d e g => by rw [u2_ne _ _ (Or.inr g)]; exact c.2.1 k a b c' d e g, c.2.2⟩, y.to (fun k h1 h2 => u2_ne _ _ (Or.inr (by omega))) (u2r (by decide)) rfl, by rw [u2_ne _ _ (Or.inr (by decide))]; exact x, f.to (u2_ne _ _ (Or.inr (by decide))) (u2r (by decide)), u2_self _ _ _ _, fun i hi => absurd hi (Nat.not_lt_zero _)⟩
