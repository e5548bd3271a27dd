set_option maxRecDepth 100000
set_option maxHeartbeats 4000000
/-! PLAIN LAW, operations 36: a clause read, both sides in lockstep -/
def kR (c : Nat) (a3 : Int32) : kT := fun QM N I33 J34 => m_isMark 59 I33 J34 (fun r35 I36 J37 => m_want r35 I36 J37 (fun I38 J39 => m_read_j112 QM (fun b0 I J => m_read_l21 QM N b0 I J) (nI c) a3 I38 J39))
def RM (T : Nat) (B : Nat → Nat) (I0 : mI) (J0 : mJ) (q : Nat) (F : List Nat) (I : mI) (J : mJ) : Prop := cF I0 J0 I J ∧ ms T q B I J ∧ I 0 44 = -1 ∧ fl I F
def FR (T : Nat) (I0 : mI) (J0 : mJ) (p : Nat) (I : mI) (J : mJ) : Prop := cF I0 J0 I J ∧ p ≤ T ∧ I 0 44 = nI p
def gR (T : Nat) (B : Nat → Nat) (I0 : mI) (J0 : mJ) (W : WT) (c q : Nat) (F : List Nat) : Prop := ∀ QM : Int32 → mI → mJ → Prop, (∃ N, ∀ I J, RM T B I0 J0 q F I J → m_read_l21 QM N (nI c) I J) → W QM
def gRF (T : Nat) (I0 : mI) (J0 : mJ) (W : WT) (p : Nat) : Prop := ∀ QM : Int32 → mI → mJ → Prop, (∀ I J, FR T I0 J0 p I J → QM ((-100) - nI p) (u2 I 0 39 0) J) → W QM
theorem good_fr {T p : Nat} {I0 I : mI} {J0 J : mJ} {Q : Int32 → mI → mJ → Prop} (hT : T ≤ 200) (h : FR T I0 J0 p I J) (K : Q 0 I J) : m_isGood I J Q := by
  unfold m_isGood
  have := h.2.1
  rw [h.2.2]
  exact br_t (nI_pos' (by omega)) K
theorem good_rm {T q : Nat} {B : Nat → Nat} {I0 I : mI} {J0 J : mJ} {F : List Nat} {Q : Int32 → mI → mJ → Prop} (h : RM T B I0 J0 q F I J) (K : Q 1 I J) : m_isGood I J Q := by
  unfold m_isGood
  rw [h.2.2.1]
  exact br_f (by decide) K
theorem RM.mN {T q q' : Nat} {B : Nat → Nat} {I0 I I' : mI} {J0 J J' : mJ} {F : List Nat} (h : RM T B I0 J0 q F I J) (f : @@N@@.mN I J I' J') (y : ms T q' B I' J') : RM T B I0 J0 q' F I' J' :=
  ⟨f.eN.cF h.1, y, by rw [f.2.1 44 (by decide) (by decide) (by decide)]; exact h.2.2.1, h.2.2.2.to (f.2.1 49 (by decide) (by decide) (by decide)) (f.1 20 (by decide))⟩
theorem RM.fr {T q p : Nat} {B : Nat → Nat} {I0 I : mI} {J0 J : mJ} {F : List Nat} (h : RM T B I0 J0 q F I J) (hp : p ≤ T) : FR T I0 J0 p (u2 I 0 44 (nI p)) J :=
  ⟨⟨fun r a b c => by rw [u2r a]; exact h.1.1 r a b c, fun k a b c d e g => by rw [u2_ne _ _ (Or.inr d)]; exact h.1.2.1 k a b c d e g, h.1.2.2⟩, hp, u2_self _ _ _ _⟩
theorem j142_fr {T p : Nat} {I0 I : mI} {J0 J : mJ} {a1 : Int32} {QM : Int32 → mI → mJ → Prop} (hT : T ≤ 200) (h : FR T I0 J0 p I J) (K : QM ((-100) - nI p) (u2 I 0 39 0) J) : m_read_j142 QM a1 I J := by
  unfold m_read_j142 m_isGood
  have := h.2.1
  have e : u2 I 0 39 0 0 44 = nI p := by rw [u2_ne _ _ (Or.inr (by decide))]; exact h.2.2
  rw [e]
  refine br_t (nI_pos' (by omega)) (br_t rfl ?_)
  rw [e]
  exact K
theorem l21_fr {T p n : Nat} {I0 I : mI} {J0 J : mJ} {a1 : Int32} {QM : Int32 → mI → mJ → Prop} (hT : T ≤ 200) (h : FR T I0 J0 p I J) (K : QM ((-100) - nI p) (u2 I 0 39 0) J) : m_read_l21 QM (n + 1) a1 I J := by
  unfold m_read_l21
  exact br_c (fun _ => j142_fr hT h K) (fun _ => good_fr hT h (br_t rfl (j142_fr hT h K)))
theorem j112_fr {T p n : Nat} {I0 I : mI} {J0 J : mJ} {a1 a3 : Int32} {QM : Int32 → mI → mJ → Prop} (hT : T ≤ 200) (h : FR T I0 J0 p I J) (K : QM ((-100) - nI p) (u2 I 0 39 0) J) : m_read_j112 QM (fun b0 I J => m_read_l21 QM (n + 1) b0 I J) a1 a3 I J := by
  unfold m_read_j112 m_read_j139
  exact good_fr hT h (br_t rfl (l21_fr hT h K))
theorem isMark_any {a : Int32} {I : mI} {J : mJ} {Q : Int32 → mI → mJ → Prop} (h : ∀ r, Q r I J) : m_isMark a I J Q := by
  unfold m_isMark
  exact br_c (fun _ => br_c (fun _ => h 1) (fun _ => h 0)) (fun _ => h 0)
theorem gFt.rf {T c p : Nat} {I0 : mI} {J0 : mJ} {W : WT} {a3 : Int32} (hT : T ≤ 200) (h : gFt T I0 J0 (kR c a3) W p) : gRF T I0 J0 W p := by
  intro QM hh
  refine h QM ⟨1, fun I J f => ?_⟩
  have fr : FR T I0 J0 p I J := ⟨f.1, f.2.1, f.2.2.1⟩
  have := f.2.1
  exact isMark_any (fun r => m_want_f (p := p) (by omega) f.2.2.1 (j112_fr (n := 0) hT fr (hh I J fr)))
theorem m_feed_w {T q : Nat} {B : Nat → Nat} {I : mI} {J : mJ} {Q : Int32 → mI → mJ → Prop} (hs : ms T q B I J) (h1 : wq T q B (wd 6) → Q 1 I J) (h0 : ¬ wq T q B (wd 6) → Q 0 I J) : m_isWord 121882 I J Q := m_isWord_s (k := 6) (h := 121882) hs (by decide) (by decide) (by decide) rfl (by decide +kernel) h1 h0
theorem m_go_w {T q : Nat} {B : Nat → Nat} {I : mI} {J : mJ} {Q : Int32 → mI → mJ → Prop} (hs : ms T q B I J) (h1 : wq T q B (wd 7) → Q 1 I J) (h0 : ¬ wq T q B (wd 7) → Q 0 I J) : m_isWord 204 I J Q := m_isWord_s (k := 7) (h := 204) hs (by decide) (by decide) (by decide) rfl (by decide +kernel) h1 h0
theorem kd_lt {T q : Nat} {B : Nat → Nat} (h : q < T) : ¬ nI (kd T B q) = 0 := by
  unfold kd
  rw [if_pos h]
  split
  · decide
  · split <;> decide
theorem r_feed {T q c : Nat} {B : Nat → Nat} {I0 : mI} {J0 : mJ} {W : WT} {F : List Nat} (hT : T ≤ 200) (hq : q ≤ T) (hc : c < 6) (w : wq T q B (wd 6)) (h : gR T B I0 J0 W c q F) : gW T B I0 J0 (kR c (-1)) W 0 1 (nq T B q) F [] := by
  have lt := (wq_kd (by decide) (by decide) (by decide) w).1
  refine s_start (fun QM hh => ?_)
  obtain ⟨N, hh⟩ := hh
  refine h QM ⟨N + 1, fun I J hM => ?_⟩
  unfold m_read_l21 m_read_j58 m_read_j69 m_read_j91
  rw [hM.2.1.2.2.2.2.1]
  refine br_f (kd_lt lt) (good_rm hM (br_f (by decide) (m_feed_w hM.2.1 (fun _ => br_f (by decide) (br_f (nI_ge (b := 6) hc (by decide)) ?_)) (fun z => absurd w z))))
  refine m_want_y hM.2.1 hT hq hM.2.2.1 (fun I' J' f y => ?_)
  have hM' := hM.mN f y
  exact good_rm hM' (br_f (by decide) (br_f (by decide) (good_rm hM' (br_f (by decide) (hh I' J' hM'.1 hM'.2.1 hM'.2.2.1 hM'.2.2.2)))))
theorem r_go {T q c : Nat} {B : Nat → Nat} {I0 : mI} {J0 : mJ} {W : WT} {F : List Nat} (hT : T ≤ 200) (hq : q ≤ T) (hc : c < 6) (w : wq T q B (wd 7)) (n3 : nOK T (nq T B q) B 3) (h : gR T B I0 J0 W c q F) : gW T B I0 J0 (kR c (nI (nv T (nq T B q) B))) W 0 1 (nq T B (nq T B q)) F [] := by
  have lt := (wq_kd (by decide) (by decide) (by decide) w).1
  have nf := no2 (by decide) (show 6 < 13 by decide) (by decide) w
  refine s_start (fun QM hh => ?_)
  obtain ⟨N, hh⟩ := hh
  refine h QM ⟨N + 1, fun I J hM => ?_⟩
  unfold m_read_l21 m_read_j58 m_read_j69 m_read_j91
  rw [hM.2.1.2.2.2.2.1]
  refine br_f (kd_lt lt) (good_rm hM (br_f (by decide) (m_feed_w hM.2.1 (fun z => absurd z nf) (fun _ => br_t rfl (m_go_w hM.2.1 (fun _ => br_f (by decide) (br_f (nI_ge (b := 6) hc (by decide)) ?_)) (fun z => absurd w z))))))
  refine m_want_y hM.2.1 hT hq hM.2.2.1 (fun I' J' f y => ?_)
  have hM' := hM.mN f y
  refine good_rm hM' (br_f (by decide) (br_t rfl (m_number_s (mx := 3) hM'.2.1 hT (nq_le hq).2 hM'.2.2.1 (by decide) (fun _ I2 J2 f2 y2 => ?_) (fun z => absurd n3 z))))
  have hM2 := hM'.mN f2 y2
  exact good_rm hM2 (br_f (by decide) (hh I2 J2 hM2.1 hM2.2.1 hM2.2.2.1 hM2.2.2.2))
theorem r_go_f {T q c : Nat} {B : Nat → Nat} {I0 : mI} {J0 : mJ} {W : WT} {F : List Nat} (hT : T ≤ 200) (hq : q ≤ T) (hc : c < 6) (w : wq T q B (wd 7)) (n3 : ¬ nOK T (nq T B q) B 3) (h : gR T B I0 J0 W c q F) : gRF T I0 J0 W (nq T B q) := by
  have lt := (wq_kd (by decide) (by decide) (by decide) w).1
  have nf := no2 (by decide) (show 6 < 13 by decide) (by decide) w
  intro QM hh
  refine h QM ⟨2, fun I J hM => ?_⟩
  rw [show (2 : Nat) = 1 + 1 from rfl]
  unfold m_read_l21 m_read_j58 m_read_j69 m_read_j91
  rw [hM.2.1.2.2.2.2.1]
  refine br_f (kd_lt lt) (good_rm hM (br_f (by decide) (m_feed_w hM.2.1 (fun z => absurd z nf) (fun _ => br_t rfl (m_go_w hM.2.1 (fun _ => br_f (by decide) (br_f (nI_ge (b := 6) hc (by decide)) ?_)) (fun z => absurd w z))))))
  refine m_want_y hM.2.1 hT hq hM.2.2.1 (fun I' J' f y => ?_)
  have hM' := hM.mN f y
  refine good_rm hM' (br_f (by decide) (br_t rfl (m_number_s (mx := 3) hM'.2.1 hT (nq_le hq).2 hM'.2.2.1 (by decide) (fun z => absurd z n3) (fun _ x => ?_))))
  have fr := hM'.fr (nq_le (B := B) hq).2
  exact good_fr hT fr (br_t rfl (j112_fr (n := 0) hT fr (hh _ _ fr)))
theorem r_none {T q c : Nat} {B : Nat → Nat} {I0 : mI} {J0 : mJ} {W : WT} {F : List Nat} (hT : T ≤ 200) (lt : q < T) (hc : c ≤ 6) (w : c = 6 ∨ (¬ wq T q B (wd 6) ∧ ¬ wq T q B (wd 7))) (h : gR T B I0 J0 W c q F) : gRF T I0 J0 W q := by
  intro QM hh
  refine h QM ⟨2, fun I J hM => ?_⟩
  rw [show (2 : Nat) = 1 + 1 from rfl]
  have j68 : ∀ a2, m_read_j68 QM (fun b0 I J => m_read_l21 QM 1 b0 I J) (nI c) a2 I J := by
    intro a2
    unfold m_read_j68 m_read_j69 m_read_j91
    have fr := hM.fr (show q ≤ T by omega)
    refine m_want_n hM.2.1 hM.2.2.1 (good_fr hT fr (br_t rfl (good_fr hT fr (br_t rfl (j112_fr (n := 0) hT fr (hh _ _ fr))))))
  have j58 : ∀ a2, c = 6 → m_read_j58 QM (fun b0 I J => m_read_l21 QM 1 b0 I J) (nI c) a2 I J := by
    intro a2 e
    unfold m_read_j58
    exact br_t (by rw [e]; decide) (j68 a2)
  unfold m_read_l21
  rw [hM.2.1.2.2.2.2.1]
  refine br_f (kd_lt lt) (good_rm hM (br_f (by decide) (m_feed_w hM.2.1 (fun z => br_f (by decide) (j58 _ ?_)) (fun _ => br_t rfl (m_go_w hM.2.1 (fun z => br_f (by decide) (j58 _ ?_)) (fun _ => br_t rfl (j68 _)))))))
  · rcases w with e | ⟨n1, _⟩
    · exact e
    · exact absurd z n1
  · rcases w with e | ⟨_, n1⟩
    · exact e
    · exact absurd z n1
theorem r_semi {T q c : Nat} {B : Nat → Nat} {I0 : mI} {J0 : mJ} {W : WT} {F : List Nat} {a3 : Int32} (hT : T ≤ 200) (hq : q ≤ T) (hc : c < 6) (w : mq T q B 59) (h : gEd T B I0 J0 (kR c a3) W q F []) : gR T B (u2 (u2 I0 22 c (nI F.length)) 23 c a3) J0 W (c + 1) (nq T B q) F := by
  intro QM hh
  obtain ⟨N, hh⟩ := hh
  refine h QM ⟨N, fun I J hM => ?_⟩
  unfold kR m_read_j112 m_read_j139
  refine m_isMark_s (m := 59) hM.2.1 (by decide) rfl rfl (fun _ => m_want_y hM.2.1 hT hq hM.2.2.1 (fun I' J' f y => ?_)) (fun z => absurd w z)
  have hM' := hM.mN f y
  refine good_ms hM' (br_f (by decide) ?_)
  rw [hM'.len.1, nI_clamp (by omega), nI_1]
  have v : vp_in (nI c) 6 := vp_in_nI hc (by decide)
  refine ⟨v, v, hh _ _ ⟨⟨fun r a b d => ?_, fun k a b d e g i => ?_, hM'.1.2.2⟩, hM'.2.1.to (fun k h1 h2 => by rw [u2r (by decide), u2r (by decide)]) (by rw [u2r (by decide), u2r (by decide)]) rfl, ?_, hM'.2.2.2.1.to (by rw [u2r (by decide), u2r (by decide)]) (by rw [u2r (by decide), u2r (by decide)])⟩⟩
  · funext k
    by_cases e1 : r = 23 ∧ k = c
    · rw [e1.1, e1.2, u2_self, u2_self]
    · rw [u2_ne _ _ (ne_or e1), u2_ne _ _ (ne_or e1)]
      by_cases e2 : r = 22 ∧ k = c
      · rw [e2.1, e2.2, u2_self, u2_self]
      · rw [u2_ne _ _ (ne_or e2), u2_ne _ _ (ne_or e2), hM'.1.1 r a b d]
  · rw [u2r (by decide), u2r (by decide), u2r (by decide), u2r (by decide)]
    exact hM'.1.2.1 k a b d e g i
  · rw [u2r (by decide), u2r (by decide)]
    exact hM'.2.2.1
theorem r_semi_f {T q c : Nat} {B : Nat → Nat} {I0 : mI} {J0 : mJ} {W : WT} {F : List Nat} {a3 : Int32} (hT : T ≤ 200) (hq : q ≤ T) (w : ¬ mq T q B 59) (h : gEd T B I0 J0 (kR c a3) W q F []) : gRF T I0 J0 W q := by
  intro QM hh
  refine h QM ⟨1, fun I J hM => ?_⟩
  unfold kR
  refine m_isMark_s (m := 59) hM.2.1 (by decide) rfl rfl (fun z => absurd z w) (fun _ => m_want_n hM.2.1 hM.2.2.1 ?_)
  have fr : FR T I0 J0 q (u2 I 0 44 (nI q)) J := RM.fr (B := B) (F := F) ⟨hM.1, hM.2.1, hM.2.2.1, hM.2.2.2.1⟩ hq
  exact j112_fr (n := 0) hT fr (hh _ _ fr)
/-- the copies at the end -/
theorem r_end {T q c : Nat} {B : Nat → Nat} {I0 : mI} {J0 : mJ} {W : WT} {F : List Nat} (hT : T ≤ 200) (ge : ¬ q < T) (hc : c ≤ 6) (hF : F.length ≤ 200) (h : gR T B I0 J0 W c q F) : ∀ QM : Int32 → mI → mJ → Prop, (∀ I J, (∀ r, r ≠ 0 → r ≠ 4 → r ≠ 5 → r ≠ 6 → r ≠ 20 → r ≠ 21 → I r = I0 r) → (∀ k, k ≠ 10 → k ≠ 39 → k ≠ 40 → k ≠ 41 → k ≠ 42 → k ≠ 44 → k ≠ 49 → k ≠ 50 → I 0 k = I0 0 k) → I 0 39 = 0 → I 0 10 = nI c → (∀ r, r ≠ 0 → J r = J0 r) → (∀ k, I 4 k = if k < c then I0 22 k else I0 4 k) → (∀ k, I 5 k = if k < c then I0 23 k else I0 5 k) → (∀ k, I 6 k = if k < F.length then nI (F.getD k 0) else I0 6 k) → QM (nI c) I J) → W QM := by
  intro QM K
  refine h QM ⟨1, fun I J hM => ?_⟩
  unfold m_read_l21
  rw [hM.2.1.2.2.2.2.1, (te_E ge).2]
  refine br_t rfl ?_
  unfold m_read_j142 m_isGood
  have e44 : u2 I 0 39 0 0 44 = -1 := by rw [u2_ne _ _ (Or.inr (by decide))]; exact hM.2.2.1
  rw [e44]
  refine br_f (by decide) (br_f (by decide) ⟨c + 1, ?_⟩)
  have l206 : ∀ n i I1, F.length - i < n → i ≤ F.length → (∀ r, r ≠ 6 → I1 r = I r ∨ True) → I1 0 49 = nI F.length → (∀ j, j < F.length → I1 20 j = nI (F.getD j 0)) → (∀ I2, (∀ r, r ≠ 6 → I2 r = I1 r) → (∀ k, I2 6 k = if i ≤ k ∧ k < F.length then nI (F.getD k 0) else I1 6 k) → QM (nI c) I2 J) → m_read_l206 QM n (nI c) (nI i) I1 J := by
    intro n
    induction n with
    | zero => intro i I1 g; exact absurd g (Nat.not_lt_zero _)
    | succ n ih =>
      intro i I1 g1 g2 _ x49 x20 K2
      unfold m_read_l206
      rw [x49, nI_1]
      refine pk_le F.length i (fun le => K2 I1 (fun _ _ => rfl) (fun k => by rw [if_neg (by omega)])) (fun lt => ?_) rfl rfl (by omega) (by omega)
      have v : vp_in (nI i) 210 := vp_in_nI (by omega) (by decide)
      rw [nI_clamp (by omega), x20 i lt]
      refine ⟨v, v, ih (i + 1) _ (by omega) (by omega) (fun _ _ => .inr trivial) (by rw [u2r (by decide)]; exact x49) (fun j hj => by rw [u2r (by decide)]; exact x20 j hj) (fun I2 y1 y2 => K2 I2 (fun r hr => by rw [y1 r hr, u2r hr]) (fun k => ?_))⟩
      rw [y2 k]
      by_cases e : k = i
      · rw [e, if_neg (by omega), u2_self, if_pos (by omega)]
      · rw [u2_ne _ _ (Or.inr e)]
        by_cases e2 : i + 1 ≤ k ∧ k < F.length
        · rw [if_pos e2, if_pos (by omega)]
        · rw [if_neg e2, if_neg (by omega)]
  have l169 : ∀ n i I1, c - i < n → i ≤ c → I1 0 49 = nI F.length → (∀ j, j < F.length → I1 20 j = nI (F.getD j 0)) → (∀ I2, (∀ r, r ≠ 4 → r ≠ 5 → r ≠ 6 → I2 r = I1 r) → (∀ k, I2 4 k = if i ≤ k ∧ k < c then I1 22 k else I1 4 k) → (∀ k, I2 5 k = if i ≤ k ∧ k < c then I1 23 k else I1 5 k) → (∀ k, I2 6 k = if k < F.length then nI (F.getD k 0) else I1 6 k) → QM (nI c) I2 J) → m_read_l169 QM n (nI c) (nI i) I1 J := by
    intro n
    induction n with
    | zero => intro i I1 g; exact absurd g (Nat.not_lt_zero _)
    | succ n ih =>
      intro i I1 g1 g2 x49 x20 K2
      unfold m_read_l169
      rw [nI_1]
      refine pk_le c i (fun le => ⟨F.length + 1, l206 (F.length + 1) 0 I1 (by omega) (by omega) (fun _ _ => .inr trivial) x49 x20 (fun I2 y1 y2 => K2 I2 (fun r _ _ h6 => y1 r h6) (fun k => ?_) (fun k => ?_) (fun k => ?_))⟩) (fun lt => ?_) rfl rfl (by omega) (by omega)
      · rw [y1 4 (by decide), if_neg (by omega)]
      · rw [y1 5 (by decide), if_neg (by omega)]
      · rw [y2 k]
        by_cases e : k < F.length
        · rw [if_pos ⟨Nat.zero_le _, e⟩, if_pos e]
        · rw [if_neg (fun z => e z.2), if_neg e]
      · have v : vp_in (nI i) 6 := vp_in_nI (by omega) (by decide)
        rw [nI_clamp (by omega)]
        refine ⟨v, v, v, v, ih (i + 1) _ (by omega) (by omega) (by rw [u2r (by decide), u2r (by decide)]; exact x49) (fun j hj => by rw [u2r (by decide), u2r (by decide)]; exact x20 j hj) (fun I2 y1 y2 y3 y4 => K2 I2 (fun r h4 h5 h6 => by rw [y1 r h4 h5 h6, u2r h5, u2r h4]) (fun k => ?_) (fun k => ?_) (fun k => ?_))⟩
        · rw [y2 k, u2r (by decide), u2r (by decide), u2r (by decide)]
          by_cases e : k = i
          · rw [e, if_neg (by omega), u2_self, if_pos (by omega)]
          · rw [u2_ne _ _ (Or.inr e)]
            by_cases e2 : i + 1 ≤ k ∧ k < c
            · rw [if_pos e2, if_pos (by omega)]
            · rw [if_neg e2, if_neg (by omega)]
        · rw [y3 k, u2r (show 23 ≠ 5 by decide), u2r (show 23 ≠ 4 by decide)]
          by_cases e : k = i
          · rw [e, if_neg (by omega), u2_self, if_pos (by omega)]
          · rw [u2_ne _ _ (Or.inr e), u2r (by decide)]
            by_cases e2 : i + 1 ≤ k ∧ k < c
            · rw [if_pos e2, if_pos (by omega)]
            · rw [if_neg e2, if_neg (by omega)]
        · rw [y4 k, u2r (by decide), u2r (by decide)]
  have base : ∀ r, r ≠ 0 → u2 (u2 I 0 39 0) 0 10 (nI c) r = I r := fun r hr => by rw [u2r hr, u2r hr]
  refine l169 (c + 1) 0 _ (by omega) (by omega) ?_ ?_ (fun I2 y1 y2 y3 y4 => K I2 J (fun r h0 h4 h5 h6 h20 h21 => ?_) (fun k a b d e f g i j => ?_) ?_ ?_ hM.1.2.2 (fun k => ?_) (fun k => ?_) (fun k => ?_))
  · rw [u2_ne _ _ (Or.inr (by decide)), u2_ne _ _ (Or.inr (by decide))]; exact hM.2.2.2.1
  · intro j hj; rw [base 20 (by decide)]; exact hM.2.2.2.2 j hj
  · rw [y1 r h4 h5 h6, base r h0]; exact hM.1.1 r h0 h20 h21
  · rw [y1 0 (by decide) (by decide) (by decide), u2_ne _ _ (Or.inr a), u2_ne _ _ (Or.inr b)]; exact hM.1.2.1 k d e f g i j
  · rw [y1 0 (by decide) (by decide) (by decide), u2_ne _ _ (Or.inr (by decide)), u2_self]
  · rw [y1 0 (by decide) (by decide) (by decide), u2_self]
  · rw [y2 k, base 22 (by decide), base 4 (by decide), hM.1.1 22 (by decide) (by decide) (by decide), hM.1.1 4 (by decide) (by decide) (by decide)]
    by_cases e : k < c
    · rw [if_pos ⟨Nat.zero_le _, e⟩, if_pos e]
    · rw [if_neg (fun z => e z.2), if_neg e]
  · rw [y3 k, base 23 (by decide), base 5 (by decide), hM.1.1 23 (by decide) (by decide) (by decide), hM.1.1 5 (by decide) (by decide) (by decide)]
    by_cases e : k < c
    · rw [if_pos ⟨Nat.zero_le _, e⟩, if_pos e]
    · rw [if_neg (fun z => e z.2), if_neg e]
  · rw [y4 k, base 6 (by decide), hM.1.1 6 (by decide) (by decide) (by decide)]
