set_option maxRecDepth 100000
set_option maxHeartbeats 4000000
/-! PLAIN LAW, operations 31: the model's reading of a condition, step by step -/
def wl (I : mI) (S : List Nat) : Prop := I 0 50 = nI S.length ∧ ∀ i, i < S.length → I 21 i = nI (S.getD i 0)
def cF (I0 : mI) (J0 : mJ) (I : mI) (J : mJ) : Prop := (∀ r, r ≠ 0 → r ≠ 20 → r ≠ 21 → I r = I0 r) ∧ (∀ k, k ≠ 40 → k ≠ 41 → k ≠ 42 → k ≠ 44 → k ≠ 49 → k ≠ 50 → I 0 k = I0 0 k) ∧ ∀ r, r ≠ 0 → J r = J0 r
theorem eN.cF {I0 I I' : mI} {J0 J J' : mJ} (h : eN I J I' J') (g : cF I0 J0 I J) : @@N@@.cF I0 J0 I' J' := ⟨fun r a b c => (h.1 r a b).trans (g.1 r a b c), fun k a b c d e f => (h.2.1 k a b c d e).trans (g.2.1 k a b c d e f), fun r a => (h.2.2 r a).trans (g.2.2 r a)⟩
/-- good: at the token q, told F, waiting S -/
def MS (T : Nat) (B : Nat → Nat) (I0 : mI) (J0 : mJ) (q : Nat) (F S : List Nat) (I : mI) (J : mJ) : Prop := cF I0 J0 I J ∧ ms T q B I J ∧ I 0 44 = -1 ∧ fl I F ∧ wl I S
/-- faulty at p -/
def FT (T : Nat) (I0 : mI) (J0 : mJ) (p : Nat) (I : mI) (J : mJ) : Prop := cF I0 J0 I J ∧ p ≤ T ∧ I 0 44 = nI p ∧ ∃ f w, I 0 49 = nI f ∧ I 0 50 = nI w ∧ f + w ≤ 205
abbrev kT : Type := (Int32 → mI → mJ → Prop) → Nat → mI → mJ → Prop
abbrev WT : Type := (Int32 → mI → mJ → Prop) → Prop
def gW (T : Nat) (B : Nat → Nat) (I0 : mI) (J0 : mJ) (kk : kT) (W : WT) (o a2 q : Nat) (F S : List Nat) : Prop := ∀ QM : Int32 → mI → mJ → Prop, (∃ N n, ∀ I J, MS T B I0 J0 q F S I J → m_wantCond_l11 (kk QM N) n (nI o) (nI a2) 1 I J) → W QM
def gFt (T : Nat) (I0 : mI) (J0 : mJ) (kk : kT) (W : WT) (p : Nat) : Prop := ∀ QM : Int32 → mI → mJ → Prop, (∃ N, ∀ I J, FT T I0 J0 p I J → kk QM N I J) → W QM
def gEd (T : Nat) (B : Nat → Nat) (I0 : mI) (J0 : mJ) (kk : kT) (W : WT) (q : Nat) (F S : List Nat) : Prop := ∀ QM : Int32 → mI → mJ → Prop, (∃ N, ∀ I J, MS T B I0 J0 q F S I J → kk QM N I J) → W QM
theorem len1 {S : List Nat} {x : Nat} : (S ++ [x]).length = S.length + 1 := by rw [List.length_append]; rfl
theorem wl.pop {I I' : mI} {S : List Nat} {x : Nat} (h : wl I (S ++ [x])) (e : I' 0 50 = nI S.length) (e21 : I' 21 = I 21) : wl I' S := by
  refine ⟨e, fun i hi => ?_⟩
  rw [e21, h.2 i (by rw [len1]; omega), getD_app_l hi]
theorem wl.top {I : mI} {S : List Nat} {x : Nat} (h : wl I (S ++ [x])) : I 21 S.length = nI x := by
  rw [h.2 S.length (by rw [len1]; omega), getD_app_e]
theorem wl.to {I I' : mI} {S : List Nat} (h : wl I S) (e : I' 0 50 = I 0 50) (e21 : I' 21 = I 21) : wl I' S := by
  unfold wl
  rw [e, e21]
  exact h
theorem MS.len {T q : Nat} {B : Nat → Nat} {I0 I : mI} {J0 J : mJ} {F S : List Nat} (h : MS T B I0 J0 q F S I J) : I 0 49 = nI F.length ∧ I 0 50 = nI S.length := ⟨h.2.2.2.1.1, h.2.2.2.2.1⟩
/-- where settling stops -/
def St (S : List Nat) (a : Nat) : Prop := S = [] ∨ ∃ S' x, S = S' ++ [x] ∧ x ≤ 10 ∧ (x = 10 ∨ a < x)
theorem St.up {S : List Nat} {a b : Nat} (h : St S a) (hb : b ≤ a) : St S b := by
  rcases h with e | ⟨S', x, e, h1, h2⟩
  · exact .inl e
  · exact .inr ⟨S', x, e, h1, by omega⟩
theorem settle_lp {T q a : Nat} {B : Nat → Nat} {I0 : mI} {J0 J : mJ} {S : List Nat} {Q : mI → mJ → Prop} (ha : a ≤ 9) (hS : St S a) : ∀ (R F : List Nat) (I : mI) (n : Nat), R.length < n → (∀ x, x ∈ R → x ≠ 10 ∧ x ≤ a) → MS T B I0 J0 q F (S ++ R.reverse) I J → F.length + S.length + R.length ≤ 209 → (∀ I', MS T B I0 J0 q (F ++ R) S I' J → Q I' J) → m_settle_l0 Q n (nI a) I J := by
  intro R
  induction R with
  | nil =>
    intro F I n hn _ hM hl K
    rw [show n = (n - 1) + 1 by have := hn; omega]
    have hl' : F.length + S.length ≤ 209 := hl
    have hM' : MS T B I0 J0 q F S I J := by rw [List.reverse_nil, List.append_nil] at hM; exact hM
    have kq : Q I J := K I (by rw [List.append_nil]; exact hM')
    unfold m_settle_l0
    rw [hM'.len.2]
    rcases hS with e | ⟨S', x, e, h1, h2⟩
    · rw [e]
      exact br_t (by decide) kq
    · have hw : wl I (S' ++ [x]) := by rw [← e]; exact hM'.2.2.2.2
      rw [e, len1, nI_pred, nI_clamp (by rw [e, len1] at hl'; omega), hw.top]
      have l2 : S'.length + 1 ≤ 209 := by rw [e, len1] at hl'; omega
      have v : vp_in (nI S'.length) 210 := vp_in_nI (by omega) (by decide)
      refine br_f (nI_nle (by omega) (by omega)) ⟨v, ?_⟩
      rcases h2 with rfl | h2
      · exact br_t rfl kq
      · exact br_c (fun _ => kq) (fun _ => ⟨v, br_t (nI_lt h2 (by omega)) kq⟩)
  | cons x R ih =>
    intro F I n hn hR hM hl K
    rw [show n = (n - 1) + 1 by have := hn; omega]
    have hx := hR x List.mem_cons_self
    have hl' : F.length + S.length + (R.length + 1) ≤ 209 := hl
    rw [List.reverse_cons, ← List.append_assoc] at hM
    have hlen : (S ++ R.reverse).length = S.length + R.length := by rw [List.length_append, List.length_reverse]
    have hw := hM.2.2.2.2
    have l1 := hM.len.2
    rw [len1, hlen] at l1
    have tp := hw.top
    rw [hlen] at tp
    unfold m_settle_l0
    rw [l1, nI_pred, nI_clamp (by omega), tp]
    have v : vp_in (nI (S.length + R.length)) 210 := vp_in_nI (by omega) (by decide)
    refine br_f (nI_nle (by omega) (by omega)) ⟨v, br_f (fun y => hx.1 ((nI_eq (by omega) (by decide)).mp (show nI x = nI 10 from y))) ⟨v, br_f (nI_nlt hx.2 (by omega)) ⟨v, ?_⟩⟩⟩
    have f0 : fl (u2 I 0 50 (nI (S.length + R.length))) F := hM.2.2.2.1.to (u2_ne _ _ (Or.inr (by decide))) (u2r (by decide))
    refine m_emit_s f0 (by omega) (fun I2 z1 z2 z3 => ih (F ++ [x]) I2 (n - 1) (by have : R.length + 1 < n := hn; omega) (fun y hy => hR y (List.mem_cons_of_mem _ hy)) ⟨?_, ?_, ?_, z3, ?_⟩ (by rw [len1]; omega) (fun I' hI => K I' (by rw [List.append_assoc] at hI; exact hI)))
    · refine ⟨fun r a b c => ?_, fun k a b c d e f => ?_, fun r hr => ?_⟩
      · rw [z1.1 r a b, u2r a]; exact hM.1.1 r a b c
      · rw [z2 k e, u2_ne _ _ (Or.inr f)]; exact hM.1.2.1 k a b c d e f
      · exact hM.1.2.2 r hr
    · exact hM.2.1.to (fun k h1 h2 => by rw [z2 k (by omega), u2_ne _ _ (Or.inr (by omega))]) (by rw [z1.1 19 (by decide) (by decide), u2r (by decide)]) rfl
    · rw [z2 44 (by decide), u2_ne _ _ (Or.inr (by decide))]; exact hM.2.2.1
    · exact hw.pop (by rw [z2 50 (by decide), u2_self, hlen]) (by rw [z1.1 21 (by decide) (by decide), u2r (by decide)])
theorem settle_s {T q a : Nat} {B : Nat → Nat} {I0 I : mI} {J0 J : mJ} {S R F : List Nat} {Q : mI → mJ → Prop} (ha : a ≤ 9) (hS : St S a) (hR : ∀ x, x ∈ R → x ≠ 10 ∧ x ≤ a) (hM : MS T B I0 J0 q F (S ++ R.reverse) I J) (hl : F.length + S.length + R.length ≤ 209) (K : ∀ I', MS T B I0 J0 q (F ++ R) S I' J → Q I' J) : m_settle (nI a) I J Q := ⟨R.length + 1, settle_lp ha hS R F I (R.length + 1) (by omega) hR hM hl K⟩
/-- settling after a fault -/
theorem settle_ft {T p : Nat} {I0 I : mI} {J0 J : mJ} {a : Int32} {Q : mI → mJ → Prop} (h : FT T I0 J0 p I J) (K : ∀ I', FT T I0 J0 p I' J → Q I' J) : m_settle a I J Q := by
  obtain ⟨c, hp, e44, f, w, e49, e50, hb⟩ := h
  have lp : ∀ w f n I1, w < n → cF I0 J0 I1 J → I1 0 44 = nI p → I1 0 49 = nI f → I1 0 50 = nI w → f + w ≤ 205 → m_settle_l0 Q n a I1 J := by
    intro w
    induction w with
    | zero =>
      intro f n I1 hn c1 x44 x49 x50 hb1
      rw [show n = (n - 1) + 1 by omega]
      unfold m_settle_l0
      rw [x50]
      exact br_t (by decide) (K I1 ⟨c1, hp, x44, f, 0, x49, x50, hb1⟩)
    | succ w ih =>
      intro f n I1 hn c1 x44 x49 x50 hb1
      rw [show n = (n - 1) + 1 by omega]
      have kq : Q I1 J := K I1 ⟨c1, hp, x44, f, w + 1, x49, x50, hb1⟩
      unfold m_settle_l0
      rw [x50, nI_pred, nI_clamp (by omega)]
      have v : vp_in (nI w) 210 := vp_in_nI (by omega) (by decide)
      refine br_f (nI_nle (by omega) (by omega)) ⟨v, br_c (fun _ => kq) (fun _ => ⟨v, br_c (fun _ => kq) (fun _ => ⟨v, ?_⟩)⟩)⟩
      refine m_emit_b (n := f) (by rw [u2_ne _ _ (Or.inr (by decide))]; exact x49) (by omega) (fun I2 z1 z2 z3 => ih (f + 1) (n - 1) I2 (by omega) ⟨fun r a b c => ?_, fun k a b c d e g => ?_, c1.2.2⟩ ?_ z3 ?_ (by omega))
      · rw [z1.1 r a b, u2r a]; exact c1.1 r a b c
      · rw [z2 k e, u2_ne _ _ (Or.inr g)]; exact c1.2.1 k a b c d e g
      · rw [z2 44 (by decide), u2_ne _ _ (Or.inr (by decide))]; exact x44
      · rw [z2 50 (by decide), u2_self]
  exact ⟨w + 1, lp w f (w + 1) I (by omega) c e44 e49 e50 hb⟩
theorem good_ft {T p : Nat} {I0 I : mI} {J0 J : mJ} {Q : Int32 → mI → mJ → Prop} (hT : T ≤ 200) (h : FT T I0 J0 p I J) (K : Q 0 I J) : m_isGood I J Q := by
  unfold m_isGood
  have := h.2.1
  rw [h.2.2.1]
  exact br_t (nI_pos' (by omega)) K
theorem good_ms {T q : Nat} {B : Nat → Nat} {I0 I : mI} {J0 J : mJ} {F S : List Nat} {Q : Int32 → mI → mJ → Prop} (h : MS T B I0 J0 q F S I J) (K : Q 1 I J) : m_isGood I J Q := by
  unfold m_isGood
  rw [h.2.2.1]
  exact br_f (by decide) K
/-- the loop after a fault -/
theorem l11_ft {T p : Nat} {I0 I : mI} {J0 J : mJ} {a1 a2 a3 : Int32} {k : mI → mJ → Prop} {n : Nat} (hT : T ≤ 200) (h : FT T I0 J0 p I J) (K : ∀ I', FT T I0 J0 p I' J → k I' J) : m_wantCond_l11 k (n + 1) a1 a2 a3 I J := by
  have e : m_wantCond_j196 k I J := by
    unfold m_wantCond_j196
    exact settle_ft h K
  unfold m_wantCond_l11
  exact br_c (fun _ => e) (fun _ => good_ft hT h (br_t rfl e))
theorem hold_s {T q x : Nat} {B : Nat → Nat} {I0 I : mI} {J0 J : mJ} {F S : List Nat} {Q : mI → mJ → Prop} (hT : T ≤ 200) (hq : q ≤ T) (h : MS T B I0 J0 q F S I J) (hl : S.length < 210) (K : ∀ I' J', MS T B I0 J0 (nq T B q) F (S ++ [x]) I' J' → Q I' J') : m_hold (nI x) I J Q := by
  unfold m_hold
  rw [h.len.2, nI_clamp (by omega), nI_1]
  refine ⟨vp_in_nI hl (by decide), ms.next (h.2.1.to (fun k h1 h2 => by rw [u2_ne _ _ (Or.inr (by omega)), u2r (by decide)]) (by rw [u2r (by decide), u2r (by decide)]) rfl) hT hq (fun I' J' f y => K I' J' ⟨⟨fun r a b c => ?_, fun k a b c d e g => ?_, fun r hr => (f.2.2 r hr).trans (h.1.2.2 r hr)⟩, y, ?_, ?_, ?_, fun i hi => ?_⟩)⟩
  · rw [f.1 r a, u2r a, u2r c]; exact h.1.1 r a b c
  · rw [f.2.1 k a b c, u2_ne _ _ (Or.inr g), u2r (by decide)]; exact h.1.2.1 k a b c d e g
  · rw [f.2.1 44 (by decide) (by decide) (by decide), u2_ne _ _ (Or.inr (by decide)), u2r (by decide)]; exact h.2.2.1
  · exact h.2.2.2.1.to (by rw [f.2.1 49 (by decide) (by decide) (by decide), u2_ne _ _ (Or.inr (by decide)), u2r (by decide)]) (by rw [f.1 20 (by decide), u2r (by decide), u2r (by decide)])
  · rw [f.2.1 50 (by decide) (by decide) (by decide), u2_self, len1]
  · rw [len1] at hi
    rw [f.1 21 (by decide), u2r (by decide)]
    by_cases e : i = S.length
    · rw [e, u2_self, getD_app_e]
    · rw [u2_ne _ _ (Or.inr e), getD_app_l (by omega)]
      exact h.2.2.2.2.2 i (by omega)
theorem MS.mN {T q q' : Nat} {B : Nat → Nat} {I0 I I' : mI} {J0 J J' : mJ} {F S : List Nat} (h : MS T B I0 J0 q F S I J) (f : @@N@@.mN I J I' J') (y : ms T q' B I' J') : MS T B I0 J0 q' F S I' J' :=
  ⟨f.eN.cF h.1, y, by rw [f.2.1 44 (by decide) (by decide) (by decide)]; exact h.2.2.1, h.2.2.2.1.to (f.2.1 49 (by decide) (by decide) (by decide)) (f.1 20 (by decide)), h.2.2.2.2.to (f.2.1 50 (by decide) (by decide) (by decide)) (f.1 21 (by decide))⟩
theorem MS.ft {T q : Nat} {B : Nat → Nat} {I0 I : mI} {J0 J : mJ} {F S : List Nat} (h : MS T B I0 J0 q F S I J) (hq : q ≤ T) (hl : F.length + S.length ≤ 205) : FT T I0 J0 q (u2 I 0 44 (nI q)) J :=
  ⟨⟨fun r a b c => by rw [u2r a]; exact h.1.1 r a b c, fun k a b c d e g => by rw [u2_ne _ _ (Or.inr d)]; exact h.1.2.1 k a b c d e g, h.1.2.2⟩, hq, u2_self _ _ _ _, F.length, S.length, by rw [u2_ne _ _ (Or.inr (by decide))]; exact h.len.1, by rw [u2_ne _ _ (Or.inr (by decide))]; exact h.len.2, hl⟩
/-! words of conditions -/
theorem m_not_s {T q : Nat} {B : Nat → Nat} {I : mI} {J : mJ} {Q : Int32 → mI → mJ → Prop} (hs : ms T q B I J) (h1 : wq T q B (wd 8) → Q 1 I J) (h0 : ¬ wq T q B (wd 8) → Q 0 I J) : m_isWord 10631 I J Q := m_isWord_s (k := 8) (h := 10631) hs (by decide) (by decide) (by decide) rfl (by decide +kernel) h1 h0
theorem m_and_s {T q : Nat} {B : Nat → Nat} {I : mI} {J : mJ} {Q : Int32 → mI → mJ → Prop} (hs : ms T q B I J) (h1 : wq T q B (wd 10) → Q 1 I J) (h0 : ¬ wq T q B (wd 10) → Q 0 I J) : m_isWord 1111 I J Q := m_isWord_s (k := 10) (h := 1111) hs (by decide) (by decide) (by decide) rfl (by decide +kernel) h1 h0
theorem m_or_s {T q : Nat} {B : Nat → Nat} {I : mI} {J : mJ} {Q : Int32 → mI → mJ → Prop} (hs : ms T q B I J) (h1 : wq T q B (wd 11) → Q 1 I J) (h0 : ¬ wq T q B (wd 11) → Q 0 I J) : m_isWord 423 I J Q := m_isWord_s (k := 11) (h := 423) hs (by decide) (by decide) (by decide) rfl (by decide +kernel) h1 h0
/-! steps -/
theorem s_not {T o q : Nat} {B : Nat → Nat} {I0 : mI} {J0 : mJ} {kk : kT} {W : WT} {F S : List Nat} (hT : T ≤ 200) (hq : q ≤ T) (hl : S.length < 210) (w : wq T q B (wd 8)) (h : gW T B I0 J0 kk W o 1 q F S) : gW T B I0 J0 kk W o 1 (nq T B q) F (S ++ [7]) := by
  intro QM hh
  obtain ⟨N, n, hh⟩ := hh
  refine h QM ⟨N, n + 1, fun I J hM => ?_⟩
  unfold m_wantCond_l11
  exact br_f (by decide) (good_ms hM (br_f (by decide) (br_f (by decide) (m_not_s hM.2.1 (fun _ => br_f (by decide) (hold_s (x := 7) hT hq hM hl (fun I' J' h' => hh I' J' h'))) (fun z => absurd w z)))))
theorem s_open {T o q : Nat} {B : Nat → Nat} {I0 : mI} {J0 : mJ} {kk : kT} {W : WT} {F S : List Nat} (hT : T ≤ 200) (hq : q ≤ T) (hl : S.length < 210) (ho : o < 3) (nw : ¬ wq T q B (wd 8)) (w : mq T q B 40) (h : gW T B I0 J0 kk W o 1 q F S) : gW T B I0 J0 kk W (o + 1) 1 (nq T B q) F (S ++ [10]) := by
  intro QM hh
  obtain ⟨N, n, hh⟩ := hh
  refine h QM ⟨N, n + 1, fun I J hM => ?_⟩
  unfold m_wantCond_l11
  refine br_f (by decide) (good_ms hM (br_f (by decide) (br_f (by decide) (m_not_s hM.2.1 (fun z => absurd z nw) (fun _ => br_t rfl (m_isMark_s (m := 40) hM.2.1 (by decide) rfl rfl (fun _ => br_f (by decide) ?_) (fun z => absurd w z)))))))
  refine pk_eq o 3 (fun e => absurd e (by omega)) (fun _ => hold_s (x := 10) hT hq hM hl (fun I' J' h' => ?_)) rfl rfl (by omega) (by decide)
  rw [nI_1]
  exact hh I' J' h'
theorem s_open_f {T q : Nat} {B : Nat → Nat} {I0 : mI} {J0 : mJ} {kk : kT} {W : WT} {F S : List Nat} (hT : T ≤ 200) (hq : q ≤ T) (hl : F.length + S.length ≤ 205) (nw : ¬ wq T q B (wd 8)) (w : mq T q B 40) (h : gW T B I0 J0 kk W 3 1 q F S) : gFt T I0 J0 kk W q := by
  intro QM hh
  obtain ⟨N, hh⟩ := hh
  refine h QM ⟨N, 2, fun I J hM => ?_⟩
  rw [show (2 : Nat) = 1 + 1 from rfl]
  unfold m_wantCond_l11
  refine br_f (by decide) (good_ms hM (br_f (by decide) (br_f (by decide) (m_not_s hM.2.1 (fun z => absurd z nw) (fun _ => br_t rfl (m_isMark_s (m := 40) hM.2.1 (by decide) rfl rfl (fun _ => br_f (by decide) (br_t rfl ?_)) (fun z => absurd w z)))))))
  unfold m_faulty
  rw [hM.2.2.1, hM.2.1.2.2.1]
  exact br_f (by decide) (l11_ft hT (hM.ft hq hl) (fun I' h' => hh I' J h'))
/-! comparisons -/
def gm (T q : Nat) (B : Nat → Nat) (c : Int32) (g : Nat) : Prop := (mq T q B 60 ∧ c = 60 ∧ g = 15) ∨ (mq T q B 61 ∧ c = 61 ∧ g = 16) ∨ (mq T q B 62 ∧ c = 62 ∧ g = 17)
theorem gm.cmp {T q g : Nat} {B : Nat → Nat} {c : Int32} (h : gm T q B c g) : cmpR c g := by
  rcases h with ⟨_, a, b⟩ | ⟨_, a, b⟩ | ⟨_, a, b⟩
  · exact .inl ⟨a, b⟩
  · exact .inr (.inl ⟨a, b⟩)
  · exact .inr (.inr ⟨a, b⟩)
theorem gm_cases (T q : Nat) (B : Nat → Nat) : (∃ c g, gm T q B c g) ∨ (¬ mq T q B 60 ∧ ¬ mq T q B 61 ∧ ¬ mq T q B 62) := by
  by_cases a : mq T q B 60
  · exact .inl ⟨_, _, .inl ⟨a, rfl, rfl⟩⟩
  · by_cases b : mq T q B 61
    · exact .inl ⟨_, _, .inr (.inl ⟨b, rfl, rfl⟩)⟩
    · by_cases c : mq T q B 62
      · exact .inl ⟨_, _, .inr (.inr ⟨c, rfl, rfl⟩)⟩
      · exact .inr ⟨a, b, c⟩
theorem m_marks {T q : Nat} {B : Nat → Nat} {I : mI} {J : mJ} {Q : mI → mJ → Prop} (hs : ms T q B I J) (h1 : ∀ c g, gm T q B c g → m_wantAsk_j58 Q (nI g) 1 I J) (h0 : ¬ mq T q B 60 → ¬ mq T q B 61 → ¬ mq T q B 62 → m_wantAsk_j58 Q 0 0 I J) : m_isMark 60 I J (fun r3 I4 J5 => (r3 = 0 →
    m_isMark 61 I4 J5 (fun r7 I8 J9 => (r7 = 0 →
      m_isMark 62 I8 J9 (fun r11 I12 J13 => (r11 = 0 →
        m_wantAsk_j47 Q 0 I12 J13) ∧ (¬ r11 = 0 →
        m_wantAsk_j47 Q 17 I12 J13))) ∧ (¬ r7 = 0 →
      m_wantAsk_j47 Q 16 I8 J9))) ∧ (¬ r3 = 0 →
    m_wantAsk_j47 Q 15 I4 J5)) := by
  unfold m_wantAsk_j47
  exact m_isMark_s (m := 60) hs (by decide) rfl rfl (fun a => br_f (by decide) (br_f (by decide) (h1 _ _ (.inl ⟨a, rfl, rfl⟩)))) (fun a => br_t rfl
    (m_isMark_s (m := 61) hs (by decide) rfl rfl (fun b => br_f (by decide) (br_f (by decide) (h1 _ _ (.inr (.inl ⟨b, rfl, rfl⟩))))) (fun b => br_t rfl
      (m_isMark_s (m := 62) hs (by decide) rfl rfl (fun c => br_f (by decide) (br_f (by decide) (h1 _ _ (.inr (.inr ⟨c, rfl, rfl⟩))))) (fun c => br_t rfl (br_t (by decide) (h0 a b c)))))))
theorem gm_uniq {T q g g' : Nat} {B : Nat → Nat} {c c' : Int32} (h : gm T q B c g) (h' : gm T q B c' g') : c = c' ∧ g = g' := by
  rcases h with ⟨⟨_, m⟩, a, b⟩ | ⟨⟨_, m⟩, a, b⟩ | ⟨⟨_, m⟩, a, b⟩ <;> rcases h' with ⟨⟨_, m'⟩, a', b'⟩ | ⟨⟨_, m'⟩, a', b'⟩ | ⟨⟨_, m'⟩, a', b'⟩ <;> first | exact ⟨a.trans a'.symm, b.trans b'.symm⟩ | (exact absurd (m.symm.trans m') (by decide))
theorem ask_ok {T q v g w q1 q' : Nat} {B : Nat → Nat} {I0 I : mI} {J0 J : mJ} {F S : List Nat} {a1 b1 c a2 b2 : Int32} {Q : mI → mJ → Prop} (hT : T ≤ 200) (hq : q ≤ T) (hl : F.length + S.length ≤ q) (h1 : vOK T q B a1 b1 v q1) (hg : gm T q1 B c g) (h2 : vOK T (nq T B q1) B a2 b2 w q') (hM : MS T B I0 J0 q F S I J) (K : ∀ I' J', MS T B I0 J0 q' (F ++ [v, w, g]) S I' J' → Q I' J') : m_wantAsk I J Q := by
  have q1T := h1.le
  have mv : ∀ {I1 I2 : mI} {J1 J2 : mJ} {qa qb : Nat} {F1 F2 : List Nat}, MS T B I0 J0 qa F1 S I1 J1 → eN I1 J1 I2 J2 → ms T qb B I2 J2 → I2 0 44 = -1 → fl I2 F2 → MS T B I0 J0 qb F2 S I2 J2 := fun m e y x f => ⟨e.cF m.1, y, x, f, m.2.2.2.2.to (e.2.1 50 (by decide) (by decide) (by decide) (by decide) (by decide)) (e.1 21 (by decide) (by decide))⟩
  unfold m_wantAsk
  refine m_value_ok hM.2.1 hT hq hM.2.2.1 hM.2.2.2.1 (by omega) h1 (fun I1 J1 e1 y1 x1 f1 => ?_)
  have M1 := mv hM e1 y1 x1 f1
  refine m_marks y1 (fun c' g' hg' => ?_) (fun z1 z2 z3 => ?_)
  · obtain ⟨_, rfl⟩ := gm_uniq hg hg'
    unfold m_wantAsk_j58
    refine m_want_y y1 hT q1T.2.2 x1 (fun I2 J2 f2 y2 => good_ms (M1.mN f2 y2) (br_f (by decide) ?_))
    have M2 := M1.mN f2 y2
    refine m_value_ok M2.2.1 hT (nq_le q1T.2.2).2 M2.2.2.1 M2.2.2.2.1 (by rw [len1]; omega) h2 (fun I3 J3 e3 y3 x3 f3 => ?_)
    have M3 := mv M2 e3 y3 x3 f3
    refine m_emit_s f3 (by rw [len1, len1]; omega) (fun I4 z1 z2 z3 => K I4 J3 ?_)
    have M4 := mv M3 z1 (y3.to (fun k h1 h2 => z2 k (by omega)) (z1.1 19 (by decide) (by decide)) rfl) (by rw [z2 44 (by decide)]; exact x3) z3
    rw [List.append_assoc, List.append_assoc] at M4
    exact M4
  · rcases hg with ⟨m, _⟩ | ⟨m, _⟩ | ⟨m, _⟩
    · exact absurd m z1
    · exact absurd m z2
    · exact absurd m z3
def aBad (T q : Nat) (B : Nat → Nat) (p : Nat) : Prop := vBad T q B p ∨ ∃ a b v q1, vOK T q B a b v q1 ∧ ((¬ mq T q1 B 60 ∧ ¬ mq T q1 B 61 ∧ ¬ mq T q1 B 62 ∧ p = q1) ∨ (∃ c g, gm T q1 B c g ∧ vBad T (nq T B q1) B p))
theorem ask_bad {T q p : Nat} {B : Nat → Nat} {I0 I : mI} {J0 J : mJ} {F S : List Nat} {Q : mI → mJ → Prop} (hT : T ≤ 200) (hq : q ≤ T) (hl : F.length + S.length ≤ q) (hb : aBad T q B p) (hM : MS T B I0 J0 q F S I J) (K : ∀ I' J', FT T I0 J0 p I' J' → Q I' J') : m_wantAsk I J Q := by
  have no : ∀ {p' : Nat} {I1 : mI} {J1 : mJ} {x y : Int32}, FT T I0 J0 p' I1 J1 → (FT T I0 J0 p' I1 J1 → Q I1 J1) → m_wantAsk_j58 Q x y I1 J1 := by
    intro p' I1 J1 x y h k
    have := h.2.1
    unfold m_wantAsk_j58
    exact m_want_f (p := p') (by omega) h.2.2.1 (good_ft hT h (br_t rfl (k h)))
  have vb : ∀ {q0 p' : Nat} {F1 : List Nat} {I1 : mI} {J1 : mJ} {k : mI → mJ → Prop}, MS T B I0 J0 q0 F1 S I1 J1 → q0 ≤ T → F1.length + S.length ≤ 203 → vBad T q0 B p' → (∀ I2 J2, cF I0 J0 I2 J2 → p' ≤ T → I2 0 44 = nI p' → I2 0 49 = nI (F1.length + 1) → I2 0 50 = nI S.length → ms T p' B I2 J2 → k I2 J2) → m_wantValue I1 J1 k := by
    intro q0 p' F1 I1 J1 k m hq0 hl1 hv kk
    refine m_value_bad m.2.1 hT hq0 m.2.2.1 m.len.1 (by omega) hv (fun I2 J2 e y x44 x49 => kk I2 J2 (e.cF m.1) (hv.le hq0) x44 x49 ?_ y)
    rw [e.2.1 50 (by decide) (by decide) (by decide) (by decide) (by decide)]
    exact m.len.2
  unfold m_wantAsk
  rcases hb with hb | ⟨a, b, v, q1, h1, hb⟩
  · refine vb hM hq (by omega) hb (fun I2 J2 c0 c1 c2 c3 c4 y => ?_)
    have f : FT T I0 J0 p I2 J2 := ⟨c0, c1, c2, _, _, c3, c4, by omega⟩
    exact m_marks y (fun _ _ _ => no f (K I2 J2)) (fun _ _ _ => no f (K I2 J2))
  · have q1T := h1.le
    refine m_value_ok hM.2.1 hT hq hM.2.2.1 hM.2.2.2.1 (by omega) h1 (fun I1 J1 e1 y1 x1 f1 => ?_)
    have M1 : MS T B I0 J0 q1 (F ++ [v]) S I1 J1 := ⟨e1.cF hM.1, y1, x1, f1, hM.2.2.2.2.to (e1.2.1 50 (by decide) (by decide) (by decide) (by decide) (by decide)) (e1.1 21 (by decide) (by decide))⟩
    rcases hb with ⟨z1, z2, z3, rfl⟩ | ⟨c, g, hg, hb⟩
    · refine m_marks y1 (fun c' g' hg' => ?_) (fun _ _ _ => ?_)
      · rcases hg' with ⟨m, _⟩ | ⟨m, _⟩ | ⟨m, _⟩
        · exact absurd m z1
        · exact absurd m z2
        · exact absurd m z3
      · unfold m_wantAsk_j58
        have ff := M1.ft q1T.2.2 (by rw [len1]; omega)
        exact m_want_n y1 x1 (good_ft hT ff (br_t rfl (K _ _ ff)))
    · refine m_marks y1 (fun c' g' hg' => ?_) (fun z1 z2 z3 => ?_)
      · unfold m_wantAsk_j58
        refine m_want_y y1 hT q1T.2.2 x1 (fun I2 J2 f2 y2 => good_ms (M1.mN f2 y2) (br_f (by decide) ?_))
        refine vb (M1.mN f2 y2) (nq_le q1T.2.2).2 (by rw [len1]; omega) hb (fun I3 J3 c0 c1 c2 c3 c4 y => ?_)
        rw [len1] at c3
        exact m_emit_b (n := F.length + 1 + 1) c3 (by omega) (fun I4 z1 z2 z3 => K I4 J3 ⟨z1.cF c0, c1, by rw [z2 44 (by decide)]; exact c2, _, _, z3, by rw [z2 50 (by decide)]; exact c4, by omega⟩)
      · rcases hg with ⟨m, _⟩ | ⟨m, _⟩ | ⟨m, _⟩
        · exact absurd m z1
        · exact absurd m z2
        · exact absurd m z3
