set_option maxRecDepth 100000
set_option maxHeartbeats 4000000
/-! PLAIN LAW, operations 29: words, numbers, values, comparisons on both sides -/
def wds : List (List Nat) := [[102, 111, 111, 100], [109, 105, 108, 101, 115], [121, 105, 101, 108, 100], [108, 101, 102, 116], [103, 111, 116], [104, 101, 114, 101], [102, 101, 101, 100], [103, 111], [110, 111, 116], [41], [97, 110, 100], [111, 114], [59]]
def wd (k : Nat) : List Nat := wds.getD k []
def wq (T q : Nat) (B : Nat → Nat) (w : List Nat) : Prop := te T B q - q = w.length ∧ ∀ i, i < w.length → B (q + i) = w.getD i 0
def mq (T q : Nat) (B : Nat → Nat) (m : Nat) : Prop := q < T ∧ B q = m
theorem wd_len : ∀ k, k < 13 → hh_len.getD k 0 = (wd k).length ∧ (wd k).length ≤ 5 ∧ 1 ≤ (wd k).length := by decide +kernel
theorem wd_byt : ∀ k, k < 13 → ∀ i, i < (wd k).length → (hh_byt.getD k []).getD i 0 = nI ((wd k).getD i 0) ∧ (wd k).getD i 0 < 128 := by decide +kernel
theorem wd_let : ∀ k, k < 13 → k ≠ 9 → k ≠ 12 → ∀ i, i < (wd k).length → 97 ≤ (wd k).getD i 0 ∧ (wd k).getD i 0 ≤ 122 := by decide +kernel
theorem wd_inj : ∀ k, k < 13 → ∀ j, j < 13 → wd k = wd j → k = j := by decide +kernel
theorem list_ext_getD {a b : List Nat} (h : a.length = b.length) (g : ∀ i, i < a.length → a.getD i 0 = b.getD i 0) : a = b := by
  apply List.ext_getElem h
  intro i h1 h2
  have z := g i h1
  rw [List.getD_eq_getElem?_getD, List.getD_eq_getElem?_getD, List.getElem?_eq_getElem h1, List.getElem?_eq_getElem h2] at z
  exact z
theorem wq_uniq {T q k j : Nat} {B : Nat → Nat} (hk : k < 13) (hj : j < 13) (h : wq T q B (wd k)) (g : wq T q B (wd j)) : k = j :=
  wd_inj k hk j hj (list_ext_getD (h.1.symm.trans g.1) (fun i hi => (h.2 i hi).symm.trans (g.2 i (by have := h.1.symm.trans g.1; omega))))
theorem wq_kd {T q k : Nat} {B : Nat → Nat} (hk : k < 13) (h9 : k ≠ 9) (h12 : k ≠ 12) (h : wq T q B (wd k)) : q < T ∧ cL (B q) = true ∧ kd T B q = 1 := by
  have l1 := (wd_len k hk).2.2
  have lt : q < T := by
    refine Nat.lt_of_not_le (fun le => ?_)
    have z := h.1
    rw [(te_E (show ¬ q < T by omega)).1] at z
    omega
  have z := h.2 0 l1
  rw [Nat.add_zero] at z
  have hl : cL (B q) = true := decide_eq_true (by rw [z]; exact wd_let k hk h9 h12 0 l1)
  exact ⟨lt, hl, (te_L lt hl).2⟩
theorem sb_eq {b c : Nat} (hb : b < 256) (hc : c < 128) (h : sb b = nI c) : b = c := by
  by_cases l : b < 128
  · rw [sb_p b l] at h
    exact (nI_eq (by omega) (by omega)).mp h
  · have z := sb_n b hb (by omega)
    rw [h] at z
    exact absurd z (nI_pos (by omega))
theorem x_isWord_s {T q k : Nat} {B : Nat → Nat} {s : xS} {rd : xRd} {J : mJ} {I : mI} {Q : Int32 → Prop} (h : xs T q B rd I) (hT : T ≤ 200) (hq : q ≤ T) (hk : k < 13) (h1 : wq T q B (wd k) → Q 1) (h0 : ¬ wq T q B (wd k) → Q 0) : x_X7_isWord k s rd J I Q := by
  obtain ⟨a1, a2, a3, a4, a5⟩ := h
  obtain ⟨w1, w2, w3⟩ := wd_len k hk
  have tt := te_le (B := B) hq
  have x92 : xo s 92 101 := xo_c (by decide) rfl
  have l92 : xlen s 92 = 200 := xlen_c (by decide) rfl
  unfold x_X7_isWord x_X7_isWord_j21
  rw [a4, a5, pk_sub tt.1, w1]
  have l : ∀ n i r, (wd k).length - i < n → i ≤ (wd k).length → ((r = 1 ∧ te T B q - q = (wd k).length ∧ ∀ j, j < i → B (q + j) = (wd k).getD j 0) ∨ (r = 0 ∧ ¬ wq T q B (wd k))) → x_X7_isWord_l24 Q n k r (nI i) s rd J I := by
    intro n
    induction n with
    | zero => intro i r g; exact absurd g (Nat.not_lt_zero _)
    | succ n ih =>
      intro i r g1 g2 g3
      unfold x_X7_isWord_l24 x_X7_isWord_j60
      rw [w1, a4, nI_1, nI_add q i]
      refine ⟨hk, pk_le (wd k).length i (fun le => ?_) (fun lt => ?_) rfl rfl (by omega) (by omega)⟩
      · rcases g3 with ⟨rfl, e1, e2⟩ | ⟨rfl, e1⟩
        · exact ⟨.inr rfl, h1 ⟨e1, fun j hj => e2 j (by omega)⟩⟩
        · exact ⟨.inl rfl, h0 e1⟩
      · rcases g3 with ⟨rfl, e1, e2⟩ | ⟨rfl, e1⟩
        · have hqi : q + i < T := by omega
          refine br_f (by decide) ⟨92, a1, x92, by rw [l92]; exact vp_in_nI (by omega) (by decide), hk, vp_in_nI lt (by omega), ?_⟩
          rw [nI_clamp (by omega), nI_clamp (by omega), (a3 (q + i) hqi).2, (wd_byt k hk i lt).1]
          by_cases e : B (q + i) = (wd k).getD i 0
          · refine br_t (by rw [e, sb_p _ (wd_byt k hk i lt).2]) (ih (i + 1) 1 (by omega) (by omega) (.inl ⟨rfl, e1, fun j hj => ?_⟩))
            by_cases ej : j = i
            · rw [ej]; exact e
            · exact e2 j (by omega)
          · exact br_f (fun y => e (sb_eq (a3 (q + i) hqi).1 (wd_byt k hk i lt).2 y)) (ih (i + 1) 0 (by omega) (by omega) (.inr ⟨rfl, fun z => e (z.2 i lt)⟩))
        · exact br_t rfl ⟨.inl rfl, h0 e1⟩
  refine ⟨hk, pk_eq (te T B q - q) (wd k).length (fun e => ⟨(wd k).length + 1, l _ 0 1 (by omega) (by omega) (.inl ⟨rfl, e, fun j hj => absurd hj (Nat.not_lt_zero _)⟩)⟩) (fun ne => ⟨(wd k).length + 1, l _ 0 0 (by omega) (by omega) (.inr ⟨rfl, fun z => ne z.1⟩)⟩) rfl rfl (by omega) (by omega)⟩
/-- the reader's heap in one form: token's start q, parentheses o, value a, b -/
def NF (T : Nat) (B : Nat → Nat) (I : mI) (q o : Nat) (a b : Int32) : mI := fun r k => if r = 93 then (if k = 5 then nI q else if k = 6 then nI (te T B q) else if k = 7 then nI o else if k = 9 then a else if k = 10 then b else I 93 k) else I r k
theorem NF_r {T : Nat} {B : Nat → Nat} {I : mI} {q o r : Nat} {a b : Int32} (h : r ≠ 93) : NF T B I q o a b r = I r := by
  funext k
  unfold NF
  rw [if_neg h]
/-- what the reader stands on -/
def xb (T : Nat) (B : Nat → Nat) (rd : xRd) (I : mI) : Prop := xR rd 93 3 = some 92 ∧ I 93 4 = nI T ∧ (∀ j, j < T → B j < 256 ∧ I 92 j = sb (B j)) ∧ ∀ k, k < 6 → xR rd 94 k = some (1000000 + k)
theorem xb.xs {T q o : Nat} {B : Nat → Nat} {rd : xRd} {I : mI} {a b : Int32} (h : xb T B rd I) : @@N@@.xs T q B rd (NF T B I q o a b) := by
  refine ⟨h.1, h.2.1, fun j hj => ?_, rfl, rfl⟩
  rw [NF_r (by decide)]
  exact h.2.2.1 j hj
theorem x_next_n {T q o : Nat} {B : Nat → Nat} {s : xS} {rd : xRd} {J : mJ} {I : mI} {a b : Int32} {Q : mI → Prop} (h : xb T B rd I) (hT : T ≤ 200) (hq : q ≤ T) (K : Q (NF T B I (nq T B q) o a b)) : x_X7_next s rd J (NF T B I q o a b) Q := by
  refine (h.xs (q := q) (o := o) (a := a) (b := b)).next hT hq (fun I' f g => ?_)
  have e : I' = NF T B I (nq T B q) o a b := by
    funext r k
    by_cases er : r = 93
    · subst er
      by_cases e5 : k = 5
      · subst e5; exact g.2.2.2.1
      · by_cases e6 : k = 6
        · subst e6; exact g.2.2.2.2
        · rw [f.2 k e5 e6]
          show NF T B I q o a b 93 k = NF T B I (nq T B q) o a b 93 k
          unfold NF
          rw [if_pos rfl, if_neg e5, if_neg e6, if_pos rfl, if_neg e5, if_neg e6]
    · rw [f.1 r er, NF_r er, NF_r er]
  rw [e]
  exact K
/-- the fault's heap -/
def FH (T : Nat) (B : Nat → Nat) (I : mI) (q o : Nat) (a b : Int32) : mI := u2 (NF T B I q o a b) 95 6 (nI q)
theorem x_need_n {T q o : Nat} {B : Nat → Nat} {s : xS} {rd : xRd} {J : mJ} {I : mI} {a b : Int32} {QX : Nat → mI → Prop} {Q : mI → Prop} (K : QX 2 (FH T B I q o a b)) : x_X7_need 0 s rd J (NF T B I q o a b) QX Q := by
  unfold x_X7_need x_X8_at
  exact br_t rfl ⟨xo_c (by decide) rfl, rfl, K⟩
theorem x_may_n {T q o k : Nat} {B : Nat → Nat} {s : xS} {rd : xRd} {J : mJ} {I : mI} {a b : Int32} {Q : Int32 → mI → Prop} (h : xb T B rd I) (hT : T ≤ 200) (hq : q ≤ T) (hk : k < 13) (h1 : wq T q B (wd k) → Q 1 (NF T B I (nq T B q) o a b)) (h0 : ¬ wq T q B (wd k) → Q 0 (NF T B I q o a b)) : x_X7_may k s rd J (NF T B I q o a b) Q := by
  unfold x_X7_may
  exact x_isWord_s h.xs hT hq hk (fun w => br_f (by decide) (x_next_n h hT hq (h1 w))) (fun w => br_t rfl (h0 w))
theorem x_must_n {T q o k : Nat} {B : Nat → Nat} {s : xS} {rd : xRd} {J : mJ} {I : mI} {a b : Int32} {QX : Nat → mI → Prop} {Q : mI → Prop} (h : xb T B rd I) (hT : T ≤ 200) (hq : q ≤ T) (hk : k < 13) (h1 : wq T q B (wd k) → Q (NF T B I (nq T B q) o a b)) (h0 : ¬ wq T q B (wd k) → QX 2 (FH T B I q o a b)) : x_X7_must k s rd J (NF T B I q o a b) QX Q := by
  unfold x_X7_must
  refine x_isWord_s h.xs hT hq hk (fun w => ?_) (fun w => x_need_n (h0 w))
  unfold x_X7_need
  exact br_f (by decide) (x_next_n h hT hq (h1 w))
/-! numbers -/
def nv (T q : Nat) (B : Nat → Nat) : Nat := dv (fun i => B (q + i)) (te T B q - q)
def nOK (T q : Nat) (B : Nat → Nat) (mx : Nat) : Prop := kd T B q = 2 ∧ te T B q - q ≤ 3 ∧ nv T q B ≤ mx
theorem dv_le {f : Nat → Nat} : ∀ n, (∀ i, i < n → 48 ≤ f i ∧ f i ≤ 57) → dv f n < 10 ^ n := by
  intro n
  induction n with
  | zero => intro _; exact Nat.lt_succ_self 0
  | succ n ih =>
    intro h
    have a := ih (fun i hi => h i (by omega))
    have b := h n (by omega)
    rw [dv_s, Nat.pow_succ]
    omega
theorem kd_2 {T q : Nat} {B : Nat → Nat} (h : kd T B q = 2) : q < T ∧ cL (B q) = false ∧ cD (B q) = true := by
  by_cases lt : q < T
  · cases hl : cL (B q) with
    | true => rw [(te_L lt hl).2] at h; exact absurd h (by decide)
    | false =>
      cases hd : cD (B q) with
      | true => exact ⟨lt, rfl, rfl⟩
      | false => rw [(te_M lt hl hd).2] at h; exact absurd h (by decide)
  · rw [(te_E lt).2] at h; exact absurd h (by decide)
theorem te_dig {T q : Nat} {B : Nat → Nat} (h : kd T B q = 2) : ∀ i, i < te T B q - q → 48 ≤ B (q + i) ∧ B (q + i) ≤ 57 := by
  obtain ⟨lt, hl, hd⟩ := kd_2 h
  intro i hi
  rw [(te_D lt hl hd).1] at hi
  by_cases e : i = 0
  · rw [e, Nat.add_zero]; exact of_decide_eq_true hd
  · exact of_decide_eq_true (rn_all (B := B) (c := cD) (show q + 1 ≤ T from lt) (q + i) (by omega) (by omega))
theorem cDL {b : Nat} (h : cD b = true) : cL b = false := decide_eq_false (by have := of_decide_eq_true h; omega)
theorem x_number_n {T q o mx : Nat} {B : Nat → Nat} {s : xS} {rd : xRd} {J : mJ} {I : mI} {a b : Int32} {QX : Nat → mI → Prop} {Q : Int32 → mI → Prop} (h : xb T B rd I) (hT : T ≤ 200) (hq : q ≤ T) (hm : mx ≤ 999) (h1 : nOK T q B mx → Q (nI (nv T q B)) (NF T B I (nq T B q) o a b)) (h0 : ¬ nOK T q B mx → QX 2 (FH T B I q o a b)) : x_X7_number (nI mx) s rd J (NF T B I q o a b) QX Q := by
  have hx := h.xs (q := q) (o := o) (a := a) (b := b)
  obtain ⟨a1, a2, a3, a4, a5⟩ := hx
  have tt := te_le (B := B) hq
  have x92 : xo s 92 101 := xo_c (by decide) rfl
  have l92 : xlen s 92 = 200 := xlen_c (by decide) rfl
  unfold x_X7_number x_X7_number_j28 x_X7_number_j29
  rw [a4, a5, pk_sub tt.1]
  refine x_here_s hT hq a1 a2 a3 a4 (fun lt => x_isDigit_s (a3 q lt).1 (fun hd => br_f (by decide) ?_) (fun hd => br_t rfl (x_need_n (h0 (fun z => ?_))))) (fun ge => ?_)
  · have ek := (te_D lt (cDL hd) hd).2
    refine pk_lt 3 (te T B q - q) (fun gt => x_need_n (h0 (fun z => by have := z.2.1; omega))) (fun le => ?_) rfl rfl (by decide) (by omega)
    have dg := te_dig ek
    unfold x_X7_need
    refine br_f (by decide) ?_
    show ∃ n0, x_X7_number_l39 QX Q n0 (nI mx) 0 (NF T B I q o a b 93 5) s rd J (NF T B I q o a b)
    rw [a4]
    refine ⟨te T B q - q + 1, ?_⟩
    have lp : ∀ n w, te T B q - w < n → q ≤ w → w ≤ te T B q → x_X7_number_l39 QX Q n (nI mx) (nI (dv (fun i => B (q + i)) (w - q))) (nI w) s rd J (NF T B I q o a b) := by
      intro n
      induction n with
      | zero => intro w g; exact absurd g (Nat.not_lt_zero _)
      | succ n ih =>
        intro w g1 g2 g3
        have d3 : dv (fun i => B (q + i)) (w - q) < 10 ^ (w - q) := dv_le (w - q) (fun i hi => dg i (by omega))
        have d4 : (10 : Nat) ^ (w - q) ≤ 10 ^ 3 := Nat.pow_le_pow_right (by decide) (by omega)
        unfold x_X7_number_l39 x_X7_number_j79
        rw [a5]
        refine pk_le (te T B q) w (fun le => ?_) (fun lt2 => ⟨92, a1, x92, by rw [l92]; exact vp_in_nI (by omega) (by decide), fun v15 e15 => ?_⟩) rfl rfl (by omega) (by omega)
        · have ew : w = te T B q := by omega
          refine pk_lt mx (dv (fun i => B (q + i)) (w - q)) (fun gt => x_need_n (h0 (fun z => ?_))) (fun le2 => ?_) rfl rfl (by omega) (by omega)
          · have := z.2.2
            unfold nv at this
            rw [← ew] at this
            omega
          · have kk := h1 ⟨ek, by assumption, by unfold nv; rw [← ew]; exact le2⟩
            unfold nv at kk
            rw [← ew] at kk
            unfold x_X7_need
            exact br_f (by decide) (x_next_n h hT hq kk)
        · have dw := dg (w - q) (by omega)
          rw [show q + (w - q) = w by omega] at dw
          rw [nI_clamp (by omega), (a3 w (by omega)).2, sb_p _ (by omega), show (10 : Int32) = nI 10 from rfl, show (48 : Int32) = nI 48 from rfl, pk_mul, nI_add, pk_sub (by omega)] at e15
          have z := ih (w + 1) (by omega) (by omega) (by omega)
          rw [show w + 1 - q = (w - q) + 1 by omega, dv_s, show q + (w - q) = w by omega] at z
          rw [e15, nI_1, show 10 * dv (fun i => B (q + i)) (w - q) + B w - 48 = 10 * dv (fun i => B (q + i)) (w - q) + (B w - 48) by omega]
          exact z
    have z := lp (te T B q - q + 1) q (by omega) (Nat.le_refl _) tt.1
    rw [Nat.sub_self] at z
    exact z
  · rw [(kd_2 z.1).2.2] at hd
    exact absurd hd (by decide)
  · unfold x_X7_isDigit
    exact br_t (by decide) (br_t rfl (x_need_n (h0 (fun z => absurd (kd_2 z.1).1 ge))))
/-! the model's -/
theorem hv_inj : ∀ n m (f g : Nat → Nat), (∀ i, i < n → 97 ≤ f i ∧ f i ≤ 122) → (∀ i, i < m → 97 ≤ g i ∧ g i ≤ 122) → hv f n = hv g m → n = m ∧ ∀ i, i < n → f i = g i := by
  intro n
  induction n with
  | zero =>
    intro m f g h1 h2 e
    cases m with
    | zero => exact ⟨rfl, fun i hi => absurd hi (Nat.not_lt_zero _)⟩
    | succ m => have := h2 m (by omega); rw [hv_s] at e; have e' : (0 : Nat) = _ := e; omega
  | succ n ih =>
    intro m f g h1 h2 e
    cases m with
    | zero => have := h1 n (by omega); rw [hv_s] at e; have e' : _ = (0 : Nat) := e; omega
    | succ m =>
      rw [hv_s, hv_s] at e
      have x := h1 n (by omega)
      have y := h2 m (by omega)
      have e1 : hv f n = hv g m := by omega
      have e2 : f n = g m := by omega
      obtain ⟨a, b⟩ := ih m f g (fun i hi => h1 i (by omega)) (fun i hi => h2 i (by omega)) e1
      refine ⟨by omega, fun i hi => ?_⟩
      by_cases ei : i = n
      · rw [ei, e2, a]
      · exact b i (by omega)
theorem hv_lt {f : Nat → Nat} : ∀ n, (∀ i, i < n → f i ≤ 122) → hv f n < 27 ^ n := by
  intro n
  induction n with
  | zero => intro _; exact Nat.lt_succ_self 0
  | succ n ih =>
    intro h
    have a := ih (fun i hi => h i (by omega))
    have b := h n (by omega)
    rw [hv_s, Nat.pow_succ]
    omega
theorem te_let {T q : Nat} {B : Nat → Nat} (h : kd T B q = 1) : q < T ∧ ∀ i, i < te T B q - q → 97 ≤ B (q + i) ∧ B (q + i) ≤ 122 := by
  have lt : q < T := by
    refine Classical.byContradiction (fun ge => ?_)
    rw [(te_E ge).2] at h; exact absurd h (by decide)
  have hl : cL (B q) = true := by
    cases hl : cL (B q) with
    | true => rfl
    | false =>
      cases hd : cD (B q) with
      | true => rw [(te_D lt hl hd).2] at h; exact absurd h (by decide)
      | false => rw [(te_M lt hl hd).2] at h; exact absurd h (by decide)
  refine ⟨lt, fun i hi => ?_⟩
  rw [(te_L lt hl).1] at hi
  by_cases e : i = 0
  · rw [e, Nat.add_zero]; exact of_decide_eq_true hl
  · exact of_decide_eq_true (rn_all (B := B) (c := cL) (show q + 1 ≤ T from lt) (q + i) (by omega) (by omega))
theorem m_isWord_s {T q k h : Nat} {B : Nat → Nat} {a : Int64} {I : mI} {J : mJ} {Q : Int32 → mI → mJ → Prop} (hs : ms T q B I J) (hk : k < 13) (h9 : k ≠ 9) (h12 : k ≠ 12) (ha : a = lN h) (hh : hv (fun i => (wd k).getD i 0) (wd k).length = h) (h1 : wq T q B (wd k) → Q 1 I J) (h0 : ¬ wq T q B (wd k) → Q 0 I J) : m_isWord a I J Q := by
  obtain ⟨w1, w2, w3⟩ := wd_len k hk
  have wl := wd_let k hk h9 h12
  unfold m_isWord
  rw [hs.2.2.2.2.1, hs.2.2.2.2.2, ha]
  have k3 : kd T B q ≤ 3 := by
    unfold kd
    split
    · split
      · decide
      · split <;> decide
    · decide
  refine pk_eq (kd T B q) 1 (fun e => ?_) (fun ne => h0 (fun z => ne (wq_kd hk h9 h12 z).2.2)) rfl rfl (by omega) (by decide)
  obtain ⟨lt, tl⟩ := te_let e
  have hlt := hv_lt (f := fun i => (wd k).getD i 0) (wd k).length (fun i hi => (wl i hi).2)
  have p5 : (27 : Nat) ^ (wd k).length ≤ 27 ^ 8 := Nat.pow_le_pow_right (by decide) (by omega)
  rw [hh] at hlt
  by_cases e8 : te T B q - q ≤ 8
  · have tl2 := hv_lt (f := fun i => B (q + i)) (te T B q - q) (fun i hi => (tl i hi).2)
    have p8 : (27 : Nat) ^ (te T B q - q) ≤ 27 ^ 8 := Nat.pow_le_pow_right (by decide) e8
    have tve : tv T B q = hv (fun i => B (q + i)) (te T B q - q) := by unfold tv; rw [if_pos e, if_pos e8]
    rw [tve]
    by_cases eq : hv (fun i => B (q + i)) (te T B q - q) = h
    · refine br_t ((lg_cmp_eq _ _).mpr (by rw [eq])) (h1 ?_)
      obtain ⟨b1, b2⟩ := hv_inj _ _ _ _ tl wl (eq.trans hh.symm)
      exact ⟨b1, fun i hi => b2 i (by omega)⟩
    · refine br_f (fun y => eq ((pk_lEQ (by omega) (by omega)).mp ((lg_cmp_eq _ _).mp y))) (h0 (fun z => eq ?_))
      rw [← hh, z.1]
      have cg : ∀ n, n ≤ (wd k).length → hv (fun i => B (q + i)) n = hv (fun i => (wd k).getD i 0) n := by
        intro n
        induction n with
        | zero => intro _; rfl
        | succ n ih => intro hn; rw [hv_s, hv_s, ih (by omega), z.2 n (by omega)]
      exact cg _ (Nat.le_refl _)
  · have tve : tv T B q = 0 := by unfold tv; rw [if_pos e, if_neg e8]
    rw [tve]
    have hpos : 0 < h := by
      rw [← hh]
      obtain ⟨n, hn⟩ : ∃ n, (wd k).length = n + 1 := ⟨(wd k).length - 1, by omega⟩
      have x := wl n (by omega)
      rw [hn, hv_s]
      omega
    refine br_f (fun y => ?_) (h0 (fun z => e8 (by rw [z.1]; omega)))
    have z := (pk_lEQ (by decide) (by omega)).mp ((lg_cmp_eq _ _).mp y)
    omega
theorem m_isMark_s {T q m : Nat} {B : Nat → Nat} {I : mI} {J : mJ} {Q : Int32 → mI → mJ → Prop} (hs : ms T q B I J) (hm : m < 128) (hl : cL m = false) (hd : cD m = false) (h1 : mq T q B m → Q 1 I J) (h0 : ¬ mq T q B m → Q 0 I J) : m_isMark (nI m) I J Q := by
  unfold m_isMark
  rw [hs.2.2.2.2.1, hs.2.2.2.2.2, nI_l (by omega)]
  have k3 : kd T B q ≤ 3 := by
    unfold kd
    split
    · split
      · decide
      · split <;> decide
    · decide
  refine pk_eq (kd T B q) 3 (fun e => ?_) (fun ne => h0 (fun z => ne ?_)) rfl rfl (by omega) (by decide)
  · have lt : q < T := by
      refine Classical.byContradiction (fun ge => ?_)
      rw [(te_E ge).2] at e; exact absurd e (by decide)
    have tve : tv T B q = B q := by unfold tv; rw [e]; rfl
    rw [tve]
    have hb := (hs.2.1 q lt).1
    by_cases eq : B q = m
    · exact br_t ((lg_cmp_eq _ _).mpr (by rw [eq])) (h1 ⟨lt, eq⟩)
    · exact br_f (fun y => eq ((pk_lEQ (by omega) (by omega)).mp ((lg_cmp_eq _ _).mp y))) (h0 (fun z => eq z.2))
  · rw [← z.2] at hl hd
    exact (te_M z.1 hl hd).2
/-- the model's want -/
theorem m_want_y {T q : Nat} {B : Nat → Nat} {I : mI} {J : mJ} {Q : mI → mJ → Prop} (hs : ms T q B I J) (hT : T ≤ 200) (hq : q ≤ T) (hg : I 0 44 = -1) (K : ∀ I' J', mN I J I' J' → ms T (nq T B q) B I' J' → Q I' J') : m_want 1 I J Q := by
  unfold m_want m_isGood
  rw [hg]
  exact br_f (by decide) (br_f (by decide) (br_f (by decide) (hs.next hT hq K)))
theorem m_want_n {T q : Nat} {B : Nat → Nat} {I : mI} {J : mJ} {Q : mI → mJ → Prop} (hs : ms T q B I J) (hg : I 0 44 = -1) (K : Q (u2 I 0 44 (nI q)) J) : m_want 0 I J Q := by
  unfold m_want m_isGood m_faulty
  have ng : ¬ (0 : Int32) ≤ I 0 44 := by rw [hg]; decide
  refine br_f ng (br_f (by decide) (br_t rfl (br_f ng ?_)))
  show Q (u2 I 0 44 (I 0 41)) J
  rw [hs.2.2.1]
  exact K
theorem m_want_f {p : Nat} {a : Int32} {I : mI} {J : mJ} {Q : mI → mJ → Prop} (hp : p ≤ 200) (hg : I 0 44 = nI p) (K : Q I J) : m_want a I J Q := by
  unfold m_want m_isGood
  rw [hg]
  exact br_t (nI_pos' (by omega)) (br_t rfl K)
theorem m_number_s {T q mx : Nat} {B : Nat → Nat} {I : mI} {J : mJ} {Q : Int32 → mI → mJ → Prop} (hs : ms T q B I J) (hT : T ≤ 200) (hq : q ≤ T) (hg : I 0 44 = -1) (hm : mx ≤ 999) (h1 : nOK T q B mx → ∀ I' J', mN I J I' J' → ms T (nq T B q) B I' J' → Q (nI (nv T q B)) I' J') (h0 : ¬ nOK T q B mx → ∀ x, Q x (u2 I 0 44 (nI q)) J) : m_wantNumber (nI mx) I J Q := by
  have tt := te_le (B := B) hq
  unfold m_wantNumber m_wantNumber_j37 m_wantNumber_j38
  rw [hs.2.2.2.2.1, hs.2.2.2.2.2, hs.2.2.2.1, hs.2.2.1, pk_sub tt.1, lN_i]
  have k3 : kd T B q ≤ 3 := by
    unfold kd
    split
    · split
      · decide
      · split <;> decide
    · decide
  have no : ∀ x, ¬ nOK T q B mx → m_want 0 I J (fun I2 J3 => Q x I2 J3) := fun x hn => m_want_n hs hg (h0 hn x)
  refine pk_eq (kd T B q) 2 (fun e => ?_) (fun ne => no _ (fun z => ne z.1)) rfl rfl (by omega) (by decide)
  refine pk_lt 3 (te T B q - q) (fun gt => no _ (fun z => by have := z.2.1; omega)) (fun le => ?_) rfl rfl (by decide) (by omega)
  have tve : tv T B q = nv T q B := by unfold tv nv; rw [if_neg (by rw [e]; decide), if_pos e, show min 3 (te T B q - q) = te T B q - q by omega]
  rw [tve]
  have d3 : nv T q B < 10 ^ (te T B q - q) := dv_le _ (te_dig e)
  have d4 : (10 : Nat) ^ (te T B q - q) ≤ 10 ^ 3 := Nat.pow_le_pow_right (by decide) le
  exact pk_lt mx (nv T q B) (fun gt => no _ (fun z => by have := z.2.2; omega)) (fun le2 => m_want_y hs hT hq hg (h1 ⟨e, le, le2⟩)) rfl rfl (by omega) (by omega)
