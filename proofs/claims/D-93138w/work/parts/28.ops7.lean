set_option maxRecDepth 100000
set_option maxHeartbeats 4000000
/-! PLAIN LAW, operations 7: what a model's call ends in; item, acts, row, alterRow -/
def Dt (W : (Int32 → mI → mJ → Prop) → Prop) : Prop := ∀ Q, W Q → ∃ r I J, Q r I J ∧ ∀ A : Int32 → mI → mJ → Prop, A r I J → W A
theorem Dt.pure {r : Int32} {I : mI} {J : mJ} : Dt (fun Q => Q r I J) := fun _ h => ⟨r, I, J, h, fun _ g => g⟩
theorem Dt.false : Dt (fun _ => False) := fun _ h => h.elim
theorem Dt.and {c : Prop} {W : (Int32 → mI → mJ → Prop) → Prop} (h : Dt W) : Dt (fun Q => c ∧ W Q) := fun Q g => by
  obtain ⟨r, I, J, g1, g2⟩ := h Q g.2
  exact ⟨r, I, J, g1, fun A a => ⟨g.1, g2 A a⟩⟩
theorem Dt.br {c : Prop} {W V : (Int32 → mI → mJ → Prop) → Prop} (h : Dt W) (h2 : Dt V) : Dt (fun Q => (c → W Q) ∧ (¬ c → V Q)) := fun Q g => by
  by_cases e : c
  · obtain ⟨r, I, J, g1, g2⟩ := h Q (g.1 e)
    exact ⟨r, I, J, g1, fun A a => br_t e (g2 A a)⟩
  · obtain ⟨r, I, J, g1, g2⟩ := h2 Q (g.2 e)
    exact ⟨r, I, J, g1, fun A a => br_f e (g2 A a)⟩
theorem Dt.all {α : Sort _} {e : α} {W : α → (Int32 → mI → mJ → Prop) → Prop} (h : ∀ v, Dt (W v)) : Dt (fun Q => ∀ v, v = e → W v Q) := fun Q g => by
  obtain ⟨r, I, J, g1, g2⟩ := h e Q (g e rfl)
  exact ⟨r, I, J, g1, fun A a v ev => by rw [ev]; exact g2 A a⟩
theorem Dt.ex {W : Nat → (Int32 → mI → mJ → Prop) → Prop} (h : ∀ n, Dt (W n)) : Dt (fun Q => ∃ n, W n Q) := fun Q g => by
  obtain ⟨n, g⟩ := g
  obtain ⟨r, I, J, g1, g2⟩ := h n Q g
  exact ⟨r, I, J, g1, fun A a => ⟨n, g2 A a⟩⟩
theorem Dt.bind {W : (Int32 → mI → mJ → Prop) → Prop} {V : (Int32 → mI → mJ → Prop) → Int32 → mI → mJ → Prop} (h : Dt W) (h2 : ∀ r I J, Dt (fun Q => V Q r I J)) : Dt (fun Q => W (fun r I J => V Q r I J)) := fun Q g => by
  obtain ⟨r, I, J, g1, g2⟩ := h _ g
  obtain ⟨r', I', J', y1, y2⟩ := h2 r I J Q g1
  exact ⟨r', I', J', y1, fun A a => g2 _ (y2 A a)⟩
theorem Dt_in {a b c : Int32} {I : mI} {J : mJ} : Dt (fun Q => m_in a b c I J Q) := by
  unfold m_in
  exact Dt.br Dt.pure (Dt.br Dt.pure Dt.pure)
theorem Dt_isAct {a : Int32} {I : mI} {J : mJ} : Dt (fun Q => m_isAct a I J Q) := by
  unfold m_isAct
  exact Dt.bind Dt_in (fun _ _ _ => Dt.and Dt.pure)
theorem Dt_unit {a : Int32} {I : mI} {J : mJ} : Dt (fun Q => m_unit a I J Q) := by
  unfold m_unit
  exact Dt.br Dt.pure (Dt.br Dt.pure (Dt.br Dt.pure Dt.pure))
theorem Dt_foodIn {a b : Int32} {I : mI} {J : mJ} : Dt (fun Q => m_foodIn a b I J Q) := by
  unfold m_foodIn
  exact Dt.bind Dt_unit (fun _ _ _ => Dt.and Dt.pure)
theorem Dt_topOf {a : Int32} {I : mI} {J : mJ} : Dt (fun Q => m_topOf a I J Q) := by
  unfold m_topOf
  exact Dt.and Dt.pure
theorem Dt_yieldIn {a b : Int32} {I : mI} {J : mJ} : Dt (fun Q => m_yieldIn a b I J Q) := by
  unfold m_yieldIn
  exact Dt.and Dt.pure
theorem Dt_filled_l5 : ∀ n (a b c : Int32) (I : mI) (J : mJ), Dt (fun Q => m_filled_l5 Q n a b c I J) := by
  intro n
  induction n with
  | zero => intro a b c I J; exact Dt.false
  | succ n ih =>
    intro a b c I J
    unfold m_filled_l5 m_filled_j64 m_filled_j65
    refine Dt.br Dt.pure (Dt.and (Dt.all (fun v => Dt.br (ih _ _ _ _ _) (Dt.and (Dt.br ?_ (ih _ _ _ _ _))))))
    refine Dt.bind Dt_foodIn (fun r I J => Dt.bind Dt_topOf (fun r2 I2 J2 => Dt.br (ih _ _ _ _ _) (Dt.bind Dt_unit (fun _ _ _ => ih _ _ _ _ _))))
theorem Dt_filled {a b : Int32} {I : mI} {J : mJ} : Dt (fun Q => m_filled a b I J Q) := by
  unfold m_filled
  exact Dt.ex (fun n => Dt_filled_l5 n _ _ _ _ _)
theorem Dt_leads_l140 : ∀ n (a b c : Int32) (I : mI) (J : mJ), Dt (fun Q => m_leads_l140 Q n a b c I J) := by
  intro n
  induction n with
  | zero => intro a b c I J; exact Dt.false
  | succ n ih =>
    intro a b c I J
    unfold m_leads_l140
    exact Dt.br Dt.pure (Dt.bind Dt_filled (fun _ _ _ => ih _ _ _ _ _))
theorem Dt_leads_j137 {a b : Int32} {I : mI} {J : mJ} : Dt (fun Q => m_leads_j137 Q a b I J) := by
  unfold m_leads_j137
  exact Dt.ex (fun n => Dt_leads_l140 n _ _ _ _ _)
theorem Dt_leads_j45 {a b c d e : Int32} {I : mI} {J : mJ} : Dt (fun Q => m_leads_j45 Q a b c d e I J) := by
  unfold m_leads_j45 m_leads_j88 m_leads_j133
  have z : ∀ (x y : Int32) (I : mI), Dt (fun Q => (d = (-1) → m_foodIn c b (u2 I 0 20 x) J (fun r13 I14 J15 => m_yieldIn b r13 I14 J15 (fun r16 I17 J18 => (r13 ≤ 0 → m_leads_j137 Q a y (u2 (u2 I17 0 22 r16) 0 21 ((I17 0 21) - 0)) J18) ∧ (¬ r13 ≤ 0 → m_unit b (u2 I17 0 22 r16) J18 (fun r20 I21 J22 => m_leads_j137 Q a y (u2 I21 0 21 ((I17 0 21) - r20)) J22))))) ∧ (¬ d = (-1) → m_leads_j137 Q a y (u2 I 0 20 x) J)) := fun x y I =>
    Dt.br (Dt.bind Dt_foodIn (fun _ _ _ => Dt.bind Dt_yieldIn (fun _ _ _ => Dt.br Dt_leads_j137 (Dt.bind Dt_unit (fun _ _ _ => Dt_leads_j137))))) Dt_leads_j137
  exact Dt.br Dt.pure (Dt.br (Dt.br (z _ _ _) (z _ _ _)) Dt.pure)
theorem Dt_leads {a b c d : Int32} {I : mI} {J : mJ} : Dt (fun Q => m_leads a b c d I J Q) := by
  unfold m_leads
  exact Dt.br Dt.pure (Dt.br Dt.pure (Dt.br Dt.pure (Dt.br Dt_leads_j45 (Dt.and Dt_leads_j45))))
theorem Dt_does {a : Int32} {I : mI} {J : mJ} : Dt (fun Q => m_does a I J Q) := by
  unfold m_does m_goes
  exact Dt.bind Dt_isAct (fun _ _ _ => Dt.br Dt.pure (Dt.bind Dt_leads (fun _ _ _ => Dt.br Dt.pure Dt.pure)))
/-! item -/
theorem x_byteAt_c {r n : Nat} {a : Int32} {s : xS} {rd : xRd} {J : mJ} {I : mI} {X : Nat → Prop} {Q : Int32 → Prop} (ho : xo s r 101) (hl : xlen s r = n) (hn : n < 2 ^ 31) (h0 : a < 0 ∨ nI n ≤ a → X 0) (h1 : ∀ j, j < n → a = nI j → Q (I r j)) : x_X0_byteAt r a s rd J I X Q := by
  unfold x_X0_byteAt
  refine ⟨ho, ?_⟩
  rw [hl]
  refine x_within_c hn h0 (fun j hj e => ?_)
  subst e
  exact ⟨vp_in_nI hj hn, by rw [nI_clamp (by omega)]; exact h1 j hj rfl⟩
theorem x_shortAt_c {r n : Nat} {a : Int32} {s : xS} {rd : xRd} {J : mJ} {I : mI} {X : Nat → Prop} {Q : Int32 → Prop} (ho : xo s r 102) (hl : xlen s r = n) (hn : n < 2 ^ 31) (h0 : a < 0 ∨ nI n ≤ a → X 0) (h1 : ∀ j, j < n → a = nI j → Q (I r j)) : x_X0_shortAt r a s rd J I X Q := by
  unfold x_X0_shortAt
  refine ⟨ho, ?_⟩
  rw [hl]
  refine x_within_c hn h0 (fun j hj e => ?_)
  subst e
  exact ⟨vp_in_nI hj hn, by rw [nI_clamp (by omega)]; exact h1 j hj rfl⟩
theorem x_intAt_c {r n : Nat} {a : Int32} {s : xS} {rd : xRd} {J : mJ} {I : mI} {X : Nat → Prop} {Q : Int32 → Prop} (ho : xo s r 100) (hl : xlen s r = n) (hn : n < 2 ^ 31) (h0 : a < 0 ∨ nI n ≤ a → X 0) (h1 : ∀ j, j < n → a = nI j → Q (I r j)) : x_X0_intAt r a s rd J I X Q := by
  unfold x_X0_intAt
  refine ⟨ho, ?_⟩
  rw [hl]
  refine x_within_c hn h0 (fun j hj e => ?_)
  subst e
  exact ⟨vp_in_nI hj hn, by rw [nI_clamp (by omega)]; exact h1 j hj rfl⟩
theorem x_longAt_c {r n : Nat} {a : Int32} {s : xS} {rd : xRd} {J : mJ} {I : mI} {X : Nat → Prop} {Q : Int32 → Prop} (ho : xo s r 110) (hl : xlen s r = n) (hn : n < 2 ^ 31) (h0 : a < 0 ∨ nI n ≤ a → X 0) (h1 : ∀ j, j < n → a = nI j → Q ((J r j).toInt32)) : x_X0_longAt r a s rd J I X Q := by
  unfold x_X0_longAt
  refine ⟨ho, ?_⟩
  rw [hl]
  refine x_within_c hn h0 (fun j hj e => ?_)
  subst e
  exact ⟨vp_in_nI hj hn, by rw [nI_clamp (by omega)]; exact h1 j hj rfl⟩
theorem x_item_c {r n q q' : Nat} {a : Int32} {s : xS} {rd : xRd} {J : mJ} {I : mI} {X : Nat → Prop} {Q : Int32 → Prop} (hq : q < 4) (hq' : q' < 4) (ho : xo s r (ak q)) (hl : xlen s r = n) (hn : n < 2 ^ 31) (hne : q ≠ q' → X 3) (h0 : q = q' → a < 0 ∨ nI n ≤ a → X 0)
    (h1 : q = q' → ∀ j, j < n → a = nI j → Q (if q = 3 then (J r j).toInt32 else I r j)) : x_X0_itemOf r (nI q') a s rd J I X Q := by
  unfold x_X0_itemOf
  rcases lt4 hq with rfl | rfl | rfl | rfl
  · refine ⟨fun e => .inr (.inl ⟨ho, ?_⟩), fun e => ?_⟩
    · have e0 : 0 = q' := ((nI_eq (by omega) (by decide)).mp e).symm
      exact x_byteAt_c ho hl hn (h0 e0) (fun j hj ej => by have := h1 e0 j hj ej; rw [if_neg (by decide)] at this; exact this)
    · have nX : X 3 := hne (fun y => e (by rw [← y]; rfl))
      exact br_c (fun _ => .inr (.inl ⟨ho, nX⟩)) (fun _ => br_c (fun _ => .inr (.inl ⟨ho, nX⟩)) (fun _ => .inr (.inl ⟨ho, nX⟩)))
  · refine ⟨fun e => .inr (.inr (.inl ⟨ho, hne (fun y => absurd e (by rw [← y]; decide))⟩)), fun _ => ⟨fun e => .inr (.inr (.inl ⟨ho, ?_⟩)), fun e => ?_⟩⟩
    · have e0 : 1 = q' := ((nI_eq (b := 1) (by omega) (by decide)).mp e).symm
      exact x_shortAt_c ho hl hn (h0 e0) (fun j hj ej => by have := h1 e0 j hj ej; rw [if_neg (by decide)] at this; exact this)
    · have nX : X 3 := hne (fun y => e (by rw [← y]; rfl))
      exact br_c (fun _ => .inr (.inr (.inl ⟨ho, nX⟩))) (fun _ => .inr (.inr (.inl ⟨ho, nX⟩)))
  · refine ⟨fun e => .inl ⟨ho, hne (fun y => absurd e (by rw [← y]; decide))⟩, fun _ => ⟨fun e => .inl ⟨ho, hne (fun y => absurd e (by rw [← y]; decide))⟩, fun _ => ⟨fun e => .inl ⟨ho, ?_⟩, fun e => ?_⟩⟩⟩
    · have e0 : 2 = q' := ((nI_eq (b := 2) (by omega) (by decide)).mp e).symm
      exact x_intAt_c ho hl hn (h0 e0) (fun j hj ej => by have := h1 e0 j hj ej; rw [if_neg (by decide)] at this; exact this)
    · exact .inl ⟨ho, hne (fun y => e (by rw [← y]; rfl))⟩
  · have nX : q' ≠ 3 → X 3 := fun e => hne (fun y => e y.symm)
    refine ⟨fun e => .inr (.inr (.inr ⟨ho, nX (fun y => absurd e (by rw [y]; decide))⟩)), fun e1 => ⟨fun e => .inr (.inr (.inr ⟨ho, nX (fun y => absurd e (by rw [y]; decide))⟩)), fun e2 => ⟨fun e => .inr (.inr (.inr ⟨ho, nX (fun y => absurd e (by rw [y]; decide))⟩)), fun e3 => .inr (.inr (.inr ⟨ho, ?_⟩))⟩⟩⟩
    have e0 : 3 = q' := by
      rcases lt4 hq' with rfl | rfl | rfl | rfl
      · exact absurd rfl e1
      · exact absurd rfl e2
      · exact absurd rfl e3
      · rfl
    exact x_longAt_c ho hl hn (h0 e0) (fun j hj ej => by have := h1 e0 j hj ej; rw [if_pos rfl] at this; exact this)
theorem m_lack_n {k : Nat} {b : Int32} {I : mI} {J : mJ} {Q : Int32 → mI → mJ → Prop} (hk : k < 4) (h : I 26 k = -1) (h1 : Q (-11) I J) : m_lacksSort (nI k) b I J Q := by
  unfold m_lacksSort
  rw [nI_clamp (by omega), h]
  exact ⟨vp_in_nI hk (by decide), br_f (by decide) h1⟩
theorem m_lack_q {k q q' : Nat} {I : mI} {J : mJ} {Q : Int32 → mI → mJ → Prop} (hk : k < 4) (hq : q < 4) (hq' : q' < 4) (h : I 26 k = nI q) (h0 : q = q' → Q 0 I J) (h1 : q ≠ q' → Q (-13) I J) : m_lacksSort (nI k) (nI q') I J Q := by
  unfold m_lacksSort
  rw [nI_clamp (by omega), h]
  exact ⟨vp_in_nI hk (by decide), br_t (nI_pos' (by omega)) ⟨vp_in_nI hk (by decide), fun e => h0 ((nI_eq (by omega) (by omega)).mp e), fun e => h1 (fun y => e (by rw [y]))⟩⟩
theorem p_item {t : Nat} {a b v : Int32} {s : xS} {rd : xRd} {J : mJ} {I Im : mI} {Jm : mJ} (h : Rel t s rd J I Im Jm) : x_X0_item a b v s rd J I (fun r => m_item a b v Im Jm (RelQ (t + 1) s rd J I r)) := by
  have no : ∀ z, RelQ (t + 1) s rd J I z z Im Jm := fun z => ⟨rfl, h.same⟩
  obtain ⟨h0, σ, fz, hS⟩ := h.opn
  unfold x_X0_item m_item
  refine x_isSheet_c (fun k hk e => br_f (by decide) ?_) (fun q => br_t rfl (m_isShelf_c (fun z => absurd z q) (fun _ => br_t rfl (no _))))
  subst e
  refine x_in_c (fun y => br_f (by decide) ?_) (fun y => br_t rfl (m_sh_c hk (br_f (by decide) (m_in_c (fun z => absurd z y) (fun _ => br_t rfl (no _))))))
  obtain ⟨q', _, hq', rfl⟩ := in_of (lo := 0) (hi := 3) (by decide) (by decide) y
  have go : ∀ {A : Int32 → mI → mJ → Prop} {r : Int32}, A 1 Im Jm → m_isShelf (nI k) Im Jm (fun r1 I2 J3 => (r1 = 0 → RelQ (t + 1) s rd J I r (-1) I2 J3) ∧ (¬ r1 = 0 → m_in (nI q') 0 3 I2 J3 (fun r5 I6 J7 => (r5 = 0 → RelQ (t + 1) s rd J I r (-1) I6 J7) ∧ (¬ r5 = 0 → A 1 I6 J7)))) :=
    fun hA => m_sh_c hk (br_f (by decide) (m_in_c (fun _ => br_f (by decide) hA) (fun z => absurd y z)))
  rw [nI_clamp (by omega)]
  have vin : vp_in (nI k) 4 := vp_in_nI hk (by decide)
  refine ⟨vin, 121 + k, xR120 hk, xo121 hk, ?_⟩
  obtain ⟨ar, ai, h2⟩ := hS.rS
  rcases h2 k hk with ⟨e1, e2⟩ | ⟨q, n, hq, hn, e1, e2, e3, e4, e5, e6, e7, e8, e9⟩
  · refine x_row_n (xo121 hk) e1 (x_there_n ⟨rfl, ?_⟩)
    refine m_sh_c hk (br_f (by decide) (m_in_c (fun _ => br_f (by decide) (m_lack_n hk e2 (br_f (by decide) (no _)))) (fun z => absurd y z)))
  · refine x_row_q (xo121 hk) hq e1 ?_
    rw [e4]
    refine x_there_s ?_
    refine x_item_c hq (by omega) e5 e6 (by omega) (fun ne => .inl ⟨rfl, ?_⟩) (fun ee bad => .inr ⟨rfl, ?_⟩) (fun ee j hj ej => ?_)
    · exact m_sh_c hk (br_f (by decide) (m_in_c (fun _ => br_f (by decide) (m_lack_q hk hq (by omega) e2 (fun z => absurd z ne) (fun _ => br_f (by decide) (no _)))) (fun z => absurd y z)))
    · refine m_sh_c hk (br_f (by decide) (m_in_c (fun _ => br_f (by decide) (m_lack_q hk hq (by omega) e2 (fun _ => br_t rfl ⟨vin, ?_⟩) (fun z => absurd ee z))) (fun z => absurd y z)))
      rw [e3]
      exact m_in_c (fun z => absurd z (ix_no (by omega) bad)) (fun _ => br_t rfl (no _))
    · subst ej
      refine m_sh_c hk (br_f (by decide) (m_in_c (fun _ => br_f (by decide) (m_lack_q hk hq (by omega) e2 (fun _ => br_t rfl ⟨vin, ?_⟩) (fun z => absurd ee z))) (fun z => absurd y z)))
      rw [e3, p40, nI_clamp (by omega)]
      refine m_in_c (fun _ => br_f (by decide) ⟨vp_in_nI (by omega) (by decide), ?_⟩) (fun z => absurd (ix_yes (by omega) hj) z)
      refine ⟨?_, h.same⟩
      rw [e9 j hj]
      by_cases e : q = 3
      · rw [if_pos e, if_pos e]
      · rw [if_neg e, if_neg e, Int32.toInt32_toInt64]
/-! rows of the worm -/
theorem x_isCell_c {a b : Int32} {s : xS} {rd : xRd} {J : mJ} {I : mI} {n : Nat} {Q : Int32 → Prop} (hn : n < 2 ^ 31) (hI : I 0 12 = nI n) (h1 : ∀ j k, j < n → k < 2 → a = nI j → b = nI k → Q 1) (h0 : ((a < 0 ∨ nI n ≤ a) ∨ ¬ (0 ≤ b ∧ b ≤ 1)) → Q 0) : x_X0_isCell a b s rd J I Q := by
  unfold x_X0_isCell
  rw [hI]
  rcases pk_ix a hn with e | e | ⟨j, hj, rfl⟩
  · exact x_in_c (fun z => absurd z (ix_no hn (.inl e))) (fun _ => br_t rfl (h0 (.inl (.inl e))))
  · exact x_in_c (fun z => absurd z (ix_no hn (.inr e))) (fun _ => br_t rfl (h0 (.inl (.inr e))))
  · refine x_in_c (fun _ => br_f (by decide) (x_in_c (fun z => br_f (by decide) ?_) (fun z => br_t rfl (h0 (.inr z))))) (fun z => absurd (ix_yes hn hj) z)
    obtain ⟨k, _, hk, rfl⟩ := in_of (lo := 0) (hi := 1) (by decide) (by decide) z
    exact h1 j k hj (by omega) rfl rfl
theorem m_isRow_c {a b : Int32} {I : mI} {J : mJ} {n : Nat} {Q : Int32 → mI → mJ → Prop} (hn : n < 2 ^ 31) (hI : I 0 57 = nI n) (h1 : ∀ j k, j < n → k < 2 → a = nI j → b = nI k → Q 1 I J) (h0 : ((a < 0 ∨ nI n ≤ a) ∨ ¬ (0 ≤ b ∧ b ≤ 1)) → Q 0 I J) : m_isRow a b I J Q := by
  unfold m_isRow
  rw [hI]
  rcases pk_ix a hn with e | e | ⟨j, hj, rfl⟩
  · exact m_in_c (fun z => absurd z (ix_no hn (.inl e))) (fun _ => br_t rfl (h0 (.inl (.inl e))))
  · exact m_in_c (fun z => absurd z (ix_no hn (.inr e))) (fun _ => br_t rfl (h0 (.inl (.inr e))))
  · refine m_in_c (fun _ => br_f (by decide) (m_in_c (fun z => br_f (by decide) ?_) (fun z => br_t rfl (h0 (.inr z))))) (fun z => absurd (ix_yes hn hj) z)
    obtain ⟨k, _, hk, rfl⟩ := in_of (lo := 0) (hi := 1) (by decide) (by decide) z
    exact h1 j k hj (by omega) rfl rfl
theorem cell_no {a b : Int32} {n j k : Nat} (hn : n < 2 ^ 31) (hj : j < n) (hk : k < 2) (ea : a = nI j) (eb : b = nI k) : ¬ ((a < 0 ∨ nI n ≤ a) ∨ ¬ (0 ≤ b ∧ b ≤ 1)) := by
  rintro (e | e)
  · rw [ea] at e
    exact ix_no hn e (ix_yes hn hj)
  · rw [eb] at e
    exact e ⟨nI_pos' (by omega), nI_le (b := 1) (by omega) (by decide)⟩
theorem m_cell_y {j k n : Nat} {I : mI} {J : mJ} {Q : Int32 → mI → mJ → Prop} (hn : n < 2 ^ 31) (hI : I 0 57 = nI n) (hj : j < n) (hk : k < 2) (h1 : Q 1 I J) : m_isRow (nI j) (nI k) I J Q := m_isRow_c hn hI (fun _ _ _ _ _ _ => h1) (fun z => absurd z (cell_no hn hj hk rfl rfl))
theorem m_cell_n {a b : Int32} {n : Nat} {I : mI} {J : mJ} {Q : Int32 → mI → mJ → Prop} (hn : n < 2 ^ 31) (hI : I 0 57 = nI n) (h : (a < 0 ∨ nI n ≤ a) ∨ ¬ (0 ≤ b ∧ b ≤ 1)) (h0 : Q 0 I J) : m_isRow a b I J Q := m_isRow_c hn hI (fun _ _ x1 x2 x3 x4 => absurd h (cell_no hn x1 x2 x3 x4)) (fun _ => h0)
theorem p2k (j k : Nat) : (2 : Int32) * nI j + nI k = nI (2 * j + k) := by rw [show (2 : Int32) = nI 2 from rfl, pk_mul, nI_add]
/-- what the class's row says, from the relation -/
theorem x_rowv_c {j k n : Nat} {s : xS} {rd : xRd} {J : mJ} {I : mI} {Q : Int32 → Prop} (hn : n ≤ 20) (hI : I 0 12 = nI n) (hj : j < n) (hk : k < 2) (h : Q (I (100 + j) k)) : x_X0_row (nI j) (nI k) s rd J I Q := by
  unfold x_X0_row
  refine x_isCell_c (by omega) hI (fun _ _ _ _ _ _ => br_f (by decide) ?_) (fun z => absurd z (cell_no (by omega) hj hk rfl rfl))
  rw [nI_clamp (by omega)]
  have vj : vp_in (nI j) 20 := vp_in_nI (by omega) (by decide)
  have h01 : k = 0 ∨ k = 1 := by omega
  rcases h01 with rfl | rfl
  · exact br_t rfl ⟨vj, 100 + j, xR99 (by omega), xo100 (by omega), h⟩
  · exact br_f (by decide) ⟨vj, 100 + j, xR99 (by omega), xo100 (by omega), h⟩
theorem RelS.rW {t : Nat} {σ : wS} {fz : Nat → Bool} {s : xS} {rd : xRd} {J : mJ} {I Im : mI} {Jm : mJ} (h : RelS t σ fz s rd J I Im Jm) : @@N@@.rW I Im := h.2.2.2.2.2.2.2.2.2.1
theorem p_row {t : Nat} {a b : Int32} {s : xS} {rd : xRd} {J : mJ} {I Im : mI} {Jm : mJ} (h : Rel t s rd J I Im Jm) : x_X0_row a b s rd J I (fun r => m_row a b Im Jm (RelQ (t + 1) s rd J I r)) := by
  have no : ∀ z, RelQ (t + 1) s rd J I z z Im Jm := fun z => ⟨rfl, h.same⟩
  obtain ⟨h0, σ, fz, hS⟩ := h.opn
  obtain ⟨n, hn, i1, i2, i3⟩ := hS.rW
  by_cases c : (a < 0 ∨ nI n ≤ a) ∨ ¬ (0 ≤ b ∧ b ≤ 1)
  · unfold x_X0_row m_row
    exact x_isCell_c (by omega) i1 (fun _ _ x1 x2 x3 x4 => absurd c (cell_no (by omega) x1 x2 x3 x4)) (fun z => br_t rfl (m_cell_n (by omega) i2 z (br_t rfl (no _))))
  · have q : ∃ j k, j < n ∧ k < 2 ∧ a = nI j ∧ b = nI k := by
      rcases pk_ix a (show n < 2 ^ 31 by omega) with e | e | ⟨j, hj, rfl⟩
      · exact absurd (.inl (.inl e)) c
      · exact absurd (.inl (.inr e)) c
      · obtain ⟨k, _, hk, rfl⟩ := in_of (lo := 0) (hi := 1) (by decide) (by decide) (Classical.not_not.mp (fun z => c (.inr z)))
        exact ⟨j, k, hj, by omega, rfl, rfl⟩
    obtain ⟨j, k, hj, hk, rfl, rfl⟩ := q
    refine x_rowv_c hn i1 hj hk ?_
    unfold m_row
    refine m_cell_y (by omega) i2 hj hk (br_f (by decide) ?_)
    rw [p2k, nI_clamp (by omega)]
    refine ⟨vp_in_nI (by omega) (by decide), ?_, h.same⟩
    have h01 : k = 0 ∨ k = 1 := by omega
    rcases h01 with rfl | rfl
    · exact (i3 j hj).1
    · exact (i3 j hj).2
/-- the worm's rows are changed, nothing else -/
theorem RelS.worm {t : Nat} {σ : wS} {fz : Nat → Bool} {s : xS} {rd : xRd} {J : mJ} {I I' Im Im' : mI} {Jm : mJ} (h : RelS t σ fz s rd J I Im Jm) (gI : ∀ r, r < 100 ∨ 120 ≤ r → I' r = I r) (gm : ∀ r, r ≠ 25 → Im' r = Im r) (hW : @@N@@.rW I' Im') : RelS (t + 1) σ fz s rd J I' Im' Jm := by
  obtain ⟨a1, a2, a3, ⟨rn, st, y1, y2, y3, y4, y5, y6⟩, ⟨d, w1, w2, w3⟩, a6, a7, a8, a9, a10, a11, a12, a13⟩ := h
  have ho : old s rd fz I s rd fz I' := old.same (fun r hr => gI r (by omega))
  have i0 := gI 0 (by omega)
  have m0 := gm 0 (by omega)
  refine ⟨a1, a2.to (fun r r1 r2 => gI r (by omega)), a3.to (fun r r1 r2 => gm r (by omega)) (fun k _ => by rw [m0]), ⟨rn, st, ?_, by omega, ?_, ?_, by omega, ?_⟩, ⟨d, w1, by rw [m0]; exact w2, w3⟩, a6.to ho (fun k => rfl), a7.to ho (fun k => rfl), ?_, ?_, hW, ?_, ?_, ?_⟩
  · rw [gI 23 (by omega)]; exact y1
  · rw [gI 24 (by omega)]; exact y3
  · rw [m0]; exact y4
  · rw [gm 7 (by omega)]; exact y6
  · exact a8.to ho (by rw [i0]) (fun r r1 r2 => gI r (by omega)) (fun k => ⟨rfl, rfl⟩) (by rw [m0]) (gm 33 (by omega)) a8.1
  · exact a9.to (by rw [i0]) (gI 92 (by omega)) (by rw [m0]) (gm 19 (by omega))
  · exact a11.to (by rw [i0]) (gI 127 (by omega)) (by rw [m0]) (gm 32 (by omega))
  · exact a12.to (fun r r1 => gI r (by omega)) (fun r r1 r2 => gm r (by omega))
  · exact a13.to (fun r r1 r2 => gI r (by omega)) (fun r r1 r2 => gm r (by omega))
theorem p_alterRow {t : Nat} {a b v : Int32} {s : xS} {rd : xRd} {J : mJ} {I Im : mI} {Jm : mJ} (h : Rel t s rd J I Im Jm) : x_X0_alterRow a b v s rd J I (fun r I' => m_alterRow a b v Im Jm (RelQ (t + 1) s rd J I' r)) := by
  have no : ∀ z, RelQ (t + 1) s rd J I z z Im Jm := fun z => ⟨rfl, h.same⟩
  obtain ⟨h0, σ, fz, hS⟩ := h.opn
  obtain ⟨n, hn, i1, i2, i3⟩ := hS.rW
  unfold x_X0_alterRow m_alterRow
  refine x_isCell_c (by omega) i1 (fun j k hj hk ea eb => br_f (by decide) ?_) (fun z => br_t rfl (m_cell_n (by omega) i2 z (br_t rfl (no _))))
  subst ea
  subst eb
  refine x_rowv_c hn i1 hj hk ?_
  have vj : vp_in (nI j) 20 := vp_in_nI (by omega) (by decide)
  have v40 : vp_in (nI (2 * j + k)) 40 := vp_in_nI (by omega) (by decide)
  have oj : xo s (100 + j) 9 := xo100 (by omega)
  have rj : xR rd 99 j = some (100 + j) := xR99 (by omega)
  rw [nI_clamp (by omega)]
  refine ⟨vj, 100 + j, rj, ?_⟩
  have fin : ∀ {I' : mI}, (∀ r, r ≠ 100 + j → I' r = I r) → (∀ q, q < 2 → I' (100 + j) q = if q = k then v else I (100 + j) q) → m_isRow (nI j) (nI k) Im Jm (fun r1 I2 J3 => (r1 = 0 → RelQ (t + 1) s rd J I' (I (100 + j) k) (-9) I2 J3) ∧ (¬ r1 = 0 → vp_in (2 * nI j + nI k) 40 ∧ (∀ v5 : Int32, v5 = I2 25 (2 * nI j + nI k).toNatClampNeg → vp_in (2 * nI j + nI k) 40 ∧ RelQ (t + 1) s rd J I' (I (100 + j) k) v5 (u2 I2 25 (2 * nI j + nI k).toNatClampNeg v) J3))) := by
    intro I' g1 g2
    refine m_cell_y (by omega) i2 hj hk (br_f (by decide) ?_)
    rw [p2k, nI_clamp (by omega)]
    refine ⟨v40, nm_e ⟨v40, ?_, RelS.cls (hS.worm (fun r hr => g1 r (by omega)) (fun r hr => u2r hr) ⟨n, hn, ?_, ?_, fun i hi => ?_⟩) (by omega)⟩⟩
    · have h01 : k = 0 ∨ k = 1 := by omega
      rcases h01 with rfl | rfl
      · exact (i3 j hj).1
      · exact (i3 j hj).2
    · rw [g1 0 (by omega)]; exact i1
    · rw [u2r (by decide)]; exact i2
    · by_cases e : i = j
      · subst e
        rw [g2 0 (by decide), g2 1 (by decide)]
        have h01 : k = 0 ∨ k = 1 := by omega
        rcases h01 with rfl | rfl
        · rw [if_pos rfl, if_neg (by decide), Nat.add_zero, u2_self, u2_ne _ _ (Or.inr (by omega))]
          exact ⟨rfl, (i3 i hj).2⟩
        · rw [if_neg (by decide), if_pos rfl, u2_self, u2_ne _ _ (Or.inr (by omega))]
          exact ⟨(i3 i hj).1, rfl⟩
      · rw [g1 (100 + i) (by omega), u2_ne _ _ (Or.inr (by omega)), u2_ne _ _ (Or.inr (by omega))]
        exact i3 i hi
  unfold x_X0_alterRow_j43
  rw [nI_clamp (by omega)]
  have h01 : k = 0 ∨ k = 1 := by omega
  rcases h01 with rfl | rfl
  · refine br_t rfl ⟨oj, vj, 100 + j, rj, br_f (by decide) ⟨vj, 100 + j, rj, oj, oj, fin (fun r hr => by rw [u2r hr, u2r hr]) (fun q hq => ?_)⟩⟩
    have hq1 : q = 0 ∨ q = 1 := by omega
    rcases hq1 with rfl | rfl
    · rw [if_pos rfl, u2_ne _ _ (Or.inr (by decide)), u2_self]
    · rw [if_neg (by decide), u2_self]
  · refine br_f (by decide) ⟨vj, 100 + j, rj, oj, oj, vj, 100 + j, rj, br_t rfl ⟨oj, fin (fun r hr => by rw [u2r hr, u2r hr]) (fun q hq => ?_)⟩⟩
    have hq1 : q = 0 ∨ q = 1 := by omega
    rcases hq1 with rfl | rfl
    · rw [if_neg (by decide), u2_ne _ _ (Or.inr (by decide)), u2_self]
    · rw [if_pos rfl, u2_self]
/-! acts -/
theorem sub3 : ∀ n, n ≤ 40 → ∀ i, i ≤ 20 → (nI n - 1 - nI i).toInt = (n : Int) - 1 - (i : Int) := by decide +kernel
/-- a sheet of ints, from the relation -/
theorem Rel.ints {t k r : Nat} {s : xS} {rd : xRd} {J : mJ} {I Im : mI} {Jm : mJ} (h : Rel t s rd J I Im Jm) (hk : k < 4) (h4 : I (121 + k) 4 = nI 2) (hr : xR rd (121 + k) 2 = some r) : ∃ n, n ≤ 40 ∧ xo s r 100 ∧ xlen s r = n ∧ 133 ≤ r ∧ Im 27 k = nI n ∧ ∀ j, j < n → Jm 28 (40 * k + j) = (I r j).toInt64 := by
  obtain ⟨h0, σ, fz, hS⟩ := h.opn
  obtain ⟨ar, ai, h2⟩ := hS.rS
  rcases h2 k hk with ⟨e1, e2⟩ | ⟨q, n, hq, hn, e1, e2, e3, e4, e5, e6, e7, e8, e9⟩
  · rw [h4] at e1
    exact absurd e1 (by decide)
  · have e : q = 2 := ((nI_eq (by decide) (by omega)).mp (h4.symm.trans e1)).symm
    subst e
    have er : ar k = r := Option.some.inj (e4.symm.trans hr)
    rw [er] at e5 e6 e7
    exact ⟨n, hn, e5, e6, e7, e3, fun j hj => by rw [e9 j hj, if_neg (by decide), er]⟩
theorem x_acts_lp {t k c r : Nat} {b : Int32} {s : xS} {rd : xRd} {J : mJ} {X : Nat → mI → Prop} {Q : Int32 → mI → Prop} (hk : k < 4) (hc : c ≤ 20) (hr : xR rd (121 + k) 2 = some r) (W : (Int32 → mI → mJ → Prop) → Prop)
    (hX : ∀ I' Im' Jm', Rel t s rd J I' Im' Jm' → (∀ A : Int32 → mI → mJ → Prop, A (-12) Im' Jm' → W A) → X 0 I') (hQ : ∀ z I' Im' Jm', Rel t s rd J I' Im' Jm' → (∀ A : Int32 → mI → mJ → Prop, A z Im' Jm' → W A) → Q z I') :
    ∀ fuel i acc (I Im : mI) (Jm : mJ), c - i < fuel → i ≤ c → acc ≤ i → Rel t s rd J I Im Jm → I (121 + k) 4 = nI 2 → (i = 0 ∨ ∃ b', b' < 40 ∧ b = nI b') → (∀ A : Int32 → mI → mJ → Prop, (∃ n, m_acts_l41 A n (nI k) b (nI c) (nI acc) (nI i) Im Jm) → W A) → x_X0_doneBy_l6 X Q fuel r b (nI c) (nI acc) (nI i) s rd J I := by
  intro fuel
  induction fuel with
  | zero => intro i acc I Im Jm h1; omega
  | succ fuel ih =>
    intro i acc I Im Jm h1 h2 h3 h h4 hb hW
    obtain ⟨n, hn, ho, hl, h133, h27, hv⟩ := h.ints hk h4 hr
    have vin : vp_in (nI k) 4 := vp_in_nI hk (by decide)
    unfold x_X0_doneBy_l6
    refine pk_le c i (fun le => ?_) (fun lt => ?_) rfl rfl (by omega) (by omega)
    · refine hQ _ I Im Jm h (fun A hA => hW A ⟨1, ?_⟩)
      unfold m_acts_l41
      exact br_t (nI_le le (by omega)) hA
    · have nle : ¬ nI c ≤ nI i := nI_ge lt (by omega)
      by_cases neg : b < 0
      · have i0 : i = 0 := by
          rcases hb with e | ⟨b', _, rfl⟩
          · exact e
          · exact absurd neg (nI_pos (by omega))
        subst i0
        have eb : b + nI 0 = b := Int32.add_zero b
        rw [eb]
        refine x_intAt_c ho hl (by omega) (fun _ => hX I Im Jm h (fun A hA => hW A ⟨1, ?_⟩)) (fun j hj ej => absurd neg (by rw [ej]; exact nI_pos (by omega)))
        unfold m_acts_l41
        exact br_f nle (br_t neg hA)
      · obtain ⟨b', hb', rfl⟩ := nI_of neg
        have hbi : b' + i < 2 ^ 31 := by
          rcases hb with e | ⟨b2, g1, g2⟩
          · omega
          · have := (nI_eq hb' (by omega)).mp g2
            omega
        rw [nI_add]
        have le3 : nI b' ≤ nI n - 1 - nI i ↔ b' + i < n := by
          rw [Int32.le_iff_toInt_le, nI_toInt hb', sub3 n hn i (by omega)]
          omega
        refine x_intAt_c ho hl (by omega) (fun bad => hX I Im Jm h (fun A hA => hW A ⟨1, ?_⟩)) (fun j hj ej => ?_)
        · have no : ¬ nI b' ≤ nI n - 1 - nI i := by
            rw [le3]
            rcases bad with e | e
            · exact absurd e (nI_pos hbi)
            · have := (nI_leI (by omega) hbi).mp e
              omega
          unfold m_acts_l41
          rw [nI_clamp (by omega), h27]
          exact br_f nle (br_f neg ⟨vin, br_f no hA⟩)
        · have ej' : b' + i = j := (nI_eq hbi (by omega)).mp ej
          have hlt : b' + i < n := by omega
          refine p_doesK h (Nat.le_refl t) (fun z I' fr hm => ?_)
          obtain ⟨z', Im', Jm', ⟨ez, hrel⟩, hA⟩ := Dt_does _ hm
          subst ez
          have h4' : I' (121 + k) 4 = nI 2 := by rw [fr (121 + k) (by omega) (by omega)]; exact h4
          have adv : ∀ A : Int32 → mI → mJ → Prop, (∃ n0, (z < 0 → m_acts_l41 A n0 (nI k) (nI b') (nI c) (nI acc + 0) (nI i + 1) Im' Jm') ∧ (¬ z < 0 → m_acts_l41 A n0 (nI k) (nI b') (nI c) (nI acc + 1) (nI i + 1) Im' Jm')) → W A := by
            rintro A ⟨n0, hz⟩
            refine hW A ⟨n0 + 1, ?_⟩
            unfold m_acts_l41 m_acts_j98
            rw [nI_clamp (by omega), h27]
            refine br_f nle (br_f neg ⟨vin, br_t (le3.mpr hlt) ⟨?_, ?_⟩⟩)
            · rw [p40, nI_add]
              exact vp_in_nI (by omega) (by decide)
            · rw [p40, nI_add, nI_clamp (by omega), show 40 * k + b' + i = 40 * k + j by omega, hv j hj, Int32.toInt32_toInt64]
              exact hA _ hz
          unfold x_X0_doneBy_j35
          rw [nI_1]
          refine ⟨fun c0 => ?_, fun c0 => ?_⟩
          · have e0 : nI acc + 0 = nI acc := Int32.add_zero _
            rw [e0]
            refine ih (i + 1) acc I' Im' Jm' (by omega) (by omega) (by omega) hrel h4' (.inr ⟨b', by omega, rfl⟩) (fun A ⟨n0, hn0⟩ => adv A ⟨n0, br_t c0 ?_⟩)
            rw [e0, nI_1]
            exact hn0
          · rw [nI_1]
            refine ih (i + 1) (acc + 1) I' Im' Jm' (by omega) (by omega) (by omega) hrel h4' (.inr ⟨b', by omega, rfl⟩) (fun A ⟨n0, hn0⟩ => adv A ⟨n0, br_f c0 ?_⟩)
            rw [nI_1, nI_1]
            exact hn0
theorem p_acts {t : Nat} {a b c : Int32} {s : xS} {rd : xRd} {J : mJ} {I Im : mI} {Jm : mJ} (h : Rel t s rd J I Im Jm) : x_X0_acts a b c s rd J I (fun r I' => m_acts a b c Im Jm (RelQ (t + 1) s rd J I' r)) := by
  have no : ∀ z, RelQ (t + 1) s rd J I z z Im Jm := fun z => ⟨rfl, h.same⟩
  obtain ⟨h0, σ, fz, hS⟩ := h.opn
  unfold x_X0_acts m_acts
  refine x_isSheet_c (fun k hk e => br_f (by decide) ?_) (fun q => br_t rfl (m_isShelf_c (fun z => absurd z q) (fun _ => br_t rfl (no _))))
  subst e
  refine x_in_c (fun y => br_f (by decide) ?_) (fun y => br_t rfl (m_sh_c hk (br_f (by decide) (m_in_c (fun z => absurd z y) (fun _ => br_t rfl (no _))))))
  obtain ⟨c', _, hc', rfl⟩ := in_of (lo := 0) (hi := 20) (by decide) (by decide) y
  rw [nI_clamp (by omega)]
  have vin : vp_in (nI k) 4 := vp_in_nI hk (by decide)
  refine ⟨vin, 121 + k, xR120 hk, xo121 hk, ?_⟩
  obtain ⟨ar, ai, h2⟩ := hS.rS
  rcases h2 k hk with ⟨e1, e2⟩ | ⟨q, n, hq, hn, e1, e2, e3, e4, e5, e6, e7, e8, e9⟩
  · refine x_row_n (xo121 hk) e1 (x_there_n ⟨rfl, ?_⟩)
    exact m_sh_c hk (br_f (by decide) (m_in_c (fun _ => br_f (by decide) (m_lack_n hk e2 (br_f (by decide) (no _)))) (fun z => absurd y z)))
  · refine x_row_q (xo121 hk) hq e1 ?_
    rw [e4]
    refine x_there_s ?_
    have nope : q ≠ 2 → ∀ z, z = (-13 : Int32) → m_isShelf (nI k) Im Jm (fun r1 I2 J3 => (r1 = 0 → RelQ (t + 1) s rd J I z (-1) I2 J3) ∧ (¬ r1 = 0 → m_in (nI c') 0 20 I2 J3 (fun r5 I6 J7 => (r5 = 0 → RelQ (t + 1) s rd J I z (-1) I6 J7) ∧ (¬ r5 = 0 → m_lacksSort (nI k) 2 I6 J7 (fun r9 I10 J11 => (r9 = 0 → ∃ n0 : Nat, m_acts_l41 (RelQ (t + 1) s rd J I z) n0 (nI k) b (nI c') 0 0 I10 J11) ∧ (¬ r9 = 0 → RelQ (t + 1) s rd J I z r9 I10 J11)))))) := by
      rintro ne z rfl
      exact m_sh_c hk (br_f (by decide) (m_in_c (fun _ => br_f (by decide) (m_lack_q (q' := 2) hk hq (by omega) e2 (fun z => absurd z ne) (fun _ => br_f (by decide) (no _)))) (fun z => absurd y z)))
    rcases lt4 hq with rfl | rfl | rfl | rfl
    · exact .inr (.inl ⟨e5, nope (by decide) _ rfl⟩)
    · exact .inr (.inr (.inl ⟨e5, nope (by decide) _ rfl⟩))
    · refine .inl ⟨e5, ?_⟩
      unfold x_X0_doneBy
      refine ⟨c' + 1, ?_⟩
      refine x_acts_lp (t := t) hk hc' e4 (fun A => m_isShelf (nI k) Im Jm (fun r1 I2 J3 => (r1 = 0 → A (-1) I2 J3) ∧ (¬ r1 = 0 → m_in (nI c') 0 20 I2 J3 (fun r5 I6 J7 => (r5 = 0 → A (-1) I6 J7) ∧ (¬ r5 = 0 → m_lacksSort (nI k) 2 I6 J7 (fun r9 I10 J11 => (r9 = 0 → ∃ n0 : Nat, m_acts_l41 A n0 (nI k) b (nI c') 0 0 I10 J11) ∧ (¬ r9 = 0 → A r9 I10 J11)))))))
        (fun I' Im' Jm' hr hA => ⟨rfl, hA _ ⟨rfl, hr.same⟩⟩) (fun z I' Im' Jm' hr hA => hA _ ⟨rfl, hr.same⟩) (c' + 1) 0 0 I Im Jm (by omega) (by omega) (by omega) h e1 (.inl rfl) (fun A hex => ?_)
      exact m_sh_c hk (br_f (by decide) (m_in_c (fun _ => br_f (by decide) (m_lack_q (q' := 2) hk hq (by omega) e2 (fun _ => br_t rfl hex) (fun z => absurd rfl z))) (fun z => absurd y z)))
    · exact .inr (.inr (.inr ⟨e5, nope (by decide) _ rfl⟩))
