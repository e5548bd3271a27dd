set_option maxRecDepth 100000
set_option maxHeartbeats 4000000
/-! PLAIN LAW, operations 9: yields, risk -/
def rG (hi : Int32) (n : Nat) (f : Nat → Int32) : Prop := ∀ j, j < n → 0 ≤ f j ∧ f j ≤ hi
theorem rG.nat {hi : Int32} {h n : Nat} {f : Nat → Int32} (g : rG hi n f) (eh : hi = nI h) (hh : h < 2 ^ 31) : ∀ j, j < n → f j = nI (f j).toNatClampNeg ∧ (f j).toNatClampNeg ≤ h := by
  intro j hj
  obtain ⟨m, _, hm, e⟩ := in_of (lo := 0) (hi := h) (by decide) hh (by rw [← eh]; exact g j hj)
  rw [e, nI_clamp (by omega)]
  exact ⟨rfl, hm⟩
theorem l_lt0 {x : Int32} : lg_cmp x.toInt64 0 < 0 ↔ x < 0 := by
  rw [lg_cmp_lt, Int64.lt_iff_toInt_lt, Int32.lt_iff_toInt_lt, Int32.toInt_toInt64]
  exact Iff.rfl
theorem l_gt30 {x : Int32} : 0 < lg_cmp x.toInt64 30 ↔ 30 < x := by
  rw [lg_cmp_gt, Int64.lt_iff_toInt_lt, Int32.lt_iff_toInt_lt, Int32.toInt_toInt64, show (30 : Int64).toInt = 30 by decide, show (30 : Int32).toInt = 30 by decide]
theorem l_gt20 {x : Int32} : 0 < lg_cmp x.toInt64 20 ↔ 20 < x := by
  rw [lg_cmp_gt, Int64.lt_iff_toInt_lt, Int32.lt_iff_toInt_lt, Int32.toInt_toInt64, show (20 : Int64).toInt = 20 by decide, show (20 : Int32).toInt = 20 by decide]
theorem x_yields_lp {r n : Nat} {a : Int32} {s : xS} {rd : xRd} {J : mJ} {I : mI} {Q : Int32 → mI → Prop} (ho : xo s r 101) (hl : xlen s r = n) (hn : n ≤ 40) (h1 : rG 30 n (I r) → x_X0_yieldsBy_j44 Q a r 1 s rd J I) (h0 : ¬ rG 30 n (I r) → x_X0_yieldsBy_j44 Q a r 0 s rd J I) :
    ∀ fuel i, n - i < fuel → i ≤ n → (∀ j, j < i → 0 ≤ I r j ∧ I r j ≤ 30) → x_X0_yieldsBy_l16 Q fuel a r 1 (nI i) s rd J I := by
  intro fuel
  induction fuel with
  | zero => intro i g; omega
  | succ fuel ih =>
    intro i g1 g2 g3
    unfold x_X0_yieldsBy_l16
    rw [hl]
    refine ⟨ho, pk_le n i (fun le => ?_) (fun lt => br_f (by decide) ?_) rfl rfl (by omega) (by omega)⟩
    · have e : i = n := by omega
      subst e
      exact h1 g3
    · rw [nI_clamp (by omega), nI_1]
      refine ⟨vp_in_nI lt (by omega), x_in_c (fun y => ih (i + 1) (by omega) (by omega) (fun j hj => ?_)) (fun y => ?_)⟩
      · by_cases e : j = i
        · rw [e]; exact y
        · exact g3 j (by omega)
      · have no := h0 (fun z => y (z i lt))
        rw [show fuel = (fuel - 1) + 1 by omega]
        unfold x_X0_yieldsBy_l16
        exact ⟨ho, br_c (fun _ => no) (fun _ => br_t rfl no)⟩
theorem m_yields_l0 {k : Nat} {a : Int32} {I : mI} {J : mJ} {Q : Int32 → mI → mJ → Prop} (h0 : Q (-4) I J) : ∀ fuel i, 7 - i < fuel → i ≤ 7 → m_yields_l51 Q fuel a (nI k) 0 (nI i) I J := by
  intro fuel
  induction fuel with
  | zero => intro i g; omega
  | succ fuel ih =>
    intro i g1 g2
    unfold m_yields_l51 m_yields_j103 m_yields_j104
    refine pk_le 7 i (fun le => br_t rfl h0) (fun lt => br_t rfl ?_) rfl rfl (by omega) (by omega)
    rw [nI_1]
    exact ih (i + 1) (by omega) (by omega)
theorem m_yields_lp {k : Nat} {a : Int32} {f : Nat → Int32} {I : mI} {J : mJ} {Q : Int32 → mI → mJ → Prop} (hk : k < 4) (hv : ∀ j, j < 7 → J 28 (40 * k + j) = (f j).toInt64) (h1 : rG 30 7 f → ∃ n0, m_yields_l123 Q n0 a (nI k) 0 I J) (h0 : ¬ rG 30 7 f → Q (-4) I J) :
    ∀ fuel i, 7 - i < fuel → i ≤ 7 → (∀ j, j < i → 0 ≤ f j ∧ f j ≤ 30) → m_yields_l51 Q fuel a (nI k) 1 (nI i) I J := by
  intro fuel
  induction fuel with
  | zero => intro i g; omega
  | succ fuel ih =>
    intro i g1 g2 g3
    unfold m_yields_l51 m_yields_j103 m_yields_j104
    refine pk_le 7 i (fun le => br_f (by decide) ?_) (fun lt => br_f (by decide) ?_) rfl rfl (by omega) (by omega)
    · have e : i = 7 := by omega
      subst e
      exact h1 g3
    · have v : vp_in (nI (40 * k + i)) 160 := vp_in_nI (by omega) (by decide)
      rw [p40, nI_clamp (by omega), hv i lt, nI_1]
      refine ⟨v, br_c (fun y => m_yields_l0 (h0 (fun z => ?_)) fuel (i + 1) (by omega) (by omega)) (fun y => ⟨v, br_c (fun y2 => m_yields_l0 (h0 (fun z => ?_)) fuel (i + 1) (by omega) (by omega)) (fun y2 => ih (i + 1) (by omega) (by omega) (fun j hj => ?_))⟩)⟩
      · exact absurd (z i lt).1 (Int32.not_le.mpr (l_lt0.mp y))
      · exact absurd (z i lt).2 (Int32.not_le.mpr (l_gt30.mp y2))
      · by_cases e : j = i
        · rw [e]; exact ⟨Int32.not_lt.mp (fun z => y (l_lt0.mpr z)), Int32.not_lt.mp (fun z => y2 (l_gt30.mpr z))⟩
        · exact g3 j (by omega)
theorem x_ycopy_lp {r p : Nat} {s : xS} {rd : xRd} {J : mJ} {I0 : mI} {Q : Int32 → mI → Prop} (ho : xo s r 101) (hl : xlen s r = 7) (hr : 133 ≤ r) (hp : p < 4) (h : ∀ I', (∀ q, q ≠ 6 → I' q = I0 q) → (∀ j, I' 6 j = if 7 * p ≤ j ∧ j < 7 * p + 7 then I0 r (j - 7 * p) else I0 6 j) → Q 1 I') :
    ∀ fuel i I, 7 - i < fuel → i ≤ 7 → (∀ q, q ≠ 6 → I q = I0 q) → (∀ j, I 6 j = if 7 * p ≤ j ∧ j < 7 * p + i then I0 r (j - 7 * p) else I0 6 j) → x_X0_yieldsBy_l54 Q fuel (nI p) r (nI i) s rd J I := by
  intro fuel
  induction fuel with
  | zero => intro i I g; omega
  | succ fuel ih =>
    intro i I g1 g2 g3 g4
    unfold x_X0_yieldsBy_l54
    refine pk_le 7 i (fun le => ?_) (fun lt => ?_) rfl rfl (by omega) (by omega)
    · have e : i = 7 := by omega
      subst e
      exact h I g3 g4
    · rw [hl, l7, pk_mul, nI_add, nI_clamp (by omega), nI_clamp (by omega), nI_1, g3 r (by omega)]
      refine ⟨ho, vp_in_nI lt (by decide), vp_in_nI (by omega) (by decide), ih (i + 1) _ (by omega) (by omega) (fun q hq => (u2r hq).trans (g3 q hq)) (fun j => ?_)⟩
      by_cases e : j = 7 * p + i
      · rw [e, u2_self, if_pos (by omega), show 7 * p + i - 7 * p = i by omega]
      · rw [u2_ne _ _ (Or.inr e), g4 j]
        by_cases e2 : 7 * p ≤ j ∧ j < 7 * p + i
        · rw [if_pos e2, if_pos (by omega)]
        · rw [if_neg e2, if_neg (by omega)]
theorem m_ycopy_lp {p k : Nat} {f : Nat → Int32} {I0 : mI} {J : mJ} {Q : Int32 → mI → mJ → Prop} (hp : p < 4) (hk : k < 4) (hv : ∀ j, j < 7 → J 28 (40 * k + j) = (f j).toInt64) (h : ∀ I', (∀ q, q ≠ 1 → I' q = I0 q) → (∀ j, I' 1 j = if 11 * p + 4 ≤ j ∧ j < 11 * p + 11 then f (j - (11 * p + 4)) else I0 1 j) → Q 1 (u2 I' 0 18 (I' 0 18 + 1)) J) :
    ∀ fuel i I, 7 - i < fuel → i ≤ 7 → (∀ q, q ≠ 1 → I q = I0 q) → (∀ j, I 1 j = if 11 * p + 4 ≤ j ∧ j < 11 * p + 4 + i then f (j - (11 * p + 4)) else I0 1 j) → m_yields_l123 Q fuel (nI p) (nI k) (nI i) I J := by
  intro fuel
  induction fuel with
  | zero => intro i I g; omega
  | succ fuel ih =>
    intro i I g1 g2 g3 g4
    unfold m_yields_l123
    refine pk_le 7 i (fun le => ?_) (fun lt => ?_) rfl rfl (by omega) (by omega)
    · have e : i = 7 := by omega
      subst e
      exact h I g3 g4
    · have e1 : (11 : Int32) * nI p + 4 + nI i = nI (11 * p + 4 + i) := by rw [l11, pk_mul, l4, nI_add, nI_add]
      rw [e1, p40, nI_clamp (by omega), nI_clamp (by omega), nI_1, hv i lt, Int32.toInt32_toInt64]
      refine ⟨vp_in_nI (by omega) (by decide), vp_in_nI (by omega) (by decide), ih (i + 1) _ (by omega) (by omega) (fun q hq => (u2r hq).trans (g3 q hq)) (fun j => ?_)⟩
      by_cases e : j = 11 * p + 4 + i
      · rw [e, u2_self, if_pos (by omega), show 11 * p + 4 + i - (11 * p + 4) = i by omega]
      · rw [u2_ne _ _ (Or.inr e), g4 j]
        by_cases e2 : 11 * p + 4 ≤ j ∧ j < 11 * p + 4 + i
        · rw [if_pos e2, if_pos (by omega)]
        · rw [if_neg e2, if_neg (by omega)]
def yn (σ : wS) (p : Nat) (g : Nat → Nat) : wS := fun i j => if i = 5 then (if 7 * p ≤ j ∧ j < 7 * p + 7 then g (j - 7 * p) else σ 5 j) else σ i j
theorem yn_r {σ : wS} {p i : Nat} {g : Nat → Nat} (h : i ≠ 5) : yn σ p g i = σ i := by
  funext j
  unfold yn
  rw [if_neg h]
theorem p_yields {t : Nat} {a b : Int32} {s : xS} {rd : xRd} {J : mJ} {I Im : mI} {Jm : mJ} (h : Rel t s rd J I Im Jm) : x_X0_yields a b s rd J I (fun r I' => m_yields a b Im Jm (RelQ (t + 1) s rd J I' r)) := by
  have no : ∀ z, RelQ (t + 1) s rd J I z z Im Jm := fun z => ⟨rfl, h.same⟩
  obtain ⟨q0, _⟩ := h.eqs
  obtain ⟨h0, σ, fz, hS⟩ := h.opn
  have hw := hS.1.1
  unfold x_X0_yields
  refine x_isPatch_c (fun q => br_f (by decide) ?_) (fun q => br_t rfl (by unfold m_yields; exact m_isPatch_c (fun z => absurd (by rw [q0]; exact z) q) (fun _ => br_t rfl (no _))))
  have q' : 0 ≤ a ∧ a ≤ nI (σ 0 0) - 1 := by rw [← hS.2.1.1 0 (by decide)]; exact q
  obtain ⟨p, hp, rfl⟩ := pt_of hw.1 q'
  have hp4 : p < 4 := by have := hw.1; omega
  have go : ∀ {A : Int32 → mI → mJ → Prop}, A 1 Im Jm → m_isPatch (nI p) Im Jm A := fun hA => m_isPatch_c (fun _ => hA) (fun y => absurd (by rw [← q0]; exact q) y)
  refine x_isSheet_c (fun k hk e => br_f (by decide) ?_) (fun q => br_t rfl (by unfold m_yields; exact go (br_f (by decide) (m_isShelf_c (fun z => absurd z q) (fun _ => br_t rfl (no _))))))
  subst e
  rw [nI_clamp (by omega)]
  have vin : vp_in (nI k) 4 := vp_in_nI hk (by decide)
  refine ⟨vin, 121 + k, xR120 hk, xo121 hk, ?_⟩
  obtain ⟨ar, ai, h2⟩ := hS.rS
  rcases h2 k hk with ⟨e1, e2⟩ | ⟨q, n, hq, hn, e1, e2, e3, e4, e5, e6, e7, e8, e9⟩
  · exact x_row_n (xo121 hk) e1 (x_there_n ⟨rfl, by unfold m_yields; exact go (br_f (by decide) (m_sh_c hk (br_f (by decide) (m_lack_n hk e2 (br_f (by decide) (no _))))))⟩)
  · refine x_row_q (xo121 hk) hq e1 ?_
    rw [e4]
    refine x_there_s ?_
    have nope : q ≠ 0 → m_yields (nI p) (nI k) Im Jm (RelQ (t + 1) s rd J I (-13)) := by
      intro ne
      unfold m_yields
      exact go (br_f (by decide) (m_sh_c hk (br_f (by decide) (m_lack_q (q' := 0) hk hq (by omega) e2 (fun z => absurd z ne) (fun _ => br_f (by decide) (no _))))))
    have ys : ∀ {A : Int32 → mI → mJ → Prop}, q = 0 → ((n = 7 → m_yields_j46 A (nI p) (nI k) 1 Im Jm) ∧ (n ≠ 7 → m_yields_j46 A (nI p) (nI k) 0 Im Jm)) → m_yields (nI p) (nI k) Im Jm A := by
      intro A eq0 hA
      unfold m_yields
      refine go (br_f (by decide) (m_sh_c hk (br_f (by decide) (m_lack_q (q' := 0) hk hq (by omega) e2 (fun _ => br_t rfl ⟨vin, ?_⟩) (fun z => absurd eq0 z)))))
      rw [nI_clamp (by omega), e3]
      exact pk_eq n 7 hA.1 hA.2 rfl rfl (by omega) (by decide)
    rcases lt4 hq with rfl | rfl | rfl | rfl
    · refine .inr (.inl ⟨e5, ?_⟩)
      unfold x_X0_yieldsBy
      rw [e6]
      refine ⟨e5, pk_eq n 7 (fun en => ?_) (fun en => ?_) rfl rfl (by omega) (by decide)⟩
      · subst en
        have hv : ∀ j, j < 7 → Jm 28 (40 * k + j) = (I (ar k) j).toInt64 := fun j hj => by rw [e9 j hj, if_neg (by decide)]
        unfold x_X0_yieldsBy_j12
        refine ⟨8, x_yields_lp (n := 7) e5 e6 (by omega) (fun good => ?_) (fun bad => ?_) 8 0 (by omega) (by omega) (fun j hj => absurd hj (by omega))⟩
        · unfold x_X0_yieldsBy_j44
          refine br_f (by decide) ⟨8, ?_⟩
          have gN := good.nat (h := 30) rfl (by decide)
          refine x_ycopy_lp (I0 := I) e5 e6 e7 hp4 (fun I' g1 g2 => ys rfl ⟨fun _ => ?_, fun z => absurd rfl z⟩) 8 0 I (by omega) (by omega) (fun _ _ => rfl) (fun j => by rw [if_neg (by omega)])
          unfold m_yields_j46
          refine ⟨8, m_yields_lp (f := I (ar k)) hk hv (fun _ => ⟨8, ?_⟩) (fun z => absurd good z) 8 0 (by omega) (by omega) (fun j hj => absurd hj (by omega))⟩
          refine m_ycopy_lp (f := I (ar k)) (I0 := Im) hp4 hk hv (fun Im' m1 m2 => ⟨rfl, ?_⟩) 8 0 Im (by omega) (by omega) (fun _ _ => rfl) (fun j => by rw [if_neg (by omega)])
          let g : Nat → Nat := fun j => (I (ar k) j).toNatClampNeg
          have e5' : ∀ j, yn σ p g 5 j = if 7 * p ≤ j ∧ j < 7 * p + 7 then g (j - 7 * p) else σ 5 j := fun _ => rfl
          have r' : ∀ i, i ≠ 5 → yn σ p g i = σ i := fun i hi => yn_r hi
          refine (hS.chg (σ' := yn σ p g) (WFrow hS.1 (r' 0 (by decide)) ?_ ?_ (fun j => ?_) ?_ (r' 1 (by decide)) (r' 2 (by decide)) ?_ (r' 7 (by decide)) ?_ (r' 8 (by decide))) ?_ (mG.sig18 ?_) (hS.2.2.2.1.bump ?_ ?_ ?_ ?_) (by rw [r' 0 (by decide)]) (by rw [r' 0 (by decide)]) (fun j hj => r' j (by omega)) (fun r hr => g1 r (by omega)) (fun r hr => by rw [u2r (by omega), m1 r (by omega)]) (fun f hf => by rw [u2_ne _ _ (Or.inr (by omega)), m1 0 (by decide)])).cls (by omega)
          · rw [r' 2 (by decide)]; exact hw.2.2.1
          · rw [r' 3 (by decide)]; exact hw.2.2.2.1
          · rw [e5' j]
            split
            · exact (gN (j - 7 * p) (by omega)).2
            · exact hw.2.2.2.2.1 j
          · rw [r' 6 (by decide)]; exact hw.2.2.2.2.2
          · rw [r' 4 (by decide)]; exact hS.1.2.2.2.2.2.2.1
          · rw [r' 6 (by decide)]; exact hS.1.2.2.2.2.2.2.2.2.1
          · unfold xG tr
            rw [g1 1 (by decide), g1 (1 + 1) (by decide), g1 (1 + 2) (by decide), g1 (1 + 3) (by decide), g1 (1 + 4) (by decide), g1 (1 + 6) (by decide), g1 (1 + 9) (by decide), g1 (1 + 10) (by decide), r' 0 (by decide), r' 1 (by decide), r' 2 (by decide), r' 3 (by decide), r' 4 (by decide), r' 6 (by decide)]
            obtain ⟨s1, s2, s3, s4, s5, s6, s7, s8⟩ := hS.2.1
            refine ⟨s1, s2, s3, s4, s5, fun j hj => ?_, s7, s8⟩
            show I' 6 j = _
            rw [g2 j, e5' j]
            split
            · exact (gN (j - 7 * p) (by omega)).1
            · exact s6 j hj
          · obtain ⟨c0, ⟨p0, p1, p2, p3, p4⟩, c2⟩ := hS.2.2.1
            have ec : mcnt Im' = mcnt Im := by
              funext j
              unfold mcnt
              rw [m1 0 (by decide)]
            unfold mG mGv
            rw [ec, m1 2 (by decide), m1 3 (by decide), m1 4 (by decide), m1 5 (by decide), m1 6 (by decide), r' 0 (by decide), r' 1 (by decide), r' 2 (by decide), r' 3 (by decide), r' 4 (by decide), r' 6 (by decide), r' 7 (by decide), r' 8 (by decide), r' 9 (by decide), r' 10 (by decide)]
            refine ⟨c0, ⟨fun i hi => ?_, fun i hi => ?_, fun i hi => ?_, fun i hi => ?_, fun i f hi hf => ?_⟩, c2⟩
            · rw [m2, if_neg (by omega)]; exact p0 i hi
            · rw [m2, if_neg (by omega)]; exact p1 i hi
            · rw [m2, if_neg (by omega)]; exact p2 i hi
            · rw [m2, if_neg (by omega)]; exact p3 i hi
            · rw [m2, e5']
              by_cases e : i = p
              · rw [if_pos (by omega), if_pos (by omega), show 11 * i + 4 + f - (11 * p + 4) = f by omega, show 7 * i + f - 7 * p = f by omega]
                exact (gN f hf).1
              · rw [if_neg (by omega), if_neg (by omega)]; exact p4 i f hi hf
          · rw [g1 23 (by decide)]
          · exact g1 24 (by decide)
          · rw [u2_self, m1 0 (by decide)]
          · rw [u2r (by decide), m1 7 (by decide)]
        · unfold x_X0_yieldsBy_j44
          refine br_t rfl (ys rfl ⟨fun _ => ?_, fun z => absurd rfl z⟩)
          unfold m_yields_j46
          exact ⟨8, m_yields_lp (f := I (ar k)) hk hv (fun z => absurd z bad) (fun _ => no _) 8 0 (by omega) (by omega) (fun j hj => absurd hj (by omega))⟩
      · unfold x_X0_yieldsBy_j12
        refine ⟨1, ?_⟩
        have fin : x_X0_yieldsBy_j44 (fun r12 I11 => m_yields (nI p) (nI k) Im Jm (RelQ (t + 1) s rd J I11 r12)) (nI p) (ar k) 0 s rd J I := by
          unfold x_X0_yieldsBy_j44
          refine br_t rfl (ys rfl ⟨fun z => absurd z en, fun _ => ?_⟩)
          unfold m_yields_j46
          exact ⟨8, m_yields_l0 (no _) 8 0 (by omega) (by omega)⟩
        unfold x_X0_yieldsBy_l16
        exact ⟨e5, br_c (fun _ => fin) (fun _ => br_t rfl fin)⟩
    · exact .inr (.inr (.inl ⟨e5, nope (by decide)⟩))
    · exact .inl ⟨e5, nope (by decide)⟩
    · exact .inr (.inr (.inr ⟨e5, nope (by decide)⟩))
