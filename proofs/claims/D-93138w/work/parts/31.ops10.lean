set_option maxRecDepth 100000
set_option maxHeartbeats 4000000
/-! PLAIN LAW, operations 10: risk -/
theorem old.trans {s s1 s2 : xS} {rd rd1 rd2 : xRd} {fz fz1 fz2 : Nat → Bool} {I I1 I2 : mI} (h : old s rd fz I s1 rd1 fz1 I1) (g : old s1 rd1 fz1 I1 s2 rd2 fz2 I2) : old s rd fz I s2 rd2 fz2 I2 := by
  have le := h.1
  refine ⟨Nat.le_trans h.1 g.1, fun r hr => ?_, fun r r1 r2 => ?_⟩
  · obtain ⟨a1, a2⟩ := h.2.1 r hr
    obtain ⟨b1, b2⟩ := g.2.1 r (by omega)
    exact ⟨b1.trans a1, b2.trans a2⟩
  · obtain ⟨a1, a2, a3⟩ := h.2.2 r r1 r2
    obtain ⟨b1, b2, b3⟩ := g.2.2 r r1 (by omega)
    exact ⟨b1.trans a1, b2.trans a2, fun e => (b3 (a2.trans e)).trans (a3 e)⟩
theorem rS.old {s s' : xS} {rd rd' : xRd} {fz fz' : Nat → Bool} {J J' : mJ} {I I' : mI} {Jm Jm' : mJ} {Im Im' : mI} (h : rS s rd fz J I Jm Im) (ho : @@N@@.old s rd fz I s' rd' fz' I') (g : ∀ r, 121 ≤ r → r < 133 + s.1 → I' r = I r ∧ J' r = J r) (gr : ∀ r k, 121 ≤ r → r < 125 → xR rd' r k = xR rd r k) (m : ∀ r, 26 ≤ r → r ≤ 27 → Im' r = Im r) (mj : Jm' 28 = Jm 28) : rS s' rd' fz' J' I' Jm' Im' := by
  obtain ⟨ar, ai, h2⟩ := h
  refine ⟨ar, ai, fun k hk => ?_⟩
  rw [(g (121 + k) (by omega) (by omega)).1, m 26 (by omega) (by omega), m 27 (by omega) (by omega)]
  rcases h2 k hk with e | ⟨q, n, e0, e1, e2, e3, e4, e5, e6, e7, e8, e9, e10⟩
  · exact .inl e
  · refine .inr ⟨q, n, e0, e1, e2, e3, e4, (gr (121 + k) q (by omega) (by omega)).trans e5, ho.ko e6, (ho.kl e6).trans e7, e8, (ho.2.2 _ e8 e6.1).2.1.trans e9, fun j hj => ?_⟩
    rw [mj, (g (ar k) (by omega) e6.1).1, (g (ar k) (by omega) e6.1).2]
    exact e10 j hj
theorem RelS.gen2 {t t' : Nat} {σ σ' : wS} {fz fz' : Nat → Bool} {s s' : xS} {rd rd' : xRd} {J J' : mJ} {I I' Im Im' : mI} {Jm Jm' : mJ} (h : RelS t σ fz s rd J I Im Jm) (ho : old s rd fz I s' rd' fz' I') (b1 : WF σ') (b2 : xG 1 σ' I') (b3 : mG σ' Im') (b4 : rM t' I' Im' σ') (b5 : rD σ' Im' Jm') (b6 : rR 8 σ' s' rd' fz' I') (b7 : rC 9 σ' s' rd' fz' I')
    (gI : ∀ r, r = 0 ∨ (12 ≤ r ∧ r ≤ 22) ∨ r = 92 ∨ (100 ≤ r ∧ r < 133) → I' r = I r) (gI2 : ∀ r, 133 ≤ r → r < 133 + s.1 → I' r = I r) (gJ : ∀ r, 121 ≤ r → r < 133 + s.1 → J' r = J r) (gr : ∀ r k, r = 19 ∨ r = 20 ∨ (121 ≤ r ∧ r < 133) → xR rd' r k = xR rd r k)
    (gm : ∀ r, r = 19 ∨ 25 ≤ r → Im' r = Im r) (gf : ∀ f, f = 39 ∨ f = 57 ∨ f = 68 ∨ f = 70 → Im' 0 f = Im 0 f) (mj : Jm' 28 = Jm 28) (hf : rf s' rd') : RelS t' σ' fz' s' rd' J' I' Im' Jm' := by
  obtain ⟨a1, a2, a3, a4, a5, a6, a7, a8, a9, a10, a11, a12, a13⟩ := h
  have i0 := gI 0 (by omega)
  refine ⟨b1, b2, b3, b4, b5, b6, b7, ?_, ?_, ?_, ?_, ?_, ?_⟩
  · exact a8.to ho (by rw [i0]) (fun r r1 r2 => gI r (by omega)) (fun k => ⟨gr 19 k (by omega), gr 20 k (by omega)⟩) (gf 70 (by omega)) (gm 33 (by omega)) hf
  · exact a9.to (by rw [i0]) (gI 92 (by omega)) (gf 39 (by omega)) (gm 19 (by omega))
  · exact a10.to (by rw [i0]) (fun r r1 r2 => gI r (by omega)) (gf 57 (by omega)) (gm 25 (by omega))
  · exact a11.to (by rw [i0]) (gI 127 (by omega)) (gf 68 (by omega)) (gm 32 (by omega))
  · have gA : ∀ r, 121 ≤ r → r < 133 + s.1 → I' r = I r := by
      intro r r1 r2
      by_cases e : r < 133
      · exact gI r (by omega)
      · exact gI2 r (by omega) r2
    exact a12.old ho (fun r r1 r2 => ⟨gA r r1 r2, gJ r r1 r2⟩) (fun r k r1 r2 => gr r k (by omega)) (fun r r1 r2 => gm r (by omega)) mj
  · exact a13.old ho (fun r r1 r2 => gI r (by omega)) (fun r k r1 r2 => gr r k (by omega)) (fun r r1 r2 => gm r (by omega))
theorem x_ten_lp {r n : Nat} {s : xS} {rd : xRd} {J : mJ} {I : mI} {Q : Int32 → xS → xRd → mJ → mI → Prop} (ho : xo s r 102) (hl : xlen s r = n) (hn : n ≤ 40) (h1 : rG 20 n (I r) → x_X0_tenOf_j41 Q r 1 s rd J I) (h0 : ¬ rG 20 n (I r) → x_X0_tenOf_j41 Q r 0 s rd J I) :
    ∀ fuel i, n - i < fuel → i ≤ n → (∀ j, j < i → 0 ≤ I r j ∧ I r j ≤ 20) → x_X0_tenOf_l15 Q fuel r 1 (nI i) s rd J I := by
  intro fuel
  induction fuel with
  | zero => intro i g; omega
  | succ fuel ih =>
    intro i g1 g2 g3
    unfold x_X0_tenOf_l15
    rw [hl]
    refine ⟨ho, pk_le n i (fun le => ?_) (fun lt => br_f (by decide) ?_) rfl rfl (by omega) (by omega)⟩
    · have e : i = n := by omega
      subst e
      exact h1 g3
    · rw [nI_clamp (by omega), nI_1]
      refine ⟨vp_in_nI lt (by omega), x_in_c (fun y => ih (i + 1) (by omega) (by omega) (fun j hj => ?_)) (fun y => ?_)⟩
      · by_cases e : j = i
        · rw [e]; exact y
        · exact g3 j (by omega)
      · have no := h0 (fun z => y (z i lt))
        rw [show fuel = (fuel - 1) + 1 by omega]
        unfold x_X0_tenOf_l15
        exact ⟨ho, br_c (fun _ => no) (fun _ => br_t rfl no)⟩
theorem m_risk_l0 {k : Nat} {I : mI} {J : mJ} {Q : Int32 → mI → mJ → Prop} (h0 : Q (-4) I J) : ∀ fuel i, 10 - i < fuel → i ≤ 10 → m_risk_l42 Q fuel (nI k) 0 (nI i) I J := by
  intro fuel
  induction fuel with
  | zero => intro i g; omega
  | succ fuel ih =>
    intro i g1 g2
    unfold m_risk_l42 m_risk_j93 m_risk_j94
    refine pk_le 10 i (fun le => br_t rfl h0) (fun lt => br_t rfl ?_) rfl rfl (by omega) (by omega)
    rw [nI_1]
    exact ih (i + 1) (by omega) (by omega)
theorem m_risk_lp {k : Nat} {f : Nat → Int32} {I : mI} {J : mJ} {Q : Int32 → mI → mJ → Prop} (hk : k < 4) (hv : ∀ j, j < 10 → J 28 (40 * k + j) = (f j).toInt64) (h1 : rG 20 10 f → (I 0 9 = 4 → Q (-2) I J) ∧ (¬ I 0 9 = 4 → ∃ n0, m_risk_l122 Q n0 (nI k) 0 I J)) (h0 : ¬ rG 20 10 f → Q (-4) I J) :
    ∀ fuel i, 10 - i < fuel → i ≤ 10 → (∀ j, j < i → 0 ≤ f j ∧ f j ≤ 20) → m_risk_l42 Q fuel (nI k) 1 (nI i) I J := by
  intro fuel
  induction fuel with
  | zero => intro i g; omega
  | succ fuel ih =>
    intro i g1 g2 g3
    unfold m_risk_l42 m_risk_j93 m_risk_j94
    refine pk_le 10 i (fun le => br_f (by decide) ?_) (fun lt => br_f (by decide) ?_) rfl rfl (by omega) (by omega)
    · have e : i = 10 := by omega
      subst e
      exact h1 g3
    · have v : vp_in (nI (40 * k + i)) 160 := vp_in_nI (by omega) (by decide)
      rw [p40, nI_clamp (by omega), hv i lt, nI_1]
      refine ⟨v, br_c (fun y => m_risk_l0 (h0 (fun z => ?_)) fuel (i + 1) (by omega) (by omega)) (fun y => ⟨v, br_c (fun y2 => m_risk_l0 (h0 (fun z => ?_)) fuel (i + 1) (by omega) (by omega)) (fun y2 => ih (i + 1) (by omega) (by omega) (fun j hj => ?_))⟩)⟩
      · exact absurd (z i lt).1 (Int32.not_le.mpr (l_lt0.mp y))
      · exact absurd (z i lt).2 (Int32.not_le.mpr (l_gt20.mp y2))
      · by_cases e : j = i
        · rw [e]; exact ⟨Int32.not_lt.mp (fun z => y (l_lt0.mpr z)), Int32.not_lt.mp (fun z => y2 (l_gt20.mpr z))⟩
        · exact g3 j (by omega)
theorem x_tcopy_lp {r o br : Nat} {s : xS} {rd : xRd} {J : mJ} {I0 : mI} {Q : Int32 → xS → xRd → mJ → mI → Prop} (h15 : xo s o 15) (hro : xR rd o 0 = some br) (hor : xo s r 102) (hlr : xlen s r = 10) (hb : xo s br 100) (hlb : xlen s br = 10) (hne : r ≠ br)
    (h : ∀ I', (∀ q, q ≠ br → I' q = I0 q) → (∀ j, j < 10 → I' br j = I0 r j) → ∀ n, x_X0_tenOf_l73 Q (n + 1) r o (nI 10) s rd J I') :
    ∀ fuel i I, 10 - i < fuel → i ≤ 10 → (∀ q, q ≠ br → I q = I0 q) → (∀ j, j < i → I br j = I0 r j) → x_X0_tenOf_l73 Q fuel r o (nI i) s rd J I := by
  intro fuel
  induction fuel with
  | zero => intro i I g; omega
  | succ fuel ih =>
    intro i I g1 g2 g3 g4
    by_cases e : i = 10
    · subst e
      exact h I g3 g4 fuel
    · unfold x_X0_tenOf_l73
      refine pk_le 10 i (fun le => absurd le (by omega)) (fun lt => ?_) rfl rfl (by omega) (by omega)
      rw [hlr, nI_clamp (by omega), nI_1]
      refine ⟨h15, br, hro, hor, vp_in_nI lt (by decide), hb, ?_, ?_⟩
      · rw [hlb]; exact vp_in_nI lt (by decide)
      · rw [g3 r hne]
        refine ih (i + 1) _ (by omega) (by omega) (fun q hq => (u2r hq).trans (g3 q hq)) (fun j hj => ?_)
        by_cases e : j = i
        · rw [e, u2_self]
        · rw [u2_ne _ _ (Or.inr e)]; exact g4 j (by omega)
theorem m_rcopy_lp {k R : Nat} {f : Nat → Int32} {I0 : mI} {J : mJ} {Q : Int32 → mI → mJ → Prop} (hk : k < 4) (hR : R < 4) (h9 : I0 0 9 = nI R) (hv : ∀ j, j < 10 → J 28 (40 * k + j) = (f j).toInt64) (h : ∀ I', (∀ q, q ≠ 3 → I' q = I0 q) → (∀ j, I' 3 j = if 10 * R ≤ j ∧ j < 10 * R + 10 then f (j - 10 * R) else I0 3 j) → Q (nI R) (u2 (u2 I' 0 9 (nI (R + 1))) 0 34 (-1)) J) :
    ∀ fuel i I, 10 - i < fuel → i ≤ 10 → (∀ q, q ≠ 3 → I q = I0 q) → (∀ j, I 3 j = if 10 * R ≤ j ∧ j < 10 * R + i then f (j - 10 * R) else I0 3 j) → m_risk_l122 Q fuel (nI k) (nI i) I J := by
  intro fuel
  induction fuel with
  | zero => intro i I g; omega
  | succ fuel ih =>
    intro i I g1 g2 g3 g4
    unfold m_risk_l122
    rw [g3 0 (by decide), h9]
    refine pk_le 10 i (fun le => ?_) (fun lt => ?_) rfl rfl (by omega) (by omega)
    · have e : i = 10 := by omega
      subst e
      rw [nI_1, nI_pred]
      exact h I g3 g4
    · have e1 : (10 : Int32) * nI R + nI i = nI (10 * R + i) := by rw [show (10 : Int32) = nI 10 from rfl, pk_mul, nI_add]
      rw [e1, p40, nI_clamp (by omega), nI_clamp (by omega), nI_1, hv i lt, Int32.toInt32_toInt64]
      refine ⟨vp_in_nI (by omega) (by decide), vp_in_nI (by omega) (by decide), ih (i + 1) _ (by omega) (by omega) (fun q hq => (u2r hq).trans (g3 q hq)) (fun j => ?_)⟩
      by_cases e : j = 10 * R + i
      · rw [e, u2_self, if_pos (by omega), show 10 * R + i - 10 * R = i by omega]
      · rw [u2_ne _ _ (Or.inr e), g4 j]
        by_cases e2 : 10 * R ≤ j ∧ j < 10 * R + i
        · rw [if_pos e2, if_pos (by omega)]
        · rw [if_neg e2, if_neg (by omega)]
def kn (σ : wS) (g : Nat → Nat) : wS := fun i j => if i = 0 then (if j = 1 then σ 0 1 + 1 else σ 0 j) else if i = 7 then (if 10 * σ 0 1 ≤ j ∧ j < 10 * σ 0 1 + 10 then g (j - 10 * σ 0 1) else σ 7 j) else σ i j
theorem kn_r {σ : wS} {i : Nat} {g : Nat → Nat} (h : i ≠ 0) (h7 : i ≠ 7) : kn σ g i = σ i := by
  funext j
  unfold kn
  rw [if_neg h, if_neg h7]
theorem kn_0 {σ : wS} {j : Nat} {g : Nat → Nat} (h : j ≠ 1) : kn σ g 0 j = σ 0 j := by
  unfold kn
  rw [if_pos rfl, if_neg h]
theorem WFkn {σ : wS} {g : Nat → Nat} (h : WF σ) (hR : σ 0 1 < 4) (hg : ∀ j, j < 10 → g j ≤ 20) : WF (kn σ g) := by
  obtain ⟨⟨w1, w2, w3, w4, w5, w6⟩, g2, g3, g4, g5, g6, g7, g8, g9, g10⟩ := h
  have e1 : kn σ g 0 1 = σ 0 1 + 1 := rfl
  have e7 : ∀ j, kn σ g 7 j = if 10 * σ 0 1 ≤ j ∧ j < 10 * σ 0 1 + 10 then g (j - 10 * σ 0 1) else σ 7 j := fun _ => rfl
  unfold WF wf stok
  rw [e1, kn_0 (j := 0) (by decide), kn_0 (j := 2) (by decide), kn_0 (j := 3) (by decide), kn_0 (j := 4) (by decide), kn_0 (j := 5) (by decide), kn_0 (j := 6) (by decide), kn_0 (j := 7) (by decide), kn_0 (j := 8) (by decide), kn_0 (j := 9) (by decide), kn_0 (j := 10) (by decide), kn_0 (j := 11) (by decide), kn_r (i := 1) (by decide) (by decide), kn_r (i := 2) (by decide) (by decide), kn_r (i := 3) (by decide) (by decide), kn_r (i := 4) (by decide) (by decide), kn_r (i := 5) (by decide) (by decide), kn_r (i := 6) (by decide) (by decide), kn_r (i := 8) (by decide) (by decide)]
  refine ⟨⟨w1, w2, w3, w4, w5, w6⟩, g2, ⟨by omega, g3.2⟩, g4, g5, g6, g7, fun j => ?_, g9, g10⟩
  rw [e7]
  split
  · exact hg _ (by omega)
  · exact g8 j
theorem p_risk {t : Nat} (ht : t ≤ 64) {a : Int32} {s : xS} {rd : xRd} {J : mJ} {I Im : mI} {Jm : mJ} (h : Rel t s rd J I Im Jm) : x_X0_risk a s rd J I (fun r s' rd' J' I' => m_risk a Im Jm (RelQ (t + 1) s' rd' J' I' r)) := by
  have no : ∀ z, RelQ (t + 1) s rd J I z z Im Jm := fun z => ⟨rfl, h.same⟩
  obtain ⟨_, q0, _⟩ := h.eqs
  obtain ⟨h0, σ, fz, hS⟩ := h.opn
  unfold x_X0_risk
  refine x_isSheet_c (fun k hk e => br_f (by decide) ?_) (fun q => br_t rfl (by unfold m_risk; exact m_isShelf_c (fun z => absurd z q) (fun _ => br_t rfl (no _))))
  subst e
  rw [nI_clamp (by omega)]
  have vin : vp_in (nI k) 4 := vp_in_nI hk (by decide)
  refine ⟨vin, 121 + k, xR120 hk, xo121 hk, ?_⟩
  obtain ⟨ar, ai, h2⟩ := hS.rS
  rcases h2 k hk with ⟨e1, e2⟩ | ⟨q, n, hq, hn, e1, e2, e3, e4, e5, e6, e7, e8, e9⟩
  · exact x_row_n (xo121 hk) e1 (x_there_n ⟨rfl, by unfold m_risk; exact m_sh_c hk (br_f (by decide) (m_lack_n (b := 1) hk e2 (br_f (by decide) (no _))))⟩)
  · refine x_row_q (xo121 hk) hq e1 ?_
    rw [e4]
    refine x_there_s ?_
    have nope : q ≠ 1 → m_risk (nI k) Im Jm (RelQ (t + 1) s rd J I (-13)) := by
      intro ne
      unfold m_risk
      exact m_sh_c hk (br_f (by decide) (m_lack_q (q' := 1) hk hq (by omega) e2 (fun z => absurd z ne) (fun _ => br_f (by decide) (no _))))
    have ys : ∀ {A : Int32 → mI → mJ → Prop}, q = 1 → ((n = 10 → m_risk_j38 A (nI k) 1 Im Jm) ∧ (n ≠ 10 → m_risk_j38 A (nI k) 0 Im Jm)) → m_risk (nI k) Im Jm A := by
      intro A eq0 hA
      unfold m_risk
      refine m_sh_c hk (br_f (by decide) (m_lack_q (q' := 1) hk hq (by omega) e2 (fun _ => br_t rfl ⟨vin, ?_⟩) (fun z => absurd eq0 z)))
      rw [nI_clamp (by omega), e3]
      exact pk_eq n 10 hA.1 hA.2 rfl rfl (by omega) (by decide)
    rcases lt4 hq with rfl | rfl | rfl | rfl
    · exact .inr (.inl ⟨e5, nope (by decide)⟩)
    · refine .inr (.inr (.inl ⟨e5, ?_⟩))
      unfold x_X0_tenOf
      rw [e6]
      refine ⟨e5, pk_eq n 10 (fun en => ?_) (fun en => ?_) rfl rfl (by omega) (by decide)⟩
      · subst en
        have hv : ∀ j, j < 10 → Jm 28 (40 * k + j) = (I (ar k) j).toInt64 := fun j hj => by rw [e9 j hj, if_neg (by decide)]
        unfold x_X0_tenOf_j12
        refine ⟨11, x_ten_lp (n := 10) e5 e6 (by omega) (fun good => ?_) (fun bad => ?_) 11 0 (by omega) (by omega) (fun j hj => absurd hj (by omega))⟩
        · unfold x_X0_tenOf_j41
          refine br_f (by decide) (br_c (fun full => ys rfl ⟨fun _ => ?_, fun z => absurd rfl z⟩) (fun room => ?_))
          · unfold m_risk_j38
            exact ⟨11, m_risk_lp (f := I (ar k)) hk hv (fun _ => br_t (by rw [← q0]; exact full) (no _)) (fun z => absurd good z) 11 0 (by omega) (by omega) (fun j hj => absurd hj (by omega))⟩
          · have hRi : I 1 1 = nI (σ 0 1) := hS.2.1.1 1 (by decide)
            have hR : σ 0 1 < 4 := by
              have := hS.1.2.2.1.1
              refine Nat.lt_of_le_of_ne this (fun e => room ?_)
              rw [hRi, e]; rfl
            have gN := good.nat (h := 20) rfl (by decide)
            have hrl : ar k < 133 + s.1 := e5.1
            unfold xnw
            refine ⟨by omega, ?_⟩
            rintro _ _ _ _ _ rfl rfl rfl rfl rfl
            unfold x_X15_init xnw
            refine ⟨by show s.1 + 1 < _; omega, ?_⟩
            rintro _ _ _ _ _ rfl rfl rfl rfl rfl
            refine ⟨xo_mono xo_new', xR0_out _ (by omega), 11, ?_⟩
            have hb : (xn s 15 1).1 = s.1 + 1 := rfl
            rw [hb]
            have ho1 : old s rd fz I (xn s 15 1) (ur rd (133 + s.1) (fun _ => none)) (u1 fz (133 + s.1) true) (ur I (133 + s.1) (fun _ => 0)) := old.new
            have ho2 : old (xn s 15 1) (ur rd (133 + s.1) (fun _ => none)) (u1 fz (133 + s.1) true) (ur I (133 + s.1) (fun _ => 0)) (xn (xn s 15 1) 100 10) (ur (ur rd (133 + s.1) (fun _ => none)) (133 + (s.1 + 1)) (fun _ => none)) (u1 (u1 fz (133 + s.1) true) (133 + (s.1 + 1)) true) (ur (ur I (133 + s.1) (fun _ => 0)) (133 + (s.1 + 1)) (fun _ => 0)) := old.new
            have ho3 := ho1.trans ho2
            have xb : xo (xn (xn s 15 1) 100 10) (133 + (s.1 + 1)) 100 := xo_new'
            have xl : xlen (xn (xn s 15 1) 100 10) (133 + (s.1 + 1)) = 10 := xlen_new
            have x15 : xo (xn (xn s 15 1) 100 10) (133 + s.1) 15 := xo_mono xo_new'
            have xro : xR (u2 (ur (ur rd (133 + s.1) (fun _ => none)) (133 + (s.1 + 1)) (fun _ => none)) (133 + s.1) 0 (some (133 + (s.1 + 1)))) (133 + s.1) 0 = some (133 + (s.1 + 1)) := by
              rw [xR_d (xR0_out _ (by omega)), u2_self]
            refine x_tcopy_lp (I0 := ur (ur I (133 + s.1) (fun _ => 0)) (133 + (s.1 + 1)) (fun _ => 0)) x15 xro (ho3.ko e5) ((ho3.kl e5).trans e6) xb xl (by omega) (fun I' g1 g2 n => ?_) 11 0 _ (by omega) (by omega) (fun _ _ => rfl) (fun j hj => absurd hj (by omega))
            have gg : ∀ q, q < 133 + s.1 → I' q = I q := fun q hq => by rw [g1 q (by omega), ur_row (by omega), ur_row (by omega)]
            have g11 : I' 1 1 = nI (σ 0 1) := by rw [gg 1 (by omega)]; exact hRi
            unfold x_X0_tenOf_l73
            rw [g11, nI_clamp (by omega), nI_1, nI_pred]
            refine br_t (by decide) ⟨vp_in_nI hR (by decide), x15, ?_, ys rfl ⟨fun _ => ?_, fun z => absurd rfl z⟩⟩
            · rcases lt4 hR with e | e | e | e <;> rw [e] <;> rfl
            unfold m_risk_j38
            refine ⟨11, m_risk_lp (f := I (ar k)) hk hv (fun _ => br_f (by rw [← q0]; exact room) ⟨11, ?_⟩) (fun z => absurd good z) 11 0 (by omega) (by omega) (fun j hj => absurd hj (by omega))⟩
            refine m_rcopy_lp (R := σ 0 1) (f := I (ar k)) (I0 := Im) hk hR (by rw [← q0]; exact hRi) hv (fun Im' m1 m2 => ⟨rfl, ?_⟩) 11 0 Im (by omega) (by omega) (fun _ _ => rfl) (fun j => by rw [if_neg (by omega)])
            let g : Nat → Nat := fun j => (I (ar k) j).toNatClampNeg
            have e7' : ∀ j, kn σ g 7 j = if 10 * σ 0 1 ≤ j ∧ j < 10 * σ 0 1 + 10 then g (j - 10 * σ 0 1) else σ 7 j := fun _ => rfl
            have r' : ∀ i, i ≠ 0 → i ≠ 7 → kn σ g i = σ i := fun i hi h7 => kn_r hi h7
            have z' : ∀ j, j ≠ 1 → kn σ g 0 j = σ 0 j := fun j hj => kn_0 hj
            have hg : ∀ j, j < 10 → g j ≤ 20 := fun j hj => (gN j hj).2
            have gI3 : ∀ r, r ≠ 1 → r < 133 + s.1 → u2 I' 1 1 (nI (σ 0 1 + 1)) r = I r := fun r h1 h2 => by rw [u2r h1, gg r h2]
            have gM : ∀ r, r ≠ 0 → r ≠ 3 → u2 (u2 Im' 0 9 (nI (σ 0 1 + 1))) 0 34 (-1) r = Im r := fun r h1 h2 => by rw [u2r h1, u2r h1, m1 r h2]
            have gM0 : ∀ f, f ≠ 9 → f ≠ 34 → u2 (u2 Im' 0 9 (nI (σ 0 1 + 1))) 0 34 (-1) 0 f = Im 0 f := fun f h1 h2 => by rw [u2_ne _ _ (Or.inr h2), u2_ne _ _ (Or.inr h1), m1 0 (by decide)]
            have hr8 : xR0 8 (σ 0 1) = none := by rcases lt4 hR with e | e | e | e <;> rw [e] <;> rfl
            have hR3 : ∀ r k, r ≠ 8 → r < 133 → xR (u2 (u2 (ur (ur rd (133 + s.1) (fun _ => none)) (133 + (s.1 + 1)) (fun _ => none)) (133 + s.1) 0 (some (133 + (s.1 + 1)))) 8 (σ 0 1) (some (133 + s.1))) r k = xR rd r k := fun r k h1 h2 => xR_row (by rw [u2r h1, u2r (by omega), ur_row (by omega), ur_row (by omega)])
            have hO : old s rd fz I (xn (xn s 15 1) 100 10) (u2 (u2 (ur (ur rd (133 + s.1) (fun _ => none)) (133 + (s.1 + 1)) (fun _ => none)) (133 + s.1) 0 (some (133 + (s.1 + 1)))) 8 (σ 0 1) (some (133 + s.1))) (u1 (u1 fz (133 + s.1) true) (133 + (s.1 + 1)) true) (u2 I' 1 1 (nI (σ 0 1 + 1))) :=
              ho3.mod (fun r r1 r2 => ⟨by rw [u2r (by omega), u2r (by omega)], rfl, fun _ => by rw [gI3 r (by omega) r2, ur_row (by omega), ur_row (by omega)]⟩)
            have hF : rf (xn (xn s 15 1) 100 10) (u2 (u2 (ur (ur rd (133 + s.1) (fun _ => none)) (133 + (s.1 + 1)) (fun _ => none)) (133 + s.1) 0 (some (133 + (s.1 + 1)))) 8 (σ 0 1) (some (133 + s.1))) := by
              have h0f := hS.2.2.2.2.2.2.2.1.1
              refine ⟨fun q hq i hi y hy => ?_, fun q hq i hi y hy => hO.ko (h0f.2.1 q hq i hi y (by rw [← hR3 q i (by omega) (by omega)]; exact hy)), fun k hk => (hR3 94 k (by omega) (by omega)).trans (h0f.2.2 k hk)⟩
              rcases hq with rfl | rfl
              · have h8 : xR0 8 i = none := by rcases lt4 hi with e | e | e | e <;> rw [e] <;> rfl
                rw [xR_d h8] at hy
                by_cases e : i = σ 0 1
                · rw [e, u2_self] at hy
                  rw [← Option.some.inj hy]
                  exact x15
                · rw [u2_ne _ _ (Or.inr e), u2r (by omega), ur_row (by omega), ur_row (by omega)] at hy
                  exact hO.ko (h0f.1 8 (.inl rfl) i hi y (by rw [xR_d h8]; exact hy))
              · exact hO.ko (h0f.1 19 (.inr rfl) i hi y (by rw [← hR3 19 i (by omega) (by omega)]; exact hy))
            refine RelS.cls (hS.gen2 hO (WFkn hS.1 hR hg) ?_ ?_ (hS.2.2.2.1.pe ⟨z' 0 (by decide), z' 3 (by decide), r' 2 (by decide) (by decide), r' 3 (by decide) (by decide), r' 5 (by decide) (by decide), r' 6 (by decide) (by decide)⟩ ?_ ?_ ?_ ?_) ⟨0, by decide, u2_self _ _ _ _, fun m hm => absurd hm (by omega)⟩ ?_ ?_ (fun r hr => gI3 r (by omega) (by omega)) (fun r r1 r2 => gI3 r (by omega) r2) (fun r r1 r2 => by rw [ur_row (by omega), ur_row (by omega)]) (fun r k hr => hR3 r k (by omega) (by omega)) (fun r hr => gM r (by omega) (by omega)) (fun f hf => gM0 f (by omega) (by omega)) rfl hF) (by show s.1 + 1 + 1 ≤ _; omega)
            · obtain ⟨s1, s2, s3, s4, s5, s6, s7, s8⟩ := hS.2.1
              unfold xG tr
              rw [gI3 (1 + 1) (by decide) (by omega), gI3 (1 + 2) (by decide) (by omega), gI3 (1 + 3) (by decide) (by omega), gI3 (1 + 4) (by decide) (by omega), gI3 (1 + 5) (by decide) (by omega), gI3 (1 + 6) (by decide) (by omega), gI3 (1 + 9) (by decide) (by omega), gI3 (1 + 10) (by decide) (by omega), r' 1 (by decide) (by decide), r' 2 (by decide) (by decide), r' 3 (by decide) (by decide), r' 4 (by decide) (by decide), r' 5 (by decide) (by decide), r' 6 (by decide) (by decide), z' 8 (by decide), z' 9 (by decide), z' 10 (by decide), z' 11 (by decide)]
              refine ⟨fun j hj => ?_, s2, s3, s4, s5, s6, s7, s8⟩
              by_cases e : j = 1
              · rw [e, u2_self]; rfl
              · rw [u2_ne _ _ (Or.inr e), gg 1 (by omega), z' j e]; exact s1 j hj
            · obtain ⟨⟨c0, c1, c2, c3, c4, c5, c6, c7, c8, c9, c10, c11⟩, cp, cm, cr, cc⟩ := hS.2.2.1
              have mz : ∀ j, j < 12 → j ≠ 9 → mcnt (u2 (u2 Im' 0 9 (nI (σ 0 1 + 1))) 0 34 (-1)) j = mcnt Im j := by
                intro j hj h9
                unfold mcnt
                split
                · exact gM0 12 (by decide) (by decide)
                · exact gM0 j h9 (by omega)
              unfold mG mGv
              rw [gM 1 (by decide) (by decide), gM 2 (by decide) (by decide), gM 4 (by decide) (by decide), gM 5 (by decide) (by decide), gM 6 (by decide) (by decide), mz 0 (by decide) (by decide), mz 1 (by decide) (by decide), mz 2 (by decide) (by decide), mz 3 (by decide) (by decide), mz 4 (by decide) (by decide), mz 5 (by decide) (by decide), mz 6 (by decide) (by decide), mz 7 (by decide) (by decide), mz 8 (by decide) (by decide), mz 10 (by decide) (by decide), mz 11 (by decide) (by decide),
                z' 8 (by decide), z' 11 (by decide), z' 3 (by decide), z' 9 (by decide), z' 4 (by decide), z' 7 (by decide), z' 5 (by decide), z' 6 (by decide), z' 0 (by decide), z' 2 (by decide), z' 10 (by decide), r' 1 (by decide) (by decide), r' 2 (by decide) (by decide), r' 3 (by decide) (by decide), r' 4 (by decide) (by decide), r' 5 (by decide) (by decide), r' 6 (by decide) (by decide), r' 8 (by decide) (by decide), r' 9 (by decide) (by decide), r' 10 (by decide) (by decide)]
              refine ⟨⟨c0, c1, c2, c3, c4, c5, c6, c7, c8, ?_, c10, c11⟩, cp, cm, fun j hj => ?_, cc⟩
              · show u2 (u2 Im' 0 9 (nI (σ 0 1 + 1))) 0 34 (-1) 0 9 = _
                rw [u2_ne _ _ (Or.inr (by decide)), u2_self]; rfl
              · rw [u2r (by decide), u2r (by decide), m2 j, e7' j]
                split
                · exact (gN _ (by omega)).1
                · exact cr j hj
            · rw [gI3 23 (by decide) (by omega)]
            · exact gI3 24 (by decide) (by omega)
            · exact gM0 18 (by decide) (by decide)
            · exact gM 7 (by decide) (by decide)
            · intro r hr
              have hr' : r < σ 0 1 + 1 := hr
              by_cases e : r = σ 0 1
              · subst e
                refine ⟨133 + s.1, 133 + (s.1 + 1), ?_, x15, by omega, ?_, xb, xl, by omega, ?_, fun j hj => ?_⟩
                · rw [xR_d hr8, u2_self]
                · rw [xR_d (xR0_out _ (by omega)), u2r (by omega), u2_self]
                · unfold u1; rw [if_pos rfl]
                · rw [u2r (by omega), g2 j hj, e7', if_pos (by omega), show 10 * σ 0 1 + j - 10 * σ 0 1 = j by omega, ur_row (by omega), ur_row (by omega)]
                  exact (gN j hj).1
              · obtain ⟨o, br, f1, f2, f3, f4, f5, f6, f7, f8, f9⟩ := hS.2.2.2.2.2.1 r (by omega)
                refine ⟨o, br, ?_, hO.ko f2, f3, (hO.kr f3 f2.1 0).trans f4, hO.ko f5, (hO.kl f5).trans f6, f7, ?_, fun j hj => ?_⟩
                · have hr4 : r < 4 := by omega
                  have h8 : xR0 8 r = none := by rcases lt4 hr4 with e | e | e | e <;> rw [e] <;> rfl
                  rw [xR_d h8] at f1 ⊢
                  rw [u2_ne _ _ (Or.inr e), u2r (by omega), ur_row (by omega), ur_row (by omega)]
                  exact f1
                · rw [(hO.2.2 br f7 f5.1).2.1]; exact f8
                · rw [(hO.2.2 br f7 f5.1).2.2 f8, e7', if_neg (by omega)]; exact f9 j hj
            · exact (hS.2.2.2.2.2.2.1.to hO (fun j => hR3 9 j (by decide) (by omega))).sig (z' 2 (by decide)) (r' 8 (by decide) (by decide)) (r' 9 (by decide) (by decide)) (r' 10 (by decide) (by decide))
        · unfold x_X0_tenOf_j41
          refine br_t rfl (ys rfl ⟨fun _ => ?_, fun z => absurd rfl z⟩)
          unfold m_risk_j38
          exact ⟨11, m_risk_lp (f := I (ar k)) hk hv (fun z => absurd z bad) (fun _ => no _) 11 0 (by omega) (by omega) (fun j hj => absurd hj (by omega))⟩
      · unfold x_X0_tenOf_j12
        refine ⟨1, ?_⟩
        have fin : x_X0_tenOf_j41 (fun r s' rd' J' I' => m_risk (nI k) Im Jm (RelQ (t + 1) s' rd' J' I' r)) (ar k) 0 s rd J I := by
          unfold x_X0_tenOf_j41
          refine br_t rfl (ys rfl ⟨fun z => absurd z en, fun _ => ?_⟩)
          unfold m_risk_j38
          exact ⟨11, m_risk_l0 (no _) 11 0 (by omega) (by omega)⟩
        unfold x_X0_tenOf_l15
        exact ⟨e5, br_c (fun _ => fin) (fun _ => br_t rfl fin)⟩
    · exact .inl ⟨e5, nope (by decide)⟩
    · exact .inr (.inr (.inr ⟨e5, nope (by decide)⟩))
