set_option maxRecDepth 100000
set_option maxHeartbeats 4000000
/-! PLAIN LAW, operations 27: the Spread's distributions, both sides in lockstep; rests, restOf -/
abbrev gK : Type := Nat × Nat × Nat × (Nat → Nat) × Int32 × ((Int32 → mI → mJ → Prop) → Prop) × mJ × mI × mI
abbrev gK.P (g : gK) : Nat := g.1
abbrev gK.fo (g : gK) : Nat := g.2.1
abbrev gK.wk (g : gK) : Nat := g.2.2.1
abbrev gK.r (g : gK) : Nat → Nat := g.2.2.2.1
abbrev gK.tg (g : gK) : Int32 := g.2.2.2.2.1
abbrev gK.W (g : gK) : (Int32 → mI → mJ → Prop) → Prop := g.2.2.2.2.2.1
abbrev gK.Jm (g : gK) : mJ := g.2.2.2.2.2.2.1
abbrev gK.I0 (g : gK) : mI := g.2.2.2.2.2.2.2.1
abbrev gK.Im0 (g : gK) : mI := g.2.2.2.2.2.2.2.2
def gK.ok (g : gK) : Prop := g.P ≤ 4 ∧ g.wk ≤ 6 ∧ g.fo ≤ 5 ∧ (∀ k, g.r k ≤ 60) ∧ g.I0 1 0 = nI g.P ∧ g.I0 1 6 = nI g.wk ∧ g.I0 1 7 = nI g.fo ∧ (∀ k, k < 4 → g.I0 5 k = nI (g.r k)) ∧ g.Im0 0 8 = nI g.P ∧ g.Im0 0 7 = nI g.wk ∧ g.Im0 0 5 = nI g.fo ∧ (∀ k, k < 4 → g.Im0 1 (11 * k + 3) = nI (g.r k)) ∧ (g.tg = -1 ∨ ∃ x, x < 2 ^ 31 ∧ g.tg = nI x)
theorem m_lays_s {P b l : Nat} {I : mI} {J : mJ} {Q : mI → mJ → Prop} (hP : P ≤ 4) (hb : b ≤ 4) (h8 : I 0 8 = nI P) (K : ∀ I', (∀ q, q ≠ 17 → I' q = I q) → (∀ k, k < 4 → I' 17 (b + k) = nI (if k + 1 = P then l else 0)) → (∀ k, ¬ (b ≤ k ∧ k < b + 4) → I' 17 k = I 17 k) → Q I' J) : m_lays (nI b) (nI l) I J Q := by
  unfold m_lays
  have lp : ∀ n i I1, 4 - i < n → i ≤ 4 → (∀ q, q ≠ 17 → I1 q = I q) → (∀ k, k < i → I1 17 (b + k) = nI (if k + 1 = P then l else 0)) → (∀ k, ¬ (b ≤ k ∧ k < b + 4) → I1 17 k = I 17 k) → m_lays_l2 Q n (nI b) (nI l) (nI i) I1 J := by
    intro n
    induction n with
    | zero => intro i I1 g; exact absurd g (Nat.not_lt_zero _)
    | succ n ih =>
      intro i I1 g1 g2 f1 d1 o1
      have e8 : I1 0 8 = nI P := by rw [f1 0 (by decide)]; exact h8
      unfold m_lays_l2 m_lays_j29
      rw [nI_1, nI_add b i, e8, aI_pred']
      refine pk_le 4 i (fun le => K I1 f1 (fun k hk => d1 k (by omega)) o1) (fun lt => ?_) rfl rfl (by omega) (by omega)
      have v : vp_in (nI (b + i)) 8 := vp_in_nI (by omega) (by decide)
      have go : ∀ x, (x = nI (if i + 1 = P then l else 0)) → vp_in (nI (b + i)) 8 ∧ m_lays_l2 Q n (nI b) (nI l) (nI (i + 1)) (u2 I1 17 (nI (b + i)).toNatClampNeg x) J := by
        intro x hx
        rw [nI_clamp (by omega)]
        refine ⟨v, ih (i + 1) _ (by omega) (by omega) (fun q hq => (u2r hq).trans (f1 q hq)) (fun k hk => ?_) (fun k hk => ?_)⟩
        · by_cases e : k = i
          · rw [e, u2_self]; exact hx
          · rw [u2_ne _ _ (Or.inr (by omega))]; exact d1 k (by omega)
        · rw [u2_ne _ _ (Or.inr (by omega))]; exact o1 k hk
      refine br_c (fun e => go _ ?_) (fun e => go _ ?_)
      · rw [if_pos ((aI_eq (by omega) (by omega)).mp e.symm).symm]
      · rw [if_neg (fun y => e ((aI_eq (by omega) (by omega)).mpr y.symm).symm)]; rfl
  exact ⟨5, lp 5 0 I (by omega) (by omega) (fun _ _ => rfl) (fun k hk => absurd hk (Nat.not_lt_zero _)) (fun _ _ => rfl)⟩
def gC (g : gK) (b p : Nat) (I : mI) (d : Nat → Nat) : Prop := (∀ q, q < 88 ∨ 91 < q → I q = g.I0 q) ∧ I 88 4 = g.tg ∧ ∀ k, k < 4 * b + p → k % 4 < g.P → I 89 k = nI (d k)
def gM (g : gK) (Im : mI) (d : Nat → Nat) : Prop := (∀ q, q ≠ 17 → q ≠ 18 → Im q = g.Im0 q) ∧ ∀ k, k < 8 → Im 17 k = nI (d k)
def gF (g : gK) (c : Nat) (I : mI) : Prop := ∃ x dF, x < c ∧ g.tg = nI x ∧ (∀ k, k < 8 → k % 4 < g.P → I 90 k = nI (dF k)) ∧ ∀ QM : Int32 → mI → mJ → Prop, (∀ Im, gM g Im dF → QM g.tg Im g.Jm) → g.W QM
theorem gF.to {g : gK} {c c' : Nat} {I I' : mI} (h : gF g c I) (hc : c ≤ c') (h90 : I' 90 = I 90) : gF g c' I' := by
  obtain ⟨x, dF, a1, a2, a3, a4⟩ := h
  exact ⟨x, dF, by omega, a2, fun k h1 h2 => by rw [h90]; exact a3 k h1 h2, a4⟩
def gN (g : gK) (c : Nat) : Prop := ∀ x, x < 2 ^ 31 → g.tg = nI x → c ≤ x
def gT0 (g : gK) (QM : Int32 → mI → mJ → Prop) (n c : Nat) : Int32 → mI → mJ → Prop :=
  fun r17 I18 J19 => m_lays 4 (I18 0 7) I18 J19 (fun I20 J21 => m_findRest_j93 QM (fun b0 b1 b2 I J => m_findRest_l33 QM n b0 b1 b2 I J) g.tg (nI c) r17 I20 J21)
def gT1 (g : gK) (QM : Int32 → mI → mJ → Prop) (n c : Nat) : Int32 → mI → mJ → Prop :=
  fun r13 I14 J15 => (r13 = 0 → m_shifts 0 I14 J15 (gT0 g QM n c)) ∧ (¬ r13 = 0 → m_findRest_j93 QM (fun b0 b1 b2 I J => m_findRest_l33 QM n b0 b1 b2 I J) g.tg (nI c) r13 I14 J15)
def gT (g : gK) (QM : Int32 → mI → mJ → Prop) (n c b : Nat) : Int32 → mI → mJ → Prop := if b = 0 then gT0 g QM n c else gT1 g QM n c
def gEn (g : gK) (c : Nat) (d : Nat → Nat) : Prop := gN g c ∧ ∀ QM : Int32 → mI → mJ → Prop, (∃ n, ∀ Im, gM g Im d → m_findRest_l33 QM n g.tg (nI c) 1 Im g.Jm) → g.W QM
def gEx (g : gK) (b c p : Nat) (d : Nat → Nat) : Prop := gN g c ∧ ∀ QM : Int32 → mI → mJ → Prop, (∃ n, ∀ Im, gM g Im d → ∃ n', m_shifts_l7 (gT g QM n c b) n' (nI (4 * b)) (nI p) Im g.Jm) → g.W QM
def gZ (g : gK) (b p l : Nat) (d : Nat → Nat) : Prop := (∀ k, d k ≤ 6) ∧ (∀ k, p ≤ k → k + 1 < g.P → d (4 * b + k) = 0) ∧ d (4 * b + (g.P - 1)) = l ∧ (b = 0 → ∀ k, k < 4 → d (4 + k) = if k + 1 = g.P then g.wk else 0)
def gX (g : gK) (b p l : Nat) (d : Nat → Nat) : Prop := (∀ k, d k ≤ 6) ∧ (∀ k, p < k → k < g.P → d (4 * b + k) = 0) ∧ d (4 * b + p) = l
def gGO (g : gK) (s : xS) (rd : xRd) (J : mJ) (f b p l m : Nat) : Prop := ∀ (d : Nat → Nat) (c : Nat) (I : mI) (Q : mI → Prop), gC g b p I d → gZ g b p l d → I 88 3 = nI c → c + 7 ^ m < 2 ^ 30 → (gEn g c d ∨ gF g c I) →
  (∀ I' c' d', gC g b p I' d' → gX g b p l d' → (∀ k, k < 4 * b + p → k % 4 < g.P → d' k = d k) → I' 88 3 = nI c' → c' ≤ c + 7 ^ m → (gEx g b c' p d' ∨ gF g c' I') → Q I') → x_X6_goes f (nI b) (nI p) (nI l) s rd J I Q
/-- the next digits -/
def gD (g : gK) (b p x : Nat) (d : Nat → Nat) : Nat → Nat := fun k => if k = 4 * b + (g.P - 1) then x else if k = 4 * b + p then d k + 1 else if k = 4 * b + (p + 1) then 0 else if b = 0 ∧ 4 ≤ k ∧ k < 8 then (if k = 4 + (g.P - 1) then g.wk else 0) else d k
theorem gK.pre {g : gK} (h1 : 1 ≤ g.P) : nI g.P - 1 = nI (g.P - 1) := by
  obtain ⟨P', e⟩ : ∃ P', g.P = P' + 1 := ⟨g.P - 1, by omega⟩
  rw [e]
  exact nI_pred _
theorem gEx.step {g : gK} (hg : g.ok) {b c p y : Nat} {d : Nat → Nat} (hb : b ≤ 1) (hp : p + 2 ≤ g.P) (h : gEx g b c (p + 1) d) (db : ∀ k, d k ≤ 6) (h1 : d (4 * b + (p + 1)) = y + 1) : gEn g c (gD g b p y d) := by
  have hP := hg.1
  refine ⟨h.1, fun QM ⟨n, hn⟩ => h.2 QM ⟨n, fun Im hM => ⟨1, ?_⟩⟩⟩
  have e8 : Im 0 8 = nI g.P := by rw [hM.1 0 (by decide) (by decide)]; exact hg.2.2.2.2.2.2.2.2.1
  have y6 := db (4 * b + (p + 1))
  have q1 : nI (4 * b) + nI (p + 1) = nI (4 * b + (p + 1)) := nI_add _ _
  have q2 : nI (4 * b + (p + 1)) - 1 = nI (4 * b + p) := nI_pred _
  have q3 : nI (4 * b) + nI g.P - 1 = nI (4 * b + (g.P - 1)) := by
    obtain ⟨P', e⟩ : ∃ P', g.P = P' + 1 := ⟨g.P - 1, by omega⟩
    rw [e, nI_add]
    exact nI_pred _
  have v1 : vp_in (nI (4 * b + (p + 1))) 8 := vp_in_nI (by omega) (by decide)
  have v2 : vp_in (nI (4 * b + p)) 8 := vp_in_nI (by omega) (by decide)
  have v3 : vp_in (nI (4 * b + (g.P - 1))) 8 := vp_in_nI (by omega) (by decide)
  have dA : Im 17 (4 * b + (p + 1)) = nI (y + 1) := by rw [hM.2 _ (by omega), h1]
  unfold m_shifts_l7 m_shifts_j28
  rw [q1, q2, e8, q3, nI_clamp (by omega), nI_clamp (by omega), nI_clamp (by omega), dA, nI_pred]
  refine br_f (nI_nle (by omega) (by omega)) ⟨v1, br_f (nI_ne0 (by omega) (by omega)) (br_t (show nI 0 < nI (p + 1) from nI_lt (by omega) (by omega)) ⟨v1, fun v3' e3 => ⟨v1, v2, v2, v3, fun I4 e4 => ?_⟩⟩)⟩
  have f4 : ∀ q, q ≠ 17 → I4 q = Im q := fun q hq => by rw [e4, u2r hq, u2r hq, u2r hq]
  have d4 : ∀ k, k < 8 → (b = 0 → k < 4) → I4 17 k = nI (gD g b p y d k) := by
    intro k hk hk4
    unfold gD
    rw [e4, e3]
    by_cases a1 : k = 4 * b + (g.P - 1)
    · rw [if_pos a1, a1, u2_self]
    · rw [if_neg a1, u2_ne _ _ (Or.inr a1)]
      by_cases a2 : k = 4 * b + p
      · rw [if_pos a2, a2, u2_self, u2_ne _ _ (Or.inr (by omega)), hM.2 _ (by omega), nI_1]
      · rw [if_neg a2, u2_ne _ _ (Or.inr a2)]
        by_cases a3 : k = 4 * b + (p + 1)
        · rw [if_pos a3, a3, u2_self]; rfl
        · rw [if_neg a3, u2_ne _ _ (Or.inr a3), if_neg (fun z => by have := hk4 z.1; omega), hM.2 _ hk]
  rcases (show b = 0 ∨ b = 1 by omega) with rfl | rfl
  · show gT0 g QM n c 1 I4 g.Jm
    unfold gT0
    have e7 : I4 0 7 = nI g.wk := by rw [f4 0 (by decide), hM.1 0 (by decide) (by decide)]; exact hg.2.2.2.2.2.2.2.2.2.1
    rw [e7]
    refine m_lays_s (b := 4) hP (by omega) (by rw [f4 0 (by decide)]; exact e8) (fun I5 f5 d5 o5 => ?_)
    unfold m_findRest_j93
    refine hn I5 ⟨fun q h17 h18 => by rw [f5 q h17, f4 q h17]; exact hM.1 q h17 h18, fun k hk => ?_⟩
    by_cases k4 : k < 4
    · rw [o5 k (by omega)]; exact d4 k hk (fun _ => k4)
    · have z := d5 (k - 4) (by omega)
      rw [show 4 + (k - 4) = k by omega] at z
      have eD : gD g 0 p y d k = if k - 4 + 1 = g.P then g.wk else 0 := by
        unfold gD
        rw [if_neg (show ¬ k = 4 * 0 + (g.P - 1) by omega), if_neg (show ¬ k = 4 * 0 + p by omega), if_neg (show ¬ k = 4 * 0 + (p + 1) by omega), if_pos (show 0 = 0 ∧ 4 ≤ k ∧ k < 8 from ⟨rfl, by omega, hk⟩)]
        by_cases e : k = 4 + (g.P - 1)
        · rw [if_pos e, if_pos (by omega)]
        · rw [if_neg e, if_neg (by omega)]
      rw [z, eD]
  · show gT1 g QM n c 1 I4 g.Jm
    unfold gT1
    refine br_f (by decide) ?_
    unfold m_findRest_j93
    exact hn I4 ⟨fun q h17 h18 => by rw [f4 q h17]; exact hM.1 q h17 h18, fun k hk => d4 k hk (fun z => absurd z (by decide))⟩
theorem g_loop {g : gK} (hg : g.ok) {s : xS} {rd : xRd} {J : mJ} {f b p m : Nat} (hb : b ≤ 1) (hp : p + 2 ≤ g.P) (h : ∀ l, l ≤ 6 → gGO g s rd J f b (p + 1) l m) : ∀ l, l ≤ 6 → gGO g s rd J (f + 1) b p l (m + 1) := by
  intro l hl d c I Q hC hZ hc hbd hst K
  have hP := hg.1
  obtain ⟨N, hN⟩ : ∃ N, 7 ^ m = N := ⟨_, rfl⟩
  have hN1 : 7 ^ (m + 1) = N * 7 := by rw [Nat.pow_succ, hN]
  rw [hN1] at hbd
  have i0 : I 1 0 = nI g.P := by rw [hC.1 1 (by omega)]; exact hg.2.2.2.2.1
  have e4 : (4 : Int32) * nI b + nI p = nI (4 * b + p) := by rw [show (4 : Int32) = nI 4 from rfl, pk_mul, nI_add]
  have v : vp_in (nI (4 * b + p)) 8 := vp_in_nI (by omega) (by decide)
  unfold x_X6_goes x_X6_goes_b
  rw [i0, gK.pre (by omega), e4]
  refine br_f (nI_ge (by omega) (by omega)) ⟨l + 2, ?_⟩
  have lp : ∀ n a (dd : Nat → Nat) c1 I1, l + 1 - a < n → a ≤ l → gC g b p I1 dd → (∀ k, k < 4 * b + p → k % 4 < g.P → dd k = d k) → gZ g b (p + 1) (l - a) dd → dd (4 * b + p) = a → I1 88 3 = nI c1 → c1 ≤ c + a * N → (gEn g c1 dd ∨ gF g c1 I1) → x_X6_goes_l26 Q (fun a1 a2 a3 s rd J I Q => x_X6_goes f a1 a2 a3 s rd J I Q) n (nI b) (nI p) (nI l) (nI (4 * b + p)) (nI a) s rd J I1 := by
    intro n
    induction n with
    | zero => intro a dd c1 I1 g; exact absurd g (Nat.not_lt_zero _)
    | succ n ih =>
      intro a dd c1 I1 g1 g2 hC1 hpre hZ1 hda hc1 hcb hst1
      have bN : a * N ≤ 6 * N := Nat.mul_le_mul_right _ (by omega)
      have bN1 : (a + 1) * N = a * N + N := Nat.succ_mul _ _
      unfold x_X6_goes_l26
      refine br_f (nI_nlt g2 (by omega)) ⟨v, ?_⟩
      rw [nI_1, nI_1, nI_clamp (by omega), pk_sub g2]
      refine h (l - a) (by omega) dd c1 (u2 I1 89 (4 * b + p) (nI a)) _ ⟨fun q hq => by rw [u2r (by omega)]; exact hC1.1 q hq, by rw [u2r (by decide)]; exact hC1.2.1, fun k h1 h2 => ?_⟩ hZ1 (by rw [u2r (by decide)]; exact hc1) (by rw [hN]; omega) (hst1.imp id (fun z => z.to (Nat.le_refl _) (u2r (by decide)))) (fun I' c' d' k1 k2 k3 k4 k5 k6 => ?_)
      · by_cases e : k = 4 * b + p
        · rw [e, u2_self, hda]
        · rw [u2_ne _ _ (Or.inr e)]; exact hC1.2.2 k (by omega) h2
      · rw [hN] at k5
        have kp : d' (4 * b + p) = a := by rw [k3 (4 * b + p) (by omega) (by omega)]; exact hda
        have agr : ∀ k, k < 4 * b + p → k % 4 < g.P → d' k = d k := fun k h1 h2 => by rw [k3 k (by omega) h2]; exact hpre k h1 h2
        by_cases top : a = l
        · rw [show n = (n - 1) + 1 by omega]
          unfold x_X6_goes_l26
          have z0 : d' (4 * b + (p + 1)) = 0 := by rw [k2.2.2]; omega
          refine br_t (nI_lt (by omega) (by omega)) (K I' c' d' ⟨k1.1, k1.2.1, fun k h1 h2 => k1.2.2 k (by omega) h2⟩ ⟨k2.1, fun k h1 h2 => ?_, by rw [kp, top]⟩ agr k4 (by rw [hN1]; omega) (k6.imp (fun z => ⟨z.1, fun QM ⟨n1, hn⟩ => z.2 QM ⟨n1, fun Im hM => ?_⟩⟩) id))
          · by_cases e : k = p + 1
            · rw [e]; exact z0
            · exact k2.2.1 k (by omega) h2
          · obtain ⟨n', hn'⟩ := hn Im hM
            refine ⟨n' + 1, ?_⟩
            unfold m_shifts_l7
            have q1 : nI (4 * b) + nI (p + 1) = nI (4 * b + (p + 1)) := nI_add _ _
            rw [q1, nI_clamp (by omega), hM.2 _ (by omega), z0, pk_m1]
            exact br_f (nI_nle (by omega) (by omega)) ⟨vp_in_nI (by omega) (by decide), br_t rfl hn'⟩
        · have y1 : d' (4 * b + (p + 1)) = (l - (a + 1)) + 1 := by rw [k2.2.2]; omega
          have d6 := k2.1
          refine ih (a + 1) (gD g b p (l - (a + 1)) d') c' I' (by omega) (by omega) ⟨k1.1, k1.2.1, fun k h1 h2 => ?_⟩ (fun k h1 h2 => ?_) ⟨fun k => ?_, fun k h1 h2 => ?_, ?_, fun hb0 k hk => ?_⟩ ?_ k4 (by omega) (k6.imp (fun z => z.step hg hb hp d6 y1) id)
          · unfold gD
            rw [if_neg (by omega), if_neg (by omega), if_neg (by omega), if_neg (by omega)]
            exact k1.2.2 k (by omega) h2
          · unfold gD
            rw [if_neg (by omega), if_neg (by omega), if_neg (by omega), if_neg (by omega)]
            exact agr k h1 h2
          · unfold gD
            have w6 := hg.2.1
            have dk := d6 k
            split
            · omega
            · split
              · rename_i e; rw [e, kp]; omega
              · split
                · omega
                · split
                  · split <;> omega
                  · exact dk
          · unfold gD
            rw [if_neg (by omega), if_neg (by omega)]
            by_cases e : k = p + 1
            · rw [if_pos (by omega)]
            · rw [if_neg (by omega), if_neg (by omega)]; exact k2.2.1 k (by omega) (by omega)
          · unfold gD
            rw [if_pos rfl]
          · subst hb0
            unfold gD
            rw [if_neg (by omega), if_neg (by omega), if_neg (by omega), if_pos ⟨rfl, by omega, by omega⟩]
            by_cases e : k + 1 = g.P
            · rw [if_pos (by omega), if_pos e]
            · rw [if_neg (by omega), if_neg e]
          · unfold gD
            rw [if_neg (by omega), if_pos rfl, kp]
  exact lp (l + 2) 0 d c I (by omega) (by omega) hC (fun _ _ _ => rfl) ⟨hZ.1, fun k h1 h2 => hZ.2.1 k (by omega) h2, hZ.2.2.1, hZ.2.2.2⟩ (hZ.2.1 p (Nat.le_refl _) (by omega)) hc (by omega) hst
theorem rsB_01 {P fo : Nat} {r w d : Nat → Nat} : rsB P r w d fo = 0 ∨ rsB P r w d fo = 1 := by
  unfold rsB
  split
  · exact .inr rfl
  · exact .inl rfl
/-- the rest test of the digits -/
def gB (g : gK) (d : Nat → Nat) : Nat := rsB g.P g.r (fun k => g.fo * d k + d (4 + k)) d g.fo
/-- the model at full digits -/
theorem g_test {g : gK} (hg : g.ok) {QM : Int32 → mI → mJ → Prop} {n c : Nat} {d : Nat → Nat} {Im : mI} (hM : gM g Im d) (db : ∀ k, d k ≤ 6)
    (h0 : gB g d = 0 → ∀ Im', gM g Im' d → m_shifts 4 Im' g.Jm (gT1 g QM n c))
    (h1 : gB g d = 1 → ∀ Im', gM g Im' d → (nI c = g.tg → QM g.tg Im' g.Jm) ∧ (¬ nI c = g.tg → m_shifts 4 Im' g.Jm (gT1 g QM n (c + 1)))) : m_findRest_l33 QM (n + 1) g.tg (nI c) 1 Im g.Jm := by
  obtain ⟨a1, a2, a3, a4, a5, a6, a7, a8, a9, a10, a11, a12, _⟩ := hg
  unfold m_findRest_l33
  refine br_f (by decide) (m_isRest_s (P := g.P) (fo := g.fo) (r := g.r) (d := d) (w := fun k => g.fo * d k + d (4 + k)) a1 (by rw [hM.1 0 (by decide) (by decide)]; exact a9) (by rw [hM.1 0 (by decide) (by decide)]; exact a11) a3 (fun k hk => by rw [hM.1 1 (by decide) (by decide)]; exact a12 k hk) hM.2 db (fun _ => rfl) a4 (fun I' f' => ?_))
  have hM' : gM g I' d := ⟨fun q h17 h18 => by rw [f' q h18]; exact hM.1 q h17 h18, fun k hk => by rw [f' 17 (by decide)]; exact hM.2 k hk⟩
  have e0 : nI c + 0 = nI c := nI_add c 0
  have j0 : m_shifts 4 I' g.Jm (gT1 g QM n c) → m_findRest_j55 QM (fun b0 b1 b2 I J => m_findRest_l33 QM n b0 b1 b2 I J) g.tg (nI c) 0 I' g.Jm := by
    intro hh
    unfold m_findRest_j55
    refine br_t rfl ?_
    unfold m_findRest_j66
    rw [e0]
    exact hh
  have j1 : m_shifts 4 I' g.Jm (gT1 g QM n (c + 1)) → m_findRest_j55 QM (fun b0 b1 b2 I J => m_findRest_l33 QM n b0 b1 b2 I J) g.tg (nI c) 1 I' g.Jm := by
    intro hh
    unfold m_findRest_j55
    refine br_f (by decide) ?_
    unfold m_findRest_j66
    rw [nI_1]
    exact hh
  have h01 : gB g d = 0 ∨ gB g d = 1 := rsB_01
  rcases h01 with e | e
  · have e' : rsB g.P g.r (fun k => g.fo * d k + d (4 + k)) d g.fo = 0 := e
    rw [e']
    exact br_t rfl (j0 (h0 e I' hM'))
  · have e' : rsB g.P g.r (fun k => g.fo * d k + d (4 + k)) d g.fo = 1 := e
    rw [e']
    have z := h1 e I' hM'
    exact br_f (by decide) ⟨z.1, fun ne => j1 (z.2 ne)⟩
theorem g_leaf1 {g : gK} (hg : g.ok) {s : xS} {rd : xRd} {J : mJ} {f p : Nat} (hp : p + 1 = g.P) : ∀ l, l ≤ 6 → gGO g s rd J (f + 1) 1 p l 0 := by
  intro l hl d c I Q hC hZ hc hbd hst K
  have hP := hg.1
  have i0 : I 1 0 = nI g.P := by rw [hC.1 1 (by omega)]; exact hg.2.2.2.2.1
  have e4 : (4 : Int32) * nI 1 + nI p = nI (4 * 1 + p) := by rw [show (4 : Int32) = nI 4 from rfl, pk_mul, nI_add]
  have v : vp_in (nI (4 * 1 + p)) 8 := vp_in_nI (by omega) (by decide)
  have hdp : d (4 * 1 + p) = l := by have z := hZ.2.2.1; rw [show g.P - 1 = p by omega] at z; exact z
  have hbd' : c + 1 < 2 ^ 30 := hbd
  unfold x_X6_goes x_X6_goes_b
  rw [i0, gK.pre (by omega), e4, nI_clamp (by omega)]
  refine br_t (nI_le (by omega) (by omega)) ⟨v, br_f (by decide) ?_⟩
  have e90 : xlen s 90 = 8 := xlen_c (by decide) rfl
  have e89 : xlen s 89 = 8 := xlen_c (by decide) rfl
  have f0 : ∀ q, q ≠ 89 → u2 I 89 (4 * 1 + p) (nI l) q = I q := fun q hq => u2r hq
  have dg0 : ∀ k, k < 4 * 1 + g.P → k % 4 < g.P → u2 I 89 (4 * 1 + p) (nI l) 89 k = nI (d k) := fun k h1 h2 => by
    by_cases e : k = 4 * 1 + p
    · rw [e, u2_self, hdp]
    · rw [u2_ne _ _ (Or.inr e)]; exact hC.2.2 k (by omega) h2
  refine x_rests_s (P := g.P) (fo := g.fo) (r := g.r) (d := d) (w := fun k => g.fo * d k + d (4 + k)) hP (by rw [f0 1 (by decide)]; exact i0) (by rw [f0 1 (by decide), hC.1 1 (by omega)]; exact hg.2.2.2.2.2.2.1) hg.2.2.1 (fun k hk => by rw [f0 5 (by decide), hC.1 5 (by omega)]; exact hg.2.2.2.2.2.2.2.1 k hk) (fun k hk => ⟨dg0 k (by omega) (by omega), dg0 (4 + k) (by omega) (by omega)⟩) hZ.1 (fun _ => rfl) hg.2.2.2.1 (fun I3 f3 => ?_)
  have hC3 : gC g 1 p I3 d := ⟨fun q hq => by rw [f3 q (by omega), f0 q (by omega)]; exact hC.1 q hq, by rw [f3 88 (by decide), f0 88 (by decide)]; exact hC.2.1, fun k h1 h2 => by rw [f3 89 (by decide)]; exact dg0 k (by omega) h2⟩
  have hX : gX g 1 p l d := ⟨hZ.1, fun k h1 h2 => absurd h2 (by omega), hdp⟩
  have c3 : I3 88 3 = nI c := by rw [f3 88 (by decide), f0 88 (by decide)]; exact hc
  have h90 : I3 90 = I 90 := by rw [f3 90 (by decide), f0 90 (by decide)]
  have sh : ∀ {QM : Int32 → mI → mJ → Prop} {n c' : Nat}, (∀ Im, gM g Im d → ∃ n', m_shifts_l7 (gT g QM n c' 1) n' (nI (4 * 1)) (nI p) Im g.Jm) → ∀ Im', gM g Im' d → m_shifts 4 Im' g.Jm (gT1 g QM n c') := by
    intro QM n c' hh Im' hM
    unfold m_shifts
    have e8 : Im' 0 8 = nI g.P := by rw [hM.1 0 (by decide) (by decide)]; exact hg.2.2.2.2.2.2.2.2.1
    rw [e8, gK.pre (by omega), show g.P - 1 = p by omega]
    exact hh Im' hM
  show (nI (gB g d) = 0 → _) ∧ (¬ nI (gB g d) = 0 → _)
  have h01 : gB g d = 0 ∨ gB g d = 1 := rsB_01
  rcases h01 with e | e
  · rw [e]
    refine br_t rfl (K I3 c d hC3 hX (fun _ _ _ => rfl) c3 (by omega) ?_)
    rcases hst with ⟨hN, he⟩ | hF
    · exact .inl ⟨hN, fun QM ⟨n, hn⟩ => he QM ⟨n + 1, fun Im hM => g_test hg hM hZ.1 (fun _ => sh hn) (fun y => absurd (e.symm.trans y) (by decide))⟩⟩
    · exact .inr (hF.to (Nat.le_refl _) h90)
  · rw [e]
    refine br_f (by decide) ?_
    unfold x_X6_goes_j124
    rw [c3, hC3.2.1, e89, e90]
    refine ⟨fun eq => ⟨by decide, ?_⟩, fun ne => ?_⟩
    · rw [show ur I3 90 (va_cpy (I3 89) (I3 90) (0 : Int32).toNatClampNeg (0 : Int32).toNatClampNeg (8 : Int32).toNatClampNeg) 88 = I3 88 from ur_row (by decide), c3, nI_1]
      refine K _ (c + 1) d ⟨fun q hq => ?_, ?_, fun k h1 h2 => ?_⟩ hX (fun _ _ _ => rfl) (u2_self _ _ _ _) (Nat.le_refl (c + 1)) ?_
      · rw [u2r (by omega), ur_row (by omega)]; exact hC3.1 q hq
      · rw [u2_ne _ _ (Or.inr (by decide)), ur_row (by decide)]; exact hC3.2.1
      · rw [u2r (by decide), ur_row (by decide)]; exact hC3.2.2 k h1 h2
      · rcases hst with ⟨hN, he⟩ | hF
        · have hx : ∃ x, x < 2 ^ 31 ∧ g.tg = nI x := by
            rcases hg.2.2.2.2.2.2.2.2.2.2.2.2 with z | z
            · exact absurd (eq.trans z) (m1_ne (by omega))
            · exact z
          obtain ⟨x, x1, x2⟩ := hx
          have ex : c = x := (nI_eq (by omega) x1).mp (eq.trans x2)
          refine .inr ⟨x, d, by omega, x2, fun k h1 h2 => ?_, fun QM hq => he QM ⟨1, fun Im hM => g_test hg hM hZ.1 (fun y => absurd (e.symm.trans y) (by decide)) (fun _ Im' hM' => br_t eq (hq Im' hM'))⟩⟩
          rw [u2r (by decide), ur_self]
          show va_cpy (I3 89) (I3 90) 0 0 8 k = _
          rw [pk_cpy_in (Nat.zero_le _) (by omega), Nat.zero_add, Nat.sub_zero, f3 89 (by decide)]
          exact dg0 k (by omega) h2
        · obtain ⟨x, dF, a1, a2, _⟩ := hF
          have ex : c = x := (nI_eq (by omega) (by omega)).mp (eq.trans a2)
          omega
    · rw [nI_1]
      refine K _ (c + 1) d ⟨fun q hq => ?_, ?_, fun k h1 h2 => ?_⟩ hX (fun _ _ _ => rfl) (u2_self _ _ _ _) (Nat.le_refl (c + 1)) ?_
      · rw [u2r (by omega)]; exact hC3.1 q hq
      · rw [u2_ne _ _ (Or.inr (by decide))]; exact hC3.2.1
      · rw [u2r (by decide)]; exact hC3.2.2 k h1 h2
      · rcases hst with ⟨hN, he⟩ | hF
        · refine .inl ⟨fun x x1 x2 => ?_, fun QM ⟨n, hn⟩ => he QM ⟨n + 1, fun Im hM => g_test hg hM hZ.1 (fun y => absurd (e.symm.trans y) (by decide)) (fun _ Im' hM' => br_f ne (sh hn Im' hM'))⟩⟩
          have z := hN x x1 x2
          by_cases e2 : c = x
          · exact absurd (by rw [x2, e2]) ne
          · omega
        · exact .inr (hF.to (by omega) ((u2r (by decide)).trans h90))
theorem g_leaf0 {g : gK} (hg : g.ok) {s : xS} {rd : xRd} {J : mJ} {f p m : Nat} (hp : p + 1 = g.P) (h : gGO g s rd J f 1 0 g.wk m) : ∀ l, l ≤ 6 → gGO g s rd J (f + 1) 0 p l m := by
  intro l hl d c I Q hC hZ hc hbd hst K
  have hP := hg.1
  have i0 : I 1 0 = nI g.P := by rw [hC.1 1 (by omega)]; exact hg.2.2.2.2.1
  have e4 : (4 : Int32) * nI 0 + nI p = nI (4 * 0 + p) := by rw [show (4 : Int32) = nI 4 from rfl, pk_mul, nI_add]
  have v : vp_in (nI (4 * 0 + p)) 8 := vp_in_nI (by omega) (by decide)
  have hdp : d (4 * 0 + p) = l := by have z := hZ.2.2.1; rw [show g.P - 1 = p by omega] at z; exact z
  unfold x_X6_goes x_X6_goes_b
  have i6 : I 1 6 = nI g.wk := by rw [hC.1 1 (by omega)]; exact hg.2.2.2.2.2.1
  rw [i0, i6, gK.pre (by omega), e4, nI_clamp (by omega)]
  refine br_t (nI_le (by omega) (by omega)) ⟨v, br_t rfl ?_⟩
  refine h d c (u2 I 89 (4 * 0 + p) (nI l)) _ ⟨fun q hq => by rw [u2r (by omega)]; exact hC.1 q hq, by rw [u2r (by decide)]; exact hC.2.1, fun k h1 h2 => ?_⟩ ⟨hZ.1, fun k h1 h2 => ?_, ?_, fun z => absurd z (by decide)⟩ (by rw [u2r (by decide)]; exact hc) hbd (hst.imp id (fun z => z.to (Nat.le_refl _) (u2r (by decide)))) (fun I' c' d' k1 k2 k3 k4 k5 k6 => K I' c' d' ⟨k1.1, k1.2.1, fun k h1 h2 => k1.2.2 k (by omega) h2⟩ ⟨k2.1, fun k h1 h2 => absurd h2 (by omega), by rw [k3 _ (by omega) (by omega)]; exact hdp⟩ (fun k h1 h2 => k3 k (by omega) h2) k4 k5 (k6.imp (fun z => ⟨z.1, fun QM ⟨n, hn⟩ => z.2 QM ⟨n, fun Im hM => ⟨1, ?_⟩⟩⟩) id))
  · by_cases e : k = 4 * 0 + p
    · rw [e, u2_self, hdp]
    · rw [u2_ne _ _ (Or.inr e)]; exact hC.2.2 k (by omega) h2
  · have z := hZ.2.2.2 rfl k (by omega)
    rw [if_neg (by omega)] at z
    exact z
  · have z := hZ.2.2.2 rfl (g.P - 1) (by omega)
    rw [if_pos (by omega)] at z
    exact z
  · unfold m_shifts_l7 m_shifts_j28
    refine br_t (by decide) (br_f (by decide) ?_)
    show gT1 g QM n c' 0 Im g.Jm
    unfold gT1
    refine br_t rfl ?_
    unfold m_shifts
    have e8 : Im 0 8 = nI g.P := by rw [hM.1 0 (by decide) (by decide)]; exact hg.2.2.2.2.2.2.2.2.1
    rw [e8, gK.pre (by omega), show g.P - 1 = p by omega]
    exact hn Im hM
theorem g_side1 {g : gK} (hg : g.ok) {s : xS} {rd : xRd} {J : mJ} : ∀ j p, p + j + 1 = g.P → ∀ f, j < f → ∀ l, l ≤ 6 → gGO g s rd J f 1 p l j := by
  intro j
  induction j with
  | zero =>
    intro p hp f hf l hl
    rw [show f = (f - 1) + 1 by omega]
    exact g_leaf1 hg (by omega) l hl
  | succ j ih =>
    intro p hp f hf l hl
    rw [show f = (f - 1) + 1 by omega]
    exact g_loop hg (by omega) (by omega) (fun l hl => ih (p + 1) (by omega) (f - 1) (by omega) l hl) l hl
theorem g_side0 {g : gK} (hg : g.ok) {s : xS} {rd : xRd} {J : mJ} : ∀ j p, p + j + 1 = g.P → ∀ f, j + g.P < f → ∀ l, l ≤ 6 → gGO g s rd J f 0 p l (g.P - 1 + j) := by
  intro j
  induction j with
  | zero =>
    intro p hp f hf l hl
    rw [show f = (f - 1) + 1 by omega]
    exact g_leaf0 hg (by omega) (g_side1 hg (g.P - 1) 0 (by omega) (f - 1) (by omega) g.wk hg.2.1) l hl
  | succ j ih =>
    intro p hp f hf l hl
    rw [show f = (f - 1) + 1 by omega]
    exact g_loop hg (by omega) (by omega) (fun l hl => ih (p + 1) (by omega) (f - 1) (by omega) l hl) l hl
theorem g_start {g : gK} (hg : g.ok) {l : Nat} {QM : Int32 → mI → mJ → Prop} (h5 : g.Im0 0 6 = nI l) (h : ∀ Im, (∀ q, q ≠ 17 → q ≠ 18 → Im q = g.Im0 q) → (∀ k, k < 8 → Im 17 k = nI (if k + 1 = g.P then l else if k = 4 + (g.P - 1) ∧ 1 ≤ g.P then g.wk else 0)) → (nI g.P ≤ 0 → ∃ n, m_findRest_l33 QM n g.tg 0 0 Im g.Jm) ∧ (¬ nI g.P ≤ 0 → ∃ n, m_findRest_l33 QM n g.tg 0 1 Im g.Jm)) : m_findRest g.tg g.Im0 g.Jm QM := by
  have hP := hg.1
  have e8 := hg.2.2.2.2.2.2.2.2.1
  unfold m_findRest m_findRest_j32
  rw [h5]
  refine m_lays_s (b := 0) hP (by omega) e8 (fun I1 f1 d1 o1 => ?_)
  have e7 : I1 0 7 = nI g.wk := by rw [f1 0 (by decide)]; exact hg.2.2.2.2.2.2.2.2.2.1
  rw [e7]
  refine m_lays_s (b := 4) hP (by omega) (by rw [f1 0 (by decide)]; exact e8) (fun I2 f2 d2 o2 => ?_)
  rw [f2 0 (by decide), f1 0 (by decide), e8]
  refine h I2 (fun q h17 _ => by rw [f2 q h17, f1 q h17]) (fun k hk => ?_)
  by_cases k4 : k < 4
  · have z := d1 k k4
    rw [Nat.zero_add] at z
    rw [o2 k (by omega), z]
    by_cases e : k + 1 = g.P
    · rw [if_pos e, if_pos e]
    · rw [if_neg e, if_neg e, if_neg (by omega)]
  · have z := d2 (k - 4) (by omega)
    rw [show 4 + (k - 4) = k by omega] at z
    rw [z, if_neg (show ¬ k + 1 = g.P by omega)]
    by_cases e : k - 4 + 1 = g.P
    · rw [if_pos e, if_pos (by omega)]
    · rw [if_neg e, if_neg (by omega)]
theorem x_finds_s {g : gK} (hg : g.ok) {l : Nat} {s : xS} {rd : xRd} {J : mJ} {Q : Int32 → mI → Prop} (hl : l ≤ 6) (h5 : g.I0 1 5 = nI l) (m5 : g.Im0 0 6 = nI l) (hW : ∀ QM, m_findRest g.tg g.Im0 g.Jm QM → g.W QM)
    (K : ∀ I' c, (∀ q, q < 88 ∨ 91 < q → I' q = g.I0 q) → c < 2 ^ 30 → ((gN g c ∧ ∀ QM : Int32 → mI → mJ → Prop, (∀ Im, (∀ q, q ≠ 17 → q ≠ 18 → Im q = g.Im0 q) → (0 ≤ g.tg → QM (-3) Im g.Jm) ∧ (¬ 0 ≤ g.tg → QM (nI c) Im g.Jm)) → g.W QM) ∨ gF g c I') → Q (nI c) I') : x_X6_finds g.tg s rd J g.I0 Q := by
  have hP := hg.1
  unfold x_X6_finds
  rw [hg.2.2.2.2.1]
  have f0 : ∀ q, q ≠ 88 → u2 (u2 g.I0 88 3 0) 88 4 g.tg q = g.I0 q := fun q hq => by rw [u2r hq, u2r hq]
  refine br_c (fun z => ?_) (fun z => ?_)
  · refine K _ 0 (fun q hq => f0 q (by omega)) (by decide) (.inl ⟨fun _ _ _ => Nat.zero_le _, fun QM hq => hW QM (g_start hg m5 (fun Im f d => br_t z ⟨1, ?_⟩))⟩)
    unfold m_findRest_l33
    exact br_t rfl (hq Im f)
  · have hP1 : 1 ≤ g.P := by
      refine Nat.pos_of_ne_zero (fun e => z ?_)
      rw [e]; decide
    rw [h5]
    obtain ⟨d, hd⟩ : ∃ d : Nat → Nat, d = fun k => if k + 1 = g.P then l else if k = 4 + (g.P - 1) ∧ 1 ≤ g.P then g.wk else 0 := ⟨_, rfl⟩
    have w6 := hg.2.1
    refine g_side0 hg (g.P - 1) 0 (by omega) 10 (by omega) l hl d 0 (u2 (u2 g.I0 88 3 0) 88 4 g.tg) _ ⟨fun q hq => f0 q (by omega), u2_self _ _ _ _, fun k hk => absurd hk (by omega)⟩ ⟨fun k => ?_, fun k h1 h2 => ?_, ?_, fun _ k hk => ?_⟩ ?_ ?_ (.inl ⟨fun _ _ _ => Nat.zero_le _, fun QM ⟨n, hn⟩ => hW QM (g_start hg m5 (fun Im f dd => br_f z ⟨n, hn Im ⟨f, fun k hk => by rw [hd]; exact dd k hk⟩⟩))⟩) (fun I' c d' k1 k2 k3 k4 k5 k6 => ?_)
    · rw [hd]
      show (if _ then _ else _) ≤ _
      split
      · exact hl
      · split <;> omega
    · rw [hd]
      show (if _ then _ else _) = _
      rw [if_neg (by omega), if_neg (by omega)]
    · rw [hd]
      show (if _ then _ else _) = _
      rw [if_pos (by omega)]
    · rw [hd]
      show (if _ then _ else _) = _
      rw [if_neg (by omega)]
      by_cases e : k + 1 = g.P
      · rw [if_pos (by omega), if_pos e]
      · rw [if_neg (by omega), if_neg e]
    · rw [u2_ne _ _ (Or.inr (by decide)), u2_self]; rfl
    · have : 7 ^ (g.P - 1 + (g.P - 1)) ≤ 7 ^ 6 := Nat.pow_le_pow_right (by decide) (by omega)
      omega
    · have b7 : 7 ^ (g.P - 1 + (g.P - 1)) ≤ 7 ^ 6 := Nat.pow_le_pow_right (by decide) (by omega)
      show Q (I' 88 3) I'
      rw [k4]
      refine K I' c k1.1 (by omega) (k6.imp (fun y => ⟨y.1, fun QM hq => y.2 QM ⟨1, fun Im hM => ⟨1, ?_⟩⟩⟩) id)
      unfold m_shifts_l7 m_shifts_j28
      refine br_t (by decide) (br_f (by decide) ?_)
      show gT0 g QM 1 c 0 Im g.Jm
      unfold gT0
      have e7 : Im 0 7 = nI g.wk := by rw [hM.1 0 (by decide) (by decide)]; exact hg.2.2.2.2.2.2.2.2.2.1
      have e8 : Im 0 8 = nI g.P := by rw [hM.1 0 (by decide) (by decide)]; exact hg.2.2.2.2.2.2.2.2.1
      rw [e7]
      refine m_lays_s (b := 4) hP (by omega) e8 (fun I5 f5 d5 o5 => ?_)
      unfold m_findRest_j93 m_findRest_l33
      exact br_t rfl (hq I5 (fun q h17 h18 => by rw [f5 q h17]; exact hM.1 q h17 h18))
theorem RelS.gOK {t : Nat} {σ : wS} {fz : Nat → Bool} {s : xS} {rd : xRd} {J : mJ} {I Im : mI} {Jm : mJ} (hS : RelS t σ fz s rd J I Im Jm) (tg : Int32) (ht : tg = -1 ∨ ∃ x, x < 2 ^ 31 ∧ tg = nI x) : gK.ok (σ 0 0, σ 0 7, σ 0 6, σ 4, tg, (fun QM => m_findRest tg Im Jm QM), Jm, I, Im) :=
  ⟨hS.1.1.1, hS.1.2.2.1.2.2.2.2.1, hS.1.2.2.1.2.2.2.2.2.1.2, hS.1.2.2.2.2.2.2.1, hS.2.1.1 0 (by decide), hS.2.1.1 6 (by decide), hS.2.1.1 7 (by decide), hS.2.1.2.2.2.2.1, hS.2.2.1.1.2.2.2.2.2.2.2.2.1, hS.2.2.1.1.2.2.2.2.2.2.2.1, hS.2.2.1.1.2.2.2.2.2.1, hS.2.2.1.2.1.2.2.2.1, ht⟩
theorem p_rests {t : Nat} {s : xS} {rd : xRd} {J : mJ} {I Im : mI} {Jm : mJ} (h : Rel t s rd J I Im Jm) : x_X0_rests s rd J I (fun r I' => m_rests Im Jm (RelQ (t + 1) s rd J I' r)) := by
  obtain ⟨h0, σ, fz, hS⟩ := h.opn
  have hg := hS.gOK (-1) (.inl rfl)
  unfold x_X0_rests m_rests
  refine x_finds_s hg (l := σ 0 5) hS.1.2.2.1.2.2.2.1 (hS.2.1.1 5 (by decide)) hS.2.2.1.1.2.2.2.2.2.2.1 (fun QM hq => hq) (fun I' c f hc st => ?_)
  rcases st with ⟨_, hq⟩ | ⟨x, dF, a1, a2, _⟩
  · exact hq _ (fun Im' fm => ⟨fun z => absurd z (show ¬ (0 : Int32) ≤ -1 by decide), fun _ => ⟨rfl, h.fr (fun r hr => f r (by omega)) (fun _ _ => rfl) (fun r hr => fm r (by omega) (by omega)) (fun f hf => by rw [fm 0 (by decide) (by decide)]) rfl rfl⟩⟩)
  · exact absurd a2.symm (m1_ne (by omega))
theorem p_restOf {t : Nat} {a b : Int32} {s : xS} {rd : xRd} {J : mJ} {I Im : mI} {Jm : mJ} (h : Rel t s rd J I Im Jm) : x_X0_restOf a b s rd J I (fun r I' => m_restOf a b Im Jm (RelQ (t + 1) s rd J I' r)) := by
  have no : ∀ z, RelQ (t + 1) s rd J I z z Im Jm := fun z => ⟨rfl, h.same⟩
  obtain ⟨q0, _⟩ := h.eqs
  obtain ⟨h0, σ, fz, hS⟩ := h.opn
  have hP := hS.1.1.1
  unfold x_X0_restOf
  refine x_in_c (fun q => br_f (by decide) ?_) (fun q => br_t rfl (by unfold m_restOf; exact m_in_c (fun z => absurd z q) (fun _ => br_t rfl (no _))))
  refine x_isPatch_c (fun q2 => br_f (by decide) ?_) (fun q2 => br_t rfl (by unfold m_restOf; exact m_in_c (fun _ => br_f (by decide) (m_isPatch_c (fun z => absurd (by rw [q0]; exact z) q2) (fun _ => br_t rfl (no _)))) (fun y => absurd q y)))
  have pre : ∀ {r : Int32} {I' : mI}, ((a < 0 → RelQ (t + 1) s rd J I' r (-3) Im Jm) ∧ (¬ a < 0 → m_findRest a Im Jm (fun r10 I11 J12 => (r10 = (-3) → RelQ (t + 1) s rd J I' r (-3) I11 J12) ∧ (¬ r10 = (-3) → vp_in b 8 ∧ (RelQ (t + 1) s rd J I' r (I11 17 b.toNatClampNeg) I11 J12))))) → m_restOf a b Im Jm (RelQ (t + 1) s rd J I' r) := by
    intro r I' hh
    unfold m_restOf
    exact m_in_c (fun _ => br_f (by decide) (m_isPatch_c (fun _ => br_f (by decide) hh) (fun y => absurd (by rw [← q0]; exact q2) y))) (fun y => absurd q y)
  refine br_c (fun z => pre (br_t z (no _))) (fun z => ?_)
  obtain ⟨x, x1, rfl⟩ := nI_of z
  have hg := hS.gOK (nI x) (.inr ⟨x, x1, rfl⟩)
  obtain ⟨n, n0, n7, rfl⟩ := in_of (lo := 0) (hi := 7) (by decide) (by decide) q
  have nP : n % 4 < σ 0 0 := by
    rw [show (4 : Int32) = nI 4 from rfl, pk_rem (by omega) (by decide) (by decide), hS.2.1.1 0 (by decide)] at q2
    obtain ⟨p, p1, p2⟩ := pt_of hP q2
    rw [(nI_eq (by omega) (by omega)).mp p2]
    exact p1
  have v : vp_in (nI n) 8 := vp_in_nI (by omega) (by decide)
  refine x_finds_s hg (l := σ 0 5) hS.1.2.2.1.2.2.2.1 (hS.2.1.1 5 (by decide)) hS.2.2.1.1.2.2.2.2.2.2.1 (fun QM hq => hq) (fun I' c f hc st => ?_)
  have rel : ∀ Im', (∀ q, q ≠ 17 → q ≠ 18 → Im' q = Im q) → Rel (t + 1) s rd J I' Im' Jm := fun Im' fm => h.fr (fun r hr => f r (by omega)) (fun _ _ => rfl) (fun r hr => fm r (by omega) (by omega)) (fun f hf => by rw [fm 0 (by decide) (by decide)]) rfl rfl
  rw [nI_clamp (by omega)]
  rcases st with ⟨hN, hq⟩ | ⟨y, dF, a1, a2, a3, a4⟩
  · refine br_t (nI_le (hN x x1 rfl) (by omega)) (pre (br_f z (hq _ (fun Im' fm => ⟨fun _ => br_t rfl ⟨rfl, rel Im' fm⟩, fun y => absurd (nI_pos' x1) y⟩))))
  · have ey : x = y := (nI_eq x1 (by omega)).mp a2
    refine br_f (nI_ge (by omega) (by omega)) ⟨v, pre (br_f z (a4 _ (fun Im' hM => br_f (fun e => z (by rw [show nI x = (-3 : Int32) from e]; decide)) ⟨v, ?_, rel Im' hM.1⟩)))⟩
    rw [nI_clamp (by omega), hM.2 n (by omega)]
    exact a3 n (by omega) nP
