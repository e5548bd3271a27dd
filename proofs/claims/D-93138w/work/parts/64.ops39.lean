set_option maxRecDepth 100000
set_option maxHeartbeats 4000000
/-! PLAIN LAW, operations 39: what a shelf holds -/
theorem tp10 (r j : Nat) : (10 : Int32) * nI r + nI j = nI (10 * r + j) := by rw [show (10 : Int32) = nI 10 from rfl, pk_mul, nI_add]
def gmx (f : Nat → Int32) : Nat → Int32
  | 0 => 0
  | k + 1 => if gmx f k < f k then f k else gmx f k
theorem gmx_congr {f g : Nat → Int32} : ∀ n, (∀ k, k < n → f k = g k) → gmx f n = gmx g n := by
  intro n
  induction n with
  | zero => intro _; rfl
  | succ n ih =>
    intro h
    unfold gmx
    rw [ih (fun k hk => h k (by omega)), h n (by omega)]
theorem x_great_lp {br : Nat} {s : xS} {rd : xRd} {J : mJ} {I : mI} {Q : Int32 → Prop} (hb : xo s br 100) (hl : xlen s br = 10) (h : Q (gmx (I br) 10)) : ∀ fuel i, 10 - i < fuel → i ≤ 10 → x_X15_greatest_l13 Q fuel (gmx (I br) i) br (nI 10) (nI i) s rd J I := by
  intro fuel
  induction fuel with
  | zero => intro i g; omega
  | succ fuel ih =>
    intro i g1 g2
    unfold x_X15_greatest_l13
    refine pk_le 10 i (fun le => ?_) (fun lt => ?_) rfl rfl (by omega) (by omega)
    · have e : i = 10 := by omega
      subst e
      exact h
    · rw [hl, nI_clamp (by omega), nI_1]
      exact ⟨hb, vp_in_nI lt (by decide), fun v hv => by rw [hv]; exact ih (i + 1) (by omega) (by omega)⟩
theorem x_greatest_s {o br : Nat} {s : xS} {rd : xRd} {J : mJ} {I : mI} {Q : Int32 → Prop} (ho : xo s o 15) (hr : xR rd o 0 = some br) (hb : xo s br 100) (hl : xlen s br = 10) (h : Q (gmx (I br) 10)) : x_X15_greatest o s rd J I Q := by
  unfold x_X15_greatest
  refine ⟨ho, br, hr, hb, 11, ?_⟩
  rw [hl]
  exact x_great_lp hb hl h 11 0 (by omega) (by omega)
theorem m_great_lp {r : Nat} {I : mI} {J : mJ} {A : Int32 → mI → mJ → Prop} (hr : r < 4) (h : A (gmx (fun k => I 3 (10 * r + k)) 10) I J) : ∀ fuel i, 10 - i < fuel → i ≤ 10 → m_greatestOf_l4 A fuel (nI r) (gmx (fun k => I 3 (10 * r + k)) i) (nI i) I J := by
  intro fuel
  induction fuel with
  | zero => intro i g; omega
  | succ fuel ih =>
    intro i g1 g2
    unfold m_greatestOf_l4 m_greatestOf_j40
    refine pk_le 10 i (fun le => ?_) (fun lt => ?_) rfl rfl (by omega) (by omega)
    · have e : i = 10 := by omega
      subst e
      exact h
    · have v : vp_in (nI (10 * r + i)) 40 := vp_in_nI (by omega) (by decide)
      rw [tp10, nI_clamp (by omega), nI_1]
      have step := ih (i + 1) (by omega) (by omega)
      refine ⟨v, br_c (fun y => ?_) (fun y => ⟨v, ?_⟩)⟩
      · have e : gmx (fun k => I 3 (10 * r + k)) (i + 1) = gmx (fun k => I 3 (10 * r + k)) i := if_neg (Int32.not_lt.mpr y)
        rw [e] at step
        exact step
      · have e : gmx (fun k => I 3 (10 * r + k)) (i + 1) = I 3 (10 * r + i) := if_pos (Int32.not_le.mp y)
        rw [e] at step
        exact step
theorem m_greatest_s {r : Nat} {I : mI} {J : mJ} {A : Int32 → mI → mJ → Prop} (hr : r < 4) (h : A (gmx (fun k => I 3 (10 * r + k)) 10) I J) : m_greatestOf (nI r) I J A := ⟨11, m_great_lp hr h 11 0 (by omega) (by omega)⟩
/-- how many fields a thing of the model's kind m has -/
def tN (m : Nat) : Nat := if m = 2 then 5 else if m = 3 then 6 else if 5 ≤ m then 3 else 4
/-- a thing is made -/
def tMade (s : xS) (rd : xRd) (J : mJ) (I : mI) (m : Nat) (num a : Int32) (q : Nat) (s' : xS) (rd' : xRd) (J' : mJ) (I' : mI) : Prop :=
  q = 133 + s.1 ∧ s' = xn s (21 + m) (tN m) ∧ (∀ r, r ≠ q → I' r = I r ∧ rd' r = rd r ∧ J' r = J r) ∧ I' q 0 = num ∧ I' q 1 = a ∧ ∀ j, 2 ≤ j → j < tN m → xR rd' q j = some 0
theorem tMade.of {s : xS} {rd : xRd} {J : mJ} {I : mI} {m : Nat} {num a : Int32} {q : Nat} {rd' : xRd} (hq : q = 133 + s.1) (h1 : ∀ r, r ≠ q → rd' r = rd r) (h2 : ∀ j, 2 ≤ j → j < tN m → rd' q j = some 0) : tMade s rd J I m num a q (xn s (21 + m) (tN m)) rd' (ur J q (fun _ => 0)) (u2 (u2 (ur I q (fun _ => 0)) q 0 num) q 1 a) :=
  ⟨hq, rfl, fun r hr => ⟨by rw [u2r hr, u2r hr, ur_row hr], h1 r hr, ur_row hr⟩, by rw [u2_ne _ _ (Or.inr (by decide)), u2_self], u2_self _ _ _ _, fun j h3 h4 => by rw [xR_d (xR0_out j (by omega))]; exact h2 j h3 h4⟩
theorem x_patch_s {n : Nat} {s : xS} {rd : xRd} {J : mJ} {I : mI} {Q : Nat → xS → xRd → mJ → mI → Prop} {m : Nat} {a : Int32} (hn : n < 4) (hs : s.1 < 900000) (hm : 1 ≤ m ∧ m ≤ 4) (hk : I 2 n = nI m) (ha : I 11 n = a) (h : ∀ q s' rd' J' I', tMade s rd J I m (nI n) a q s' rd' J' I' → Q q s' rd' J' I') : x_X0_patchThing (nI n) s rd J I Q := by
  unfold x_X0_patchThing
  have v : vp_in (nI n) 4 := vp_in_nI hn (by decide)
  rw [nI_clamp (by omega), hk, ha]
  have x0 : ∀ j, xR0 (133 + s.1) j = none := fun j => xR0_out j (by omega)
  have m4 : m = 1 ∨ m = 2 ∨ m = 3 ∨ m = 4 := by omega
  refine ⟨v, v, ?_⟩
  rcases m4 with rfl | rfl | rfl | rfl
  · refine br_t (by decide) ⟨hs, ?_⟩
    rintro _ _ _ _ _ rfl rfl rfl rfl rfl
    refine ⟨xo_new', x0 3, xo_new', x0 2, h _ _ _ _ _ (tMade.of rfl (fun r hr => by rw [u2r hr, u2r hr, ur_row hr]) (fun j h2 h3 => ?_))⟩
    have : j = 2 ∨ j = 3 := by unfold tN at h3; simp at h3; omega
    rcases this with rfl | rfl <;> simp [u2]
  · refine br_f (by decide) (br_t (by decide) ⟨hs, ?_⟩)
    rintro _ _ _ _ _ rfl rfl rfl rfl rfl
    refine ⟨xo_new', x0 4, xo_new', x0 3, xo_new', x0 2, h _ _ _ _ _ (tMade.of rfl (fun r hr => by rw [u2r hr, u2r hr, u2r hr, ur_row hr]) (fun j h2 h3 => ?_))⟩
    have : j = 2 ∨ j = 3 ∨ j = 4 := by unfold tN at h3; simp at h3; omega
    rcases this with rfl | rfl | rfl <;> simp [u2]
  · refine br_f (by decide) (br_f (by decide) (br_t (by decide) ⟨hs, ?_⟩))
    rintro _ _ _ _ _ rfl rfl rfl rfl rfl
    refine ⟨xo_new', x0 5, xo_new', x0 4, xo_new', x0 3, xo_new', x0 2, h _ _ _ _ _ (tMade.of rfl (fun r hr => by rw [u2r hr, u2r hr, u2r hr, u2r hr, ur_row hr]) (fun j h2 h3 => ?_))⟩
    have : j = 2 ∨ j = 3 ∨ j = 4 ∨ j = 5 := by unfold tN at h3; simp at h3; omega
    rcases this with rfl | rfl | rfl | rfl <;> simp [u2]
  · refine br_f (by decide) (br_f (by decide) (br_f (by decide) ⟨hs, ?_⟩))
    rintro _ _ _ _ _ rfl rfl rfl rfl rfl
    refine ⟨xo_new', x0 3, xo_new', x0 2, h _ _ _ _ _ (tMade.of rfl (fun r hr => by rw [u2r hr, u2r hr, ur_row hr]) (fun j h2 h3 => ?_))⟩
    have : j = 2 ∨ j = 3 := by unfold tN at h3; simp at h3; omega
    rcases this with rfl | rfl <;> simp [u2]
/-- what shelf k holds: nothing, a row, a thing -/
theorem held_s {t k : Nat} {σ : wS} {fz : Nat → Bool} {s : xS} {rd : xRd} {J : mJ} {I Im : mI} {Jm : mJ} (hS : RelS t σ fz s rd J I Im Jm) (hk : k < 4) (hs : s.1 < 900000) :
    ((∀ A, A (-1) Im Jm → m_kindOn (nI k) Im Jm A) ∧ (∀ Q, Q none s rd J I → x_X0_heldOf (129 + k) s rd J I Q)) ∨
    (∃ a q n, q < 4 ∧ n ≤ 40 ∧ xo s a (ak q) ∧ xlen s a = n ∧ Im 30 k = nI q ∧ Im 31 k = nI n ∧ (∀ A, A 9 Im Jm → m_kindOn (nI k) Im Jm A) ∧ (∀ Q, Q (some a) s rd J I → x_X0_heldOf (129 + k) s rd J I Q)) ∨
    (∃ m num a, 1 ≤ m ∧ m ≤ 6 ∧ (∀ A, A (nI m) Im Jm → m_kindOn (nI k) Im Jm A) ∧ (∀ (A : Int32 → mI → mJ → Prop) (Im' : mI), (∀ r, r ≠ 0 → Im' r = Im r) → Im' 0 3 = Im 0 3 → A num Im' Jm → m_numberOn (nI k) Im' Jm A) ∧
      (m = 5 → ∀ (A : Int32 → mI → mJ → Prop) (Im' : mI), (∀ r, r ≠ 0 → Im' r = Im r) → A a Im' Jm → m_greatestOf num Im' Jm A) ∧ (m = 6 → a = Im 0 1) ∧ (m ≤ 4 → ∀ (A : Int32 → mI → mJ → Prop) (Im' : mI), Im' 0 12 = Im 0 12 → A a Im' Jm → m_foodIn (Im' 0 12) num Im' Jm A) ∧
      (∀ Q : Option Nat → xS → xRd → mJ → mI → Prop, (∀ q s' rd' J' I', tMade s rd J I m num a q s' rd' J' I' → Q (some q) s' rd' J' I') → x_X0_heldOf (129 + k) s rd J I Q)) := by
  have vin : vp_in (nI k) 4 := vp_in_nI hk (by decide)
  have cl : (nI k).toNatClampNeg = k := nI_clamp (by omega)
  have xs : xo s (129 + k) 13 := xo129 hk
  have hP4 := hS.1.1.1
  have hP : I 1 0 = nI (σ 0 0) := hS.2.1.1 0 (by decide)
  have hR : I 1 1 = nI (σ 0 1) := hS.2.1.1 1 (by decide)
  have hR4 := hS.1.2.2.1.1
  have mP8 : Im 0 8 = nI (σ 0 0) := hS.2.2.1.1.2.2.2.2.2.2.2.2.1
  have mR9 : Im 0 9 = nI (σ 0 1) := hS.2.2.1.1.2.2.2.2.2.2.2.2.2.1
  obtain ⟨t1, t2, t3, t4⟩ := hS.2.1.2.2.2.2.2.2.2
  obtain ⟨w, hw, e0, hc⟩ := hS.rH k hk
  have nW : ∀ {v : Nat}, v ≤ 4 → w ≠ v → ¬ I (129 + k) 0 = nI v := fun hv hne z => hne ((nI_eq (by omega) (by omega)).mp (e0.symm.trans z))
  rcases hc with ⟨h1, n, hn, e1, e2, e3⟩ | ⟨rfl, e2⟩ | ⟨rfl, er, e2⟩ | ⟨rfl, e2⟩ | ⟨rfl, a, q, n, er, hq, hn, e4, e5, e2, e3, e6⟩
  · have w01 : w = 0 ∨ w = 1 := by omega
    rcases w01 with rfl | rfl
    · -- a patch
      have mk : ∀ {A}, (n < σ 0 0 → A (nI (σ 1 n)) Im Jm) → (σ 0 0 ≤ n → A (-1) Im Jm) → m_kindOn (nI k) Im Jm A := by
        intro A g1 g2
        unfold m_kindOn
        rw [cl, e2, e3]
        refine ⟨vin, vin, br_t rfl (m_isPatch_c (fun y => br_f (by decide) ?_) (fun y => br_t rfl (g2 ?_)))⟩
        · rw [mP8] at y
          obtain ⟨n', hn', en⟩ := pt_of hP4 y
          have : n = n' := (nI_eq (by omega) (by omega)).mp en
          subst this
          unfold m_kindOf
          have v11 : vp_in (nI (11 * n)) 44 := vp_in_nI (by omega) (by decide)
          rw [show (11 : Int32) = nI 11 from rfl, pk_mul, nI_clamp (by omega), hS.2.2.1.2.1.1 n hn]
          exact ⟨v11, g1 hn'⟩
        · refine Nat.le_of_not_lt fun z => y ⟨nI_pos' (by omega), ?_⟩
          rw [mP8]
          obtain ⟨p, hp⟩ : ∃ p, σ 0 0 = p + 1 := ⟨σ 0 0 - 1, by omega⟩
          rw [hp, nI_pred]
          exact (nI_leI (by omega) (by omega)).mpr (by omega)
      have xk : ∀ {Q : Option Nat → xS → xRd → mJ → mI → Prop}, (n < σ 0 0 → x_X0_patchThing (nI n) s rd J I (fun r s5 rd6 J7 I8 => Q (some r) s5 rd6 J7 I8)) → (σ 0 0 ≤ n → Q none s rd J I) → x_X0_heldOf (129 + k) s rd J I Q := by
        intro Q g1 g2
        unfold x_X0_heldOf
        rw [e1]
        refine ⟨xs, br_t e0 (x_isPatch_c (fun y => br_f (by decide) (g1 ?_)) (fun y => br_t rfl (g2 ?_)))⟩
        · rw [hP] at y
          obtain ⟨n', hn', en⟩ := pt_of hP4 y
          have : n = n' := (nI_eq (by omega) (by omega)).mp en
          omega
        · refine Nat.le_of_not_lt fun z => y ⟨nI_pos' (by omega), ?_⟩
          rw [hP]
          obtain ⟨p, hp⟩ : ∃ p, σ 0 0 = p + 1 := ⟨σ 0 0 - 1, by omega⟩
          rw [hp, nI_pred]
          exact (nI_leI (by omega) (by omega)).mpr (by omega)
      by_cases hlt : n < σ 0 0
      · have hm1 := (hS.1.2.2.2.2.2.1 n hlt).1
        have hm4 := hS.1.2.2.2.2.1 n
        refine .inr (.inr ⟨σ 1 n, nI n, nI (dg (σ 0 10) n), hm1, by omega, fun A hA => mk (fun _ => hA) (fun z => absurd hlt (by omega)), fun A Im' g1 g2 hA => ?_, fun z => absurd z (by omega), fun z => absurd z (by omega), fun _ A Im' g hA => ?_, fun Q hQ => xk (fun _ => x_patch_s hn hs ⟨hm1, hm4⟩ (hS.2.1.2.1 n hn) (t4 n hn) (fun q s' rd' J' I' hT => hQ q s' rd' J' I' hT)) (fun z => absurd hlt (by omega))⟩)
        · unfold m_numberOn
          rw [cl, g1 29 (by decide), g1 30 (by decide), e2, e3]
          exact ⟨vin, br_f (by decide) ⟨vin, hA⟩⟩
        · have ec : Im 0 12 = nI (σ 0 10) := hS.2.2.1.1.2.2.2.2.2.2.2.2.2.2.2
          rw [g, ec]
          exact m_foodIn_s hn hS.1.stok.2.2.1 hA
      · exact .inl ⟨fun A hA => mk (fun z => absurd z hlt) (fun _ => hA), fun Q hQ => xk (fun z => absurd z hlt) (fun _ => hQ)⟩
    · -- a risk
      have mk : ∀ {A}, (n < σ 0 1 → A 5 Im Jm) → (σ 0 1 ≤ n → A (-1) Im Jm) → m_kindOn (nI k) Im Jm A := by
        intro A g1 g2
        unfold m_kindOn
        rw [cl, e2, e3, mR9]
        exact ⟨vin, vin, br_f (by decide) (br_t rfl (pk_le (σ 0 1) n (fun le => g2 le) (fun lt => g1 lt) rfl rfl (by omega) (by omega)))⟩
      have xin : (0 ≤ nI n ∧ nI n ≤ I 1 1 - 1) ↔ n < σ 0 1 := by
        rw [hR]
        constructor
        · intro y
          obtain ⟨n', hn', en⟩ := pt_of hR4 y
          have : n = n' := (nI_eq (by omega) (by omega)).mp en
          omega
        · intro z
          obtain ⟨p, hp⟩ : ∃ p, σ 0 1 = p + 1 := ⟨σ 0 1 - 1, by omega⟩
          refine ⟨nI_pos' (by omega), ?_⟩
          rw [hp, nI_pred]
          exact (nI_leI (by omega) (by omega)).mpr (by omega)
      by_cases hlt : n < σ 0 1
      · obtain ⟨o, br, r1, r2, r3, r4, r5, r6, r7, r8, r9⟩ := hS.2.2.2.2.2.1 n hlt
        have eg : gmx (fun j => Im 3 (10 * n + j)) 10 = gmx (I br) 10 := gmx_congr 10 (fun j hj => by rw [r9 j hj]; exact hS.2.2.1.2.2.2.1 (10 * n + j) (by omega))
        refine .inr (.inr ⟨5, nI n, gmx (I br) 10, by decide, by decide, fun A hA => mk (fun _ => hA) (fun z => absurd hlt (by omega)), fun A Im' g1 g2 hA => ?_, fun _ A Im' g hA => m_greatest_s hn ?_, fun z => absurd z (by decide), fun z => absurd z (by decide), fun Q hQ => ?_⟩)
        · unfold m_numberOn
          rw [cl, g1 29 (by decide), g1 30 (by decide), e2, e3]
          exact ⟨vin, br_f (by decide) ⟨vin, hA⟩⟩
        · rw [g 3 (by decide), eg]
          exact hA
        · unfold x_X0_heldOf
          refine ⟨xs, br_f (nW (v := 0) (by decide) (by decide)) (br_t e0 ?_)⟩
          rw [e1]
          refine x_isRisk_c (fun _ => br_f (by decide) ⟨hs, ?_⟩) (fun z => absurd (xin.mpr hlt) z)
          rintro _ _ _ _ _ rfl rfl rfl rfl rfl
          have en : ur I (133 + s.1) (fun _ => 0) (129 + k) 1 = nI n := by rw [ur_row (by omega)]; exact e1
          rw [en, nI_clamp (by omega)]
          refine ⟨xo_mono xs, vp_in_nI hn (by decide), o, (xR_row (ur_row (by omega))).trans r1, xo_mono r2, x_greatest_s (br := br) (xo_mono r2) ((xR_row (ur_row (Nat.ne_of_lt r2.1))).trans r4) (xo_mono r5) ?_ ?_⟩
          · have : xlen (xn s 26 3) br = xlen s br := (old.new (rd := rd) (fz := fz) (I := I) (b := true)).kl r5
            rw [this]; exact r6
          · rw [ur_row (Nat.ne_of_lt r5.1)]
            exact ⟨xo_new', xR0_out _ (by omega), hQ _ _ _ _ _ (tMade.of (m := 5) rfl (fun r hr => by rw [u2r hr, ur_row hr]) (fun j h2 h3 => by
              have : j = 2 := by unfold tN at h3; simp at h3; omega
              subst this
              exact u2_self _ _ _ _))⟩
      · refine .inl ⟨fun A hA => mk (fun z => absurd z hlt) (fun _ => hA), fun Q hQ => ?_⟩
        unfold x_X0_heldOf
        rw [e1]
        exact ⟨xs, br_f (nW (v := 0) (by decide) (by decide)) (br_t e0 (x_isRisk_c (fun z => absurd (xin.mp z) hlt) (fun _ => br_t rfl hQ)))⟩
  · -- the bird
    have mk : ∀ {A}, (0 < σ 0 0 → A 6 Im Jm) → (σ 0 0 = 0 → A (-1) Im Jm) → m_kindOn (nI k) Im Jm A := by
      intro A g1 g2
      unfold m_kindOn
      rw [cl, e2, mP8]
      exact ⟨vin, vin, br_f (by decide) (br_f (by decide) (br_t rfl (pk_le (σ 0 0) 0 (fun le => g2 (by omega)) (fun lt => g1 lt) rfl rfl (by omega) (by omega))))⟩
    by_cases hp : 0 < σ 0 0
    · refine .inr (.inr ⟨6, I 10 0, I 10 2, by decide, by decide, fun A hA => mk (fun _ => hA) (fun z => absurd hp (by omega)), fun A Im' g1 g2 hA => ?_, fun z => absurd z (by decide), fun _ => ?_, fun z => absurd z (by decide), fun Q hQ => ?_⟩)
      · unfold m_numberOn
        rw [cl, g1 29 (by decide), e2, g2]
        refine ⟨vin, br_t rfl ?_⟩
        have e3' : Im 0 3 = I 10 0 := (hS.2.2.1.1.2.2.2.1).trans t2.symm
        rw [e3']
        exact hA
      · exact t3.trans (hS.2.2.1.1.2.1).symm
      · unfold x_X0_heldOf
        refine ⟨xs, br_f (nW (v := 0) (by decide) (by decide)) (br_f (nW (v := 1) (by decide) (by decide)) (br_t e0 ?_))⟩
        rw [hP]
        refine pk_le (σ 0 0) 0 (fun le => absurd hp (by omega)) (fun _ => ⟨hs, ?_⟩) rfl rfl (by omega) (by omega)
        rintro _ _ _ _ _ rfl rfl rfl rfl rfl
        refine ⟨xo_new', xR0_out _ (by omega), ?_⟩
        rw [ur_row (show 10 ≠ 133 + s.1 by omega)]
        exact hQ _ _ _ _ _ (tMade.of (m := 6) rfl (fun r hr => by rw [u2r hr, ur_row hr]) (fun j h2 h3 => by
          have : j = 2 := by unfold tN at h3; simp at h3; omega
          subst this
          exact u2_self _ _ _ _))
    · refine .inl ⟨fun A hA => mk (fun z => absurd z hp) (fun _ => hA), fun Q hQ => ?_⟩
      unfold x_X0_heldOf
      rw [hP]
      exact ⟨xs, br_f (nW (v := 0) (by decide) (by decide)) (br_f (nW (v := 1) (by decide) (by decide)) (br_t e0 (pk_le (σ 0 0) 0 (fun _ => hQ) (fun z => absurd z hp) rfl rfl (by omega) (by omega))))⟩
  · refine .inl ⟨fun A hA => ?_, fun Q hQ => ?_⟩
    · unfold m_kindOn
      rw [cl, e2]
      exact ⟨vin, vin, br_f (by decide) (br_f (by decide) (br_f (by decide) (br_f (by decide) hA)))⟩
    · unfold x_X0_heldOf
      rw [er]
      exact ⟨xs, br_f (nW (v := 0) (by decide) (by decide)) (br_f (nW (v := 1) (by decide) (by decide)) (br_f (nW (v := 2) (by decide) (by decide)) (br_t e0 hQ)))⟩
  · refine .inl ⟨fun A hA => ?_, fun Q hQ => ?_⟩
    · unfold m_kindOn
      rw [cl, e2]
      exact ⟨vin, vin, br_f (by decide) (br_f (by decide) (br_f (by decide) (br_f (by decide) hA)))⟩
    · unfold x_X0_heldOf
      exact ⟨xs, br_f (nW (v := 0) (by decide) (by decide)) (br_f (nW (v := 1) (by decide) (by decide)) (br_f (nW (v := 2) (by decide) (by decide)) (br_f (nW (v := 3) (by decide) (by decide)) hQ)))⟩
  · refine .inr (.inl ⟨a, q, n, hq, hn, e4, e5, e3, e6, fun A hA => ?_, fun Q hQ => ?_⟩)
    · unfold m_kindOn
      rw [cl, e2]
      exact ⟨vin, vin, br_f (by decide) (br_f (by decide) (br_f (by decide) (br_t (by decide) hA)))⟩
    · unfold x_X0_heldOf
      rw [er]
      exact ⟨xs, br_f (nW (v := 0) (by decide) (by decide)) (br_f (nW (v := 1) (by decide) (by decide)) (br_f (nW (v := 2) (by decide) (by decide)) (br_t e0 hQ)))⟩
