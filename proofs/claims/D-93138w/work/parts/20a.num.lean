set_option maxRecDepth 100000
set_option maxHeartbeats 4000000
/-! PLAIN LAW, numbers: the abstract state σ (Nat → Nat → Nat): 0 scalars (0 patches, 1 risks, 2 clauses, 3 dusk, 4 journey, 5 strong, 6 weak, 7 force, 8 minute, 9 at, 10 food code, 11 got), 1 kind, 2 top, 3 fill, 4 rich, 5 yields (7p+f), 6 miles (4p+q), 7 risks (10r+k); acts as numbers: 0 feed, k+1 go k -/
abbrev wS : Type := Nat → Nat → Nat
def dg (c p : Nat) : Nat := c / 7 ^ p % 7
theorem dg_lt (c p : Nat) : dg c p < 7 := Nat.mod_lt _ (by decide)
theorem lt4 {p : Nat} (hp : p < 4) : p = 0 ∨ p = 1 ∨ p = 2 ∨ p = 3 := by omega
theorem p7b {p : Nat} (hp : p < 4) : 0 < 7 ^ p ∧ 7 ^ p ≤ 343 := by
  rcases lt4 hp with rfl | rfl | rfl | rfl <;> decide
theorem dg_mk : ∀ a, a < 7 → ∀ b, b < 7 → ∀ d, d < 7 → ∀ e, e < 7 → dg (a + 7 * b + 49 * d + 343 * e) 0 = a ∧ dg (a + 7 * b + 49 * d + 343 * e) 1 = b ∧ dg (a + 7 * b + 49 * d + 343 * e) 2 = d ∧ dg (a + 7 * b + 49 * d + 343 * e) 3 = e := by decide +kernel
theorem dg_sum {c : Nat} (hc : c < 2401) : c = dg c 0 + 7 * dg c 1 + 49 * dg c 2 + 343 * dg c 3 := by
  simp only [dg, Nat.reducePow, Nat.div_one]; omega
/-- digit p anew -/
theorem dg_set {c k v : Nat} (hk : k < 4) (hc : c < 2401) (hv : v < 7) : c + v * 7 ^ k - dg c k * 7 ^ k < 2401 ∧ dg c k * 7 ^ k ≤ c ∧ ∀ q, q < 4 → dg (c + v * 7 ^ k - dg c k * 7 ^ k) q = if q = k then v else dg c q := by
  have h0 := dg_lt c 0
  have h1 := dg_lt c 1
  have h2 := dg_lt c 2
  have h3 := dg_lt c 3
  have s := dg_sum hc
  have fin : ∀ x a b d e, a < 7 → b < 7 → d < 7 → e < 7 → x = a + 7 * b + 49 * d + 343 * e → dg x 0 = a ∧ dg x 1 = b ∧ dg x 2 = d ∧ dg x 3 = e := fun x a b d e g1 g2 g3 g4 hx => by
    subst hx
    exact dg_mk a g1 b g2 d g3 e g4
  rcases lt4 hk with rfl | rfl | rfl | rfl <;> simp only [Nat.reducePow]
  · obtain ⟨e0, e1, e2, e3⟩ := fin (c + v * 1 - dg c 0 * 1) v (dg c 1) (dg c 2) (dg c 3) hv h1 h2 h3 (by omega)
    refine ⟨by omega, by omega, fun q hq => ?_⟩
    rcases lt4 hq with rfl | rfl | rfl | rfl
    · rw [e0]; rfl
    · rw [e1]; rfl
    · rw [e2]; rfl
    · rw [e3]; rfl
  · obtain ⟨e0, e1, e2, e3⟩ := fin (c + v * 7 - dg c 1 * 7) (dg c 0) v (dg c 2) (dg c 3) h0 hv h2 h3 (by omega)
    refine ⟨by omega, by omega, fun q hq => ?_⟩
    rcases lt4 hq with rfl | rfl | rfl | rfl
    · rw [e0]; rfl
    · rw [e1]; rfl
    · rw [e2]; rfl
    · rw [e3]; rfl
  · obtain ⟨e0, e1, e2, e3⟩ := fin (c + v * 49 - dg c 2 * 49) (dg c 0) (dg c 1) v (dg c 3) h0 h1 hv h3 (by omega)
    refine ⟨by omega, by omega, fun q hq => ?_⟩
    rcases lt4 hq with rfl | rfl | rfl | rfl
    · rw [e0]; rfl
    · rw [e1]; rfl
    · rw [e2]; rfl
    · rw [e3]; rfl
  · obtain ⟨e0, e1, e2, e3⟩ := fin (c + v * 343 - dg c 3 * 343) (dg c 0) (dg c 1) (dg c 2) v h0 h1 h2 hv (by omega)
    refine ⟨by omega, by omega, fun q hq => ?_⟩
    rcases lt4 hq with rfl | rfl | rfl | rfl
    · rw [e0]; rfl
    · rw [e1]; rfl
    · rw [e2]; rfl
    · rw [e3]; rfl
theorem dg_add {c k : Nat} (hk : k < 4) (hc : c < 2401) (h : dg c k < 6) : c + 7 ^ k < 2401 ∧ ∀ q, q < 4 → dg (c + 7 ^ k) q = dg c q + (if q = k then 1 else 0) := by
  obtain ⟨h1, h2, h3⟩ := dg_set (v := dg c k + 1) hk hc (by omega)
  have e : c + (dg c k + 1) * 7 ^ k - dg c k * 7 ^ k = c + 7 ^ k := by
    rw [Nat.add_mul, Nat.one_mul]
    generalize dg c k * 7 ^ k = z
    generalize 7 ^ k = y
    omega
  rw [e] at h1 h3
  refine ⟨h1, fun q hq => ?_⟩
  rw [h3 q hq]
  split
  · rename_i g; rw [g]
  · rfl
theorem dg_sub {c k : Nat} (hk : k < 4) (hc : c < 2401) (h : 0 < dg c k) : 7 ^ k ≤ c ∧ ∀ q, q < 4 → dg (c - 7 ^ k) q = dg c q - (if q = k then 1 else 0) := by
  have hd := dg_lt c k
  obtain ⟨h1, h2, h3⟩ := dg_set (v := dg c k - 1) hk hc (by omega)
  obtain ⟨x, hx⟩ : ∃ x, dg c k = x + 1 := ⟨dg c k - 1, by omega⟩
  rw [hx, Nat.add_sub_cancel, Nat.add_mul, Nat.one_mul] at h3
  rw [hx, Nat.add_mul, Nat.one_mul] at h2
  have e : c + x * 7 ^ k - (x * 7 ^ k + 7 ^ k) = c - 7 ^ k := by
    generalize x * 7 ^ k = z
    generalize 7 ^ k = y
    omega
  rw [e] at h3
  refine ⟨Nat.le_trans (Nat.le_add_left _ _) h2, fun q hq => ?_⟩
  rw [h3 q hq]
  split
  · rename_i g; rw [g, hx]; rfl
  · rfl
/-- ranges -/
def wf (σ : wS) : Prop := σ 0 0 ≤ 4 ∧ σ 0 3 ≤ 20 ∧ (∀ k, σ 2 k ≤ 6) ∧ (∀ k, σ 3 k ≤ 9) ∧ (∀ k, σ 5 k ≤ 30) ∧ (∀ k, σ 6 k ≤ 5)
def stok (σ : wS) (m a c : Nat) : Prop := m ≤ 20 ∧ a < 4 ∧ c < 2401 ∧ ∀ k, k < σ 0 0 → dg c k ≤ σ 2 k
def fl1 (σ : wS) (m k c : Nat) : Nat := c + (if 0 < σ 3 k ∧ m % σ 3 k = 0 ∧ dg c k < σ 2 k then 7 ^ k else 0)
def flN (σ : wS) (m : Nat) : Nat → Nat → Nat
  | 0, c => c
  | k + 1, c => fl1 σ m k (flN σ m k c)
def adv (σ : wS) (m c : Nat) : Nat → Nat
  | 0 => c
  | j + 1 => flN σ (m + j + 1) (σ 0 0) (adv σ m c j)
def tk (σ : wS) (m a : Nat) : Nat → Nat
  | 0 => if σ 0 0 = 0 then 0 else if m + 1 ≤ σ 0 3 then 1 else 0
  | b + 1 => if σ 0 0 ≤ b then 0 else if b = a then 0 else if m + σ 6 (4 * a + b) ≤ σ 0 3 then σ 6 (4 * a + b) else 0
def gn (σ : wS) (a c : Nat) : Nat → Nat
  | 0 => σ 5 (7 * a + dg c a)
  | _ + 1 => 0
def c1 (a c : Nat) : Nat → Nat
  | 0 => c - (if 0 < dg c a then 7 ^ a else 0)
  | _ + 1 => c
def nA (a : Nat) : Nat → Nat
  | 0 => a
  | b + 1 => b
def nC (σ : wS) (m a c e : Nat) : Nat := adv σ m (c1 a c e) (tk σ m a e)
theorem fl1_ok {σ : wS} {m k c : Nat} (hw : wf σ) (hk : k < σ 0 0) (hc : c < 2401 ∧ ∀ q, q < σ 0 0 → dg c q ≤ σ 2 q) : fl1 σ m k c < 2401 ∧ (∀ q, q < σ 0 0 → dg (fl1 σ m k c) q ≤ σ 2 q) := by
  unfold fl1
  split
  · rename_i h
    have hk4 : k < 4 := Nat.lt_of_lt_of_le hk hw.1
    have h6 : dg c k < 6 := Nat.lt_of_lt_of_le h.2.2 (hw.2.2.1 k)
    obtain ⟨d1, d2⟩ := dg_add hk4 hc.1 h6
    refine ⟨d1, fun q hq => ?_⟩
    rw [d2 q (Nat.lt_of_lt_of_le hq hw.1)]
    have := hc.2 q hq
    split
    · rename_i e; subst e; omega
    · omega
  · exact hc
theorem flN_ok {σ : wS} {m c : Nat} (hw : wf σ) (hc : c < 2401 ∧ ∀ q, q < σ 0 0 → dg c q ≤ σ 2 q) : ∀ k, k ≤ σ 0 0 → flN σ m k c < 2401 ∧ (∀ q, q < σ 0 0 → dg (flN σ m k c) q ≤ σ 2 q) := by
  intro k
  induction k with
  | zero => intro _; exact hc
  | succ k ih => intro h; exact fl1_ok hw (by omega) (ih (by omega))
theorem adv_ok {σ : wS} {m c : Nat} (hw : wf σ) (hc : c < 2401 ∧ ∀ q, q < σ 0 0 → dg c q ≤ σ 2 q) : ∀ j, adv σ m c j < 2401 ∧ (∀ q, q < σ 0 0 → dg (adv σ m c j) q ≤ σ 2 q) := by
  intro j
  induction j with
  | zero => exact hc
  | succ j ih => exact flN_ok hw ih _ (Nat.le_refl _)
theorem c1_ok {σ : wS} {a c : Nat} (hw : wf σ) (ha : a < 4) (hc : c < 2401 ∧ ∀ q, q < σ 0 0 → dg c q ≤ σ 2 q) : ∀ e, c1 a c e < 2401 ∧ (∀ q, q < σ 0 0 → dg (c1 a c e) q ≤ σ 2 q) := by
  intro e
  cases e with
  | zero =>
    show c - (if 0 < dg c a then 7 ^ a else 0) < 2401 ∧ _
    split
    · rename_i h
      obtain ⟨d1, d2⟩ := dg_sub ha hc.1 h
      refine ⟨Nat.lt_of_le_of_lt (Nat.sub_le _ _) hc.1, fun q hq => ?_⟩
      show dg (c - (if 0 < dg c a then 7 ^ a else 0)) q ≤ _
      rw [if_pos h, d2 q (Nat.lt_of_lt_of_le hq hw.1)]
      exact Nat.le_trans (Nat.sub_le _ _) (hc.2 q hq)
    · rename_i h
      refine ⟨by omega, fun q hq => ?_⟩
      show dg (c - (if 0 < dg c a then 7 ^ a else 0)) q ≤ _
      rw [if_neg h, Nat.sub_zero]
      exact hc.2 q hq
  | succ b => exact hc
theorem tk_le {σ : wS} {m a e : Nat} (h : tk σ m a e ≠ 0) : m + tk σ m a e ≤ σ 0 3 := by
  cases e with
  | zero =>
    simp only [tk] at h ⊢
    split at h
    · contradiction
    · rename_i h1
      rw [if_neg h1]
      split at h
      · rename_i h2; rw [if_pos h2]; exact h2
      · contradiction
  | succ b =>
    simp only [tk] at h ⊢
    split at h
    · contradiction
    · rename_i h1
      rw [if_neg h1]
      split at h
      · contradiction
      · rename_i h2
        rw [if_neg h2]
        split at h
        · rename_i h3; rw [if_pos h3]; exact h3
        · contradiction
theorem tk_5 {σ : wS} {m a e : Nat} (hw : wf σ) : tk σ m a e ≤ 5 := by
  cases e with
  | zero =>
    simp only [tk]
    split
    · omega
    · split <;> omega
  | succ b =>
    have := hw.2.2.2.2.2 (4 * a + b)
    simp only [tk]
    split
    · omega
    · split
      · omega
      · split <;> omega
theorem tk_nA {σ : wS} {m a e : Nat} (hw : wf σ) (ha : a < 4) (h : tk σ m a e ≠ 0) : nA a e < 4 := by
  cases e with
  | zero => exact ha
  | succ b =>
    simp only [tk] at h
    split at h
    · contradiction
    · rename_i h1
      have := hw.1
      show b < 4
      omega
theorem tk_big {σ : wS} {m a e : Nat} (h : σ 0 0 < e) : tk σ m a e = 0 := by
  cases e with
  | zero => omega
  | succ b => simp only [tk]; rw [if_pos (by omega)]
theorem nx_ok {σ : wS} {m a c e : Nat} (hw : wf σ) (hs : stok σ m a c) (h : tk σ m a e ≠ 0) : stok σ (m + tk σ m a e) (nA a e) (nC σ m a c e) := by
  have h1 := tk_le h
  have h2 := hw.2.1
  exact ⟨by omega, tk_nA hw hs.2.1 h, (adv_ok hw (c1_ok hw hs.2.1 hs.2.2 e) _).1, (adv_ok hw (c1_ok hw hs.2.1 hs.2.2 e) _).2⟩
/-! the most -/
def mxF (f : Nat → Nat) : Nat → Nat
  | 0 => 0
  | k + 1 => max (mxF f k) (f k)
theorem mxF_congr {f g : Nat → Nat} : ∀ n, (∀ k, k < n → f k = g k) → mxF f n = mxF g n := by
  intro n
  induction n with
  | zero => intro _; rfl
  | succ n ih => intro h; simp only [mxF]; rw [ih (fun k hk => h k (by omega)), h n (by omega)]
theorem mxF_le {f : Nat → Nat} {b : Nat} : ∀ n, (∀ k, k < n → f k ≤ b) → mxF f n ≤ b := by
  intro n
  induction n with
  | zero => intro _; exact Nat.zero_le _
  | succ n ih => intro h; simp only [mxF]; exact Nat.max_le.mpr ⟨ih (fun k hk => h k (by omega)), h n (by omega)⟩
theorem mxF_ge {f : Nat → Nat} : ∀ n k, k < n → f k ≤ mxF f n := by
  intro n
  induction n with
  | zero => intro k h; omega
  | succ n ih =>
    intro k h
    simp only [mxF]
    by_cases e : k = n
    · subst e; exact Nat.le_max_right _ _
    · exact Nat.le_trans (ih k (by omega)) (Nat.le_max_left _ _)
theorem mxF_ext {f : Nat → Nat} {n : Nat} : ∀ k, n ≤ k → (∀ j, n ≤ j → j < k → f j = 0) → mxF f k = mxF f n := by
  intro k
  induction k with
  | zero => intro h _; have : n = 0 := by omega
            subst this; rfl
  | succ k ih =>
    intro h h0
    by_cases e : n = k + 1
    · rw [e]
    · simp only [mxF]
      rw [ih (by omega) (fun j h1 h2 => h0 j h1 (by omega)), h0 k (by omega) (by omega)]
      exact Nat.max_eq_left (Nat.zero_le _)
def Vf (σ : wS) : Nat → Nat → Nat → Nat → Nat
  | 0, _, _, _ => 0
  | n + 1, m, a, c => mxF (fun e => if tk σ m a e = 0 then 0 else gn σ a c e + Vf σ n (m + tk σ m a e) (nA a e) (nC σ m a c e)) 5
theorem Vf_fuel {σ : wS} : ∀ n m a c, σ 0 3 < m + n → Vf σ n m a c = Vf σ (n + 1) m a c := by
  intro n
  induction n with
  | zero =>
    intro m a c h
    show 0 = mxF _ 5
    rw [mxF_congr (g := fun _ => 0) 5 (fun e _ => by
      by_cases h1 : tk σ m a e = 0
      · simp only [h1, if_true]
      · exact absurd (tk_le h1) (by omega))]
    rfl
  | succ n ih =>
    intro m a c h
    show mxF _ 5 = mxF _ 5
    refine mxF_congr 5 (fun e _ => ?_)
    by_cases h1 : tk σ m a e = 0
    · simp only [h1, if_true]
    · simp only [h1, if_false]
      rw [ih _ _ _ (by omega)]
def V (σ : wS) (m a c : Nat) : Nat := Vf σ 21 m a c
/-- what an act brings in all; 0: it may not be -/
def vb (σ : wS) (m a c e : Nat) : Nat := if tk σ m a e = 0 then 0 else gn σ a c e + V σ (m + tk σ m a e) (nA a e) (nC σ m a c e)
theorem V_eq {σ : wS} (hw : wf σ) (m a c : Nat) : V σ m a c = mxF (vb σ m a c) 5 := by
  show mxF _ 5 = _
  refine mxF_congr 5 (fun e _ => ?_)
  unfold vb
  by_cases h1 : tk σ m a e = 0
  · simp only [h1, if_true]
  · simp only [h1, if_false]
    have := hw.2.1
    rw [Vf_fuel 20 _ _ _ (by omega)]
    rfl
theorem V_eqP {σ : wS} (hw : wf σ) (m a c : Nat) : V σ m a c = mxF (vb σ m a c) (σ 0 0 + 1) := by
  rw [V_eq hw]
  have := hw.1
  exact mxF_ext 5 (by omega) (fun j h1 _ => by unfold vb; rw [tk_big (by omega), if_pos rfl])
theorem gn_le {σ : wS} (hw : wf σ) (a c e : Nat) : gn σ a c e ≤ 30 := by
  cases e with
  | zero => exact hw.2.2.2.2.1 _
  | succ b => exact Nat.zero_le _
theorem Vf_le {σ : wS} (hw : wf σ) : ∀ n m a c, Vf σ n m a c ≤ 30 * (σ 0 3 - m) := by
  intro n
  induction n with
  | zero => intro m a c; exact Nat.zero_le _
  | succ n ih =>
    intro m a c
    refine mxF_le 5 (fun e _ => ?_)
    by_cases h1 : tk σ m a e = 0
    · simp only [h1, if_true]; exact Nat.zero_le _
    · simp only [h1, if_false]
      have := tk_le h1
      have := gn_le hw a c e
      have := ih (m + tk σ m a e) (nA a e) (nC σ m a c e)
      omega
theorem V_le {σ : wS} (hw : wf σ) (m a c : Nat) : V σ m a c ≤ 600 := by
  have h1 := Vf_le hw 21 m a c
  have h2 := hw.2.1
  unfold V
  omega
theorem vb_le {σ : wS} (hw : wf σ) {m a c e : Nat} : vb σ m a c e ≤ 600 := by
  unfold vb
  split
  · exact Nat.zero_le _
  · rename_i h1
    have h2 := tk_le h1
    have h3 := gn_le hw a c e
    have h4 := Vf_le hw 21 (m + tk σ m a e) (nA a e) (nC σ m a c e)
    have h5 := hw.2.1
    unfold V
    omega
/-! keys -/
def keyX (m a c : Nat) : Nat := 7 * (7 * (7 * (7 * (4 * m + a) + dg c 0) + dg c 1) + dg c 2) + dg c 3
def keyM (m a c : Nat) : Nat := 2401 * (4 * m + a) + c
theorem keyX_lt {m a c : Nat} (hm : m ≤ 20) (ha : a < 4) : keyX m a c < 201684 := by
  have h0 := dg_lt c 0
  have h1 := dg_lt c 1
  have h2 := dg_lt c 2
  have h3 := dg_lt c 3
  unfold keyX
  omega
theorem keyM_lt {m a c : Nat} (hm : m ≤ 20) (ha : a < 4) (hc : c < 2401) : keyM m a c < 201684 := by
  unfold keyM
  omega
theorem keyX_inj {m a c m' a' c' : Nat} (ha : a < 4) (ha' : a' < 4) (hc : c < 2401) (hc' : c' < 2401) (h : keyX m a c = keyX m' a' c') : m = m' ∧ a = a' ∧ c = c' := by
  have h0 := dg_lt c 0
  have h1 := dg_lt c 1
  have h2 := dg_lt c 2
  have h3 := dg_lt c 3
  have g0 := dg_lt c' 0
  have g1 := dg_lt c' 1
  have g2 := dg_lt c' 2
  have g3 := dg_lt c' 3
  have s := dg_sum hc
  have s' := dg_sum hc'
  unfold keyX at h
  have e3 : dg c 3 = dg c' 3 := by omega
  have e2 : dg c 2 = dg c' 2 := by omega
  have e1 : dg c 1 = dg c' 1 := by omega
  have e0 : dg c 0 = dg c' 0 := by omega
  refine ⟨by omega, by omega, by omega⟩
theorem keyM_inj {m a c m' a' c' : Nat} (ha : a < 4) (ha' : a' < 4) (hc : c < 2401) (hc' : c' < 2401) (h : keyM m a c = keyM m' a' c') : m = m' ∧ a = a' ∧ c = c' := by
  unfold keyM at h
  refine ⟨by omega, by omega, by omega⟩
/-! acts as ints -/
def aI (e : Nat) : Int32 := if e = 0 then -1 else nI (e - 1)
theorem aI_0 : aI 0 = -1 := rfl
theorem aI_s (b : Nat) : aI (b + 1) = nI b := rfl
theorem aI_next {e : Nat} : aI e + 1 = aI (e + 1) := by
  cases e with
  | zero => rfl
  | succ b => rw [aI_s, aI_s, nI_1]
theorem m1_lt {n : Nat} (h : n < 2 ^ 31) : (-1 : Int32) < nI n := by
  rw [Int32.lt_iff_toInt_lt, nI_toInt h, show (-1 : Int32).toInt = -1 by decide]; omega
theorem m1_nle {n : Nat} (h : n < 2 ^ 31) : ¬ nI n ≤ (-1 : Int32) := by
  rw [Int32.le_iff_toInt_le, nI_toInt h, show (-1 : Int32).toInt = -1 by decide]; omega
theorem m1_ne {n : Nat} (h : n < 2 ^ 31) : ¬ nI n = (-1 : Int32) := by
  intro q
  have := congrArg Int32.toInt q
  rw [nI_toInt h, show (-1 : Int32).toInt = -1 by decide] at this
  omega
theorem aI_le {n e : Nat} (hn : n < 2 ^ 31) (he : e < 2 ^ 31) : nI n ≤ aI e ↔ n + 1 ≤ e := by
  cases e with
  | zero => rw [aI_0]; exact ⟨fun h => absurd h (m1_nle hn), fun h => by omega⟩
  | succ b => rw [aI_s, nI_leI hn (by omega)]; omega
theorem aI_eq {n e : Nat} (hn : n < 2 ^ 31) (he : e < 2 ^ 31) : aI e = nI n ↔ e = n + 1 := by
  cases e with
  | zero => rw [aI_0]; exact ⟨fun h => absurd h.symm (m1_ne hn), fun h => by omega⟩
  | succ b => rw [aI_s, nI_eq (by omega) hn]; omega
/-- an int that passes for an act -/
theorem aI_of {x : Int32} (h1 : ¬ x < -1) (h2 : ¬ 3 < x) : ∃ e, e < 5 ∧ x = aI e := by
  rw [Int32.lt_iff_toInt_lt, show (-1 : Int32).toInt = -1 by decide] at h1
  rw [Int32.lt_iff_toInt_lt, show (3 : Int32).toInt = 3 by decide] at h2
  by_cases h : x.toInt = -1
  · exact ⟨0, by omega, Int32.toInt_inj.mp (by rw [h, aI_0]; decide)⟩
  · refine ⟨x.toInt.toNat + 1, by omega, Int32.toInt_inj.mp ?_⟩
    rw [aI_s, nI_toInt (by omega)]
    omega
