set_option maxRecDepth 100000
set_option maxHeartbeats 4000000
/-! PLAIN LAW, what holds between the class's heap and the model's, call for call -/
/-- a row holds numbers -/
def rowE (N : Nat) (r : Nat → Int32) (q : Nat → Nat) : Prop := ∀ k, k < N → r k = nI (q k)
theorem rowE.up {N i j k n : Nat} {I : mI} {σ : wS} {v : Int32} (h : rowE N (I i) (σ j)) (hv : v = nI n) : rowE N (u2 I i k v i) (u2 σ j k n j) := by
  intro q hq
  by_cases e : q = k
  · rw [e, u2_self, u2_self, hv]
  · rw [u2_ne _ _ (Or.inr e), u2_ne _ _ (Or.inr e)]
    exact h q hq
/-- the group of what is kept, at b (1: now; 12: kept): scalars b, kind b+1, top b+2, fill b+3, rich b+4, yields b+5, miles b+6, the trip b+9, b+10 -/
def xG (b : Nat) (σ : wS) (I : mI) : Prop := rowE 8 (I b) (σ 0) ∧ rowE 4 (I (b + 1)) (σ 1) ∧ rowE 4 (I (b + 2)) (σ 2) ∧ rowE 4 (I (b + 3)) (σ 3) ∧ rowE 4 (I (b + 4)) (σ 4) ∧ rowE 28 (I (b + 5)) (σ 5) ∧ rowE 16 (I (b + 6)) (σ 6) ∧ tr I (b + 9) (b + 10) (σ 0 8) (σ 0 9) (σ 0 10) (σ 0 11)
theorem xG.to {b : Nat} {σ : wS} {I I' : mI} (h : xG b σ I) (g : ∀ r, b ≤ r → r ≤ b + 10 → I' r = I r) : xG b σ I' := by
  unfold xG tr
  rw [g b (by omega) (by omega), g (b + 1) (by omega) (by omega), g (b + 2) (by omega) (by omega), g (b + 3) (by omega) (by omega), g (b + 4) (by omega) (by omega), g (b + 5) (by omega) (by omega), g (b + 6) (by omega) (by omega), g (b + 9) (by omega) (by omega), g (b + 10) (by omega) (by omega)]
  exact h
theorem xG.xP {σ : wS} {I : mI} (h : xG 1 σ I) : xP σ I := ⟨h.1 0 (by decide), h.1 3 (by decide), h.2.2.1, h.2.2.2.1, h.2.2.2.2.2.1, h.2.2.2.2.2.2.1⟩
/-- the model's numbers: counts (in the order in which they're kept) and rows -/
def mGv (σ : wS) (c p mi ri ce cd wy : Nat → Int32) : Prop :=
  (c 0 = nI (σ 0 8) ∧ c 1 = nI (σ 0 11) ∧ c 2 = nI (σ 0 3) ∧ c 3 = nI (σ 0 9) ∧ c 4 = nI (σ 0 4) ∧ c 5 = nI (σ 0 7) ∧ c 6 = nI (σ 0 5) ∧ c 7 = nI (σ 0 6) ∧ c 8 = nI (σ 0 0) ∧ c 9 = nI (σ 0 1) ∧ c 10 = nI (σ 0 2) ∧ c 11 = nI (σ 0 10)) ∧
  ((∀ k, k < 4 → p (11 * k) = nI (σ 1 k)) ∧ (∀ k, k < 4 → p (11 * k + 1) = nI (σ 2 k)) ∧ (∀ k, k < 4 → p (11 * k + 2) = nI (σ 3 k)) ∧ (∀ k, k < 4 → p (11 * k + 3) = nI (σ 4 k)) ∧ (∀ k f, k < 4 → f < 7 → p (11 * k + 4 + f) = nI (σ 5 (7 * k + f)))) ∧
  rowE 16 mi (σ 6) ∧ rowE 40 ri (σ 7) ∧ rowE 6 ce (σ 10) ∧ (∀ k, k < 6 → cd k = aI (σ 8 k)) ∧ rowE 210 wy (σ 9)
def mcnt (I : mI) (k : Nat) : Int32 := if k = 11 then I 0 12 else I 0 k
def mG (σ : wS) (I : mI) : Prop := mGv σ (mcnt I) (I 1) (I 2) (I 3) (I 4) (I 5) (I 6)
def mKp (σ : wS) (r : Nat → Int32) : Prop := mGv σ r (fun j => r (12 + j)) (fun j => r (56 + j)) (fun j => r (72 + j)) (fun j => r (112 + j)) (fun j => r (118 + j)) (fun j => r (124 + j))
theorem mG.mP {σ : wS} {I : mI} (h : mG σ I) : mP σ I := by
  refine ⟨h.1.2.2.2.2.2.2.2.2.1, h.1.2.2.1, h.2.1.2.1, h.2.1.2.2.1, h.2.1.2.2.2.2, fun a b ha hb => h.2.2.1 _ (by omega)⟩
theorem mG.to {σ : wS} {I I' : mI} (h : mG σ I) (g : ∀ r, 1 ≤ r → r ≤ 6 → I' r = I r) (g0 : ∀ k, k ≤ 10 ∨ k = 12 → I' 0 k = I 0 k) : mG σ I' := by
  unfold mG
  rw [g 1 (by omega) (by omega), g 2 (by omega) (by omega), g 3 (by omega) (by omega), g 4 (by omega) (by omega), g 5 (by omega) (by omega), g 6 (by omega) (by omega)]
  have e : ∀ k, k < 12 → mcnt I' k = mcnt I k := by
    intro k hk
    unfold mcnt
    split
    · exact g0 12 (by omega)
    · exact g0 k (by omega)
  unfold mGv
  rw [e 0 (by omega), e 1 (by omega), e 2 (by omega), e 3 (by omega), e 4 (by omega), e 5 (by omega), e 6 (by omega), e 7 (by omega), e 8 (by omega), e 9 (by omega), e 10 (by omega), e 11 (by omega)]
  exact h
/-- ranges of all -/
def WF (σ : wS) : Prop := wf σ ∧ stok σ (σ 0 8) (σ 0 9) (σ 0 10) ∧ (σ 0 1 ≤ 4 ∧ σ 0 2 ≤ 6 ∧ (1 ≤ σ 0 4 ∧ σ 0 4 ≤ 60) ∧ σ 0 5 ≤ 6 ∧ σ 0 6 ≤ 6 ∧ (1 ≤ σ 0 7 ∧ σ 0 7 ≤ 5) ∧ σ 0 11 ≤ 30 * σ 0 8) ∧
  (σ 0 9 < σ 0 0 ∨ (σ 0 0 = 0 ∧ σ 0 9 = 0)) ∧ (∀ k, σ 1 k ≤ 4) ∧ (∀ k, k < σ 0 0 → 1 ≤ σ 1 k ∧ 1 ≤ σ 2 k) ∧ (∀ k, σ 4 k ≤ 60) ∧ (∀ k, σ 7 k ≤ 20) ∧ (∀ a b, a < 4 → b < 4 → σ 0 0 ≤ a ∨ σ 0 0 ≤ b → σ 6 (4 * a + b) = 0) ∧ (∀ c, c < σ 0 2 → σ 8 c < 5)
/-! conditions: a cell of the class, and the signs that the model reads -/
def valR (a b : Int32) (v : Nat) : Prop := (∃ n, n ≤ 999 ∧ a = 0 ∧ b = nI n ∧ v = 3000 + n) ∨ (∃ p, p ≤ 3 ∧ a = 1 ∧ b = nI p ∧ v = 200 + p) ∨ (∃ p, p ≤ 3 ∧ a = 2 ∧ b = nI p ∧ v = 300 + p) ∨ (∃ k, k < 4 ∧ a = nI (3 + k) ∧ v = 100 + k)
def cmpR (a : Int32) (v : Nat) : Prop := (a = 60 ∧ v = 15) ∨ (a = 61 ∧ v = 16) ∨ (a = 62 ∧ v = 17)
def cR (s : xS) (rd : xRd) (fz : Nat → Bool) (I : mI) : Nat → Nat → List Nat → Prop
  | 0, _, _ => False
  | n + 1, c, L => (133 ≤ c ∧ fz c = true) ∧ ((∃ L', L = L' ++ [7, 7] ∧ cR s rd fz I n c L') ∨ (xo s c 17 ∧ ∃ v g w, L = [v, w, g] ∧ valR (I c 0) (I c 1) v ∧ cmpR (I c 2) g ∧ valR (I c 3) (I c 4) w) ∨ (xo s c 18 ∧ ∃ c1 L1, xR rd c 0 = some c1 ∧ L = L1 ++ [7] ∧ cR s rd fz I n c1 L1) ∨
    (xo s c 19 ∧ ∃ c1 c2 L1 L2, xR rd c 0 = some c1 ∧ xR rd c 1 = some c2 ∧ L = L1 ++ L2 ++ [8] ∧ cR s rd fz I n c1 L1 ∧ cR s rd fz I n c2 L2) ∨ (xo s c 20 ∧ ∃ c1 c2 L1 L2, xR rd c 0 = some c1 ∧ xR rd c 1 = some c2 ∧ L = L1 ++ L2 ++ [9] ∧ cR s rd fz I n c1 L1 ∧ cR s rd fz I n c2 L2))
/-- later cells stay as they are: kinds, lengths, references; frozen ones' ints too -/
def old (s : xS) (rd : xRd) (fz : Nat → Bool) (I : mI) (s' : xS) (rd' : xRd) (fz' : Nat → Bool) (I' : mI) : Prop := s.1 ≤ s'.1 ∧ (∀ r, r < 133 + s.1 → xK s'.2.1 r = xK s.2.1 r ∧ xL s'.2.2 r = xL s.2.2 r) ∧ (∀ r, 133 ≤ r → r < 133 + s.1 → rd' r = rd r ∧ fz' r = fz r ∧ (fz r = true → I' r = I r))
theorem old.ko {s s' : xS} {rd rd' : xRd} {fz fz' : Nat → Bool} {I I' : mI} (h : old s rd fz I s' rd' fz' I') {r q : Nat} (ho : xo s r q) : xo s' r q := ⟨Nat.lt_of_lt_of_le ho.1 (by have := h.1; omega), by rw [(h.2.1 r ho.1).1]; exact ho.2⟩
theorem old.kl {s s' : xS} {rd rd' : xRd} {fz fz' : Nat → Bool} {I I' : mI} (h : old s rd fz I s' rd' fz' I') {r q : Nat} (ho : xo s r q) : xlen s' r = xlen s r := (h.2.1 r ho.1).2
theorem old.kr {s s' : xS} {rd rd' : xRd} {fz fz' : Nat → Bool} {I I' : mI} (h : old s rd fz I s' rd' fz' I') {r : Nat} (h1 : 133 ≤ r) (h2 : r < 133 + s.1) (k : Nat) : xR rd' r k = xR rd r k := by
  unfold xR
  rw [(h.2.2 r h1 h2).1]
theorem cR.to {s s' : xS} {rd rd' : xRd} {fz fz' : Nat → Bool} {I I' : mI} (h : old s rd fz I s' rd' fz' I') : ∀ n c L, cR s rd fz I n c L → cR s' rd' fz' I' n c L := by
  intro n
  induction n with
  | zero => intro c L hc; exact hc.elim
  | succ n ih =>
    intro c L hc
    obtain ⟨⟨h1, h2⟩, hc⟩ := hc
    have lt : ∀ {q}, xo s c q → c < 133 + s.1 := fun ho => ho.1
    have fr : c < 133 + s.1 → fz' c = true ∧ I' c = I c := fun hlt => ⟨by rw [(h.2.2 c h1 hlt).2.1]; exact h2, (h.2.2 c h1 hlt).2.2 h2⟩
    rcases hc with ⟨L', e, g⟩ | ⟨ho, v, g, w, e, g1, g2, g3⟩ | ⟨ho, c1, L1, e1, e, g⟩ | ⟨ho, c1, c2, L1, L2, e1, e2, e, g1, g2⟩ | ⟨ho, c1, c2, L1, L2, e1, e2, e, g1, g2⟩
    · have g' := ih c L' g
      have f1 : fz' c = true := by
        cases n with
        | zero => exact g'.elim
        | succ n => exact g'.1.2
      exact ⟨⟨h1, f1⟩, .inl ⟨L', e, g'⟩⟩
    · obtain ⟨f1, f2⟩ := fr ho.1
      refine ⟨⟨h1, f1⟩, .inr (.inl ⟨h.ko ho, v, g, w, e, ?_, ?_, ?_⟩)⟩
      · rw [f2]; exact g1
      · rw [f2]; exact g2
      · rw [f2]; exact g3
    · exact ⟨⟨h1, (fr ho.1).1⟩, .inr (.inr (.inl ⟨h.ko ho, c1, L1, (h.kr h1 ho.1 0).trans e1, e, ih _ _ g⟩))⟩
    · exact ⟨⟨h1, (fr ho.1).1⟩, .inr (.inr (.inr (.inl ⟨h.ko ho, c1, c2, L1, L2, (h.kr h1 ho.1 0).trans e1, (h.kr h1 ho.1 1).trans e2, e, ih _ _ g1, ih _ _ g2⟩)))⟩
    · exact ⟨⟨h1, (fr ho.1).1⟩, .inr (.inr (.inr (.inr ⟨h.ko ho, c1, c2, L1, L2, (h.kr h1 ho.1 0).trans e1, (h.kr h1 ho.1 1).trans e2, e, ih _ _ g1, ih _ _ g2⟩)))⟩
/-- a clause's signs -/
def cbeg (σ : wS) (c : Nat) : Nat := if c = 0 then 0 else σ 10 (c - 1)
def sgs (σ : wS) (c : Nat) : List Nat := (List.range' (cbeg σ c) (σ 10 c - cbeg σ c)).map (σ 9)
/-- the risks at b (7: now; 18: kept: the row b + 1 of references) -/
def rR (q : Nat) (σ : wS) (s : xS) (rd : xRd) (fz : Nat → Bool) (I : mI) : Prop := ∀ r, r < σ 0 1 → ∃ o br, xR rd q r = some o ∧ xo s o 15 ∧ 133 ≤ o ∧ xR rd o 0 = some br ∧ xo s br 100 ∧ xlen s br = 10 ∧ 133 ≤ br ∧ fz br = true ∧ ∀ k, k < 10 → I br k = nI (σ 7 (10 * r + k))
def rC (q : Nat) (σ : wS) (s : xS) (rd : xRd) (fz : Nat → Bool) (I : mI) : Prop := ∀ c, c < σ 0 2 → cbeg σ c ≤ σ 10 c ∧ σ 10 c ≤ 210 ∧ ∃ o cd, xR rd q c = some o ∧ xo s o 16 ∧ 133 ≤ o ∧ fz o = true ∧ I o 0 = aI (σ 8 c) ∧ xR rd o 1 = some cd ∧ ∃ n, n ≤ 100 ∧ cR s rd fz I n cd (sgs σ c)
theorem rR.to {q : Nat} {σ : wS} {s s' : xS} {rd rd' : xRd} {fz fz' : Nat → Bool} {I I' : mI} (hr : rR q σ s rd fz I) (h : old s rd fz I s' rd' fz' I') (hq : ∀ k, xR rd' q k = xR rd q k) : rR q σ s' rd' fz' I' := by
  intro r hlt
  obtain ⟨o, br, e1, e2, e3, e4, e5, e6, e7, e8, e9⟩ := hr r hlt
  refine ⟨o, br, (hq r).trans e1, h.ko e2, e3, (h.kr e3 e2.1 0).trans e4, h.ko e5, (h.kl e5).trans e6, e7, ?_, fun k hk => ?_⟩
  · rw [(h.2.2 br e7 e5.1).2.1]; exact e8
  · rw [(h.2.2 br e7 e5.1).2.2 e8]; exact e9 k hk
theorem rC.to {q : Nat} {σ : wS} {s s' : xS} {rd rd' : xRd} {fz fz' : Nat → Bool} {I I' : mI} (hr : rC q σ s rd fz I) (h : old s rd fz I s' rd' fz' I') (hq : ∀ k, xR rd' q k = xR rd q k) : rC q σ s' rd' fz' I' := by
  intro c hlt
  obtain ⟨g1, g2, o, cd, e1, e2, e3, e4, e5, e6, n, e7, e8⟩ := hr c hlt
  refine ⟨g1, g2, o, cd, (hq c).trans e1, h.ko e2, e3, ?_, ?_, (h.kr e3 e2.1 1).trans e6, n, e7, e8.to h⟩
  · rw [(h.2.2 o e3 e2.1).2.1]; exact e4
  · rw [(h.2.2 o e3 e2.1).2.2 e4]; exact e5
/-! tape, rows, bodies, sheets, shelves -/
def rT (I Im : mI) : Prop := ∃ n, n ≤ 200 ∧ I 0 8 = nI n ∧ Im 0 39 = nI n ∧ ∀ j, j < n → ∃ b, b < 256 ∧ Im 19 j = nI b ∧ I 92 j = (nI b).toInt8.toInt32
def rW (I Im : mI) : Prop := ∃ n, n ≤ 20 ∧ I 0 12 = nI n ∧ Im 0 57 = nI n ∧ ∀ j, j < n → I (100 + j) 0 = Im 25 (2 * j) ∧ I (100 + j) 1 = Im 25 (2 * j + 1)
def rB (I Im : mI) : Prop := ∃ n, n < 1000 ∧ I 0 17 = nI n ∧ Im 0 68 = nI (min n 30) ∧ ∀ j, j < min n 30 → I 127 j = Im 32 j
/-- the kind of a sheet's row, by its sort -/
def ak (q : Nat) : Nat := if q = 0 then 101 else if q = 1 then 102 else if q = 2 then 100 else 110
def rS (s : xS) (rd : xRd) (fz : Nat → Bool) (J : mJ) (I : mI) (Jm : mJ) (Im : mI) : Prop := ∃ ar : Nat → Nat, (∀ k k', k < 4 → k' < 4 → k ≠ k' → ar k ≠ ar k') ∧ ∀ k, k < 4 → (I (121 + k) 4 = -1 ∧ Im 26 k = -1) ∨
  ∃ q n, q < 4 ∧ n ≤ 40 ∧ I (121 + k) 4 = nI q ∧ Im 26 k = nI q ∧ Im 27 k = nI n ∧ xR rd (121 + k) q = some (ar k) ∧ xo s (ar k) (ak q) ∧ xlen s (ar k) = n ∧ 133 ≤ ar k ∧ fz (ar k) = false ∧ ∀ j, j < n → Jm 28 (40 * k + j) = if q = 3 then J (ar k) j else (I (ar k) j).toInt64
def rH (s : xS) (rd : xRd) (I Im : mI) : Prop := ∀ k, k < 4 → ∃ w, w ≤ 4 ∧ I (129 + k) 0 = nI w ∧ ((w ≤ 1 ∧ ∃ n, n < 4 ∧ I (129 + k) 1 = nI n ∧ Im 29 k = nI w ∧ Im 30 k = nI n) ∨ (w = 2 ∧ Im 29 k = 2) ∨ (w = 3 ∧ xR rd (129 + k) 2 = none ∧ Im 29 k = -1) ∨ (w = 4 ∧ Im 29 k = -1) ∨
  (w = 3 ∧ ∃ a q n, xR rd (129 + k) 2 = some a ∧ q < 4 ∧ n ≤ 40 ∧ xo s a (ak q) ∧ xlen s a = n ∧ Im 29 k = 3 ∧ Im 30 k = nI q ∧ Im 31 k = nI n))
/-! the risks' cases -/
def sumF (f : Nat → Nat) : Nat → Nat
  | 0 => 0
  | k + 1 => sumF f k + f k
/-- cases by minutes m and need, over the risks r < R that p lets pass -/
def dp (σ : wS) (R : Nat) (p : Nat → Bool) : Nat → Nat → Nat
  | 0, need => if need = 0 then 1 else 0
  | m + 1, need => if need = 0 then 10 * dp σ R p m 0 else mxF (fun r => if p r = true then sumF (fun k => dp σ R p m (need - σ 7 (10 * r + k))) 10 else 0) R
def rD (σ : wS) (Im : mI) (Jm : mJ) : Prop := ∃ d, d ≤ 13 ∧ Im 0 34 = aI d ∧ ∀ m, m < d → ∀ need, need ≤ 240 → Jm 15 (241 * m + need) = lN (dp σ (σ 0 1) (fun _ => true) m need)
/-- the class's memo between calls -/
def wth0 (rn : Nat) (f : Nat → Int32) : Prop := ∀ k, k < 201684 → ∃ w, f k = nI w ∧ w < 1024 * (rn + 1)
def rM (t : Nat) (I Im : mI) (σ : wS) : Prop := ∃ rn st, I 23 2 = nI rn ∧ rn ≤ 100 * t ∧ wth0 rn (I 24) ∧ Im 0 18 = nI st ∧ st ≤ t + 1 ∧ fnd σ st (Im 7)
/-- what is kept -/
def rf (s : xS) (rd : xRd) : Prop := (∀ q, q = 8 ∨ q = 19 → ∀ i, i < 4 → ∀ y, xR rd q i = some y → xo s y 15) ∧ (∀ q, q = 9 ∨ q = 20 ∨ q = 96 → ∀ i, i < 6 → ∀ y, xR rd q i = some y → xo s y 16) ∧ (∀ k, k < 6 → xR rd 94 k = some (1000000 + k))
def rK (s : xS) (rd : xRd) (fz : Nat → Bool) (I Im : mI) : Prop := rf s rd ∧ ((I 0 2 = 0 ∧ Im 0 70 = 0) ∨ (I 0 2 = 1 ∧ Im 0 70 = 1 ∧ ∃ κ, WF κ ∧ xG 12 κ I ∧ mKp κ (Im 33) ∧ rR 19 κ s rd fz I ∧ rC 20 κ s rd fz I))
/-- after t calls -/
def Rel (t : Nat) (s : xS) (rd : xRd) (J : mJ) (I : mI) (Im : mI) (Jm : mJ) : Prop := s.1 ≤ 600 * t ∧ ∃ (σ : wS) (fz : Nat → Bool), WF σ ∧ xG 1 σ I ∧ mG σ Im ∧ rM t I Im σ ∧ rD σ Im Jm ∧ rR 8 σ s rd fz I ∧ rC 9 σ s rd fz I ∧ rK s rd fz I Im ∧ rT I Im ∧ rW I Im ∧ rB I Im ∧ rS s rd fz J I Jm Im ∧ rH s rd I Im
