set_option maxRecDepth 100000
set_option maxHeartbeats 4000000
/-! PLAIN LAW, operations 33: the reader's cells; comparison, negation -/
/-- new cells alone -/
def AF (s : xS) (rd : xRd) (J : mJ) (I : mI) (fz : Nat → Bool) (s' : xS) (rd' : xRd) (J' : mJ) (I' : mI) (fz' : Nat → Bool) : Prop := s.1 ≤ s'.1 ∧ (∀ r, r < 133 + s.1 → xK s'.2.1 r = xK s.2.1 r ∧ xL s'.2.2 r = xL s.2.2 r) ∧ ∀ r, r < 133 + s.1 → rd' r = rd r ∧ J' r = J r ∧ I' r = I r ∧ fz' r = fz r
theorem AF.rfl' {s : xS} {rd : xRd} {J : mJ} {I : mI} {fz : Nat → Bool} : AF s rd J I fz s rd J I fz := ⟨Nat.le_refl _, fun _ _ => ⟨rfl, rfl⟩, fun _ _ => ⟨rfl, rfl, rfl, rfl⟩⟩
theorem AF.trans {s s1 s2 : xS} {rd rd1 rd2 : xRd} {J J1 J2 : mJ} {I I1 I2 : mI} {fz fz1 fz2 : Nat → Bool} (h : AF s rd J I fz s1 rd1 J1 I1 fz1) (g : AF s1 rd1 J1 I1 fz1 s2 rd2 J2 I2 fz2) : AF s rd J I fz s2 rd2 J2 I2 fz2 := by
  have l := h.1
  refine ⟨Nat.le_trans h.1 g.1, fun r hr => ?_, fun r hr => ?_⟩
  · have a := h.2.1 r hr
    have b := g.2.1 r (by omega)
    exact ⟨b.1.trans a.1, b.2.trans a.2⟩
  · have a := h.2.2 r hr
    have b := g.2.2 r (by omega)
    exact ⟨b.1.trans a.1, b.2.1.trans a.2.1, b.2.2.1.trans a.2.2.1, b.2.2.2.trans a.2.2.2⟩
theorem AF.old {s s' : xS} {rd rd' : xRd} {J J' : mJ} {I I' : mI} {fz fz' : Nat → Bool} (h : AF s rd J I fz s' rd' J' I' fz') : @@N@@.old s rd fz I s' rd' fz' I' := ⟨h.1, h.2.1, fun r _ h2 => ⟨(h.2.2 r h2).1, (h.2.2 r h2).2.2.2, fun _ => (h.2.2 r h2).2.2.1⟩⟩
theorem AF.new {s : xS} {rd : xRd} {J : mJ} {I : mI} {fz : Nat → Bool} {K L : Nat} {b : Bool} : AF s rd J I fz (xn s K L) (ur rd (133 + s.1) (fun _ => none)) (ur J (133 + s.1) (fun _ => 0)) (ur I (133 + s.1) (fun _ => 0)) (u1 fz (133 + s.1) b) := by
  have o := @old.new s rd fz I K L b
  refine ⟨o.1, o.2.1, fun r hr => ⟨ur_row (by omega), ?_, ur_row (by omega), ?_⟩⟩
  · funext k
    unfold ur
    rw [if_neg (by omega)]
  · unfold u1
    rw [if_neg (by omega)]
/-- what isn't of the start may change -/
theorem AF.mod {s s' : xS} {rd rd' rd2 : xRd} {J J' J2 : mJ} {I I' I2 : mI} {fz fz' fz2 : Nat → Bool} (h : AF s rd J I fz s' rd' J' I' fz') (g : ∀ r, r < 133 + s.1 → rd2 r = rd' r ∧ J2 r = J' r ∧ I2 r = I' r ∧ fz2 r = fz' r) : AF s rd J I fz s' rd2 J2 I2 fz2 := by
  refine ⟨h.1, h.2.1, fun r hr => ?_⟩
  have a := h.2.2 r hr
  have b := g r hr
  exact ⟨b.1.trans a.1, b.2.1.trans a.2.1, b.2.2.1.trans a.2.2.1, b.2.2.2.trans a.2.2.2⟩
theorem AF.xb {T : Nat} {B : Nat → Nat} {s s' : xS} {rd rd' : xRd} {J J' : mJ} {I I' : mI} {fz fz' : Nat → Bool} (h : AF s rd J I fz s' rd' J' I' fz') (g : @@N@@.xb T B rd I) : @@N@@.xb T B rd' I' := by
  have r93 : xR rd' 93 3 = xR rd 93 3 := xR_row (h.2.2 93 (by omega)).1
  refine ⟨r93.trans g.1, by rw [(h.2.2 93 (by omega)).2.2.1]; exact g.2.1, fun j hj => by rw [(h.2.2 92 (by omega)).2.2.1]; exact g.2.2.1 j hj, fun k hk => (xR_row (h.2.2 94 (by omega)).1).trans (g.2.2.2 k hk)⟩
/-- conditions stay where frozen cells stay -/
def oF (s : xS) (rd : xRd) (fz : Nat → Bool) (I : mI) (s' : xS) (rd' : xRd) (fz' : Nat → Bool) (I' : mI) : Prop := s.1 ≤ s'.1 ∧ (∀ r, r < 133 + s.1 → xK s'.2.1 r = xK s.2.1 r) ∧ ∀ r, 133 ≤ r → r < 133 + s.1 → fz r = true → rd' r = rd r ∧ fz' r = true ∧ I' r = I r
theorem cR.toF {s s' : xS} {rd rd' : xRd} {fz fz' : Nat → Bool} {I I' : mI} (h : oF s rd fz I s' rd' fz' I') : ∀ n c L, cR s rd fz I n c L → cR s' rd' fz' I' n c L := by
  have ko : ∀ {r q}, xo s r q → xo s' r q := fun ho => ⟨Nat.lt_of_lt_of_le ho.1 (by have := h.1; omega), by rw [h.2.1 _ ho.1]; exact ho.2⟩
  intro n
  induction n with
  | zero => intro c L hc; exact hc.elim
  | succ n ih =>
    intro c L hc
    obtain ⟨⟨h1, h2⟩, hc⟩ := hc
    have fr : c < 133 + s.1 → rd' c = rd c ∧ fz' c = true ∧ I' c = I c := fun hlt => h.2.2 c h1 hlt h2
    rcases hc with ⟨L', e, g⟩ | ⟨ho, v, g, w, e, g1, g2, g3⟩ | ⟨ho, c1, L1, e1, e, g⟩ | ⟨ho, c1, c2, L1, L2, e1, e2, e, g1, g2⟩ | ⟨ho, c1, c2, L1, L2, e1, e2, e, g1, g2⟩
    · have g' := ih c L' g
      have f1 : fz' c = true := by
        cases n with
        | zero => exact g'.elim
        | succ n => exact g'.1.2
      exact ⟨⟨h1, f1⟩, .inl ⟨L', e, g'⟩⟩
    · obtain ⟨_, f1, f2⟩ := fr ho.1
      refine ⟨⟨h1, f1⟩, .inr (.inl ⟨ko ho, v, g, w, e, ?_, ?_, ?_⟩)⟩
      · rw [f2]; exact g1
      · rw [f2]; exact g2
      · rw [f2]; exact g3
    · obtain ⟨f0, f1, _⟩ := fr ho.1
      exact ⟨⟨h1, f1⟩, .inr (.inr (.inl ⟨ko ho, c1, L1, (xR_row f0).trans e1, e, ih _ _ g⟩))⟩
    · obtain ⟨f0, f1, _⟩ := fr ho.1
      exact ⟨⟨h1, f1⟩, .inr (.inr (.inr (.inl ⟨ko ho, c1, c2, L1, L2, (xR_row f0).trans e1, (xR_row f0).trans e2, e, ih _ _ g1, ih _ _ g2⟩)))⟩
    · obtain ⟨f0, f1, _⟩ := fr ho.1
      exact ⟨⟨h1, f1⟩, .inr (.inr (.inr (.inr ⟨ko ho, c1, c2, L1, L2, (xR_row f0).trans e1, (xR_row f0).trans e2, e, ih _ _ g1, ih _ _ g2⟩)))⟩
theorem cR.up {s : xS} {rd : xRd} {fz : Nat → Bool} {I : mI} : ∀ n c L, cR s rd fz I n c L → cR s rd fz I (n + 1) c L := by
  intro n
  induction n with
  | zero => intro c L h; exact h.elim
  | succ n ih =>
    intro c L h
    obtain ⟨h1, hc⟩ := h
    rcases hc with ⟨L', e, g⟩ | h2 | ⟨ho, c1, L1, e1, e, g⟩ | ⟨ho, c1, c2, L1, L2, e1, e2, e, g1, g2⟩ | ⟨ho, c1, c2, L1, L2, e1, e2, e, g1, g2⟩
    · exact ⟨h1, .inl ⟨L', e, ih _ _ g⟩⟩
    · exact ⟨h1, .inr (.inl h2)⟩
    · exact ⟨h1, .inr (.inr (.inl ⟨ho, c1, L1, e1, e, ih _ _ g⟩))⟩
    · exact ⟨h1, .inr (.inr (.inr (.inl ⟨ho, c1, c2, L1, L2, e1, e2, e, ih _ _ g1, ih _ _ g2⟩)))⟩
    · exact ⟨h1, .inr (.inr (.inr (.inr ⟨ho, c1, c2, L1, L2, e1, e2, e, ih _ _ g1, ih _ _ g2⟩)))⟩
theorem cR.le {s : xS} {rd : xRd} {fz : Nat → Bool} {I : mI} {n m c : Nat} {L : List Nat} (h : cR s rd fz I n c L) (hm : n ≤ m) : cR s rd fz I m c L := by
  obtain ⟨d, rfl⟩ : ∃ d, m = n + d := ⟨m - n, by omega⟩
  induction d with
  | zero => exact h
  | succ d ih => exact cR.up _ _ _ (ih (by omega))
theorem cR.b {s : xS} {rd : xRd} {fz : Nat → Bool} {I : mI} {n c : Nat} {L : List Nat} (h : cR s rd fz I n c L) : 133 ≤ c ∧ fz c = true := by
  cases n with
  | zero => exact h.elim
  | succ n => exact h.1
theorem cR.nn {s : xS} {rd : xRd} {fz : Nat → Bool} {I : mI} {n c : Nat} {L : List Nat} (h : cR s rd fz I n c L) : ∀ j, cR s rd fz I (n + j) c (L ++ rp (2 * j)) := by
  intro j
  induction j with
  | zero => show cR s rd fz I n c (L ++ []); rw [List.append_nil]; exact h
  | succ j ih =>
    refine ⟨h.b, .inl ⟨L ++ rp (2 * j), ?_, ih⟩⟩
    rw [List.append_assoc]
    have e : rp (2 * (j + 1)) = rp (2 * j) ++ [7, 7] := by
      show List.replicate (2 * j + 1 + 1) 7 = _
      rw [List.replicate_succ', List.replicate_succ', List.append_assoc]
      rfl
    rw [e]
theorem NF_u2 {T : Nat} {B : Nat → Nat} {I : mI} {q o r k : Nat} {a b v : Int32} (h : r ≠ 93) : u2 (NF T B I q o a b) r k v = NF T B (u2 I r k v) q o a b := by
  funext r' k'
  by_cases e : r' = 93
  · subst e
    rw [u2r h.symm]
    unfold NF
    rw [if_pos rfl, if_pos rfl, u2r h.symm]
  · rw [NF_r e]
    unfold u2
    rw [NF_r e]
theorem NF_ur {T : Nat} {B : Nat → Nat} {I : mI} {q o r : Nat} {a b : Int32} {f : Nat → Int32} (h : r ≠ 93) : ur (NF T B I q o a b) r f = NF T B (ur I r f) q o a b := by
  funext r' k'
  by_cases e : r' = 93
  · subst e
    rw [ur_row h.symm]
    unfold NF
    rw [if_pos rfl, if_pos rfl, ur_row h.symm]
  · rw [NF_r e]
    unfold ur
    rw [NF_r e]
abbrev cP : Type := Nat → xS → xRd → mJ → mI → Prop
abbrev cW : Type := Nat → cP → cP → Prop
/-- it ends in a fault -/
def rBad (Wp : cW) (T : Nat) (B : Nat → Nat) (q : Nat) (s : xS) (rd : xRd) (J : mJ) (I : mI) (fz : Nat → Bool) (ft : Nat → Prop) : Prop := ∃ (p u : Nat) (s' : xS) (rd' : xRd) (J' : mJ) (I' : mI) (fz' : Nat → Bool) (o' : Nat) (a' b' : Int32), AF s rd J I fz s' rd' J' I' fz' ∧ p ≤ T ∧ u ≤ T - q + 1 ∧ s'.1 ≤ s.1 + u ∧ ft p ∧ ∀ bb, u ≤ bb → ∀ QX Q : cP, QX 2 s' rd' J' (FH T B I' p o' a' b') → Wp bb QX Q
/-- it ends with a condition's cell -/
def rOK (Wp : cW) (T : Nat) (B : Nat → Nat) (qn q : Nat) (s : xS) (rd : xRd) (J : mJ) (I : mI) (fz : Nat → Bool) (o : Nat) (post : Nat → List Nat → Prop) : Prop := ∃ (q' n c u : Nat) (L : List Nat) (s' : xS) (rd' : xRd) (J' : mJ) (I' : mI) (fz' : Nat → Bool) (a' b' : Int32), AF s rd J I fz s' rd' J' I' fz' ∧ cR s' rd' fz' I' n c L ∧ q ≤ q' ∧ q' ≤ T ∧ 2 * n ≤ q' - qn ∧ qn < q' ∧ u ≤ q' - q ∧ s'.1 ≤ s.1 + u ∧ post q' L ∧ ∀ bb, u ≤ bb → ∀ QX Q : cP, Q c s' rd' J' (NF T B I' q' o a' b') → Wp bb QX Q
theorem rBad.map {Wp Wq : cW} {T : Nat} {B : Nat → Nat} {q q1 : Nat} {s : xS} {rd : xRd} {J : mJ} {I : mI} {fz : Nat → Bool} {ft : Nat → Prop} (h : rBad Wp T B q1 s rd J I fz ft) (hq : q ≤ q1) (g : ∀ bb QX Q, Wp bb QX Q → Wq bb QX Q) : rBad Wq T B q s rd J I fz ft := by
  obtain ⟨p, u, s', rd', J', I', fz', o', a', b', h1, h2, h3, h4, h5, h6⟩ := h
  exact ⟨p, u, s', rd', J', I', fz', o', a', b', h1, h2, by omega, h4, h5, fun bb hb QX Q k => g _ _ _ (h6 bb hb QX Q k)⟩
theorem rOK.map {Wp Wq : cW} {T : Nat} {B : Nat → Nat} {qn q q1 : Nat} {s : xS} {rd : xRd} {J : mJ} {I : mI} {fz : Nat → Bool} {o : Nat} {post post' : Nat → List Nat → Prop} (h : rOK Wp T B qn q1 s rd J I fz o post) (hq : q ≤ q1) (hp : ∀ q' L, post q' L → post' q' L) (g : ∀ bb QX Q, Wp bb QX Q → Wq bb QX Q) : rOK Wq T B qn q s rd J I fz o post' := by
  obtain ⟨q', n, c, u, L, s', rd', J', I', fz', a', b', h1, h2, h3, h4, h5, h6, h7, h8, h9, h10⟩ := h
  exact ⟨q', n, c, u, L, s', rd', J', I', fz', a', b', h1, h2, by omega, h4, h5, h6, by omega, h8, hp _ _ h9, fun bb hb QX Q k => g _ _ _ (h10 bb hb QX Q k)⟩
/-- a comparison -/
theorem x_compared_ok {T q o v g w q1 q' : Nat} {B : Nat → Nat} {s : xS} {rd : xRd} {J : mJ} {I : mI} {fz : Nat → Bool} {a b a1 b1 c a2 b2 : Int32} (h : xb T B rd I) (hT : T ≤ 200) (hq : q ≤ T) (hs : s.1 < 900000) (h1 : vOK T q B a1 b1 v q1) (hg : gm T q1 B c g) (h2 : vOK T (nq T B q1) B a2 b2 w q') :
    ∃ (s' : xS) (rd' : xRd) (J' : mJ) (I' : mI) (fz' : Nat → Bool), AF s rd J I fz s' rd' J' I' fz' ∧ s'.1 = s.1 + 1 ∧ cR s' rd' fz' I' 1 (133 + s.1) [v, w, g] ∧ ∀ QX Q : cP, Q (133 + s.1) s' rd' J' (NF T B I' q' o a2 b2) → x_X7_compared s rd J (NF T B I q o a b) QX Q := by
  refine ⟨xn s 17 5, ur rd (133 + s.1) (fun _ => none), ur J (133 + s.1) (fun _ => 0), u2 (u2 (u2 (u2 (u2 (ur I (133 + s.1) (fun _ => 0)) (133 + s.1) 0 a1) (133 + s.1) 1 b1) (133 + s.1) 2 c) (133 + s.1) 3 a2) (133 + s.1) 4 b2, u1 fz (133 + s.1) true, ?_, rfl, ?_, fun QX Q K => ?_⟩
  · refine (AF.new (K := 17) (L := 5) (b := true)).mod (fun r hr => ⟨rfl, rfl, ?_, rfl⟩)
    have hr' : r ≠ 133 + s.1 := by omega
    rw [u2r hr', u2r hr', u2r hr', u2r hr', u2r hr']
  · refine ⟨⟨by omega, by unfold u1; rw [if_pos rfl]⟩, .inr (.inl ⟨xo_new', v, g, w, rfl, ?_, ?_, ?_⟩)⟩
    · have e0 : u2 (u2 (u2 (u2 (u2 (ur I (133 + s.1) (fun _ => 0)) (133 + s.1) 0 a1) (133 + s.1) 1 b1) (133 + s.1) 2 c) (133 + s.1) 3 a2) (133 + s.1) 4 b2 (133 + s.1) 0 = a1 := by
        rw [u2_ne _ _ (Or.inr (by decide)), u2_ne _ _ (Or.inr (by decide)), u2_ne _ _ (Or.inr (by decide)), u2_ne _ _ (Or.inr (by decide)), u2_self]
      have e1 : u2 (u2 (u2 (u2 (u2 (ur I (133 + s.1) (fun _ => 0)) (133 + s.1) 0 a1) (133 + s.1) 1 b1) (133 + s.1) 2 c) (133 + s.1) 3 a2) (133 + s.1) 4 b2 (133 + s.1) 1 = b1 := by
        rw [u2_ne _ _ (Or.inr (by decide)), u2_ne _ _ (Or.inr (by decide)), u2_ne _ _ (Or.inr (by decide)), u2_self]
      rw [e0, e1]
      exact h1.val
    · have e2 : u2 (u2 (u2 (u2 (u2 (ur I (133 + s.1) (fun _ => 0)) (133 + s.1) 0 a1) (133 + s.1) 1 b1) (133 + s.1) 2 c) (133 + s.1) 3 a2) (133 + s.1) 4 b2 (133 + s.1) 2 = c := by
        rw [u2_ne _ _ (Or.inr (by decide)), u2_ne _ _ (Or.inr (by decide)), u2_self]
      rw [e2]
      exact hg.cmp
    · have e3 : u2 (u2 (u2 (u2 (u2 (ur I (133 + s.1) (fun _ => 0)) (133 + s.1) 0 a1) (133 + s.1) 1 b1) (133 + s.1) 2 c) (133 + s.1) 3 a2) (133 + s.1) 4 b2 (133 + s.1) 3 = a2 := by
        rw [u2_ne _ _ (Or.inr (by decide)), u2_self]
      have e4 : u2 (u2 (u2 (u2 (u2 (ur I (133 + s.1) (fun _ => 0)) (133 + s.1) 0 a1) (133 + s.1) 1 b1) (133 + s.1) 2 c) (133 + s.1) 3 a2) (133 + s.1) 4 b2 (133 + s.1) 4 = b2 := u2_self _ _ _ _
      rw [e3, e4]
      exact h2.val
  · have q1T := h1.le
    have j43 : x_X7_compared_j43 QX Q a1 b1 c 1 s rd J (NF T B I q1 o a1 b1) := by
      unfold x_X7_compared_j43 x_X7_need
      refine br_f (by decide) (x_next_n h hT q1T.2.2 (x_value_ok h hT (nq_le q1T.2.2).2 h2 ⟨hs, fun v' s' rd' J' I' e1 e2 e3 e4 e5 => ?_⟩))
      subst e1 e2 e3 e4 e5
      refine ⟨xo_new', ?_⟩
      have n93 : 133 + s.1 ≠ 93 := by omega
      rw [NF_ur n93, NF_u2 n93, NF_u2 n93, NF_u2 n93, NF_u2 n93, NF_u2 n93]
      exact K
    unfold x_X7_compared x_X7_compared_j38
    obtain ⟨b1', b2', b3, b4, b5⟩ := h.xs (q := q1) (o := o) (a := a1) (b := b1)
    refine x_value_ok h hT hq h1 (x_here_s hT q1T.2.2 b1' b2' b3 b4 (fun lt => ?_) (fun ge => ?_))
    · rcases hg with ⟨m, rfl, rfl⟩ | ⟨m, rfl, rfl⟩ | ⟨m, rfl, rfl⟩
      · rw [m.2]
        exact br_t rfl j43
      · rw [m.2]
        exact br_f (by decide) (br_t rfl j43)
      · rw [m.2]
        exact br_f (by decide) (br_f (by decide) (br_t rfl j43))
    · rcases hg with ⟨m, _⟩ | ⟨m, _⟩ | ⟨m, _⟩ <;> exact absurd m.1 ge
theorem x_compared_bad {T q o p : Nat} {B : Nat → Nat} {s : xS} {rd : xRd} {J : mJ} {I : mI} {a b : Int32} (h : xb T B rd I) (hT : T ≤ 200) (hq : q ≤ T) (hb : aBad T q B p) :
    ∃ a' b', ∀ QX Q : cP, QX 2 s rd J (FH T B I p o a' b') → x_X7_compared s rd J (NF T B I q o a b) QX Q := by
  rcases hb with hb | ⟨a1, b1, v, q1, h1, hb⟩
  · obtain ⟨a', b', k⟩ := x_value_bad (s := s) (J := J) (o := o) (a := a) (b := b) h hT hq hb
    refine ⟨a', b', fun QX Q K => ?_⟩
    unfold x_X7_compared
    exact k _ _ K
  · have q1T := h1.le
    obtain ⟨b1', b2', b3, b4, b5⟩ := h.xs (q := q1) (o := o) (a := a1) (b := b1)
    rcases hb with ⟨z1, z2, z3, rfl⟩ | ⟨c, g, hg, hb⟩
    · refine ⟨a1, b1, fun QX Q K => ?_⟩
      unfold x_X7_compared
      have j43 : ∀ x, x_X7_compared_j43 QX Q a1 b1 x 0 s rd J (NF T B I p o a1 b1) := by
        intro x
        unfold x_X7_compared_j43
        exact x_need_n K
      refine x_value_ok h hT hq h1 (x_here_s hT q1T.2.2 b1' b2' b3 b4 (fun lt => ?_) (fun ge => ?_))
      · have hb := (b3 p lt).1
        exact br_f (fun y => z1 ⟨lt, sb_eq hb (by decide) (show sb (B p) = nI 60 from y)⟩) (br_f (fun y => z2 ⟨lt, sb_eq hb (by decide) (show sb (B p) = nI 61 from y)⟩) (br_f (fun y => z3 ⟨lt, sb_eq hb (by decide) (show sb (B p) = nI 62 from y)⟩) (j43 _)))
      · exact br_f (by decide) (br_f (by decide) (br_f (by decide) (j43 _)))
    · obtain ⟨a', b', k⟩ := x_value_bad (s := s) (J := J) (o := o) (a := a1) (b := b1) h hT (nq_le q1T.2.2).2 hb
      refine ⟨a', b', fun QX Q K => ?_⟩
      have j43 : x_X7_compared_j43 QX Q a1 b1 c 1 s rd J (NF T B I q1 o a1 b1) := by
        unfold x_X7_compared_j43 x_X7_need
        exact br_f (by decide) (x_next_n h hT q1T.2.2 (k _ _ K))
      unfold x_X7_compared x_X7_compared_j38
      refine x_value_ok h hT hq h1 (x_here_s hT q1T.2.2 b1' b2' b3 b4 (fun lt => ?_) (fun ge => ?_))
      · rcases hg with ⟨m, rfl, rfl⟩ | ⟨m, rfl, rfl⟩ | ⟨m, rfl, rfl⟩
        · rw [m.2]
          exact br_t rfl j43
        · rw [m.2]
          exact br_f (by decide) (br_t rfl j43)
        · rw [m.2]
          exact br_f (by decide) (br_f (by decide) (br_t rfl j43))
      · rcases hg with ⟨m, _⟩ | ⟨m, _⟩ | ⟨m, _⟩ <;> exact absurd m.1 ge
abbrev pfT : Type := Nat → xS → xRd → mJ → mI → cP → cP → Prop
/-- negations -/
theorem not_d {T q o n c k : Nat} {B : Nat → Nat} {s : xS} {rd : xRd} {J : mJ} {I : mI} {fz : Nat → Bool} {a b : Int32} {L : List Nat} {pf : pfT} (h : cR s rd fz I n c L) (hs : s.1 < 900000) :
    ∃ (c2 : Nat) (s2 : xS) (rd2 : xRd) (J2 : mJ) (I2 : mI) (fz2 : Nat → Bool), AF s rd J I fz s2 rd2 J2 I2 fz2 ∧ cR s2 rd2 fz2 I2 (n + k) c2 (L ++ rp k) ∧ s2.1 ≤ s.1 + k % 2 ∧ ∀ bb, k % 2 ≤ bb → ∀ QX Q : cP, Q c2 s2 rd2 J2 (NF T B I2 q o a b) → x_X7_one_j93 QX Q pf (nI (k % 2)) c bb s rd J (NF T B I q o a b) := by
  rcases (show k % 2 = 0 ∨ k % 2 = 1 by omega) with e | e
  · refine ⟨c, s, rd, J, I, fz, AF.rfl', ?_, by omega, fun bb hb QX Q K => ?_⟩
    · have z := h.nn (k / 2)
      rw [show 2 * (k / 2) = k by omega] at z
      exact z.le (by omega)
    · unfold x_X7_one_j93
      rw [e]
      exact br_t rfl K
  · have hn : AF s rd J I fz (xn s 18 1) (ur rd (133 + s.1) (fun _ => none)) (ur J (133 + s.1) (fun _ => 0)) (ur I (133 + s.1) (fun _ => 0)) (u1 fz (133 + s.1) true) := AF.new
    have hm : AF s rd J I fz (xn s 18 1) (u2 (ur rd (133 + s.1) (fun _ => none)) (133 + s.1) 0 (some c)) (ur J (133 + s.1) (fun _ => 0)) (ur I (133 + s.1) (fun _ => 0)) (u1 fz (133 + s.1) true) := hn.mod (fun r hr => ⟨by rw [u2r (show r ≠ 133 + s.1 by omega)], rfl, rfl, rfl⟩)
    refine ⟨133 + s.1, _, _, _, _, _, hm, ?_, by rw [e]; exact Nat.le_refl _, fun bb hb QX Q K => ?_⟩
    · have c1 : cR (xn s 18 1) (u2 (ur rd (133 + s.1) (fun _ => none)) (133 + s.1) 0 (some c)) (u1 fz (133 + s.1) true) (ur I (133 + s.1) (fun _ => 0)) (n + 1) (133 + s.1) (L ++ [7]) := by
        refine ⟨⟨by omega, by unfold u1; rw [if_pos rfl]⟩, .inr (.inr (.inl ⟨xo_new', c, L, ?_, rfl, h.to hm.old⟩))⟩
        rw [xR_d (xR0_out 0 (by omega)), u2_self]
      have z := c1.nn (k / 2)
      rw [List.append_assoc] at z
      have e2 : [7] ++ rp (2 * (k / 2)) = rp k := by
        show List.replicate (2 * (k / 2) + 1) 7 = _
        rw [show 2 * (k / 2) + 1 = k by omega]
      rw [e2] at z
      exact z.le (by omega)
    · unfold x_X7_one_j93
      rw [e]
      refine br_f (by decide) ⟨bb - 1, by omega, hs, fun v' s' rd' J' I' e1 e2 e3 e4 e5 => ?_⟩
      subst e1 e2 e3 e4 e5
      refine ⟨xo_new', xR0_out 0 (by omega), ?_⟩
      rw [NF_ur (show 133 + s.1 ≠ 93 by omega)]
      exact K
