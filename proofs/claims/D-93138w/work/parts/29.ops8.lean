set_option maxRecDepth 100000
set_option maxHeartbeats 4000000
/-! PLAIN LAW, operations 8: sheet, risk, yields -/
theorem xR_row {rd rd' : xRd} {r k : Nat} (h : rd' r = rd r) : xR rd' r k = xR rd r k := by
  unfold xR
  rw [h]
theorem xR121 {k q : Nat} (hk : k < 4) (hq : q < 4) : xR0 (121 + k) q = none := by
  rcases lt4 hk with rfl | rfl | rfl | rfl <;> rcases lt4 hq with rfl | rfl | rfl | rfl <;> rfl
theorem xo_new' {s : xS} {K L : Nat} : xo (xn s K L) (133 + s.1) K := xo_new s K L
theorem rS.new {s : xS} {rd : xRd} {fz : Nat → Bool} {J : mJ} {I : mI} {Jm Jm' : mJ} {Im Im' : mI} {k q n : Nat} (h : rS s rd fz J I Jm Im) (hk : k < 4) (hq : q < 4) (hn : n ≤ 40) (m26 : ∀ j, Im' 26 j = if j = k then nI q else Im 26 j) (m27 : ∀ j, Im' 27 j = if j = k then nI n else Im 27 j) (mj : ∀ j, Jm' 28 j = if 40 * k ≤ j ∧ j < 40 * k + 40 then 0 else Jm 28 j) :
    rS (xn s (ak q) n) (u2 (ur rd (133 + s.1) (fun _ => none)) (121 + k) q (some (133 + s.1))) (u1 fz (133 + s.1) false) (ur J (133 + s.1) (fun _ => 0)) (u2 (ur I (133 + s.1) (fun _ => 0)) (121 + k) 4 (nI q)) Jm' Im' := by
  obtain ⟨ar, ai, h2⟩ := h
  have w : ∀ j, j < 4 → (I (121 + j) 4 = -1 → False) → 133 ≤ ar j ∧ ar j < 133 + s.1 := by
    intro j hj e
    rcases h2 j hj with ⟨e1, _⟩ | ⟨_, _, _, _, _, _, _, _, e5, _, e7, _⟩
    · exact (e e1).elim
    · exact ⟨e7, e5.1⟩
  refine ⟨fun j => if j = k then 133 + s.1 else if I (121 + j) 4 = -1 then j else ar j, fun a b ha hb hab => ?_, fun j hj => ?_⟩
  · show (if a = k then 133 + s.1 else if I (121 + a) 4 = -1 then a else ar a) ≠ (if b = k then 133 + s.1 else if I (121 + b) 4 = -1 then b else ar b)
    by_cases ea : a = k
    · rw [if_pos ea, if_neg (by omega)]
      by_cases eb : I (121 + b) 4 = -1
      · rw [if_pos eb]; omega
      · rw [if_neg eb]; have := w b hb eb; omega
    · rw [if_neg ea]
      by_cases eb : b = k
      · rw [if_pos eb]
        by_cases ec : I (121 + a) 4 = -1
        · rw [if_pos ec]; omega
        · rw [if_neg ec]; have := w a ha ec; omega
      · rw [if_neg eb]
        by_cases ec : I (121 + a) 4 = -1
        · rw [if_pos ec]
          by_cases ed : I (121 + b) 4 = -1
          · rw [if_pos ed]; exact hab
          · rw [if_neg ed]; have := w b hb ed; omega
        · rw [if_neg ec]
          by_cases ed : I (121 + b) 4 = -1
          · rw [if_pos ed]; have := w a ha ec; omega
          · rw [if_neg ed]; exact ai a b ha hb hab
  · show _ ∨ ∃ q' n', _ ∧ _ ∧ _ ∧ _ ∧ _ ∧ xR _ (121 + j) q' = some (if j = k then 133 + s.1 else if I (121 + j) 4 = -1 then j else ar j) ∧ xo _ (if j = k then 133 + s.1 else if I (121 + j) 4 = -1 then j else ar j) (ak q') ∧ xlen _ (if j = k then 133 + s.1 else if I (121 + j) 4 = -1 then j else ar j) = n' ∧ 133 ≤ (if j = k then 133 + s.1 else if I (121 + j) 4 = -1 then j else ar j) ∧ u1 fz (133 + s.1) false (if j = k then 133 + s.1 else if I (121 + j) 4 = -1 then j else ar j) = false ∧ ∀ i, i < n' → Jm' 28 (40 * j + i) = if q' = 3 then ur J (133 + s.1) (fun _ => 0) (if j = k then 133 + s.1 else if I (121 + j) 4 = -1 then j else ar j) i else (u2 (ur I (133 + s.1) (fun _ => 0)) (121 + k) 4 (nI q) (if j = k then 133 + s.1 else if I (121 + j) 4 = -1 then j else ar j) i).toInt64
    rw [m26, m27]
    by_cases e : j = k
    · subst e
      rw [if_pos rfl, if_pos rfl, if_pos rfl]
      refine .inr ⟨q, n, hq, hn, u2_self _ _ _ _, rfl, rfl, ?_, xo_new', xlen_new, by omega, ?_, fun i hi => ?_⟩
      · rw [xR_d (xR121 hk hq), u2_self]
      · unfold u1; rw [if_pos rfl]
      · rw [mj, if_pos (by omega), u2r (by omega), ur_self, ur_self]
        split <;> rfl
    · rw [if_neg e, if_neg e, if_neg e, u2r (show 121 + j ≠ 121 + k by omega), ur_row (show 121 + j ≠ 133 + s.1 by omega)]
      rcases h2 j hj with f | ⟨q', n', f0, f1, f2, f3, f4, f5, f6, f7, f8, f9, f10⟩
      · exact .inl f
      · have ne : ¬ I (121 + j) 4 = -1 := by rw [f2]; exact m1_ne (by omega)
        rw [if_neg ne]
        have hne : ar j ≠ 133 + s.1 := by have := f6.1; omega
        refine .inr ⟨q', n', f0, f1, f2, f3, f4, ?_, xo_mono f6, ((old.new (rd := rd) (fz := fz) (I := I) (b := false)).kl f6).trans f7, f8, ?_, fun i hi => ?_⟩
        · refine (xR_row ?_).trans f5
          rw [u2r (by omega), ur_row (by omega)]
        · unfold u1; rw [if_neg hne]; exact f9
        · rw [mj, if_neg (by omega), ur_row hne, u2r (by omega), ur_row hne]
          exact f10 i hi
theorem m_sheet_lp {k : Nat} {I0 : mI} {J0 : mJ} {Q : Int32 → mI → mJ → Prop} (hk : k < 4) (h : ∀ J', (∀ r, r ≠ 28 → J' r = J0 r) → (∀ j, J' 28 j = if 40 * k ≤ j ∧ j < 40 * k + 40 then 0 else J0 28 j) → Q 1 I0 J') :
    ∀ n i J, 40 - i < n → i ≤ 40 → (∀ r, r ≠ 28 → J r = J0 r) → (∀ j, J 28 j = if 40 * k ≤ j ∧ j < 40 * k + i then 0 else J0 28 j) → m_sheet_l64 Q n (nI k) (nI i) I0 J := by
  intro n
  induction n with
  | zero => intro i J h1; omega
  | succ n ih =>
    intro i J h1 h2 g1 g2
    unfold m_sheet_l64
    refine pk_le 40 i (fun h3 => ?_) (fun h3 => ?_) rfl rfl (by decide) (by omega)
    · have e : i = 40 := by omega
      subst e
      exact h J g1 g2
    · rw [p40, nI_clamp (by omega), nI_1]
      refine ⟨vp_in_nI (by omega) (by decide), ih (i + 1) _ (by omega) (by omega) (fun r hr => (u2r hr).trans (g1 r hr)) (fun j => ?_)⟩
      by_cases e : j = 40 * k + i
      · rw [e, u2_self, if_pos (by omega)]
      · rw [u2_ne _ _ (Or.inr e), g2 j]
        by_cases e2 : 40 * k ≤ j ∧ j < 40 * k + i
        · rw [if_pos e2, if_pos (by omega)]
        · rw [if_neg e2, if_neg (by omega)]
theorem x_becomes_c {r q n : Nat} {s : xS} {rd : xRd} {J : mJ} {I : mI} {X : Nat → xS → xRd → mJ → mI → Prop} {Q : xS → xRd → mJ → mI → Prop} (hs : s.1 < 900000) (hr : r < 133) (ho : xo s r 10) (hq : q < 4) (hn : n ≤ 40) (h0 : ∀ q, q < 4 → xR0 r q = none)
    (h : Q (xn s (ak q) n) (u2 (ur rd (133 + s.1) (fun _ => none)) r q (some (133 + s.1))) (ur J (133 + s.1) (fun _ => 0)) (u2 (ur I (133 + s.1) (fun _ => 0)) r 4 (nI q))) : x_X10_becomes r (nI q) (nI n) s rd J I X Q := by
  unfold x_X10_becomes xnw
  have nn : ¬ nI n < 0 := nI_pos (by omega)
  rw [nI_clamp (by omega)]
  rcases lt4 hq with rfl | rfl | rfl | rfl
  · refine br_t (by decide) (br_f nn ⟨by omega, hs, ?_⟩)
    rintro _ _ _ _ _ rfl rfl rfl rfl rfl
    exact ⟨xo_mono ho, h0 _ (by decide), h⟩
  · refine br_f (by decide) (br_t (by decide) (br_f nn ⟨by omega, hs, ?_⟩))
    rintro _ _ _ _ _ rfl rfl rfl rfl rfl
    exact ⟨xo_mono ho, h0 _ (by decide), h⟩
  · refine br_f (by decide) (br_f (by decide) (br_t (by decide) (br_f nn ⟨by omega, hs, ?_⟩)))
    rintro _ _ _ _ _ rfl rfl rfl rfl rfl
    exact ⟨xo_mono ho, h0 _ (by decide), h⟩
  · refine br_f (by decide) (br_f (by decide) (br_f (by decide) (br_t (by decide) (br_f nn ⟨by omega, hs, ?_⟩))))
    rintro _ _ _ _ _ rfl rfl rfl rfl rfl
    exact ⟨xo_mono ho, h0 _ (by decide), h⟩
theorem x_becomes_neg {r q : Nat} {v : Int32} {s : xS} {rd : xRd} {J : mJ} {I : mI} {X : Nat → xS → xRd → mJ → mI → Prop} {Q : xS → xRd → mJ → mI → Prop} (hq : q < 4) (hv : v < 0) (h : X 4 s rd J I) : x_X10_becomes r (nI q) v s rd J I X Q := by
  unfold x_X10_becomes
  rcases lt4 hq with rfl | rfl | rfl | rfl
  · exact br_t (by decide) (br_t hv h)
  · exact br_f (by decide) (br_t (by decide) (br_t hv h))
  · exact br_f (by decide) (br_f (by decide) (br_t (by decide) (br_t hv h)))
  · exact br_f (by decide) (br_f (by decide) (br_f (by decide) (br_t (by decide) (br_t hv h))))
theorem x_becomes_m1 {r : Nat} {v : Int32} {s : xS} {rd : xRd} {J : mJ} {I : mI} {X : Nat → xS → xRd → mJ → mI → Prop} {Q : xS → xRd → mJ → mI → Prop} (ho : xo s r 10) (h : Q s rd J (u2 I r 4 (-1))) : x_X10_becomes r (-1) v s rd J I X Q := by
  unfold x_X10_becomes
  exact br_f (by decide) (br_f (by decide) (br_f (by decide) (br_f (by decide) ⟨ho, h⟩)))
theorem p_sheet {t : Nat} (ht : t ≤ 64) {a b v : Int32} {s : xS} {rd : xRd} {J : mJ} {I Im : mI} {Jm : mJ} (h : Rel t s rd J I Im Jm) : x_X0_sheet a b v s rd J I (fun r s' rd' J' I' => m_sheet a b v Im Jm (RelQ (t + 1) s' rd' J' I' r)) := by
  have no : ∀ z, RelQ (t + 1) s rd J I z z Im Jm := fun z => ⟨rfl, h.same⟩
  obtain ⟨h0, σ, fz, hS⟩ := h.opn
  unfold x_X0_sheet m_sheet
  refine x_isSheet_c (fun k hk e => br_f (by decide) ?_) (fun q => br_t rfl (m_isShelf_c (fun z => absurd z q) (fun _ => br_t rfl (no _))))
  subst e
  refine x_in_c (fun y => br_f (by decide) ?_) (fun y => br_t rfl (m_sh_c hk (br_f (by decide) (m_in_c (fun z => absurd z y) (fun _ => br_t rfl (no _))))))
  have vin : vp_in (nI k) 4 := vp_in_nI hk (by decide)
  obtain ⟨e, he, rfl⟩ := aI_in y
  unfold x_X0_sheet_j28
  rw [nI_clamp (by omega)]
  cases e with
  | zero =>
    rw [aI_0] at *
    refine br_t (by decide) ⟨vin, 121 + k, xR120 hk, xo121 hk, x_becomes_m1 (xo121 hk) ?_⟩
    refine m_sh_c hk (br_f (by decide) (m_in_c (fun _ => br_f (by decide) (br_t (by decide) ?_)) (fun z => absurd y z)))
    unfold m_sheet_j28 m_sheet_j39 m_sheet_j60
    rw [nI_clamp (by omega)]
    refine br_t (by decide) ⟨vin, br_f (by decide) ⟨vin, 41, ?_⟩⟩
    refine m_sheet_lp hk (fun J' g1 g2 => ⟨rfl, RelS.cls (hS.gen (old.rfl'.mod (fun r r1 r2 => ⟨rfl, rfl, fun _ => u2r (by omega)⟩)) (fun r hr => u2r (by omega)) (fun _ _ _ => rfl) (fun r hr => by rw [u2r (by omega), u2r (by omega)]) (g1 15 (by decide)) ?_ (hS.rH.to (fun r r1 r2 => u2r (by omega)) (fun r r1 r2 => by rw [u2r (by omega), u2r (by omega)]))) (by omega)⟩) 41 0 Jm (by omega) (by omega) (fun _ _ => rfl) (fun j => by rw [if_neg (by omega)])
    obtain ⟨ar, ai, h2⟩ := hS.rS
    refine ⟨ar, ai, fun k' hk' => ?_⟩
    by_cases ek : k' = k
    · subst ek
      exact .inl ⟨u2_self _ _ _ _, by rw [u2r (by decide), u2_self]⟩
    · rw [u2r (show 121 + k' ≠ 121 + k by omega), u2r (show 26 ≠ 27 by decide), u2_ne _ _ (Or.inr ek), u2_ne (i := 27) _ _ (Or.inr ek), u2r (show 27 ≠ 26 by decide)]
      rcases h2 k' hk' with f | ⟨q', n', f0, f1, f2, f3, f4, f5, f6, f7, f8, f9, f10⟩
      · exact .inl f
      · refine .inr ⟨q', n', f0, f1, f2, f3, f4, f5, f6, f7, f8, f9, fun i hi => ?_⟩
        rw [g2, if_neg (by omega), u2r (by omega)]
        exact f10 i hi
  | succ q =>
    rw [aI_s] at *
    have hq : q < 4 := by omega
    have nn : ¬ nI q < 0 := nI_pos (by omega)
    have nn' : (0 : Int32) ≤ nI q := nI_pos' (by omega)
    refine br_f nn (br_c (fun le => ?_) (fun nle => m_sh_c hk (br_f (by decide) (m_in_c (fun _ => br_f (by decide) (br_f nn (br_f nle (no _)))) (fun z => absurd y z)))))
    refine ⟨vin, 121 + k, xR120 hk, xo121 hk, ?_⟩
    by_cases neg : v < 0
    · refine x_becomes_neg hq neg ⟨rfl, m_sh_c hk (br_f (by decide) (m_in_c (fun _ => br_f (by decide) (br_f nn (br_t le ?_))) (fun z => absurd y z)))⟩
      unfold m_sheet_j28
      exact br_f nn (br_f (Int32.not_le.mpr neg) (no _))
    · obtain ⟨n, _, hn, rfl⟩ := in_of (lo := 0) (hi := 40) (by decide) (by decide) ⟨Int32.not_lt.mp neg, le⟩
      refine x_becomes_c (by omega) (by omega) (xo121 hk) hq hn (fun q hq => xR121 hk hq) ?_
      refine m_sh_c hk (br_f (by decide) (m_in_c (fun _ => br_f (by decide) (br_f nn (br_t le ?_))) (fun z => absurd y z)))
      have ho : old s rd fz I (xn s (ak q) n) (u2 (ur rd (133 + s.1) (fun _ => none)) (121 + k) q (some (133 + s.1))) (u1 fz (133 + s.1) false) (u2 (ur I (133 + s.1) (fun _ => 0)) (121 + k) 4 (nI q)) := old.new.mod (fun r r1 r2 => ⟨u2r (by omega), rfl, fun _ => u2r (by omega)⟩)
      unfold m_sheet_j28 m_sheet_j39 m_sheet_j60
      rw [nI_clamp (by omega)]
      refine br_f nn (br_t (nI_pos' (by omega)) ⟨vin, br_t nn' ⟨vin, 41, ?_⟩⟩)
      refine m_sheet_lp hk (fun J' g1 g2 => ⟨rfl, RelS.cls (hS.gen ho (fun r hr => by rw [u2r (by omega), ur_row (by omega)]) (fun r i hr => xR_row (by rw [u2r (by omega), ur_row (by omega)])) (fun r hr => by rw [u2r (by omega), u2r (by omega)]) (g1 15 (by decide)) (hS.rS.new hk hq hn (fun j => ?_) (fun j => ?_) g2) (hS.rH.old ho (fun r r1 r2 => by rw [u2r (by omega), ur_row (by omega)]) (fun r i r1 r2 => xR_row (by rw [u2r (by omega), ur_row (by omega)])) (fun r r1 r2 => by rw [u2r (by omega), u2r (by omega)]))) (by show s.1 + 1 ≤ _; omega)⟩) 41 0 Jm (by omega) (by omega) (fun _ _ => rfl) (fun j => by rw [if_neg (by omega)])
      · rw [u2r (by decide)]
        by_cases e : j = k
        · rw [e, u2_self, if_pos rfl]
        · rw [u2_ne _ _ (Or.inr e), if_neg e]
      · by_cases e : j = k
        · rw [e, u2_self, if_pos rfl]
        · rw [u2_ne _ _ (Or.inr e), if_neg e, u2r (by decide)]
