set_option maxRecDepth 100000
set_option maxHeartbeats 4000000
/-! PLAIN LAW, operations 37: read -/
/-- a clause read -/
def wOK (Wp : cW) (T : Nat) (B : Nat → Nat) (I0 : mI) (J0 : mJ) (W : WT) (n qu q : Nat) (F : List Nat) (s : xS) (rd : xRd) (J : mJ) (I : mI) (fz : Nat → Bool) : Prop := ∃ (q' u m e v cd : Nat) (L : List Nat) (s' : xS) (rd' : xRd) (J' : mJ) (I' : mI) (fz' : Nat → Bool) (a' b' : Int32), AF s rd J I fz s' rd' J' I' fz' ∧ (xo s' v 16 ∧ 133 ≤ v ∧ fz' v = true ∧ I' v 0 = aI e ∧ e < 5 ∧ xR rd' v 1 = some cd ∧ m ≤ 100 ∧ cR s' rd' fz' I' m cd L) ∧ q < q' ∧ q' ≤ T ∧ u ≤ q' - qu ∧ s'.1 ≤ s.1 + u ∧ F.length + L.length ≤ q' ∧ n < 6 ∧
  gR T B (u2 (u2 I0 22 n (nI (F ++ L).length)) 23 n (aI e)) J0 W (n + 1) q' (F ++ L) ∧ ∀ bb, u ≤ bb → ∀ QX Q : cP, Q v s' rd' J' (NF T B I' q' 0 a' b') → Wp bb QX Q
theorem j41_d {T q n e : Nat} {B : Nat → Nat} {I0 : mI} {J0 : mJ} {W : WT} {F : List Nat} {s : xS} {rd : xRd} {J : mJ} {I : mI} {fz : Nat → Bool} {a b a3 : Int32} (hT : T ≤ 200) (hq : q ≤ T) (hx : xb T B rd I) (hs : s.1 + 1 ≤ 500000 + q) (hn : n < 6) (he : e < 5) (ea : a3 = aI e) (hl : F.length ≤ q) (hw : gW T B I0 J0 (kR n a3) W 0 1 q F []) :
    wOK (fun bb QX Q => x_X7_whole_j41 QX Q a3 bb s rd J (NF T B I q 0 a b)) T B I0 J0 W n (q - 1) q F s rd J I fz ∨ (∃ (p u : Nat) (s' : xS) (rd' : xRd) (J' : mJ) (I' : mI) (fz' : Nat → Bool) (o' : Nat) (a' b' : Int32), AF s rd J I fz s' rd' J' I' fz' ∧ p ≤ T ∧ u ≤ T - q + 2 ∧ s'.1 ≤ s.1 + u ∧ gRF T I0 J0 W p ∧ ∀ bb, u ≤ bb → ∀ QX Q : cP, QX 2 s' rd' J' (FH T B I' p o' a' b') → x_X7_whole_j41 QX Q a3 bb s rd J (NF T B I q 0 a b)) := by
  have hn1 : AF s rd J I fz (xn s 16 2) (ur rd (133 + s.1) (fun _ => none)) (ur J (133 + s.1) (fun _ => 0)) (ur I (133 + s.1) (fun _ => 0)) (u1 fz (133 + s.1) false) := AF.new
  have go : ∀ {QX Q : cP} {bb b1 b2 : Nat}, bb = b1 + b2 + 1 → x_X7_cond 5 b1 (xn s 16 2) (ur rd (133 + s.1) (fun _ => none)) (ur J (133 + s.1) (fun _ => 0)) (NF T B (ur I (133 + s.1) (fun _ => 0)) q 0 a b) (fun c26 s22 rd23 J24 I25 => QX c26 s22 rd23 J24 I25) (fun r21 s17 rd18 J19 I20 => xo s17 (133 + s.1) 16 ∧ (x_X16_init (133 + s.1) a3 r21 s17 rd18 J19 I20 (fun rd27 I28 => x_X7_must 12 s17 rd27 J19 I28 (fun c32 I31 => QX c32 s17 rd27 J19 I31) (fun I30 => Q (133 + s.1) s17 rd27 J19 I30)))) → x_X7_whole_j41 QX Q a3 bb s rd J (NF T B I q 0 a b) := by
    intro QX Q bb b1 b2 hb hh
    unfold x_X7_whole_j41
    refine ⟨b1 + b2, hb, by omega, fun v' s' rd' J' I' e1 e2 e3 e4 e5 => ?_⟩
    subst e1 e2 e3 e4 e5
    rw [NF_ur (show 133 + s.1 ≠ 93 by omega)]
    exact ⟨b1, b2, rfl, hh⟩
  rcases cond_d (T := T) (B := B) (I0 := I0) (J0 := J0) (kk := kR n a3) (W := W) hT 5 0 (by decide) (by decide) q F [] (xn s 16 2) (ur rd (133 + s.1) (fun _ => none)) (ur J (133 + s.1) (fun _ => 0)) (ur I (133 + s.1) (fun _ => 0)) (u1 fz (133 + s.1) false) a b (hn1.xb hx) hq (by show s.1 + 1 ≤ _; omega) (.inl rfl) (by show F.length + 0 ≤ q; omega) hw with ⟨q3, n2, cd, u2', L2, s2, rd2, J2, I2, fz2, a2, b2, h1, h2, h3, h4, h5, h6, h7, h8, ⟨L', R, p0, p1, p2, p3, p3', p4⟩, h10⟩ | ⟨p, u, s', rd', J', I', fz', o', a', b', h1, h2, h3, h4, h5, h6⟩
  · have h8' : s2.1 ≤ s.1 + 1 + u2' := h8
    have p4' : F.length + L'.length + 0 + R.length ≤ q3 := p4
    have hv : fz2 (133 + s.1) = false := by
      rw [(h1.2.2 (133 + s.1) (by show 133 + s.1 < 133 + (s.1 + 1); omega)).2.2.2]
      unfold u1
      rw [if_pos rfl]
    have ft : oF s2 rd2 fz2 I2 s2 (u2 rd2 (133 + s.1) 1 (some cd)) (u1 fz2 (133 + s.1) true) (u2 I2 (133 + s.1) 0 a3) := by
      refine ⟨Nat.le_refl _, fun _ _ => rfl, fun r _ _ hf => ?_⟩
      have ne : r ≠ 133 + s.1 := fun e => by rw [e, hv] at hf; exact absurd hf (by decide)
      refine ⟨u2r ne, ?_, u2r ne⟩
      unfold u1
      rw [if_neg ne]
      exact hf
    have af : AF s rd J I fz s2 (u2 rd2 (133 + s.1) 1 (some cd)) J2 (u2 I2 (133 + s.1) 0 a3) (u1 fz2 (133 + s.1) true) := (hn1.trans h1).mod (fun r hr => by
      have ne : r ≠ 133 + s.1 := by omega
      refine ⟨u2r ne, rfl, u2r ne, ?_⟩
      unfold u1
      rw [if_neg ne])
    have x16 : xo s2 (133 + s.1) 16 := h1.old.ko xo_new'
    have lL : (F ++ L').length = F.length + L'.length := List.length_append
    have hE := s_end hT h4 (by rw [lL]; show F.length + L'.length + 0 + R.length ≤ q3; omega) (.inl rfl) p1 p3 p3' p2
    rw [List.append_assoc, ← p0] at hE
    have mu : ∀ {QX Q : cP} {bb : Nat}, u2' + 1 ≤ bb → x_X7_must 12 s2 (u2 rd2 (133 + s.1) 1 (some cd)) J2 (NF T B (u2 I2 (133 + s.1) 0 a3) q3 0 a2 b2) (fun c32 I31 => QX c32 s2 (u2 rd2 (133 + s.1) 1 (some cd)) J2 I31) (fun I30 => Q (133 + s.1) s2 (u2 rd2 (133 + s.1) 1 (some cd)) J2 I30) → x_X7_whole_j41 QX Q a3 bb s rd J (NF T B I q 0 a b) := by
      intro QX Q bb hb hh
      refine go (b1 := u2') (b2 := bb - 1 - u2') (by omega) (h10 u2' (Nat.le_refl _) _ _ ⟨x16, x16, xR0_out 1 (by omega), ?_⟩)
      rw [NF_u2 (show 133 + s.1 ≠ 93 by omega)]
      exact hh
    by_cases w59 : mq T q3 B 59
    · have n1 := nq_mark w59
      have hR := r_semi hT h4 hn w59 hE
      left
      refine ⟨nq T B q3, 1 + u2', n2, e, 133 + s.1, cd, L2, s2, _, J2, _, _, a2, b2, af, ⟨x16, by omega, by unfold u1; rw [if_pos rfl], by rw [u2_self, ea], he, by rw [xR_d (xR0_out 1 (by omega)), u2_self], by omega, h2.toF ft⟩, by omega, n1.2, by omega, by omega, by rw [p0, List.length_append]; omega, hn, ?_, fun bb hb QX Q K => mu (by omega) (x_must_n (af.xb hx) hT h4 (by decide) (fun _ => K) (fun z => absurd ((mark_wq (m := 59) rfl rfl rfl h4).mpr w59) z))⟩
      rw [← ea]
      exact hR
    · right
      exact ⟨q3, 1 + u2', s2, _, J2, _, _, 0, a2, b2, af, h4, by omega, by omega, r_semi_f hT h4 w59 hE, fun bb hb QX Q K => mu (by omega) (x_must_n (af.xb hx) hT h4 (by decide) (fun z => absurd ((mark_wq (m := 59) rfl rfl rfl h4).mp z) w59) (fun _ => K))⟩
  · right
    have h4' : s'.1 ≤ s.1 + 1 + u := h4
    exact ⟨p, 1 + u, s', rd', J', I', fz', o', a', b', hn1.trans h1, h2, by omega, by omega, h5.rf hT, fun bb hb QX Q K => go (b1 := u) (b2 := bb - 1 - u) (by omega) (h6 u (Nat.le_refl _) _ _ K)⟩
theorem whole_d {T q n : Nat} {B : Nat → Nat} {I0 : mI} {J0 : mJ} {W : WT} {F : List Nat} {s : xS} {rd : xRd} {J : mJ} {I : mI} {fz : Nat → Bool} {a b : Int32} (hT : T ≤ 200) (lt : q < T) (hx : xb T B rd I) (hs : s.1 ≤ 500000 + q) (hn : n ≤ 6) (h8 : I 93 8 = nI n) (hl : F.length ≤ q) (hR : gR T B I0 J0 W n q F) :
    wOK (fun bb QX Q => x_X7_whole bb s rd J (NF T B I q 0 a b) QX Q) T B I0 J0 W n q q F s rd J I fz ∨ (∃ (p u : Nat) (s' : xS) (rd' : xRd) (J' : mJ) (I' : mI) (fz' : Nat → Bool) (o' : Nat) (a' b' : Int32), AF s rd J I fz s' rd' J' I' fz' ∧ p ≤ T ∧ u ≤ T - q + 2 ∧ s'.1 ≤ s.1 + u ∧ gRF T I0 J0 W p ∧ ∀ bb, u ≤ bb → ∀ QX Q : cP, QX 2 s' rd' J' (FH T B I' p o' a' b') → x_X7_whole bb s rd J (NF T B I q 0 a b) QX Q) := by
  have hq : q ≤ T := by omega
  have e8 : NF T B I q 0 a b 93 8 = nI n := h8
  have st1 : n < 6 → ∀ {QX Q : cP} {bb : Nat}, x_X7_may 6 s rd J (NF T B I q 0 a b) (fun r6 I5 => (r6 = 0 →
      x_X7_must 7 s rd J I5 (fun c35 I34 => QX c35 s rd J I34) (fun I33 => x_X7_number 3 s rd J I33 (fun c39 I38 => QX c39 s rd J I38) (fun r37 I36 => x_X7_whole_j41 QX Q r37 bb s rd J I36))) ∧ (¬ r6 = 0 →
      x_X7_whole_j41 QX Q (-1) bb s rd J I5)) → x_X7_whole bb s rd J (NF T B I q 0 a b) QX Q := by
    intro h6 QX Q bb hh
    unfold x_X7_whole x_X7_whole_j15 x_X7_need
    rw [e8]
    exact br_f (nI_ge (b := 6) h6 (by decide)) (br_f (by decide) hh)
  by_cases c6 : n = 6
  · right
    refine ⟨q, 0, s, rd, J, I, fz, 0, a, b, AF.rfl', hq, Nat.zero_le _, by omega, r_none hT lt hn (.inl c6) hR, fun bb _ QX Q K => ?_⟩
    unfold x_X7_whole x_X7_whole_j15
    rw [e8, c6]
    exact br_t (by decide) (x_need_n K)
  · have n6 : n < 6 := by omega
    by_cases wf : wq T q B (wd 6)
    · have g4 : q + 4 ≤ nq T B q := nq_word hq wf
      have gT := (nq_le (B := B) hq).2
      rcases j41_d (s := s) (q := nq T B q) (e := 0) (a3 := -1) (a := a) (b := b) (fz := fz) (J := J) hT gT hx (by omega) n6 (by decide) rfl (by omega) (r_feed hT hq n6 wf hR) with ⟨q', u, m, e, v, cd, L, s', rd', J', I', fz', a', b', k1, k2, k3, k4, k5, k6, k7, kn, k8, k9⟩ | ⟨p, u, s', rd', J', I', fz', o', a', b', k1, k2, k3, k4, k5, k6⟩
      · exact .inl ⟨q', u, m, e, v, cd, L, s', rd', J', I', fz', a', b', k1, k2, by omega, k4, by omega, k6, k7, kn, k8, fun bb hb QX Q K => st1 n6 (x_may_n hx hT hq (by decide) (fun _ => br_f (by decide) (k9 bb hb QX Q K)) (fun z => absurd wf z))⟩
      · exact .inr ⟨p, u, s', rd', J', I', fz', o', a', b', k1, k2, by omega, k4, k5, fun bb hb QX Q K => st1 n6 (x_may_n hx hT hq (by decide) (fun _ => br_f (by decide) (k6 bb hb QX Q K)) (fun z => absurd wf z))⟩
    · by_cases wg : wq T q B (wd 7)
      · have g2 : q + 2 ≤ nq T B q := nq_word hq wg
        have gT := (nq_le (B := B) hq).2
        by_cases n3 : nOK T (nq T B q) B 3
        · have g3 := nq_gt (B := B) (kd_2 n3.1).1
          rcases j41_d (s := s) (q := nq T B (nq T B q)) (e := nv T (nq T B q) B + 1) (a3 := nI (nv T (nq T B q) B)) (a := a) (b := b) (fz := fz) (J := J) hT g3.2 hx (by omega) n6 (by have := n3.2.2; omega) (aI_s _).symm (by omega) (r_go hT hq n6 wg n3 hR) with ⟨q', u, m, e, v, cd, L, s', rd', J', I', fz', a', b', k1, k2, k3, k4, k5, k6, k7, kn, k8, k9⟩ | ⟨p, u, s', rd', J', I', fz', o', a', b', k1, k2, k3, k4, k5, k6⟩
          · exact .inl ⟨q', u, m, e, v, cd, L, s', rd', J', I', fz', a', b', k1, k2, by omega, k4, by omega, k6, k7, kn, k8, fun bb hb QX Q K => st1 n6 (x_may_n hx hT hq (by decide) (fun z => absurd z wf) (fun _ => br_t rfl (x_must_n hx hT hq (by decide) (fun _ => x_number_n (mx := 3) hx hT gT (by decide) (fun _ => k9 bb hb QX Q K) (fun z => absurd n3 z)) (fun z => absurd wg z))))⟩
          · exact .inr ⟨p, u, s', rd', J', I', fz', o', a', b', k1, k2, by omega, k4, k5, fun bb hb QX Q K => st1 n6 (x_may_n hx hT hq (by decide) (fun z => absurd z wf) (fun _ => br_t rfl (x_must_n hx hT hq (by decide) (fun _ => x_number_n (mx := 3) hx hT gT (by decide) (fun _ => k6 bb hb QX Q K) (fun z => absurd n3 z)) (fun z => absurd wg z))))⟩
        · right
          exact ⟨nq T B q, 0, s, rd, J, I, fz, 0, a, b, AF.rfl', gT, Nat.zero_le _, by omega, r_go_f hT hq n6 wg n3 hR, fun bb _ QX Q K => st1 n6 (x_may_n hx hT hq (by decide) (fun z => absurd z wf) (fun _ => br_t rfl (x_must_n hx hT hq (by decide) (fun _ => x_number_n (mx := 3) hx hT gT (by decide) (fun z => absurd z n3) (fun _ => K)) (fun z => absurd wg z))))⟩
      · right
        exact ⟨q, 0, s, rd, J, I, fz, 0, a, b, AF.rfl', hq, Nat.zero_le _, by omega, r_none hT lt hn (.inr ⟨wf, wg⟩) hR, fun bb _ QX Q K => st1 n6 (x_may_n hx hT hq (by decide) (fun z => absurd z wf) (fun _ => br_t rfl (x_must_n hx hT hq (by decide) (fun z => absurd z wg) (fun _ => K))))⟩
/-- the class's start, but for the reader's rows -/
def BF (s0 : xS) (rd0 : xRd) (J0 : mJ) (I0 : mI) (fz0 : Nat → Bool) (s : xS) (rd : xRd) (J : mJ) (I : mI) (fz : Nat → Bool) : Prop := s0.1 ≤ s.1 ∧ (∀ r, r < 133 + s0.1 → xK s.2.1 r = xK s0.2.1 r ∧ xL s.2.2 r = xL s0.2.2 r) ∧ ∀ r, r < 133 + s0.1 → (r ≠ 96 → rd r = rd0 r) ∧ J r = J0 r ∧ (r ≠ 93 → I r = I0 r) ∧ fz r = fz0 r
theorem BF.af {s0 s s' : xS} {rd0 rd rd' : xRd} {J0 J J' : mJ} {I0 I I' : mI} {fz0 fz fz' : Nat → Bool} (h : BF s0 rd0 J0 I0 fz0 s rd J I fz) (g : AF s rd J I fz s' rd' J' I' fz') : BF s0 rd0 J0 I0 fz0 s' rd' J' I' fz' := by
  have l := h.1
  refine ⟨Nat.le_trans h.1 g.1, fun r hr => ?_, fun r hr => ?_⟩
  · have a := h.2.1 r hr
    have b := g.2.1 r (by omega)
    exact ⟨b.1.trans a.1, b.2.trans a.2⟩
  · have a := h.2.2 r hr
    have b := g.2.2 r (by omega)
    exact ⟨fun e => b.1.trans (a.1 e), b.2.1.trans a.2.1, fun e => b.2.2.1.trans (a.2.2.1 e), b.2.2.2.trans a.2.2.2⟩
def cb (E : Nat → Nat) (c : Nat) : Nat := if c = 0 then 0 else E (c - 1)
def sg (E : Nat → Nat) (F : List Nat) (c : Nat) : List Nat := (List.range' (cb E c) (E c - cb E c)).map (fun i => F.getD i 0)
def XI (n : Nat) (E e : Nat → Nat) (F : List Nat) (s : xS) (rd : xRd) (I : mI) (fz : Nat → Bool) : Prop := ∀ c, c < n → cb E c ≤ E c ∧ E c ≤ F.length ∧ e c < 5 ∧ ∃ o cd, xR rd 96 c = some o ∧ xo s o 16 ∧ 133 ≤ o ∧ fz o = true ∧ I o 0 = aI (e c) ∧ xR rd o 1 = some cd ∧ ∃ m, m ≤ 100 ∧ cR s rd fz I m cd (sg E F c)
theorem sg_app {E : Nat → Nat} {F L : List Nat} {c : Nat} (h : E c ≤ F.length) : sg E (F ++ L) c = sg E F c := by
  unfold sg
  apply List.map_congr_left
  intro i hi
  have z := List.mem_range'_1.mp hi
  exact getD_app_l (by omega)
theorem sg_new {F L : List Nat} : (List.range' F.length L.length).map (fun i => (F ++ L).getD i 0) = L := by
  apply list_ext_getD
  · rw [List.length_map, List.length_range']
  · intro i hi
    rw [List.length_map, List.length_range'] at hi
    rw [List.getD_eq_getElem?_getD, List.getElem?_map, List.getElem?_range' hi]
    show (F ++ L).getD (F.length + 1 * i) 0 = _
    rw [List.getD_eq_getElem?_getD, List.getElem?_append_right (by omega), List.getD_eq_getElem?_getD, show F.length + 1 * i - F.length = i by omega]
theorem XI.af {n : Nat} {E e : Nat → Nat} {F : List Nat} {s s' : xS} {rd rd' : xRd} {J J' : mJ} {I I' : mI} {fz fz' : Nat → Bool} (h : XI n E e F s rd I fz) (g : AF s rd J I fz s' rd' J' I' fz') : XI n E e F s' rd' I' fz' := by
  intro c hc
  obtain ⟨a1, a2, a3, o, cd, b1, b2, b3, b4, b5, b6, m, b7, b8⟩ := h c hc
  have z := g.2.2 o b2.1
  exact ⟨a1, a2, a3, o, cd, (xR_row (g.2.2 96 (by omega)).1).trans b1, g.old.ko b2, b3, z.2.2.2.trans b4, by rw [z.2.2.1]; exact b5, (xR_row z.1).trans b6, m, b7, b8.to g.old⟩
theorem NF_8 {T : Nat} {B : Nat → Nat} {I : mI} {q o : Nat} {a b v : Int32} : u2 (NF T B I q o a b) 93 8 v = NF T B (u2 I 93 8 v) q o a b := by
  funext r k
  by_cases er : r = 93
  · subst er
    by_cases ek : k = 8
    · subst ek
      rw [u2_self]
      unfold NF
      rw [if_pos rfl, if_neg (by decide), if_neg (by decide), if_neg (by decide), if_neg (by decide), if_neg (by decide), u2_self]
    · rw [u2_ne _ _ (Or.inr ek)]
      unfold NF
      rw [if_pos rfl, if_pos rfl, u2_ne _ _ (Or.inr ek)]
  · rw [u2r er, NF_r er, NF_r er, u2r er]
theorem read_lp {T : Nat} {B : Nat → Nat} {Im0 : mI} {Jm0 : mJ} {W : WT} {s0 : xS} {rd0 : xRd} {J0 : mJ} {I0 : mI} {fz0 : Nat → Bool} {QX : cP} {Q : xS → xRd → mJ → mI → Prop} (hT : T ≤ 200) (hs0 : s0.1 ≤ 400000)
    (KX : ∀ (p : Nat) (s' : xS) (rd' : xRd) (J' : mJ) (I' : mI) (fz' : Nat → Bool) (o' : Nat) (a' b' : Int32) (Ie : mI), BF s0 rd0 J0 I0 fz0 s' rd' J' I' fz' → (∀ i, i < 6 → ∀ y, xR rd' 96 i = some y → xo s' y 16) → p ≤ T → s'.1 ≤ s0.1 + 300 → (∀ r, r ≠ 22 → r ≠ 23 → Ie r = Im0 r) → gRF T Ie Jm0 W p → QX 2 s' rd' J' (FH T B I' p o' a' b'))
    (KQ : ∀ (n : Nat) (E e : Nat → Nat) (F : List Nat) (s' : xS) (rd' : xRd) (J' : mJ) (I' : mI) (fz' : Nat → Bool) (a' b' : Int32) (Ie : mI), BF s0 rd0 J0 I0 fz0 s' rd' J' I' fz' → (∀ i, i < 6 → ∀ y, xR rd' 96 i = some y → xo s' y 16) → XI n E e F s' rd' I' fz' → n ≤ 6 → I' 93 8 = nI n → F.length ≤ 200 → s'.1 ≤ s0.1 + 300 → (∀ r, r ≠ 22 → r ≠ 23 → Ie r = Im0 r) → (∀ c, c < n → Ie 22 c = nI (E c) ∧ Ie 23 c = aI (e c)) → gR T B Ie Jm0 W n T F → Q s' rd' J' (NF T B I' T 0 a' b')) :
    ∀ m q n (E e : Nat → Nat) (F : List Nat) (s : xS) (rd : xRd) (J : mJ) (I : mI) (fz : Nat → Bool) (a b : Int32) (Ie : mI) (bb : Nat), T - q < m → q ≤ T → BF s0 rd0 J0 I0 fz0 s rd J I fz → (∀ i, i < 6 → ∀ y, xR rd 96 i = some y → xo s y 16) → XI n E e F s rd I fz → n ≤ 6 → I 93 8 = nI n → cb E n = F.length → F.length ≤ q → s.1 ≤ s0.1 + q → xb T B rd I → (∀ r, r ≠ 22 → r ≠ 23 → Ie r = Im0 r) → (∀ c, c < n → Ie 22 c = nI (E c) ∧ Ie 23 c = aI (e c)) → gR T B Ie Jm0 W n q F → T - q + 3 ≤ bb → ∃ n0, x_X7_read_l29 QX Q n0 bb s rd J (NF T B I q 0 a b) := by
  intro m
  induction m with
  | zero => intro q n E e F s rd J I fz a b Ie bb g; exact absurd g (Nat.not_lt_zero _)
  | succ m ih =>
    intro q n E e F s rd J I fz a b Ie bb g1 hq hB h96 hX hn h8 hE hl hs hx hf hI hR hb
    by_cases lt : q < T
    · have st : ∀ {b4 b5 n0 : Nat}, bb = b4 + b5 → x_X7_whole b4 s rd J (NF T B I q 0 a b) (fun c15 s11 rd12 J13 I14 => QX c15 s11 rd12 J13 I14) (fun r10 s6 rd7 J8 I9 => vp_in (if n = 6 then 0 else nI n) 6 ∧ (xo s6 r10 16 ∧ (xR0 96 (if n = 6 then (0 : Int32) else nI n).toNatClampNeg = none ∧ (x_X7_read_l29 QX Q n0 b5 s6 (u2 rd7 96 (if n = 6 then (0 : Int32) else nI n).toNatClampNeg (some r10)) J8 (u2 I9 93 8 ((I9 93 8) + 1)))))) → ∃ n0, x_X7_read_l29 QX Q n0 bb s rd J (NF T B I q 0 a b) := by
        intro b4 b5 n0 hb4 hh
        refine ⟨n0 + 1, ?_⟩
        unfold x_X7_read_l29 x_X7_read_j61
        rw [show NF T B I q 0 a b 93 4 = nI T from hx.2.1, show NF T B I q 0 a b 93 5 = nI q from rfl, show NF T B I q 0 a b 93 8 = nI n from h8]
        refine br_f (nI_ge lt (by omega)) ?_
        by_cases c6 : n = 6
        · rw [if_pos c6] at hh
          exact br_t (by rw [c6]; decide) ⟨b4, b5, hb4, hh⟩
        · rw [if_neg c6] at hh
          exact br_f (nI_ge (b := 6) (by omega) (by decide)) ⟨b4, b5, hb4, hh⟩
      rcases whole_d (s := s) (a := a) (b := b) (fz := fz) (J := J) hT lt hx (by omega) hn h8 hl hR with ⟨q', u, mm, e', v, cd, L, s', rd', J', I', fz', a', b', k1, ⟨y1, y2, y3, y4, y5, y6, y7, y8⟩, k3, k4, k5, k6, k7, nlt, k8, k9⟩ | ⟨p, u, s', rd', J', I', fz', o', a', b', k1, k2, k3, k4, k5, k6⟩
      · have n96 : ∀ k, xR0 96 k = none := fun k => rfl
        have ft : oF s' rd' fz' I' s' (u2 rd' 96 n (some v)) fz' (u2 I' 93 8 (nI (n + 1))) := ⟨Nat.le_refl _, fun _ _ => rfl, fun r r1 _ hfz => ⟨u2r (by omega), hfz, u2r (by omega)⟩⟩
        have lF : (F ++ L).length = F.length + L.length := List.length_append
        obtain ⟨E', hE'⟩ : ∃ E' : Nat → Nat, E' = fun c => if c = n then F.length + L.length else E c := ⟨_, rfl⟩
        obtain ⟨f', hf'⟩ : ∃ f' : Nat → Nat, f' = fun c => if c = n then e' else e c := ⟨_, rfl⟩
        have En : E' n = F.length + L.length := by rw [hE']; exact if_pos rfl
        have Ec : ∀ c, c ≠ n → E' c = E c := fun c h => by rw [hE']; exact if_neg h
        have fn : f' n = e' := by rw [hf']; exact if_pos rfl
        have fc : ∀ c, c ≠ n → f' c = e c := fun c h => by rw [hf']; exact if_neg h
        have cbc : ∀ c, c ≤ n → cb E' c = cb E c := by
          intro c hc
          unfold cb
          by_cases c0 : c = 0
          · rw [if_pos c0, if_pos c0]
          · rw [if_neg c0, if_neg c0, Ec _ (by omega)]
        have hX' : XI (n + 1) E' f' (F ++ L) s' (u2 rd' 96 n (some v)) (u2 I' 93 8 (nI (n + 1))) fz' := by
          intro c hc
          by_cases ec : c = n
          · subst ec
            rw [cbc c (Nat.le_refl _), hE, En, fn]
            refine ⟨by omega, by rw [lF]; omega, y5, v, cd, ?_, y1, y2, y3, ?_, ?_, mm, y7, ?_⟩
            · rw [xR_d (n96 c), u2_self]
            · rw [u2r (by omega)]; exact y4
            · exact (xR_row (u2r (by omega))).trans y6
            · have e1 : sg E' (F ++ L) c = L := by
                unfold sg
                rw [cbc c (Nat.le_refl _), hE, En, show F.length + L.length - F.length = L.length by omega]
                exact sg_new
              rw [e1]
              exact y8.toF ft
          · have hcn : c < n := by omega
            obtain ⟨a1, a2, a3, o, cd', b1, b2, b3, b4, b5, b6, m', b7, b8⟩ := hX.af k1 c hcn
            rw [cbc c (by omega), Ec c ec, fc c ec]
            refine ⟨a1, by rw [lF]; omega, a3, o, cd', ?_, b2, b3, b4, ?_, ?_, m', b7, ?_⟩
            · rw [xR_d (n96 c), u2_ne _ _ (Or.inr ec), ← xR_d (rd := rd') (n96 c)]; exact b1
            · rw [u2r (by omega)]; exact b5
            · exact (xR_row (u2r (by omega))).trans b6
            · have e1 : sg E' (F ++ L) c = sg E F c := by
                rw [sg_app (by rw [Ec c ec]; exact a2)]
                unfold sg
                rw [cbc c (by omega), Ec c ec]
              rw [e1]
              exact b8.toF ft
        have hB' : BF s0 rd0 J0 I0 fz0 s' (u2 rd' 96 n (some v)) J' (u2 I' 93 8 (nI (n + 1))) fz' := by
          have z := hB.af k1
          refine ⟨z.1, z.2.1, fun r hr => ?_⟩
          have w := z.2.2 r hr
          exact ⟨fun h => by rw [u2r h]; exact w.1 h, w.2.1, fun h => by rw [u2r h]; exact w.2.2.1 h, w.2.2.2⟩
        have h96' : ∀ i, i < 6 → ∀ y, xR (u2 rd' 96 n (some v)) 96 i = some y → xo s' y 16 := by
          intro i hi y hy
          rw [xR_d (n96 i)] at hy
          by_cases ei : i = n
          · rw [ei, u2_self] at hy
            rw [← Option.some.inj hy]
            exact y1
          · rw [u2_ne _ _ (Or.inr ei), ← xR_d (rd := rd') (n96 i)] at hy
            exact k1.old.ko (h96 i hi y (by rw [← xR_row (k1.2.2 96 (by omega)).1]; exact hy))
        have hx' : xb T B (u2 rd' 96 n (some v)) (u2 I' 93 8 (nI (n + 1))) := by
          obtain ⟨z1, z2, z3, z4⟩ := k1.xb hx
          exact ⟨(xR_row (u2r (by decide))).trans z1, by rw [u2_ne _ _ (Or.inr (by decide))]; exact z2, fun j hj => by rw [u2r (by decide)]; exact z3 j hj, fun k hk => (xR_row (u2r (by decide))).trans (z4 k hk)⟩
        obtain ⟨n0, z⟩ := ih q' (n + 1) E' f' (F ++ L) s' (u2 rd' 96 n (some v)) J' (u2 I' 93 8 (nI (n + 1))) fz' a' b' (u2 (u2 Ie 22 n (nI (F ++ L).length)) 23 n (aI e')) (bb - u) (by omega) k4 hB' h96' hX' (by omega) (u2_self _ _ _ _) (by unfold cb; rw [if_neg (by omega), Nat.add_sub_cancel, En, lF]) (by rw [lF]; exact k7) (by omega) hx' (fun r h22 h23 => by rw [u2r h23, u2r h22]; exact hf r h22 h23) (fun c hc => by
          by_cases ec : c = n
          · subst ec
            rw [En, fn]
            exact ⟨by rw [u2r (by decide), u2_self, lF], u2_self _ _ _ _⟩
          · rw [Ec c ec, fc c ec]
            have w := hI c (by omega)
            exact ⟨by rw [u2r (by decide), u2_ne _ _ (Or.inr ec)]; exact w.1, by rw [u2_ne _ _ (Or.inr ec), u2r (by decide)]; exact w.2⟩) k8 (by omega)
        refine st (b4 := u) (b5 := bb - u) (n0 := n0) (by omega) (k9 u (Nat.le_refl _) _ _ ?_)
        rw [if_neg (show ¬ n = 6 by omega), nI_clamp (by omega)]
        have e8 : I' 93 8 = nI n ∨ True := .inr trivial
        have e9 : NF T B I' q' 0 a' b' 93 8 = nI n := by
          show I' 93 8 = nI n
          rw [(k1.2.2 93 (by omega)).2.2.1]
          exact h8
        rw [e9, nI_1, NF_8]
        exact ⟨vp_in_nI nlt (by decide), y1, n96 _, z⟩
      · refine st (b4 := u) (b5 := bb - u) (n0 := 0) (by omega) (k6 u (Nat.le_refl _) _ _ ?_)
        exact KX p s' rd' J' I' fz' o' a' b' Ie (hB.af k1) (fun i hi y hy => k1.old.ko (h96 i hi y (by rw [← xR_row (k1.2.2 96 (by omega)).1]; exact hy))) k2 (by omega) hf k5
    · have e : q = T := by omega
      subst e
      refine ⟨1, ?_⟩
      unfold x_X7_read_l29
      rw [show NF q B I q 0 a b 93 4 = nI q from hx.2.1, show NF q B I q 0 a b 93 5 = nI q from rfl]
      exact br_t (nI_le (Nat.le_refl _) (by omega)) (KQ n E e F s rd J I fz a b Ie hB h96 hX hn h8 (by omega) (by omega) hf hI hR)
