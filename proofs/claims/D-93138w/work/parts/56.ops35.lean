set_option maxRecDepth 100000
set_option maxHeartbeats 4000000
/-! PLAIN LAW, operations 35: a condition read, both sides in lockstep: and, or -/
abbrev cPf (f : Nat) : pfT := fun bb s rd J I QX Q => x_X7_cond f bb s rd J I QX Q
/-- a cell of two, made before its second part is read -/
theorem two_c {K n n2 c c2 : Nat} {s s2 : xS} {rd rd2 : xRd} {J J2 : mJ} {I I2 : mI} {fz fz2 : Nat → Bool} {L L2 : List Nat} (h : cR s rd fz I n c L)
    (h2 : AF (xn s K 2) (ur rd (133 + s.1) (fun _ => none)) (ur J (133 + s.1) (fun _ => 0)) (ur I (133 + s.1) (fun _ => 0)) (u1 fz (133 + s.1) false) s2 rd2 J2 I2 fz2) (g : cR s2 rd2 fz2 I2 n2 c2 L2) :
    AF s rd J I fz s2 (u2 (u2 rd2 (133 + s.1) 0 (some c)) (133 + s.1) 1 (some c2)) J2 I2 (u1 fz2 (133 + s.1) true) ∧ xo s2 (133 + s.1) K ∧
    cR s2 (u2 (u2 rd2 (133 + s.1) 0 (some c)) (133 + s.1) 1 (some c2)) (u1 fz2 (133 + s.1) true) I2 (n + n2) c L ∧ cR s2 (u2 (u2 rd2 (133 + s.1) 0 (some c)) (133 + s.1) 1 (some c2)) (u1 fz2 (133 + s.1) true) I2 (n + n2) c2 L2 ∧ u1 fz2 (133 + s.1) true (133 + s.1) = true ∧
    xR (u2 (u2 rd2 (133 + s.1) 0 (some c)) (133 + s.1) 1 (some c2)) (133 + s.1) 0 = some c ∧ xR (u2 (u2 rd2 (133 + s.1) 0 (some c)) (133 + s.1) 1 (some c2)) (133 + s.1) 1 = some c2 := by
  have hn : AF s rd J I fz (xn s K 2) (ur rd (133 + s.1) (fun _ => none)) (ur J (133 + s.1) (fun _ => 0)) (ur I (133 + s.1) (fun _ => 0)) (u1 fz (133 + s.1) false) := AF.new
  have hv : fz2 (133 + s.1) = false := by
    rw [(h2.2.2 (133 + s.1) (by show 133 + s.1 < 133 + (s.1 + 1); omega)).2.2.2]
    unfold u1
    rw [if_pos rfl]
  have ft : oF s2 rd2 fz2 I2 s2 (u2 (u2 rd2 (133 + s.1) 0 (some c)) (133 + s.1) 1 (some c2)) (u1 fz2 (133 + s.1) true) I2 := by
    refine ⟨Nat.le_refl _, fun _ _ => rfl, fun r _ _ hf => ?_⟩
    have ne : r ≠ 133 + s.1 := fun e => by rw [e, hv] at hf; exact absurd hf (by decide)
    refine ⟨by rw [u2r ne, u2r ne], ?_, rfl⟩
    unfold u1
    rw [if_neg ne]
    exact hf
  refine ⟨(hn.trans h2).mod (fun r hr => ?_), h2.old.ko xo_new', ?_, ?_, ?_, ?_, ?_⟩
  · have ne : r ≠ 133 + s.1 := by omega
    refine ⟨by rw [u2r ne, u2r ne], rfl, rfl, ?_⟩
    unfold u1
    rw [if_neg ne]
  · exact (((h.to hn.old).to h2.old).toF ft).le (by omega)
  · exact (g.toF ft).le (by omega)
  · unfold u1; rw [if_pos rfl]
  · rw [xR_d (xR0_out 0 (by omega)), u2_ne _ _ (Or.inr (by decide)), u2_self]
  · rw [xR_d (xR0_out 1 (by omega)), u2_self]
theorem all5_d {T : Nat} {B : Nat → Nat} {I0 : mI} {J0 : mJ} {kk : kT} {W : WT} {f o : Nat} (hT : T ≤ 200) (ho : o ≤ 3) (IH : o < 3 → cIH T B I0 J0 kk W f (o + 1)) :
    ∀ m q n c (L' R F S : List Nat) (s : xS) (rd : xRd) (J : mJ) (I : mI) (fz : Nat → Bool) (a b : Int32) (qn : Nat), T - q < m → q ≤ T → qn < q → xb T B rd I → s.1 ≤ 500000 + q → St S 8 → F.length + L'.length + S.length + R.length ≤ q → (R = [] ∨ R = [8]) → 2 * n ≤ q - qn → cR s rd fz I n c (L' ++ R) → gW T B I0 J0 kk W o 0 q (F ++ L') (S ++ R.reverse) →
      rOK (fun bb QX Q => ∃ n0, x_X7_all_l5 QX Q (cPf f) n0 c bb s rd J (NF T B I q o a b)) T B qn q s rd J I fz o (pA T B I0 J0 kk W o F S) ∨ rBad (fun bb QX Q => ∃ n0, x_X7_all_l5 QX Q (cPf f) n0 c bb s rd J (NF T B I q o a b)) T B q s rd J I fz (gFt T I0 J0 kk W) := by
  intro m
  induction m with
  | zero => intro q n c L' R F S s rd J I fz a b qn g; exact absurd g (Nat.not_lt_zero _)
  | succ m ih =>
    intro q n c L' R F S s rd J I fz a b qn g1 hq hqn hx hs hS hl hR hn hc hw
    by_cases wa : wq T q B (wd 10)
    · have n3 : q + 3 ≤ nq T B q := nq_word hq wa
      have nT := (nq_le (B := B) hq).2
      have lF : (F ++ L').length = F.length + L'.length := List.length_append
      have lF2 : (F ++ L' ++ R).length = F.length + L'.length + R.length := by rw [List.length_append, lF]
      have lS : (S ++ [8]).length = S.length + 1 := len1
      have hw1 := s_and hT hq (by rw [lF]; exact hl) hS (fun x hx => by
        rcases hR with e | e
        · rw [e] at hx; exact absurd hx List.not_mem_nil
        · rw [e] at hx; have := List.mem_singleton.mp hx; omega) wa hw
      have hw1' : gW T B I0 J0 kk W o 1 (nq T B q) (F ++ L' ++ R) (S ++ [8] ++ (rp 0).reverse) := by
        show gW T B I0 J0 kk W o 1 (nq T B q) (F ++ L' ++ R) (S ++ [8] ++ [])
        rw [List.append_nil]
        exact hw1
      have hn1 : AF s rd J I fz (xn s 19 2) (ur rd (133 + s.1) (fun _ => none)) (ur J (133 + s.1) (fun _ => 0)) (ur I (133 + s.1) (fun _ => 0)) (u1 fz (133 + s.1) false) := AF.new
      have go : ∀ {QX Q : cP} {bb b1 b2 n0 : Nat}, bb = b1 + b2 + 1 → x_X7_one (cPf f) b1 (xn s 19 2) (ur rd (133 + s.1) (fun _ => none)) (ur J (133 + s.1) (fun _ => 0)) (NF T B (ur I (133 + s.1) (fun _ => 0)) (nq T B q) o a b) (fun c34 s30 rd31 J32 I33 => QX c34 s30 rd31 J32 I33) (fun r29 s25 rd26 J27 I28 => xo s25 (133 + s.1) 19 ∧ (x_X19_init (133 + s.1) c r29 s25 rd26 J27 I28 (fun rd35 => x_X7_all_l5 QX Q (cPf f) n0 (133 + s.1) b2 s25 rd35 J27 I28))) → ∃ n0, x_X7_all_l5 QX Q (cPf f) n0 c bb s rd J (NF T B I q o a b) := by
        intro QX Q bb b1 b2 n0 hb hh
        refine ⟨n0 + 1, ?_⟩
        unfold x_X7_all_l5
        refine x_may_n hx hT hq (by decide) (fun _ => br_f (by decide) ⟨b1 + b2, hb, by omega, fun v' s' rd' J' I' e1 e2 e3 e4 e5 => ?_⟩) (fun z => absurd wa z)
        subst e1 e2 e3 e4 e5
        rw [NF_ur (show 133 + s.1 ≠ 93 by omega)]
        exact ⟨b1, b2, rfl, hh⟩
      rcases one_d hT ho IH (T + 1) (nq T B q) 0 (F ++ L' ++ R) (S ++ [8]) (xn s 19 2) (ur rd (133 + s.1) (fun _ => none)) (ur J (133 + s.1) (fun _ => 0)) (ur I (133 + s.1) (fun _ => 0)) (u1 fz (133 + s.1) false) a b (nq T B q) (by omega) (by omega) nT (hn1.xb hx) (by show s.1 + 1 ≤ _; omega) (.inr ⟨S, 8, rfl, by decide, .inr (by decide)⟩) (by rw [lF2, lS]; omega) hw1' with ⟨q3, n2, c2, u2', L2, s2, rd2, J2, I2, fz2, a2, b2, h1, h2, h3, h4, h5, h6, h7, h8, ⟨p1, p2⟩, h10⟩ | ⟨p, u, s', rd', J', I', fz', o', a', b', h1, h2, h3, h4, h5, h6⟩
      · obtain ⟨t1, t2, t3, t4, t5, t6, t7⟩ := two_c hc h1 h2
        have h8' : s2.1 ≤ s.1 + 1 + u2' := h8
        rw [lF2, lS] at p2
        have cN : cR s2 (u2 (u2 rd2 (133 + s.1) 0 (some c)) (133 + s.1) 1 (some c2)) (u1 fz2 (133 + s.1) true) I2 (n + n2 + 1) (133 + s.1) ((L' ++ R ++ L2) ++ [8]) :=
          ⟨⟨by omega, t5⟩, .inr (.inr (.inr (.inl ⟨t2, c, c2, L' ++ R, L2, t6, t7, rfl, t3, t4⟩)))⟩
        have hw2 : gW T B I0 J0 kk W o 0 q3 (F ++ (L' ++ R ++ L2)) (S ++ [8].reverse) := by
          have e : F ++ (L' ++ R ++ L2) = F ++ L' ++ R ++ L2 := by simp only [List.append_assoc]
          rw [e]
          exact p1
        have one : ∀ (bb n0 : Nat) (QX Q : cP), u2' + 1 ≤ bb → x_X7_all_l5 QX Q (cPf f) n0 (133 + s.1) (bb - 1 - u2') s2 (u2 (u2 rd2 (133 + s.1) 0 (some c)) (133 + s.1) 1 (some c2)) J2 (NF T B I2 q3 o a2 b2) → ∃ n0, x_X7_all_l5 QX Q (cPf f) n0 c bb s rd J (NF T B I q o a b) := by
          intro bb n0 QX Q hb hh
          refine go (b1 := u2') (b2 := bb - 1 - u2') (n0 := n0) (by omega) (h10 u2' (Nat.le_refl _) _ _ ⟨t2, t2, xR0_out 0 (by omega), xR0_out 1 (by omega), hh⟩)
        rcases ih q3 (n + n2 + 1) (133 + s.1) (L' ++ R ++ L2) [8] F S s2 (u2 (u2 rd2 (133 + s.1) 0 (some c)) (133 + s.1) 1 (some c2)) J2 I2 (u1 fz2 (133 + s.1) true) a2 b2 qn (by omega) h4 (by omega) (t1.xb hx) (by omega) hS (by rw [List.length_append, List.length_append]; show F.length + (L'.length + R.length + L2.length) + S.length + 1 ≤ q3; omega) (.inr rfl) (by omega) cN hw2 with ⟨q4, n4, c4, u4, L4, s4, rd4, J4, I4, fz4, a4, b4, k1, k2, k3, k4, k5, k6, k7, k8, k9, k10⟩ | ⟨p, u, s', rd', J', I', fz', o', a', b', k1, k2, k3, k4, k5, k6⟩
        · refine .inl ⟨q4, n4, c4, 1 + u2' + u4, L4, s4, rd4, J4, I4, fz4, a4, b4, t1.trans k1, k2, by omega, k4, k5, k6, by omega, by omega, k9, fun bb hb QX Q K => ?_⟩
          obtain ⟨n0, z⟩ := k10 (bb - 1 - u2') (by omega) QX Q K
          exact one bb n0 QX Q (by omega) z
        · refine .inr ⟨p, 1 + u2' + u, s', rd', J', I', fz', o', a', b', t1.trans k1, k2, by omega, by omega, k5, fun bb hb QX Q K => ?_⟩
          obtain ⟨n0, z⟩ := k6 (bb - 1 - u2') (by omega) QX Q K
          exact one bb n0 QX Q (by omega) z
      · have h4' : s'.1 ≤ s.1 + 1 + u := h4
        refine .inr ⟨p, 1 + u, s', rd', J', I', fz', o', a', b', hn1.trans h1, h2, by omega, by omega, h5, fun bb hb QX Q K => go (b1 := u) (b2 := bb - 1 - u) (n0 := 0) (by omega) (h6 u (Nat.le_refl _) _ _ K)⟩
    · refine .inl ⟨q, n, c, 0, L' ++ R, s, rd, J, I, fz, a, b, AF.rfl', hc, Nat.le_refl _, hq, hn, hqn, Nat.zero_le _, by omega, ⟨L', R, rfl, hR, hw, wa, hl⟩, fun bb _ QX Q K => ⟨1, ?_⟩⟩
      unfold x_X7_all_l5
      exact x_may_n hx hT hq (by decide) (fun z => absurd z wa) (fun _ => br_t rfl K)
theorem all_d {T : Nat} {B : Nat → Nat} {I0 : mI} {J0 : mJ} {kk : kT} {W : WT} {f o q : Nat} {F S : List Nat} {s : xS} {rd : xRd} {J : mJ} {I : mI} {fz : Nat → Bool} {a b : Int32} (hT : T ≤ 200) (ho : o ≤ 3) (IH : o < 3 → cIH T B I0 J0 kk W f (o + 1)) (hx : xb T B rd I) (hq : q ≤ T) (hs : s.1 ≤ 500000 + q) (hS : St S 8) (hl : F.length + S.length ≤ q) (hw : gW T B I0 J0 kk W o 1 q F S) :
    rOK (fun bb QX Q => x_X7_all (cPf f) bb s rd J (NF T B I q o a b) QX Q) T B q q s rd J I fz o (pA T B I0 J0 kk W o F S) ∨ rBad (fun bb QX Q => x_X7_all (cPf f) bb s rd J (NF T B I q o a b) QX Q) T B q s rd J I fz (gFt T I0 J0 kk W) := by
  have hw' : gW T B I0 J0 kk W o 1 q F (S ++ (rp 0).reverse) := by
    show gW T B I0 J0 kk W o 1 q F (S ++ [])
    rw [List.append_nil]
    exact hw
  rcases one_d hT ho IH (T + 1) q 0 F S s rd J I fz a b q (by omega) (by omega) hq hx hs (hS.up (by decide)) (by omega) hw' with ⟨q3, n2, c2, u2', L2, s2, rd2, J2, I2, fz2, a2, b2, h1, h2, h3, h4, h5, h6, h7, h8, ⟨p1, p2⟩, h10⟩ | ⟨p, u, s', rd', J', I', fz', o', a', b', h1, h2, h3, h4, h5, h6⟩
  · have st : ∀ (bb : Nat) (QX Q : cP), u2' ≤ bb → (∃ n0, x_X7_all_l5 QX Q (cPf f) n0 c2 (bb - u2') s2 rd2 J2 (NF T B I2 q3 o a2 b2)) → x_X7_all (cPf f) bb s rd J (NF T B I q o a b) QX Q := by
      intro bb QX Q hb hh
      unfold x_X7_all
      exact ⟨u2', bb - u2', by omega, h10 u2' (Nat.le_refl _) _ _ hh⟩
    have hw3 : gW T B I0 J0 kk W o 0 q3 (F ++ L2) (S ++ [].reverse) := by
      show gW T B I0 J0 kk W o 0 q3 (F ++ L2) (S ++ [])
      rw [List.append_nil]
      exact p1
    rcases all5_d hT ho IH (T + 1) q3 n2 c2 L2 [] F S s2 rd2 J2 I2 fz2 a2 b2 q (by omega) h4 h6 (h1.xb hx) (by omega) hS (by show F.length + L2.length + S.length + 0 ≤ q3; omega) (.inl rfl) h5 (by rw [List.append_nil]; exact h2) hw3 with ⟨q4, n4, c4, u4, L4, s4, rd4, J4, I4, fz4, a4, b4, k1, k2, k3, k4, k5, k6, k7, k8, k9, k10⟩ | ⟨p, u, s', rd', J', I', fz', o', a', b', k1, k2, k3, k4, k5, k6⟩
    · exact .inl ⟨q4, n4, c4, u2' + u4, L4, s4, rd4, J4, I4, fz4, a4, b4, h1.trans k1, k2, by omega, k4, k5, k6, by omega, by omega, k9, fun bb hb QX Q K => st bb QX Q (by omega) (k10 (bb - u2') (by omega) QX Q K)⟩
    · exact .inr ⟨p, u2' + u, s', rd', J', I', fz', o', a', b', h1.trans k1, k2, by omega, by omega, k5, fun bb hb QX Q K => st bb QX Q (by omega) (k6 (bb - u2') (by omega) QX Q K)⟩
  · refine .inr ⟨p, u, s', rd', J', I', fz', o', a', b', h1, h2, h3, h4, h5, fun bb hb QX Q K => ?_⟩
    unfold x_X7_all
    exact ⟨u, bb - u, by omega, h6 u (Nat.le_refl _) _ _ K⟩
theorem cond5_d {T : Nat} {B : Nat → Nat} {I0 : mI} {J0 : mJ} {kk : kT} {W : WT} {f o : Nat} (hT : T ≤ 200) (ho : o ≤ 3) (IH : o < 3 → cIH T B I0 J0 kk W f (o + 1)) :
    ∀ m q n c (L' R F S : List Nat) (s : xS) (rd : xRd) (J : mJ) (I : mI) (fz : Nat → Bool) (a b : Int32) (qn : Nat), T - q < m → q ≤ T → qn < q → xb T B rd I → s.1 ≤ 500000 + q → St S 9 → F.length + L'.length + S.length + R.length ≤ q → (∀ x, x ∈ R → x ≠ 10 ∧ x ≤ 9) → 2 * n ≤ q - qn → cR s rd fz I n c (L' ++ R) → ¬ wq T q B (wd 10) → gW T B I0 J0 kk W o 0 q (F ++ L') (S ++ R.reverse) →
      rOK (fun bb QX Q => ∃ n0, x_X7_cond_l5 QX Q (cPf f) n0 c bb s rd J (NF T B I q o a b)) T B qn q s rd J I fz o (pC T B I0 J0 kk W o F S) ∨ rBad (fun bb QX Q => ∃ n0, x_X7_cond_l5 QX Q (cPf f) n0 c bb s rd J (NF T B I q o a b)) T B q s rd J I fz (gFt T I0 J0 kk W) := by
  intro m
  induction m with
  | zero => intro q n c L' R F S s rd J I fz a b qn g; exact absurd g (Nat.not_lt_zero _)
  | succ m ih =>
    intro q n c L' R F S s rd J I fz a b qn g1 hq hqn hx hs hS hl hR hn hc na hw
    by_cases wa : wq T q B (wd 11)
    · have n3 : q + 2 ≤ nq T B q := nq_word hq wa
      have nT := (nq_le (B := B) hq).2
      have lF : (F ++ L').length = F.length + L'.length := List.length_append
      have lF2 : (F ++ L' ++ R).length = F.length + L'.length + R.length := by rw [List.length_append, lF]
      have lS : (S ++ [9]).length = S.length + 1 := len1
      have hw1 := s_or hT hq (by rw [lF]; exact hl) hS hR wa hw
      have hn1 : AF s rd J I fz (xn s 20 2) (ur rd (133 + s.1) (fun _ => none)) (ur J (133 + s.1) (fun _ => 0)) (ur I (133 + s.1) (fun _ => 0)) (u1 fz (133 + s.1) false) := AF.new
      have go : ∀ {QX Q : cP} {bb b1 b2 n0 : Nat}, bb = b1 + b2 + 1 → x_X7_all (cPf f) b1 (xn s 20 2) (ur rd (133 + s.1) (fun _ => none)) (ur J (133 + s.1) (fun _ => 0)) (NF T B (ur I (133 + s.1) (fun _ => 0)) (nq T B q) o a b) (fun c34 s30 rd31 J32 I33 => QX c34 s30 rd31 J32 I33) (fun r29 s25 rd26 J27 I28 => xo s25 (133 + s.1) 20 ∧ (x_X20_init (133 + s.1) c r29 s25 rd26 J27 I28 (fun rd35 => x_X7_cond_l5 QX Q (cPf f) n0 (133 + s.1) b2 s25 rd35 J27 I28))) → ∃ n0, x_X7_cond_l5 QX Q (cPf f) n0 c bb s rd J (NF T B I q o a b) := by
        intro QX Q bb b1 b2 n0 hb hh
        refine ⟨n0 + 1, ?_⟩
        unfold x_X7_cond_l5
        refine x_may_n hx hT hq (by decide) (fun _ => br_f (by decide) ⟨b1 + b2, hb, by omega, fun v' s' rd' J' I' e1 e2 e3 e4 e5 => ?_⟩) (fun z => absurd wa z)
        subst e1 e2 e3 e4 e5
        rw [NF_ur (show 133 + s.1 ≠ 93 by omega)]
        exact ⟨b1, b2, rfl, hh⟩
      rcases all_d (f := f) (a := a) (b := b) (fz := u1 fz (133 + s.1) false) (J := ur J (133 + s.1) (fun _ => 0)) hT ho IH (hn1.xb hx) nT (show (xn s 20 2).1 ≤ 500000 + nq T B q by show s.1 + 1 ≤ _; omega) (.inr ⟨S, 9, rfl, by decide, .inr (by decide)⟩) (by rw [lF2, lS]; omega) hw1 with ⟨q3, n2, c2, u2', L2, s2, rd2, J2, I2, fz2, a2, b2, h1, h2, h3, h4, h5, h6, h7, h8, ⟨L2', R2, p0, p1, p2, p3, p4⟩, h10⟩ | ⟨p, u, s', rd', J', I', fz', o', a', b', h1, h2, h3, h4, h5, h6⟩
      · obtain ⟨t1, t2, t3, t4, t5, t6, t7⟩ := two_c hc h1 h2
        have h8' : s2.1 ≤ s.1 + 1 + u2' := h8
        rw [lF2, lS] at p4
        have cN : cR s2 (u2 (u2 rd2 (133 + s.1) 0 (some c)) (133 + s.1) 1 (some c2)) (u1 fz2 (133 + s.1) true) I2 (n + n2 + 1) (133 + s.1) ((L' ++ R ++ L2') ++ (R2 ++ [9])) := by
          have e : (L' ++ R ++ L2') ++ (R2 ++ [9]) = (L' ++ R) ++ L2 ++ [9] := by rw [p0]; simp only [List.append_assoc]
          rw [e]
          exact ⟨⟨by omega, t5⟩, .inr (.inr (.inr (.inr ⟨t2, c, c2, L' ++ R, L2, t6, t7, rfl, t3, t4⟩)))⟩
        have hw2 : gW T B I0 J0 kk W o 0 q3 (F ++ (L' ++ R ++ L2')) (S ++ (R2 ++ [9]).reverse) := by
          have e : F ++ (L' ++ R ++ L2') = F ++ L' ++ R ++ L2' := by simp only [List.append_assoc]
          have e2 : S ++ (R2 ++ [9]).reverse = S ++ [9] ++ R2.reverse := by rw [List.reverse_append, List.append_assoc]; rfl
          rw [e, e2]
          exact p2
        have one : ∀ (bb n0 : Nat) (QX Q : cP), u2' + 1 ≤ bb → x_X7_cond_l5 QX Q (cPf f) n0 (133 + s.1) (bb - 1 - u2') s2 (u2 (u2 rd2 (133 + s.1) 0 (some c)) (133 + s.1) 1 (some c2)) J2 (NF T B I2 q3 o a2 b2) → ∃ n0, x_X7_cond_l5 QX Q (cPf f) n0 c bb s rd J (NF T B I q o a b) := by
          intro bb n0 QX Q hb hh
          refine go (b1 := u2') (b2 := bb - 1 - u2') (n0 := n0) (by omega) (h10 u2' (Nat.le_refl _) _ _ ⟨t2, t2, t2, xR0_out 0 (by omega), xR0_out 1 (by omega), hh⟩)
        have lR : (R2 ++ [9]).length = R2.length + 1 := len1
        rcases ih q3 (n + n2 + 1) (133 + s.1) (L' ++ R ++ L2') (R2 ++ [9]) F S s2 (u2 (u2 rd2 (133 + s.1) 0 (some c)) (133 + s.1) 1 (some c2)) J2 I2 (u1 fz2 (133 + s.1) true) a2 b2 qn (by omega) h4 (by omega) (t1.xb hx) (by omega) hS (by rw [List.length_append, List.length_append, lR]; omega) (fun x hx => by
            rcases List.mem_append.mp hx with y | y
            · rcases p1 with e | e
              · rw [e] at y; exact absurd y List.not_mem_nil
              · rw [e] at y; have := List.mem_singleton.mp y; omega
            · have := List.mem_singleton.mp y; omega) (by omega) cN p3 hw2 with ⟨q4, n4, c4, u4, L4, s4, rd4, J4, I4, fz4, a4, b4, k1, k2, k3, k4, k5, k6, k7, k8, k9, k10⟩ | ⟨p, u, s', rd', J', I', fz', o', a', b', k1, k2, k3, k4, k5, k6⟩
        · refine .inl ⟨q4, n4, c4, 1 + u2' + u4, L4, s4, rd4, J4, I4, fz4, a4, b4, t1.trans k1, k2, by omega, k4, k5, k6, by omega, by omega, k9, fun bb hb QX Q K => ?_⟩
          obtain ⟨n0, z⟩ := k10 (bb - 1 - u2') (by omega) QX Q K
          exact one bb n0 QX Q (by omega) z
        · refine .inr ⟨p, 1 + u2' + u, s', rd', J', I', fz', o', a', b', t1.trans k1, k2, by omega, by omega, k5, fun bb hb QX Q K => ?_⟩
          obtain ⟨n0, z⟩ := k6 (bb - 1 - u2') (by omega) QX Q K
          exact one bb n0 QX Q (by omega) z
      · have h4' : s'.1 ≤ s.1 + 1 + u := h4
        refine .inr ⟨p, 1 + u, s', rd', J', I', fz', o', a', b', hn1.trans h1, h2, by omega, by omega, h5, fun bb hb QX Q K => go (b1 := u) (b2 := bb - 1 - u) (n0 := 0) (by omega) (h6 u (Nat.le_refl _) _ _ K)⟩
    · refine .inl ⟨q, n, c, 0, L' ++ R, s, rd, J, I, fz, a, b, AF.rfl', hc, Nat.le_refl _, hq, hn, hqn, Nat.zero_le _, by omega, ⟨L', R, rfl, hR, hw, na, wa, hl⟩, fun bb _ QX Q K => ⟨1, ?_⟩⟩
      unfold x_X7_cond_l5
      exact x_may_n hx hT hq (by decide) (fun z => absurd z wa) (fun _ => br_t rfl K)
theorem cond_d {T : Nat} {B : Nat → Nat} {I0 : mI} {J0 : mJ} {kk : kT} {W : WT} (hT : T ≤ 200) : ∀ f o, o ≤ 3 → 4 ≤ f + o → cIH T B I0 J0 kk W f o := by
  intro f
  induction f with
  | zero => intro o h1 h2; omega
  | succ f ihf =>
    intro o ho hf q F S s rd J I fz a b hx hq hs hS hl hw
    have IH : o < 3 → cIH T B I0 J0 kk W f (o + 1) := fun h => ihf (o + 1) (by omega) (by omega)
    rcases all_d (a := a) (b := b) (fz := fz) (J := J) hT ho IH hx hq hs (hS.up (by decide)) hl hw with ⟨q3, n2, c2, u2', L2, s2, rd2, J2, I2, fz2, a2, b2, h1, h2, h3, h4, h5, h6, h7, h8, ⟨L2', R2, p0, p1, p2, p3, p4⟩, h10⟩ | ⟨p, u, s', rd', J', I', fz', o', a', b', h1, h2, h3, h4, h5, h6⟩
    · have st : ∀ (bb : Nat) (QX Q : cP), u2' ≤ bb → (∃ n0, x_X7_cond_l5 QX Q (cPf f) n0 c2 (bb - u2') s2 rd2 J2 (NF T B I2 q3 o a2 b2)) → x_X7_cond (f + 1) bb s rd J (NF T B I q o a b) QX Q := by
        intro bb QX Q hb hh
        unfold x_X7_cond x_X7_cond_b
        exact ⟨u2', bb - u2', by omega, h10 u2' (Nat.le_refl _) _ _ hh⟩
      rcases cond5_d hT ho IH (T + 1) q3 n2 c2 L2' R2 F S s2 rd2 J2 I2 fz2 a2 b2 q (by omega) h4 h6 (h1.xb hx) (by omega) hS p4 (fun x hx => by
          rcases p1 with e | e
          · rw [e] at hx; exact absurd hx List.not_mem_nil
          · rw [e] at hx; have := List.mem_singleton.mp hx; omega) h5 (by rw [← p0]; exact h2) p3 p2 with ⟨q4, n4, c4, u4, L4, s4, rd4, J4, I4, fz4, a4, b4, k1, k2, k3, k4, k5, k6, k7, k8, k9, k10⟩ | ⟨p, u, s', rd', J', I', fz', o', a', b', k1, k2, k3, k4, k5, k6⟩
      · exact .inl ⟨q4, n4, c4, u2' + u4, L4, s4, rd4, J4, I4, fz4, a4, b4, h1.trans k1, k2, by omega, k4, k5, k6, by omega, by omega, k9, fun bb hb QX Q K => st bb QX Q (by omega) (k10 (bb - u2') (by omega) QX Q K)⟩
      · exact .inr ⟨p, u2' + u, s', rd', J', I', fz', o', a', b', h1.trans k1, k2, by omega, by omega, k5, fun bb hb QX Q K => st bb QX Q (by omega) (k6 (bb - u2') (by omega) QX Q K)⟩
    · refine .inr ⟨p, u, s', rd', J', I', fz', o', a', b', h1, h2, h3, h4, h5, fun bb hb QX Q K => ?_⟩
      show x_X7_cond (f + 1) bb s rd J (NF T B I q o a b) QX Q
      unfold x_X7_cond x_X7_cond_b
      exact ⟨u, bb - u, by omega, h6 u (Nat.le_refl _) _ _ K⟩
