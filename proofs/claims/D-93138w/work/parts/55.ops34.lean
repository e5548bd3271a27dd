set_option maxRecDepth 100000
set_option maxHeartbeats 4000000
/-! PLAIN LAW, operations 34: a condition read, both sides in lockstep -/
def pOn (T : Nat) (B : Nat → Nat) (I0 : mI) (J0 : mJ) (kk : kT) (W : WT) (o : Nat) (F S : List Nat) (q' : Nat) (L : List Nat) : Prop := gW T B I0 J0 kk W o 0 q' (F ++ L) S ∧ F.length + L.length + S.length ≤ q'
def pA (T : Nat) (B : Nat → Nat) (I0 : mI) (J0 : mJ) (kk : kT) (W : WT) (o : Nat) (F S : List Nat) (q' : Nat) (L : List Nat) : Prop := ∃ L' R, L = L' ++ R ∧ (R = [] ∨ R = [8]) ∧ gW T B I0 J0 kk W o 0 q' (F ++ L') (S ++ R.reverse) ∧ ¬ wq T q' B (wd 10) ∧ F.length + L'.length + S.length + R.length ≤ q'
def pC (T : Nat) (B : Nat → Nat) (I0 : mI) (J0 : mJ) (kk : kT) (W : WT) (o : Nat) (F S : List Nat) (q' : Nat) (L : List Nat) : Prop := ∃ L' R, L = L' ++ R ∧ (∀ x, x ∈ R → x ≠ 10 ∧ x ≤ 9) ∧ gW T B I0 J0 kk W o 0 q' (F ++ L') (S ++ R.reverse) ∧ ¬ wq T q' B (wd 10) ∧ ¬ wq T q' B (wd 11) ∧ F.length + L'.length + S.length + R.length ≤ q'
theorem nq_word {T q k : Nat} {B : Nat → Nat} (hq : q ≤ T) (w : wq T q B (wd k)) : q + (wd k).length ≤ nq T B q := by
  have a := te_le (B := B) hq
  have b := nq_le (B := B) hq
  have c := w.1
  omega
theorem nq_mark {T q m : Nat} {B : Nat → Nat} (w : mq T q B m) : q + 1 ≤ nq T B q ∧ nq T B q ≤ T := by
  have a := nq_gt (B := B) w.1
  omega
theorem mark_wq {T q m k : Nat} {B : Nat → Nat} (hk : wd k = [m]) (hl : cL m = false) (hd : cD m = false) (hq : q ≤ T) : wq T q B (wd k) ↔ mq T q B m := by
  rw [hk]
  have tt := te_le (B := B) hq
  constructor
  · intro w
    have z := w.2 0 (show 0 < [m].length from Nat.zero_lt_one)
    rw [Nat.add_zero] at z
    have l := w.1
    have l' : te T B q - q = 1 := l
    refine ⟨?_, z⟩
    refine Classical.byContradiction (fun ge => ?_)
    rw [(te_E ge).1] at l'
    omega
  · intro w
    have hl' : cL (B q) = false := by rw [w.2]; exact hl
    have hd' : cD (B q) = false := by rw [w.2]; exact hd
    refine ⟨by rw [(te_M w.1 hl' hd').1]; show q + 1 - q = 1; omega, fun i hi => ?_⟩
    have i0 : i = 0 := by have : i < 1 := hi; omega
    rw [i0, Nat.add_zero]
    exact w.2
/-- what's read between parentheses: the hypothesis of the recursion -/
def cIH (T : Nat) (B : Nat → Nat) (I0 : mI) (J0 : mJ) (kk : kT) (W : WT) (f o : Nat) : Prop := ∀ (q : Nat) (F S : List Nat) (s : xS) (rd : xRd) (J : mJ) (I : mI) (fz : Nat → Bool) (a b : Int32), xb T B rd I → q ≤ T → s.1 ≤ 500000 + q → St S 9 → F.length + S.length ≤ q → gW T B I0 J0 kk W o 1 q F S →
  rOK (fun bb QX Q => x_X7_cond f bb s rd J (NF T B I q o a b) QX Q) T B q q s rd J I fz o (pC T B I0 J0 kk W o F S) ∨ rBad (fun bb QX Q => x_X7_cond f bb s rd J (NF T B I q o a b) QX Q) T B q s rd J I fz (gFt T I0 J0 kk W)
theorem one_d {T : Nat} {B : Nat → Nat} {I0 : mI} {J0 : mJ} {kk : kT} {W : WT} {f o : Nat} (hT : T ≤ 200) (ho : o ≤ 3) (IH : o < 3 → cIH T B I0 J0 kk W f (o + 1)) :
    ∀ m q k (F S : List Nat) (s : xS) (rd : xRd) (J : mJ) (I : mI) (fz : Nat → Bool) (a b : Int32) (qn : Nat), T - q < m → qn + 2 * k ≤ q → q ≤ T → xb T B rd I → s.1 ≤ 500000 + q → St S 7 → F.length + S.length + k ≤ q → gW T B I0 J0 kk W o 1 q F (S ++ (rp k).reverse) →
      rOK (fun bb QX Q => ∃ n0, x_X7_one_l2 QX Q (fun bb s rd J I QX Q => x_X7_cond f bb s rd J I QX Q) n0 (nI (k % 2)) bb s rd J (NF T B I q o a b)) T B qn q s rd J I fz o (pOn T B I0 J0 kk W o F S) ∨ rBad (fun bb QX Q => ∃ n0, x_X7_one_l2 QX Q (fun bb s rd J I QX Q => x_X7_cond f bb s rd J I QX Q) n0 (nI (k % 2)) bb s rd J (NF T B I q o a b)) T B q s rd J I fz (gFt T I0 J0 kk W) := by
  intro m
  induction m with
  | zero => intro q k F S s rd J I fz a b qn g; exact absurd g (Nat.not_lt_zero _)
  | succ m ih =>
    intro q k F S s rd J I fz a b qn g1 g2 hq hx hs hS hl hw
    have lS : (S ++ (rp k).reverse).length = S.length + k := by rw [List.length_append, List.length_reverse, rp_len]
    by_cases wn : wq T q B (wd 8)
    · -- not
      have n3 : q + 3 ≤ nq T B q := nq_word hq wn
      have nT := (nq_le (B := B) hq).2
      have hw' := s_not hT hq (by rw [lS]; omega) wn hw
      rw [List.append_assoc, show (rp k).reverse ++ [7] = (rp (k + 1)).reverse from (List.reverse_cons (a := 7) (as := rp k)).symm] at hw'
      have mp : ∀ bb (QX Q : cP), (∃ n0, x_X7_one_l2 QX Q (fun bb s rd J I QX Q => x_X7_cond f bb s rd J I QX Q) n0 (nI ((k + 1) % 2)) bb s rd J (NF T B I (nq T B q) o a b)) → ∃ n0, x_X7_one_l2 QX Q (fun bb s rd J I QX Q => x_X7_cond f bb s rd J I QX Q) n0 (nI (k % 2)) bb s rd J (NF T B I q o a b) := by
        intro bb QX Q hh
        obtain ⟨n0, hh⟩ := hh
        refine ⟨n0 + 1, ?_⟩
        unfold x_X7_one_l2 x_X7_one_j20
        refine x_may_n hx hT hq (by decide) (fun _ => br_f (by decide) ?_) (fun z => absurd wn z)
        rcases (show k % 2 = 0 ∨ k % 2 = 1 by omega) with e | e
        · rw [show (k + 1) % 2 = 1 by omega] at hh
          rw [e]
          exact br_t rfl hh
        · rw [show (k + 1) % 2 = 0 by omega] at hh
          rw [e]
          exact br_f (by decide) hh
      rcases ih (nq T B q) (k + 1) F S s rd J I fz a b qn (by omega) (by omega) nT hx (by omega) hS (by omega) hw' with r | r
      · exact .inl (r.map (by omega) (fun _ _ h => h) mp)
      · exact .inr (r.map (by omega) mp)
    · have st : ∀ {bb : Nat} {QX Q : cP}, x_X7_here s rd J (NF T B I q o a b) (fun r4 => (r4 = 40 →
          ((3 : Int32) ≤ nI o →
            x_X7_one_j47 QX Q (fun bb s rd J I QX Q => x_X7_cond f bb s rd J I QX Q) (nI (k % 2)) 0 bb s rd J (NF T B I q o a b)) ∧ (¬ (3 : Int32) ≤ nI o →
            x_X7_one_j47 QX Q (fun bb s rd J I QX Q => x_X7_cond f bb s rd J I QX Q) (nI (k % 2)) 1 bb s rd J (NF T B I q o a b))) ∧ (¬ r4 = 40 →
          ∃ b6 : Nat, bb = b6 + 1 ∧ (x_X7_compared s rd J (NF T B I q o a b) (fun c16 s12 rd13 J14 I15 => QX c16 s12 rd13 J14 I15) (fun r11 s7 rd8 J9 I10 => x_X7_one_j93 QX Q (fun bb s rd J I QX Q => x_X7_cond f bb s rd J I QX Q) (nI (k % 2)) r11 b6 s7 rd8 J9 I10)))) →
          ∃ n0, x_X7_one_l2 QX Q (fun bb s rd J I QX Q => x_X7_cond f bb s rd J I QX Q) n0 (nI (k % 2)) bb s rd J (NF T B I q o a b) := by
        intro bb QX Q hh
        refine ⟨1, ?_⟩
        unfold x_X7_one_l2
        exact x_may_n hx hT hq (by decide) (fun z => absurd z wn) (fun _ => br_t rfl hh)
      obtain ⟨c1, c2, c3, c4, c5⟩ := hx.xs (q := q) (o := o) (a := a) (b := b)
      by_cases wm : mq T q B 40
      · -- a parenthesis
        have n1 := nq_mark wm
        have here : ∀ {QX Q : cP} {bb : Nat}, (((3 : Int32) ≤ nI o →
            x_X7_one_j47 QX Q (fun bb s rd J I QX Q => x_X7_cond f bb s rd J I QX Q) (nI (k % 2)) 0 bb s rd J (NF T B I q o a b)) ∧ (¬ (3 : Int32) ≤ nI o →
            x_X7_one_j47 QX Q (fun bb s rd J I QX Q => x_X7_cond f bb s rd J I QX Q) (nI (k % 2)) 1 bb s rd J (NF T B I q o a b))) → ∃ n0, x_X7_one_l2 QX Q (fun bb s rd J I QX Q => x_X7_cond f bb s rd J I QX Q) n0 (nI (k % 2)) bb s rd J (NF T B I q o a b) := by
          intro QX Q bb hh
          refine st (x_here_s hT hq c1 c2 c3 c4 (fun _ => ?_) (fun ge => absurd wm.1 ge))
          rw [wm.2]
          exact br_t rfl hh
        by_cases o3 : o < 3
        · have hw1 := s_open hT hq (by rw [lS]; omega) o3 wn wm hw
          have j47 : ∀ {QX Q : cP} {bb b1 b2 : Nat}, bb = b1 + b2 → x_X7_cond f b1 s rd J (NF T B I (nq T B q) (o + 1) a b) (fun c42 s38 rd39 J40 I41 => QX c42 s38 rd39 J40 I41) (fun r37 s33 rd34 J35 I36 => x_X7_must 9 s33 rd34 J35 I36 (fun c45 I44 => QX c45 s33 rd34 J35 I44) (fun I43 => x_X7_one_j93 QX Q (fun bb s rd J I QX Q => x_X7_cond f bb s rd J I QX Q) (nI (k % 2)) r37 b2 s33 rd34 J35 (u2 I43 93 7 ((I43 93 7) - 1)))) → ∃ n0, x_X7_one_l2 QX Q (fun bb s rd J I QX Q => x_X7_cond f bb s rd J I QX Q) n0 (nI (k % 2)) bb s rd J (NF T B I q o a b) := by
            intro QX Q bb b1 b2 hb hh
            refine here (br_f (by have := nI_ge (a := o) (b := 3) o3 (by decide); exact this) ?_)
            unfold x_X7_one_j47 x_X7_need
            refine br_f (by decide) ?_
            have e7 : u2 (NF T B I q o a b) 93 7 ((NF T B I q o a b) 93 7 + 1) = NF T B I q (o + 1) a b := by
              rw [show NF T B I q o a b 93 7 = nI o from rfl, nI_1, NF_7]
            show x_X7_next s rd J (u2 (NF T B I q o a b) 93 7 (NF T B I q o a b 93 7 + 1)) _
            rw [e7]
            exact x_next_n hx hT hq ⟨b1, b2, hb, hh⟩
          have hl1 : F.length + (S ++ (rp k).reverse ++ [10]).length ≤ nq T B q := by rw [len1, lS]; omega
          rcases IH o3 (nq T B q) F (S ++ (rp k).reverse ++ [10]) s rd J I fz a b hx n1.2 (by omega) (.inr ⟨_, 10, rfl, by decide, .inl rfl⟩) hl1 hw1 with ⟨q1, n, c, u, L, s1, rd1, J1, I1, fz1, a1, b1, h1, h2, h3, h4, h5, h6, h7, h8, ⟨L', R, e1, e2, e3, e4, e5, e6⟩, h10⟩ | r
          · have hx1 := h1.xb hx
            rw [len1, lS] at e6
            by_cases w41 : mq T q1 B 41
            · left
              have n2 := nq_mark w41
              have hw2 := s_close (k := k) hT h4 o3 (by rw [List.length_append]; omega) hS e2 e4 e5 w41 e3
              obtain ⟨c2', s2, rd2, J2, I2, fz2, k1, k2, k3, k4⟩ := not_d (T := T) (q := nq T B q1) (o := o) (B := B) (J := J1) (a := a1) (b := b1) (k := k) (pf := fun bb s rd J I QX Q => x_X7_cond f bb s rd J I QX Q) h2 (show s1.1 < 900000 by omega)
              refine ⟨nq T B q1, n + k, c2', u + k % 2, L ++ rp k, s2, rd2, J2, I2, fz2, a1, b1, h1.trans k1, k2, by omega, n2.2, by omega, by omega, by omega, by omega, ⟨?_, ?_⟩, fun bb hb QX Q K => ?_⟩
              · rw [e1, ← List.append_assoc, ← List.append_assoc]
                exact hw2
              · rw [e1, List.length_append, List.length_append, rp_len]; omega
              · refine j47 (b1 := u) (b2 := bb - u) (by omega) (h10 u (Nat.le_refl _) _ _ ?_)
                refine x_must_n hx1 hT h4 (by decide) (fun _ => ?_) (fun z => absurd ((mark_wq (m := 41) rfl rfl rfl h4).mpr w41) z)
                have e7 : u2 (NF T B I1 (nq T B q1) (o + 1) a1 b1) 93 7 ((NF T B I1 (nq T B q1) (o + 1) a1 b1) 93 7 - 1) = NF T B I1 (nq T B q1) o a1 b1 := by
                  rw [show NF T B I1 (nq T B q1) (o + 1) a1 b1 93 7 = nI (o + 1) from rfl, nI_pred, NF_7]
                rw [e7]
                exact k4 (bb - u) (by omega) QX Q K
            · right
              refine ⟨q1, u, s1, rd1, J1, I1, fz1, o + 1, a1, b1, h1, h4, by omega, h8, s_close_f (k := k) hT h4 o3 (by rw [List.length_append]; omega) e2 e4 e5 w41 e3, fun bb hb QX Q K => ?_⟩
              refine j47 (b1 := u) (b2 := bb - u) (by omega) (h10 u (Nat.le_refl _) _ _ ?_)
              exact x_must_n hx1 hT h4 (by decide) (fun z => absurd ((mark_wq (m := 41) rfl rfl rfl h4).mp z) w41) (fun _ => K)
          · right
            obtain ⟨p, u, s', rd', J', I', fz', o', a', b', h1, h2, h3, h4, h5, h6⟩ := r
            exact ⟨p, u, s', rd', J', I', fz', o', a', b', h1, h2, by omega, h4, h5, fun bb hb QX Q K => j47 (b1 := u) (b2 := bb - u) (by omega) (h6 u (Nat.le_refl _) _ _ K)⟩
        · right
          have e3 : o = 3 := by omega
          subst e3
          refine ⟨q, 0, s, rd, J, I, fz, 3, a, b, AF.rfl', hq, Nat.zero_le _, by omega, s_open_f hT hq (by rw [lS]; omega) wn wm hw, fun bb hb QX Q K => here (br_t (by decide) ?_)⟩
          unfold x_X7_one_j47
          exact x_need_n K
      · -- a comparison
        have cmp : ∀ {QX Q : cP} {bb b6 : Nat}, bb = b6 + 1 → x_X7_compared s rd J (NF T B I q o a b) (fun c16 s12 rd13 J14 I15 => QX c16 s12 rd13 J14 I15) (fun r11 s7 rd8 J9 I10 => x_X7_one_j93 QX Q (fun bb s rd J I QX Q => x_X7_cond f bb s rd J I QX Q) (nI (k % 2)) r11 b6 s7 rd8 J9 I10) → ∃ n0, x_X7_one_l2 QX Q (fun bb s rd J I QX Q => x_X7_cond f bb s rd J I QX Q) n0 (nI (k % 2)) bb s rd J (NF T B I q o a b) := by
          intro QX Q bb b6 hb hh
          refine st (x_here_s hT hq c1 c2 c3 c4 (fun lt => br_f (fun y => wm ⟨lt, sb_eq (c3 q lt).1 (by decide) (show sb (B q) = nI 40 from y)⟩) ⟨b6, hb, hh⟩) (fun ge => br_f (by decide) ⟨b6, hb, hh⟩))
        have cs : (∃ a1 b1 c a2 b2 v g w q1 q', vOK T q B a1 b1 v q1 ∧ gm T q1 B c g ∧ vOK T (nq T B q1) B a2 b2 w q') ∨ ∃ p, aBad T q B p := by
          rcases v_cases T q B with ⟨a1, b1, v, q1, h1⟩ | ⟨p, hp⟩
          · rcases gm_cases T q1 B with ⟨c, g, hg⟩ | ⟨z1, z2, z3⟩
            · rcases v_cases T (nq T B q1) B with ⟨a2, b2, w, q', h2⟩ | ⟨p, hp⟩
              · exact .inl ⟨a1, b1, c, a2, b2, v, g, w, q1, q', h1, hg, h2⟩
              · exact .inr ⟨p, .inr ⟨a1, b1, v, q1, h1, .inr ⟨c, g, hg, hp⟩⟩⟩
            · exact .inr ⟨q1, .inr ⟨a1, b1, v, q1, h1, .inl ⟨z1, z2, z3, rfl⟩⟩⟩
          · exact .inr ⟨p, .inl hp⟩
        rcases cs with ⟨a1, b1, c, a2, b2, v, g, w, q1, q', h1, hg, h2⟩ | ⟨p, hp⟩
        · left
          have x1 := h1.le
          have x2 := h2.le
          have y1 : q1 + 1 ≤ nq T B q1 := by
            rcases hg with ⟨m, _⟩ | ⟨m, _⟩ | ⟨m, _⟩ <;> exact (nq_mark m).1
          obtain ⟨s1, rd1, J1, I1, fz1, k1, k2, k3, k4⟩ := x_compared_ok (o := o) (J := J) (fz := fz) (a := a) (b := b) hx hT hq (show s.1 < 900000 by omega) h1 hg h2
          have hw2 := s_ask hT hq (by omega) hS wn wm h1 hg h2 hw
          obtain ⟨c2', s2, rd2, J2, I2, fz2, n1, n2, n3, n4⟩ := not_d (T := T) (q := q') (o := o) (B := B) (J := J1) (a := a2) (b := b2) (k := k) (pf := fun bb s rd J I QX Q => x_X7_cond f bb s rd J I QX Q) k3 (show s1.1 < 900000 by omega)
          refine ⟨q', 1 + k, c2', 1 + k % 2, [v, w, g] ++ rp k, s2, rd2, J2, I2, fz2, a2, b2, k1.trans n1, n2, by omega, x2.2.2, by omega, by omega, by omega, by omega, ⟨?_, ?_⟩, fun bb hb QX Q K => ?_⟩
          · rw [← List.append_assoc]
            exact hw2
          · rw [List.length_append, rp_len]
            show F.length + (3 + k) + S.length ≤ q'
            omega
          · exact cmp (b6 := bb - 1) (by omega) (k4 _ _ (n4 (bb - 1) (by omega) QX Q K))
        · right
          obtain ⟨a', b', k1⟩ := x_compared_bad (s := s) (J := J) (o := o) (a := a) (b := b) hx hT hq hp
          have pT : p ≤ T := by
            rcases hp with hp | ⟨a1, b1, v, q1, h1, ⟨_, _, _, rfl⟩ | ⟨c, g, hg, hb⟩⟩
            · exact hp.le hq
            · exact h1.le.2.2
            · exact hb.le (nq_le h1.le.2.2).2
          refine ⟨p, 1, s, rd, J, I, fz, o, a', b', AF.rfl', pT, by omega, by omega, s_ask_f hT hq (by omega) wn wm hp hw, fun bb hb QX Q K => cmp (b6 := bb - 1) (by omega) (k1 _ _ K)⟩
