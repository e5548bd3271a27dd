set_option maxRecDepth 100000
set_option maxHeartbeats 4000000
/-! PLAIN LAW, operations 25: judge -/
theorem tk_0 {σ : wS} {m a e : Nat} (h : tk σ m a e ≠ 0) : tk σ m a 0 ≠ 0 := by
  cases e with
  | zero => exact h
  | succ b =>
    simp only [tk] at h ⊢
    by_cases h1 : σ 0 0 ≤ b
    · rw [if_pos h1] at h; exact absurd rfl h
    · rw [if_neg h1] at h
      by_cases h2 : b = a
      · rw [if_pos h2] at h; exact absurd rfl h
      · rw [if_neg h2] at h
        by_cases h3 : m + σ 6 (4 * a + b) ≤ σ 0 3
        · rw [if_pos h3] at h
          rw [if_neg (by omega), if_pos (by omega)]
          decide
        · rw [if_neg h3] at h; exact absurd rfl h
theorem x_mayAny_s {σ : wS} {s : xS} {rd : xRd} {J : mJ} {I : mI} {t m a : Nat} {Q : Int32 → Prop} (hw : wf σ) (hP : xP σ I) (ho : xo s t 2) (h1 : I t 1 = nI m) (h2 : I t 0 = nI a) (hm : m ≤ 20) (ha : a < 4) (h : Q (if tk σ m a 0 = 0 then 0 else 1)) : x_X0_mayAny t s rd J I Q := by
  have hP4 := hw.1
  unfold x_X0_mayAny
  have lp : ∀ n e b, σ 0 0 + 1 - e < n → e ≤ σ 0 0 + 1 → (b = 0 ∨ b = 1) → (b = 1 → tk σ m a 0 ≠ 0) → (b = 0 → ∀ e', e' < e → tk σ m a e' = 0) → x_X0_mayAny_l4 Q n t b (aI e) s rd J I := by
    intro n
    induction n with
    | zero => intro e b g; exact absurd g (Nat.not_lt_zero _)
    | succ n ih =>
      intro e b g1 g2 hb hb1 hb0
      unfold x_X0_mayAny_l4 x_X0_mayAny_j33
      rw [hP.1]
      refine ⟨fun c => ⟨hb, ?_⟩, fun c => ?_⟩
      · have c' : σ 0 0 + 1 ≤ e := (aI_le (by omega) (by omega)).mp c
        rcases hb with rfl | rfl
        · rw [if_pos (hb0 rfl 0 (by omega))] at h; exact h
        · rw [if_neg (hb1 rfl)] at h; exact h
      · have c' : e < σ 0 0 + 1 := Nat.lt_of_not_le (fun z => c ((aI_le (by omega) (by omega)).mpr z))
        have t5 := tk_5 (σ := σ) (m := m) (a := a) (e := e) hw
        refine x_takes_s hw hP ho h1 h2 hm ha (by omega) (pk_le (tk σ m a e) 0 (fun z => ?_) (fun z => ?_) rfl rfl (by omega) (by decide))
        · rw [aI_next]
          rcases hb with rfl | rfl
          · exact ih (e + 1) _ (by omega) (by omega) (.inl (by decide)) (fun y => absurd y (by decide)) (fun _ e' he' => by
              by_cases q : e' = e
              · rw [q]; omega
              · exact hb0 rfl e' (by omega))
          · exact ih (e + 1) _ (by omega) (by omega) (.inr (by decide)) (fun _ => hb1 rfl) (fun y => absurd y (by decide))
        · rw [aI_next]
          have k0 : tk σ m a 0 ≠ 0 := tk_0 (e := e) (by omega)
          rcases hb with rfl | rfl
          · exact ih (e + 1) _ (by omega) (by omega) (.inr (by decide)) (fun _ => k0) (fun y => absurd y (by decide))
          · exact ih (e + 1) _ (by omega) (by omega) (.inr (by decide)) (fun _ => k0) (fun y => absurd y (by decide))
  exact ⟨σ 0 0 + 2, lp (σ 0 0 + 2) 0 0 (by omega) (by omega) (.inl rfl) (fun y => absurd y (by decide)) (fun _ e' he' => absurd he' (Nat.not_lt_zero _))⟩
/-- the model judges from a trip on, row n next, and answers v -/
def mJdg (σ : wS) (I : mI) (m a c d n : Nat) (v : Int32) : Prop := ∀ (Im0 Im : mI) (Jm : mJ) (A : Int32 → mI → mJ → Prop) (fu st : Nat), 21 - n < fu → st < 1000 → mm σ st Im0 → mG σ Im0 → nxo Im0 Im → rW I Im0 → (∀ Im', mso Im0 Im' → mm σ st Im' → A v Im' Jm) → m_judge_l21 A fu (nI m) (nI a) (nI c) (nI d) (nI n) Im Jm
theorem x_judge_lp {σ : wS} {s : xS} {rd : xRd} {J : mJ} {I0 : mI} {Q : Int32 → mI → Prop} {N : Nat} (hWF : WF σ) (hP : xP σ I0) (hX : xG 1 σ I0) (hN : N ≤ 20) (h12 : I0 0 12 = nI N) :
    ∀ k n m a c g (I : mI), 21 - n < k → n ≤ N → stok σ m a c → σ 0 11 ≤ g → g ≤ 30 * m → (∀ r, r ≠ 97 → r ≠ 98 → I r = I0 r) → tr I 97 98 m a c g → (∀ I' v, (∀ r, r ≠ 97 → r ≠ 98 → I' r = I0 r) → mJdg σ I0 m a c (g - σ 0 11) n v → Q v I') → x_X0_judge_l31 Q k (nI (V σ (σ 0 8) (σ 0 9) (σ 0 10))) (nI n) s rd J I := by
  have hw := hWF.1
  have h20 := hw.2.1
  intro k
  induction k with
  | zero => intro n m a c g I h1; omega
  | succ k ih =>
    intro n m a c g I h1 hn hs hg1 hg2 fI htr K
    have hm := hs.1
    have i12 : I 0 12 = nI N := by rw [fI 0 (by decide) (by decide)]; exact h12
    have hP' : xP σ I := hP.to (fun r hr => fI r (by omega) (by omega))
    have e10 : I 10 2 = nI (σ 0 11) := by rw [fI 10 (by decide) (by decide)]; exact hX.tr.2.2.1
    have hV := V_le hw (σ 0 8) (σ 0 9) (σ 0 10)
    have rd57 : ∀ {Im0 Im : mI}, rW I0 Im0 → nxo Im0 Im → Im 0 57 = nI N ∧ ∀ j, j < N → I0 (100 + j) 0 = Im 25 (2 * j) ∧ I0 (100 + j) 1 = Im 25 (2 * j + 1) := by
      intro Im0 Im hR hx
      obtain ⟨n', b1, b2, b3, b4⟩ := hR
      have en : n' = N := (nI_eq (by omega) (by omega)).mp (b2.symm.trans h12)
      subst en
      rw [hx.1 25 (by decide)]
      exact ⟨(hx.2 57 (by decide)).trans b3, b4⟩
    unfold x_X0_judge_l31
    rw [i12]
    refine pk_le N n (fun le => ?_) (fun lt => ?_) rfl rfl (by omega) (by omega)
    · refine x_mayAny_s hw hP' (tS_97 (s := s) (rd := rd)).1 htr.1 htr.2.1 hm hs.2.1 ?_
      rw [htr.2.2.1, e10, pk_sub hg1]
      have mo : ∀ v, (tk σ m a 0 = 0 → v = if g - σ 0 11 = V σ (σ 0 8) (σ 0 9) (σ 0 10) then 0 else 32) → (tk σ m a 0 ≠ 0 → v = 31) → mJdg σ I0 m a c (g - σ 0 11) n v := by
        intro v hv0 hv1 Im0 Im Jm A fu st hfu hst hM hG gx hR hA
        obtain ⟨w57, _⟩ := rd57 hR gx
        rw [show fu = (fu - 1) + 1 by omega]
        unfold m_judge_l21
        rw [w57, ← aI_0]
        refine br_t (nI_le le (by omega)) (m_leads_s hw (gx.mm hM).1 hs (by decide) (fun z => br_t rfl ?_) (fun z I' _ _ _ _ gn => br_f (by decide) ?_))
        · unfold m_best
          have gG : mG σ Im := hG.to (fun r r1 r2 => gx.1 r (by omega)) (fun k hk => gx.2 k (by omega))
          rw [gG.min, gG.at_, gG.food]
          refine m_most_s hw hst (gx.mm hM) hWF.stok (fun I' q1 q2 => ?_)
          have w := hA I' (gx.mso.trans q1) q2
          rw [hv0 z] at w
          refine pk_eq (g - σ 0 11) (V σ (σ 0 8) (σ 0 9) (σ 0 10)) (fun e => ?_) (fun e => ?_) rfl rfl (by omega) (by omega)
          · rw [if_pos e] at w; exact w
          · rw [if_neg e] at w; exact w
        · have w := hA I' (gx.mso.trans gn.mso) (gn.mm (gx.mm hM))
          rw [hv1 z] at w
          exact w
      by_cases z : tk σ m a 0 = 0
      · rw [if_pos z]
        refine br_t rfl (pk_eq (g - σ 0 11) (V σ (σ 0 8) (σ 0 9) (σ 0 10)) (fun e => K I _ fI (mo 0 (fun _ => by rw [if_pos e]) (fun y => absurd z y))) (fun e => K I _ fI (mo 32 (fun _ => by rw [if_neg e]) (fun y => absurd z y))) rfl rfl (by omega) (by omega))
      · rw [if_neg z]
        exact br_f (by decide) (K I _ fI (mo 31 (fun y => absurd y z) (fun _ => rfl)))
    · have vn : vp_in (nI n) 20 := vp_in_nI (by omega) (by decide)
      have rj : xR rd 99 n = some (100 + n) := xR99 (by omega)
      have oj : xo s (100 + n) 9 := xo100 (by omega)
      have ir : I (100 + n) = I0 (100 + n) := fI (100 + n) (by omega) (by omega)
      rw [nI_clamp (by omega), nI_1]
      have mo : ∀ v, (∀ (Im0 Im : mI) (Jm : mJ) (A : Int32 → mI → mJ → Prop) (fu st : Nat), 20 - n < fu → st < 1000 → mm σ st Im0 → mG σ Im0 → nxo Im0 Im → rW I0 Im0 → (∀ Im', mso Im0 Im' → mm σ st Im' → A v Im' Jm) → (I0 (100 + n) 0 = nI m → m_isAct (I0 (100 + n) 1) Im Jm (fun r12 I13 J14 => (r12 = 0 → A (nI (n + 1)) I13 J14) ∧ (¬ r12 = 0 → m_leads (nI m) (nI a) (nI c) (I0 (100 + n) 1) I13 J14 (fun r16 I17 J18 => (r16 = 0 → A (nI (n + 1)) I17 J18) ∧ (¬ r16 = 0 → m_judge_l21 A fu (I17 0 19) (I17 0 20) (I17 0 21) (nI (g - σ 0 11) + (I17 0 22)) (nI (n + 1)) I17 J18))))) ∧ (¬ I0 (100 + n) 0 = nI m → A (nI (n + 1)) Im Jm)) → mJdg σ I0 m a c (g - σ 0 11) n v := by
        intro v hv Im0 Im Jm A fu st hfu hst hM hG gx hR hA
        obtain ⟨w57, w25⟩ := rd57 hR gx
        obtain ⟨b1, b2⟩ := w25 n lt
        rw [show fu = (fu - 1) + 1 by omega]
        unfold m_judge_l21
        have e2 : (2 : Int32) * nI n = nI (2 * n) := by rw [show (2 : Int32) = nI 2 from rfl, pk_mul]
        rw [w57, e2, nI_1, nI_1, nI_clamp (by omega), nI_clamp (by omega), ← b1, ← b2]
        exact br_f (nI_ge lt (by omega)) ⟨vp_in_nI (by omega) (by decide), nm_e ⟨vp_in_nI (by omega) (by decide), hv Im0 Im Jm A (fu - 1) st (by omega) hst hM hG gx hR hA⟩⟩
      have stop : ∀ {Im0 Im : mI} {Jm : mJ} {A : Int32 → mI → mJ → Prop} {st : Nat}, mm σ st Im0 → nxo Im0 Im → (∀ Im', mso Im0 Im' → mm σ st Im' → A (nI (n + 1)) Im' Jm) → A (nI (n + 1)) Im Jm := fun hM gx hA => hA _ gx.mso (gx.mm hM)
      refine ⟨vn, 100 + n, rj, oj, ?_⟩
      rw [ir, htr.1]
      refine ⟨fun c0 => ⟨vn, 100 + n, rj, oj, ?_⟩, fun c0 => K I _ fI (mo _ (fun Im0 Im Jm A fu st _ _ hM _ gx _ hA => br_f c0 (stop hM gx hA)))⟩
      rw [ir]
      refine x_isAct_c (fun q => br_f (by decide) ⟨vn, 100 + n, rj, oj, ?_⟩) (fun q => br_t rfl (K I _ fI (mo _ (fun Im0 Im Jm A fu st _ _ hM _ gx _ hA => br_t c0 (m_isAct_c (fun y => absurd y q) (fun _ => br_t rfl (stop hM gx hA)))))))
      obtain ⟨e, he, ea⟩ := aI_in q
      rw [ir, ea]
      have t5 := tk_5 (σ := σ) (m := m) (a := a) (e := e) hw
      refine x_takes_s hw hP' (tS_97 (s := s) (rd := rd)).1 htr.1 htr.2.1 hm hs.2.1 he (pk_eq (tk σ m a e) 0 (fun z => K I _ fI (mo _ (fun Im0 Im Jm A fu st _ _ hM _ gx _ hA => br_t c0 (by
          rw [ea] at q ⊢
          exact m_isAct_c (fun _ => br_f (by decide) (m_leads_s hw (gx.mm hM).1 hs he (fun _ => br_t rfl (stop hM gx hA)) (fun y => absurd z y))) (fun y => absurd q y))))) (fun z => ⟨vn, 100 + n, rj, oj, ?_⟩) rfl rfl (by omega) (by decide))
      rw [ir, ea]
      have n1 := nx_ok hw hs z
      have n2 := gn_tk (c := c) hw z
      refine x_does_s hw hP' tS_97 hs he z htr (fun I4 o4 t4 => ?_)
      refine ih (n + 1) (m + tk σ m a e) (nA a e) (nC σ m a c e) (g + gn σ a c e) I4 (by omega) (by omega) n1 (by omega) (by omega) (fun r r7 r8 => (o4 r r7 r8).trans (fI r r7 r8)) t4 (fun I' v fI' hJ => K I' v fI' (mo v (fun Im0 Im Jm A fu st hfu hst hM hG gx hR hA => br_t c0 (by
          rw [ea] at q ⊢
          refine m_isAct_c (fun _ => br_f (by decide) (m_leads_s hw (gx.mm hM).1 hs he (fun y => absurd y z) (fun _ I' z1 z2 z3 z4 gz => br_f (by decide) ?_))) (fun y => absurd q y)
          rw [z1, z2, z3, z4, nI_add, show g - σ 0 11 + gn σ a c e = g + gn σ a c e - σ 0 11 by omega]
          exact hJ Im0 I' Jm A fu st (by omega) hst hM hG ⟨fun r r0 => (gz.1 r r0).trans (gx.1 r r0), fun f hf => (gz.2 f hf).trans (gx.2 f hf)⟩ hR hA))))
theorem p_judge {t : Nat} (ht : t ≤ 64) {s : xS} {rd : xRd} {J : mJ} {I Im : mI} {Jm : mJ} (h : Rel t s rd J I Im Jm) : x_X0_judge s rd J I (fun r I' => m_judge Im Jm (RelQ (t + 1) s rd J I' r)) := by
  obtain ⟨h0, σ, fz, hS⟩ := h.opn
  obtain ⟨rn, st, e1, e2, e3, e4⟩ := hS.mst
  obtain ⟨N, hN, w1, w2, w3⟩ := hS.rW
  unfold x_X0_judge
  refine x_all_s hS.1.1 hS.2.1.xP e1 (by omega) tS_10 tA_10 hS.1.stok hS.2.1.tr (fun I1 q1 q2 => ?_)
  have hS' := hS.most q1 q2.xr (by omega) mso.refl e3 (by omega)
  refine x_become97_s (σ := σ) hS'.2.1.tr (fun I3 f3 t3 => ?_)
  refine ⟨22, x_judge_lp hS'.1 hS'.2.1.xP hS'.2.1 hN (by rw [q1 0 (by decide) (by decide) (by decide)]; exact w1) 22 0 (σ 0 8) (σ 0 9) (σ 0 10) (σ 0 11) I3 (by omega) (Nat.zero_le _) hS.1.stok (Nat.le_refl _) hS.1.2.2.1.2.2.2.2.2.2 f3 t3 (fun I' v fI hJ => ?_)⟩
  unfold m_judge
  rw [hS.2.2.1.min, hS.2.2.1.at_, hS.2.2.1.food]
  refine ⟨22, ?_⟩
  have z := hJ Im Im Jm (RelQ (t + 1) s rd J I' v) 22 st (by omega) (by omega) e3 hS.2.2.1 nxo.refl hS'.rW (fun Im' g1 g2 => ⟨rfl, ((hS.most q1 q2.xr (by omega) g1 g2 (by omega)).cls (by omega)).ask fI sI.refl (Nat.le_refl _)⟩)
  rw [Nat.sub_self] at z
  exact z
