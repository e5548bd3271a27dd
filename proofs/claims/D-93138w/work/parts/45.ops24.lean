set_option maxRecDepth 100000
set_option maxHeartbeats 4000000
/-! PLAIN LAW, operations 24: prove -/
theorem fsE_ok {σ : wS} {m a c : Nat} : ∀ n e, fsE σ m a c n e = -9 ∨ ∃ e', e ≤ e' ∧ e' < e + n ∧ tk σ m a e' ≠ 0 ∧ fsE σ m a c n e = aI e' := by
  intro n
  induction n with
  | zero => intro e; exact .inl rfl
  | succ n ih =>
    intro e
    by_cases k : tk σ m a e ≠ 0 ∧ vb σ m a c e = V σ m a c
    · exact .inr ⟨e, Nat.le_refl _, by omega, k.1, if_pos k⟩
    · have z : fsE σ m a c (n + 1) e = fsE σ m a c n (e + 1) := if_neg k
      rw [z]
      rcases ih (e + 1) with h | ⟨e', h1, h2, h3, h4⟩
      · exact .inl h
      · exact .inr ⟨e', by omega, by omega, h3, h4⟩
theorem fs_ok {σ : wS} {m a c : Nat} : fs σ m a c = -9 ∨ ∃ e, e < 5 ∧ tk σ m a e ≠ 0 ∧ fs σ m a c = aI e := by
  rcases fsE_ok (σ := σ) (m := m) (a := a) (c := c) 5 0 with h | ⟨e, _, h2, h3, h4⟩
  · exact .inl h
  · exact .inr ⟨e, by omega, h3, h4⟩
/-- the model's heap while it proves -/
def pI (I0 I : mI) : Prop := (∀ r, r ≠ 0 → r ≠ 7 → r ≠ 25 → r < 8 ∨ 12 < r → I r = I0 r) ∧ ∀ k, k < 19 ∨ 22 < k → k ≠ 57 → I 0 k = I0 0 k
theorem pI.refl {I : mI} : pI I I := ⟨fun _ _ _ _ _ => rfl, fun _ _ _ => rfl⟩
theorem pI.mso {I0 I I' : mI} (h : pI I0 I) (g : mso I I') : pI I0 I' := ⟨fun r r0 r7 r25 hr => (g.1 r r0 r7 hr).trans (h.1 r r0 r7 r25 hr), fun k hk k5 => (g.2 k hk).trans (h.2 k hk k5)⟩
def prR (n : Nat) (I' Im : mI) : Prop := ∀ j, j < n → I' (100 + j) 0 = Im 25 (2 * j) ∧ I' (100 + j) 1 = Im 25 (2 * j + 1)
def mPrv (σ : wS) (m a c n : Nat) (I' : mI) (N : Nat) : Prop := ∀ (Im0 Im : mI) (Jm : mJ) (A : Int32 → mI → mJ → Prop) (fu st : Nat), 21 - m < fu → st < 1000 → mm σ st Im → pI Im0 Im → Im 0 57 = nI n → prR n I' Im → (∀ Im', pI Im0 Im' → mm σ st Im' → Im' 0 57 = nI N → prR N I' Im' → A (nI N) Im' Jm) → m_prove_l29 A fu (nI m) (nI a) (nI c) (fs σ m a c) Im Jm
/-- the class's heap while it proves -/
def qF (I0 I : mI) : Prop := (∀ r, r ≠ 0 → r ≠ 97 → r ≠ 98 → r < 100 ∨ 120 ≤ r → r ≠ 23 → r ≠ 24 → r < 26 ∨ 70 ≤ r → I r = I0 r) ∧ ∀ f, f ≠ 12 → I 0 f = I0 0 f
theorem qF.xP {σ : wS} {I0 I : mI} (h : qF I0 I) (hP : xP σ I0) : @@N@@.xP σ I := by
  obtain ⟨q1, q2, q3, q4, q5, q6⟩ := hP
  have z : ∀ r, 1 ≤ r → r ≤ 7 → I r = I0 r := fun r h1 h2 => h.1 r (by omega) (by omega) (by omega) (by omega) (by omega) (by omega) (by omega)
  unfold @@N@@.xP
  rw [z 1 (by decide) (by decide), z 3 (by decide) (by decide), z 4 (by decide) (by decide), z 6 (by decide) (by decide), z 7 (by decide) (by decide)]
  exact ⟨q1, q2, q3, q4, q5, q6⟩
theorem x_prove_lp {σ : wS} {s : xS} {rd : xRd} {J : mJ} {I0 : mI} {Q : Int32 → mI → Prop} (hw : wf σ) (hP : xP σ I0) :
    ∀ k m a c g n rn (I : mI), 21 - m < k → stok σ m a c → qF I0 I → I 0 12 = nI n → n ≤ m → xr rn I → rn + (21 - m) + 1 < 2000000 → tr I 97 98 m a c g → (∀ I' N rn', qF I0 I' → I' 0 12 = nI N → n ≤ N → N ≤ 20 → xr rn' I' → rn' ≤ rn + (21 - m) → (∀ j, j < n → I' (100 + j) = I (100 + j)) → mPrv σ m a c n I' N → Q (nI N) I') → x_X0_prove_l31 Q k (fs σ m a c) s rd J I := by
  have h20 := hw.2.1
  intro k
  induction k with
  | zero => intro m a c g n rn I h1; omega
  | succ k ih =>
    intro m a c g n rn I h1 hs fI h12 hn hr hrn htr K
    have hm := hs.1
    unfold x_X0_prove_l31
    rcases fs_ok (σ := σ) (m := m) (a := a) (c := c) with e9 | ⟨e, he, hk, ee⟩
    · rw [e9]
      refine br_t rfl ?_
      rw [h12]
      refine K I n rn fI h12 (Nat.le_refl _) (by omega) hr (by omega) (fun _ _ => rfl) (fun Im0 Im Jm A fu st hfu hst hM gI h57 hR hA => ?_)
      rw [e9, show fu = (fu - 1) + 1 by omega]
      unfold m_prove_l29
      refine br_t rfl ?_
      rw [h57]
      exact hA Im gI hM h57 hR
    · have ne : ¬ aI e = -9 := (by decide : ∀ e, e < 5 → ¬ aI e = -9) e he
      have n1 := nx_ok hw hs hk
      have n4 := tk_le hk
      have n5 : 0 < tk σ m a e := Nat.pos_of_ne_zero hk
      rw [ee]
      refine br_f ne ?_
      rw [h12, nI_clamp (by omega), nI_1, htr.1]
      have vn : vp_in (nI n) 20 := vp_in_nI (by omega) (by decide)
      have rj : xR rd 99 n = some (100 + n) := xR99 (by omega)
      have oj : xo s (100 + n) 9 := xo100 (by omega)
      refine ⟨vn, 100 + n, rj, oj, vn, 100 + n, rj, oj, ?_⟩
      have w0 : ∀ r, r ≠ 0 → r ≠ 100 + n → u2 (u2 (u2 I (100 + n) 0 (nI m)) (100 + n) 1 (aI e)) 0 12 (nI (n + 1)) r = I r := fun r r0 rn => by rw [u2r r0, u2r rn, u2r rn]
      have fW : qF I0 (u2 (u2 (u2 I (100 + n) 0 (nI m)) (100 + n) 1 (aI e)) 0 12 (nI (n + 1))) := ⟨fun r r0 r7 r8 hr r23 r24 hr2 => (w0 r r0 (by omega)).trans (fI.1 r r0 r7 r8 hr r23 r24 hr2), fun f hf => by rw [u2_ne _ _ (Or.inr hf), u2r (by omega), u2r (by omega)]; exact fI.2 f hf⟩
      refine x_does_s hw (fW.xP hP) tS_97 hs he hk (htr.to (w0 97 (by decide) (by omega)) (w0 98 (by decide) (by omega))) (fun I4 o4 t4 => ?_)
      have f4 : qF I0 I4 := ⟨fun r r0 r7 r8 hr r23 r24 hr2 => (o4 r r7 r8).trans (fW.1 r r0 r7 r8 hr r23 r24 hr2), fun f hf => by rw [o4 0 (by decide) (by decide)]; exact fW.2 f hf⟩
      have xr4 : xr rn I4 := by
        unfold xr
        rw [o4 23 (by decide) (by decide), o4 24 (by decide) (by decide), w0 23 (by decide) (by omega), w0 24 (by decide) (by omega)]
        exact hr
      refine x_first_s hw (f4.xP hP) xr4 (by omega) tS_97 tA_97 n1 t4 (fun I5 q1 q2 => ?_)
      have f5 : qF I0 I5 := ⟨fun r r0 r7 r8 hr r23 r24 hr2 => (q1 r r23 r24 (by omega)).trans (f4.1 r r0 r7 r8 hr r23 r24 hr2), fun f hf => by rw [q1 0 (by decide) (by decide) (by decide)]; exact f4.2 f hf⟩
      have i100 : ∀ j, I5 (100 + j) = u2 (u2 (u2 I (100 + n) 0 (nI m)) (100 + n) 1 (aI e)) 0 12 (nI (n + 1)) (100 + j) := fun j => by rw [q1 (100 + j) (by omega) (by omega) (by omega), o4 (100 + j) (by omega) (by omega)]
      have i12 : I5 0 12 = nI (n + 1) := by rw [q1 0 (by decide) (by decide) (by decide), o4 0 (by decide) (by decide), u2_self]
      refine ih (m + tk σ m a e) (nA a e) (nC σ m a c e) (g + gn σ a c e) (n + 1) (rn + 1) I5 (by omega) n1 f5 i12 (by omega) q2.xr (by omega) (q1.tr tA_97 t4) (fun I' N rn' f' h12' hN hN2 xr' hrn' hrow hPrv => K I' N rn' f' h12' (by omega) hN2 xr' (by omega) (fun j hj => ?_) (fun Im0 Im Jm A fu st hfu hst hM gI h57 hR hA => ?_))
      · rw [hrow j (by omega), i100 j, w0 (100 + j) (by omega) (by omega)]
      · rw [ee, show fu = (fu - 1) + 1 by omega]
        unfold m_prove_l29 m_prove_j106
        have e2 : (2 : Int32) * nI n = nI (2 * n) := by rw [show (2 : Int32) = nI 2 from rfl, pk_mul]
        rw [h57, e2, nI_1, nI_clamp (by omega), nI_clamp (by omega), nI_1]
        refine br_f ne (br_f (nI_ge (a := n) (b := 20) (by omega) (by decide)) ⟨vp_in_nI (by omega) (by decide), vp_in_nI (by omega) (by decide), ?_⟩)
        have mW : mm σ st (u2 (u2 (u2 Im 25 (2 * n) (nI m)) 25 (2 * n + 1) (aI e)) 0 57 (nI (n + 1))) := by
          obtain ⟨p1, p2, p3⟩ := hM
          obtain ⟨a1, a2, a3, a4, a5, a6⟩ := p1
          have z : ∀ r, r ≠ 0 → r ≠ 25 → u2 (u2 (u2 Im 25 (2 * n) (nI m)) 25 (2 * n + 1) (aI e)) 0 57 (nI (n + 1)) r = Im r := fun r r0 r5 => by rw [u2r r0, u2r r5, u2r r5]
          have z0 : ∀ f, f ≠ 57 → u2 (u2 (u2 Im 25 (2 * n) (nI m)) 25 (2 * n + 1) (aI e)) 0 57 (nI (n + 1)) 0 f = Im 0 f := fun f hf => by rw [u2_ne _ _ (Or.inr hf), u2r (by decide), u2r (by decide)]
          refine ⟨⟨(z0 8 (by decide)).trans a1, (z0 2 (by decide)).trans a2, ?_, ?_, ?_, ?_⟩, (z0 18 (by decide)).trans p2, ?_⟩
          · rw [z 1 (by decide) (by decide)]; exact a3
          · rw [z 1 (by decide) (by decide)]; exact a4
          · rw [z 1 (by decide) (by decide)]; exact a5
          · rw [z 2 (by decide) (by decide)]; exact a6
          · rw [z 7 (by decide) (by decide)]; exact p3
        have gW : pI Im0 (u2 (u2 (u2 Im 25 (2 * n) (nI m)) 25 (2 * n + 1) (aI e)) 0 57 (nI (n + 1))) := ⟨fun r r0 r7 r5 hr => by rw [u2r r0, u2r r5, u2r r5]; exact gI.1 r r0 r7 r5 hr, fun f hf f5 => by rw [u2_ne _ _ (Or.inr f5), u2r (by decide), u2r (by decide)]; exact gI.2 f hf f5⟩
        refine m_leads_s hw mW.1 hs he (fun z => absurd z hk) (fun _ I6 z1 z2 z3 z4 zn => br_f (by decide) ?_)
        rw [z1, z2, z3]
        have m6 : mm σ st I6 := by
          obtain ⟨p1, p2, p3⟩ := mW
          refine ⟨qI.refl.nxo zn |>.mP p1, (zn.2 18 (by decide)).trans p2, ?_⟩
          rw [zn.1 7 (by decide)]; exact p3
        refine m_firstOf_s hw hst m6 n1 (fun I7 y1 y2 => ?_)
        have g7 := (gW.mso zn.mso).mso y1
        have e57 : I7 0 57 = nI (n + 1) := by rw [y1.2 57 (by decide), zn.2 57 (by decide), u2_self]
        have r25 : I7 25 = u2 (u2 (u2 Im 25 (2 * n) (nI m)) 25 (2 * n + 1) (aI e)) 0 57 (nI (n + 1)) 25 := by rw [y1.1 25 (by decide) (by decide) (by decide), zn.1 25 (by decide)]
        refine hPrv Im0 I7 Jm A (fu - 1) st (by omega) hst y2 g7 e57 (fun j hj => ?_) hA
        rw [r25, u2r (show 25 ≠ 0 by decide)]
        by_cases ej : j = n
        · subst ej
          rw [hrow j (by omega), i100 j, u2r (show 100 + j ≠ 0 by omega)]
          refine ⟨?_, ?_⟩
          · rw [u2_ne _ _ (Or.inr (by decide)), u2_self, u2_ne _ _ (Or.inr (by omega)), u2_self]
          · rw [u2_self, u2_self]
        · rw [u2_ne _ _ (Or.inr (show 2 * j ≠ 2 * n + 1 by omega)), u2_ne _ _ (Or.inr (show 2 * j ≠ 2 * n by omega)), u2_ne _ _ (Or.inr (show 2 * j + 1 ≠ 2 * n + 1 by omega)), u2_ne _ _ (Or.inr (show 2 * j + 1 ≠ 2 * n by omega))]
          exact hR j (by omega)
theorem p_prove {t : Nat} (ht : t ≤ 64) {s : xS} {rd : xRd} {J : mJ} {I Im : mI} {Jm : mJ} (h : Rel t s rd J I Im Jm) : x_X0_prove s rd J I (fun r I' => m_prove Im Jm (RelQ (t + 1) s rd J I' r)) := by
  obtain ⟨h0, σ, fz, hS⟩ := h.opn
  obtain ⟨rn, st, e1, e2, e3, e4⟩ := hS.mst
  obtain ⟨a1, a2, a3, a4, a5, a6, a7, a8, a9, a10, a11, a12, a13⟩ := hS
  have hw := a1.1
  have hs := a1.stok
  unfold x_X0_prove
  refine x_become97_s (σ := σ) a2.tr (fun I1 f1 t1 => ?_)
  have g1 : ∀ r, r ≠ 0 → r ≠ 97 → r ≠ 98 → u2 I1 0 12 0 r = I r := fun r r0 r7 r8 => by rw [u2r r0]; exact f1 r r7 r8
  have q1 : qF I (u2 I1 0 12 0) := ⟨fun r r0 r7 r8 _ _ _ _ => g1 r r0 r7 r8, fun f hf => by rw [u2_ne _ _ (Or.inr hf), f1 0 (by decide) (by decide)]⟩
  have xr1 : xr rn (u2 I1 0 12 0) := by
    unfold xr
    rw [g1 23 (by decide) (by decide) (by decide), g1 24 (by decide) (by decide) (by decide)]
    exact e1
  refine x_first_s hw (q1.xP a2.xP) xr1 (by omega) tS_97 tA_97 hs (t1.to (u2r (by decide)) (u2r (by decide))) (fun I2 y1 y2 => ?_)
  have q2 : qF I I2 := ⟨fun r r0 r7 r8 hr r23 r24 hr2 => (y1 r r23 r24 (by omega)).trans (q1.1 r r0 r7 r8 hr r23 r24 hr2), fun f hf => by rw [y1 0 (by decide) (by decide) (by decide)]; exact q1.2 f hf⟩
  have i12 : I2 0 12 = nI 0 := by rw [y1 0 (by decide) (by decide) (by decide), u2_self]; rfl
  refine ⟨22, x_prove_lp hw a2.xP 22 (σ 0 8) (σ 0 9) (σ 0 10) (σ 0 11) 0 (rn + 1) I2 (by omega) hs q2 i12 (Nat.zero_le _) y2.xr (by omega) (y1.tr tA_97 (t1.to (u2r (by decide)) (u2r (by decide)))) (fun I' N rn' qF' h12 _ hN xr' hrn' _ hPrv => ?_)⟩
  unfold m_prove
  have u57 : ∀ f, f ≠ 57 → u2 Im 0 57 0 0 f = Im 0 f := fun f hf => u2_ne _ _ (Or.inr hf)
  have m57 : mm σ st (u2 Im 0 57 0) := by
    obtain ⟨p1, p2, p3⟩ := e3
    obtain ⟨b1, b2, b3, b4, b5, b6⟩ := p1
    refine ⟨⟨(u57 8 (by decide)).trans b1, (u57 2 (by decide)).trans b2, ?_, ?_, ?_, ?_⟩, (u57 18 (by decide)).trans p2, ?_⟩
    · rw [u2r (by decide)]; exact b3
    · rw [u2r (by decide)]; exact b4
    · rw [u2r (by decide)]; exact b5
    · rw [u2r (by decide)]; exact b6
    · rw [u2r (by decide)]; exact p3
  rw [a3.min, a3.at_, a3.food]
  refine m_firstOf_s hw (by omega) m57 hs (fun Im2 z1 z2 => ⟨22, ?_⟩)
  have gp : pI Im Im2 := pI.mso ⟨fun r r0 _ _ _ => u2r r0, fun f hf f5 => u57 f f5⟩ z1
  refine hPrv Im Im2 Jm _ 22 st (by omega) (by omega) z2 gp (by rw [z1.2 57 (by decide), u2_self]; rfl) (fun j hj => absurd hj (Nat.not_lt_zero _)) (fun Im' gI' mm' h57 hR => ⟨rfl, ?_⟩)
  have gI : ∀ r, r ≠ 0 → r ≠ 97 → r ≠ 98 → r < 100 ∨ 120 ≤ r → r ≠ 23 → r ≠ 24 → r < 26 ∨ 70 ≤ r → I' r = I r := qF'.1
  have gx : ∀ r, (1 ≤ r ∧ r ≤ 22) ∨ r = 92 ∨ 120 ≤ r → I' r = I r := fun r hr => gI r (by omega) (by omega) (by omega) (by omega) (by omega) (by omega) (by omega)
  have gm : ∀ r, (1 ≤ r ∧ r ≤ 6) ∨ r = 19 ∨ 26 ≤ r → Im' r = Im r := fun r hr => gI'.1 r (by omega) (by omega) (by omega) (by omega)
  have gf : ∀ f, f < 19 ∨ (22 < f ∧ f ≠ 57) → Im' 0 f = Im 0 f := fun f hf => gI'.2 f (by omega) (by omega)
  have ho : old s rd fz I s rd fz I' := old.same (fun r hr => gx r (by omega))
  refine RelS.cls (σ := σ) (fz := fz) ⟨a1, a2.to (fun r r1 r2 => gx r (by omega)), a3.to (fun r r1 r2 => gm r (by omega)) (fun k hk => gf k (by omega)), ⟨rn', st, xr'.1, by omega, xr'.2, mm'.2.1, by omega, mm'.2.2⟩, a5.sig rfl rfl (gf 34 (by omega)), a6.to ho (fun _ => rfl), a7.to ho (fun _ => rfl), ?_, ?_, ⟨N, hN, h12, h57, hR⟩, ?_, ?_, ?_⟩ (by omega)
  · exact a8.to ho (qF'.2 2 (by decide)) (fun r r1 r2 => gx r (by omega)) (fun _ => ⟨rfl, rfl⟩) (gf 70 (by omega)) (gm 33 (by omega)) a8.1
  · exact a9.to (qF'.2 8 (by decide)) (gx 92 (by omega)) (gf 39 (by omega)) (gm 19 (by omega))
  · exact a11.to (qF'.2 17 (by decide)) (gx 127 (by omega)) (gf 68 (by omega)) (gm 32 (by omega))
  · exact a12.to (fun r r1 => gx r (by omega)) (fun r r1 r2 => gm r (by omega))
  · exact a13.to (fun r r1 r2 => gx r (by omega)) (fun r r1 r2 => gm r (by omega))
