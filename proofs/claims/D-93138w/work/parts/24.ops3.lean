set_option maxRecDepth 100000
set_option maxHeartbeats 4000000
/-! PLAIN LAW, operations 3: best, first, with -/
def RelS (t : Nat) (σ : wS) (fz : Nat → Bool) (s : xS) (rd : xRd) (J : mJ) (I : mI) (Im : mI) (Jm : mJ) : Prop := WF σ ∧ xG 1 σ I ∧ mG σ Im ∧ rM t I Im σ ∧ rD σ Im Jm ∧ rR 8 σ s rd fz I ∧ rC 9 σ s rd fz I ∧ rK s rd fz I Im ∧ rT I Im ∧ rW I Im ∧ rB I Im ∧ rS s rd fz J I Jm Im ∧ rH s rd I Im
theorem Rel.opn {t : Nat} {s : xS} {rd : xRd} {J : mJ} {I Im : mI} {Jm : mJ} (h : Rel t s rd J I Im Jm) : s.1 ≤ 600 * t ∧ ∃ σ fz, RelS t σ fz s rd J I Im Jm := h
theorem RelS.cls {t : Nat} {σ : wS} {fz : Nat → Bool} {s : xS} {rd : xRd} {J : mJ} {I Im : mI} {Jm : mJ} (h : RelS t σ fz s rd J I Im Jm) (h0 : s.1 ≤ 600 * t) : Rel t s rd J I Im Jm := ⟨h0, σ, fz, h⟩
/-- patches, ways, the bird, what is found may change -/
theorem RelS.chg {t : Nat} {σ σ' : wS} {fz : Nat → Bool} {s : xS} {rd : xRd} {J : mJ} {I I' Im Im' : mI} {Jm : mJ} (h : RelS t σ fz s rd J I Im Jm) (b1 : WF σ') (b2 : xG 1 σ' I') (b3 : mG σ' Im') (b4 : rM (t + 1) I' Im' σ') (b5 : σ' 0 1 = σ 0 1) (b6 : σ' 0 2 = σ 0 2) (b7 : ∀ j, 7 ≤ j → σ' j = σ j)
    (gx : ∀ r, r = 0 ∨ (12 ≤ r ∧ r ≤ 22) ∨ r = 92 ∨ 99 ≤ r → I' r = I r) (gm : ∀ r, r = 19 ∨ 25 ≤ r → Im' r = Im r) (gf : ∀ f, f = 34 ∨ f = 39 ∨ f = 57 ∨ f = 68 ∨ f = 70 → Im' 0 f = Im 0 f) : RelS (t + 1) σ' fz s rd J I' Im' Jm := by
  obtain ⟨a1, a2, a3, a4, a5, a6, a7, a8, a9, a10, a11, a12, a13⟩ := h
  have ho : old s rd fz I s rd fz I' := old.same (fun r hr => gx r (by omega))
  have g0 := gx 0 (by omega)
  refine ⟨b1, b2, b3, b4, a5.sig b5 (b7 7 (by omega)) (gf 34 (by omega)), (a6.to ho (fun _ => rfl)).sig b5 (b7 7 (by omega)), (a7.to ho (fun _ => rfl)).sig b6 (b7 8 (by omega)) (b7 9 (by omega)) (b7 10 (by omega)), ?_, ?_, ?_, ?_, ?_, ?_⟩
  · exact a8.to ho (by rw [g0]) (fun r r1 r2 => gx r (by omega)) (fun _ => ⟨rfl, rfl⟩) (gf 70 (by omega)) (gm 33 (by omega)) a8.1
  · exact a9.to (by rw [g0]) (gx 92 (by omega)) (gf 39 (by omega)) (gm 19 (by omega))
  · exact a10.to (by rw [g0]) (fun r r1 r2 => gx r (by omega)) (gf 57 (by omega)) (gm 25 (by omega))
  · exact a11.to (by rw [g0]) (gx 127 (by omega)) (gf 68 (by omega)) (gm 32 (by omega))
  · exact a12.to (fun r r1 => gx r (by omega)) (fun r r1 r2 => gm r (by omega))
  · exact a13.to (fun r r1 r2 => gx r (by omega)) (fun r r1 r2 => gm r (by omega))
/-- what the class's 'most' changes in all -/
def fr0 (I I' : mI) : Prop := ∀ r, r ≠ 23 → r ≠ 24 → r < 26 ∨ 70 ≤ r → I' r = I r
theorem fr0.refl {I : mI} : fr0 I I := fun _ _ _ _ => rfl
theorem fr0.trans {I I' I2 : mI} (h : fr0 I I') (g : fr0 I' I2) : fr0 I I2 := fun r h1 h2 h3 => (g r h1 h2 h3).trans (h r h1 h2 h3)
theorem fr.fr0 {I I' : mI} (h : fr 0 I I') : fr0 I I' := fun r _ h2 h3 => h r h2 (by omega)
theorem fr0.xP {σ : wS} {I I' : mI} (h : fr0 I I') (hP : xP σ I) : xP σ I' := hP.to (fun r hr => h r (by omega) (by omega) (by omega))
/-- the class's memo holds for a round -/
def xr (rn : Nat) (I : mI) : Prop := I 23 2 = nI rn ∧ wth0 rn (I 24)
theorem xm.xr {σ : wS} {rn : Nat} {I : mI} (h : xm σ rn I) : xr rn I := ⟨h.2.1, fun k hk => by obtain ⟨w, e1, e2, _⟩ := h.2.2 k hk; exact ⟨w, e1, e2⟩⟩
theorem x_begins_s {σ : wS} {s : xS} {rd : xRd} {J : mJ} {I : mI} {rn : Nat} {Q : mI → Prop} (hP : xP σ I) (h : xr rn I) (hrn : rn + 1 < 2000000) (k : ∀ I', fr0 I I' → xm σ (rn + 1) I' → Q I') : x_X3_begins s rd J I Q := by
  unfold x_X3_begins
  rw [h.1, nI_1]
  refine br_f (fun q => ?_) (k _ (fun r h1 _ _ => u2r h1) ⟨hP.to (fun r hr => u2r (by omega)), u2_self _ _ _ _, ?_⟩)
  · have := (nI_eq (a := rn + 1) (b := 2000000) (by omega) (by decide)).mp q
    omega
  · rw [u2r (by decide)]
    intro j hj
    obtain ⟨w, e1, e2⟩ := h.2 j hj
    exact ⟨w, e1, by omega, fun q => by omega⟩
/-- a trip that 'most' may be asked for -/
def tA (t f : Nat) : Prop := (t < 23 ∨ 70 ≤ t) ∧ (f < 23 ∨ 70 ≤ f)
theorem fr0.tr {I I' : mI} {t f m a c g : Nat} (h : fr0 I I') (hA : tA t f) (htr : tr I t f m a c g) : tr I' t f m a c g := htr.to (h t (by have := hA.1; omega) (by have := hA.1; omega) (by have := hA.1; omega)) (h f (by have := hA.2; omega) (by have := hA.2; omega) (by have := hA.2; omega))
theorem x_all_s {σ : wS} {s : xS} {rd : xRd} {J : mJ} {I : mI} {rn t f m a c g : Nat} {Q : Int32 → mI → Prop} (hw : wf σ) (hP : xP σ I) (hr : xr rn I) (hrn : rn + 1 < 2000000) (hT : tS s rd t f) (hA : tA t f) (hs : stok σ m a c) (htr : tr I t f m a c g)
    (h : ∀ I', fr0 I I' → xm σ (rn + 1) I' → Q (nI (V σ m a c)) I') : x_X3_all t s rd J I Q := by
  unfold x_X3_all
  refine x_begins_s hP hr hrn (fun I1 q1 q2 => ?_)
  refine x_from_s hw hrn 24 t f 0 m a c g I1 _ (by omega) hT (by omega) ⟨by have := hA.1; omega, by have := hA.2; omega⟩ hs q2 (q1.tr hA htr) (fun I2 z1 z2 => h I2 (q1.trans z1.fr0) z2)
theorem x_by0_s {σ : wS} {s : xS} {rd : xRd} {J : mJ} {I : mI} {rn t f m a c g e : Nat} {Q : Int32 → mI → Prop} (hw : wf σ) (hM : xm σ rn I) (hrn : rn < 2000000) (hT : tS s rd t f) (hA : tA t f) (hs : stok σ m a c) (he : e < 5) (htr : tr I t f m a c g)
    (h0 : tk σ m a e = 0 → Q (-1) I) (h1 : tk σ m a e ≠ 0 → ∀ I', fr0 I I' → xm σ rn I' → Q (nI (vb σ m a c e)) I') : x_X3_by (x_X3_from 24) t (aI e) 0 s rd J I Q := by
  refine x_by_s (deep := 0) hw hM hT hs he htr (by omega) ⟨by have := hA.1; omega, by have := hA.2; omega⟩ (fun I2 m' a' c' g' Q' s1 s2 s3 s4 s5 => ?_) h0 (fun z I' q1 q2 => h1 z I' q1.fr0 q2)
  exact x_from_s hw hrn 24 26 27 1 m' a' c' g' I2 Q' (by omega) (tS_d (d := 0) (by omega)).1 (by omega) ⟨by omega, by omega⟩ s1 s3 s4 s5
theorem m_mostBy_s {σ : wS} {st m a c e : Nat} {I : mI} {J : mJ} {Q : Int32 → mI → mJ → Prop} (hw : wf σ) (hst : st < 1000) (hM : mm σ st I) (hs : stok σ m a c) (he : e < 5) (h0 : tk σ m a e = 0 → Q (-1) I J) (h1 : tk σ m a e ≠ 0 → ∀ I', mso I I' → mm σ st I' → Q (nI (vb σ m a c e)) I' J) : m_mostBy (nI m) (nI a) (nI c) (aI e) I J Q := by
  unfold m_mostBy
  refine m_leads_s hw hM.1 hs he (fun z => br_t rfl (h0 z)) (fun z I2 g1 g2 g3 g4 g => br_f (by decide) ?_)
  rw [g1, g2, g3, g4]
  refine m_most_s hw hst (g.mm hM) (nx_ok hw hs z) (fun I' q1 q2 => ?_)
  rw [nI_add]
  have e1 : gn σ a c e + V σ (m + tk σ m a e) (nA a e) (nC σ m a c e) = vb σ m a c e := by unfold vb; rw [if_neg z]
  rw [e1]
  exact h1 z I' (g.mso.trans q1) q2
/-- the first act that brings the most; -9: none -/
def fsE (σ : wS) (m a c : Nat) : Nat → Nat → Int32
  | 0, _ => -9
  | n + 1, e => if tk σ m a e ≠ 0 ∧ vb σ m a c e = V σ m a c then aI e else fsE σ m a c n (e + 1)
theorem fsE_big {σ : wS} {m a c : Nat} : ∀ n e, σ 0 0 < e → fsE σ m a c n e = -9 := by
  intro n
  induction n with
  | zero => intro e _; rfl
  | succ n ih =>
    intro e h
    show (if _ then _ else _) = _
    rw [if_neg (fun z => z.1 (tk_big h))]
    exact ih (e + 1) (by omega)
theorem fsE_more {σ : wS} {m a c : Nat} : ∀ n k e, σ 0 0 < e + n → fsE σ m a c (n + k) e = fsE σ m a c n e := by
  intro n
  induction n with
  | zero =>
    intro k e h
    rw [fsE_big _ e (by omega), fsE_big _ e (by omega)]
  | succ n ih =>
    intro k e h
    rw [show n + 1 + k = (n + k) + 1 by omega]
    show (if _ then _ else _) = (if _ then _ else _)
    rw [ih k (e + 1) (by omega)]
def fs (σ : wS) (m a c : Nat) : Int32 := fsE σ m a c 5 0
theorem fs_P {σ : wS} (hw : wf σ) {m a c : Nat} : fs σ m a c = fsE σ m a c (σ 0 0 + 1) 0 := by
  have := hw.1
  have h := fsE_more (σ := σ) (m := m) (a := a) (c := c) (σ 0 0 + 1) (4 - σ 0 0) 0 (by omega)
  rw [show σ 0 0 + 1 + (4 - σ 0 0) = 5 by omega] at h
  exact h
theorem V_ne_m1 {n : Nat} (h : n < 2 ^ 31) : ¬ (-1 : Int32) = nI n := fun q => m1_ne h q.symm
theorem x_first_lp {σ : wS} {s : xS} {rd : xRd} {J : mJ} {I0 : mI} {rn t f m a c g : Nat} {Q : Int32 → mI → Prop} (hw : wf σ) (hrn : rn < 2000000) (hT : tS s rd t f) (hA : tA t f) (hs : stok σ m a c) (htr : tr I0 t f m a c g) (h : ∀ I', fr0 I0 I' → xm σ rn I' → Q (fs σ m a c) I') :
    ∀ n e I, σ 0 0 + 1 - e < n → e ≤ σ 0 0 + 1 → fr0 I0 I → xm σ rn I → fs σ m a c = fsE σ m a c (σ 0 0 + 1 - e) e → x_X3_first_l8 Q n t (nI (V σ m a c)) (aI e) s rd J I := by
  intro n
  induction n with
  | zero => intro e I h1; omega
  | succ n ih =>
    intro e I h1 h2 h3 h4 h5
    have hP4 := hw.1
    have hV := V_le hw m a c
    unfold x_X3_first_l8
    rw [h4.1.1]
    by_cases h6 : e = σ 0 0 + 1
    · refine br_t ((aI_le (by omega) (by omega)).mpr (by omega)) ?_
      have e9 : fs σ m a c = -9 := by rw [h5, h6, Nat.sub_self]; rfl
      rw [← e9]
      exact h I h3 h4
    · refine br_f (fun q => h6 (by have := (aI_le (by omega) (by omega)).mp q; omega)) ?_
      have e5 : fsE σ m a c (σ 0 0 + 1 - e) e = if tk σ m a e ≠ 0 ∧ vb σ m a c e = V σ m a c then aI e else fsE σ m a c (σ 0 0 + 1 - (e + 1)) (e + 1) := by
        rw [show σ 0 0 + 1 - e = (σ 0 0 + 1 - (e + 1)) + 1 by omega]
        rfl
      rw [e5] at h5
      refine x_by0_s hw h4 hrn hT hA hs (by omega) (h3.tr hA htr) (fun z => ?_) (fun z I' q1 q2 => ?_)
      · refine br_f (V_ne_m1 (by omega)) ?_
        rw [aI_next]
        rw [if_neg (fun y => y.1 z)] at h5
        exact ih (e + 1) I (by omega) (by omega) h3 h4 h5
      · have hv := vb_le (e := e) (m := m) (a := a) (c := c) hw
        refine pk_eq (vb σ m a c e) (V σ m a c) (fun y => ?_) (fun y => ?_) rfl rfl (by omega) (by omega)
        · rw [if_pos ⟨z, y⟩] at h5
          rw [← h5]
          exact h I' (h3.trans q1) q2
        · rw [aI_next]
          rw [if_neg (fun w => y w.2)] at h5
          exact ih (e + 1) I' (by omega) (by omega) (h3.trans q1) q2 h5
theorem x_first_s {σ : wS} {s : xS} {rd : xRd} {J : mJ} {I : mI} {rn t f m a c g : Nat} {Q : Int32 → mI → Prop} (hw : wf σ) (hP : xP σ I) (hr : xr rn I) (hrn : rn + 1 < 2000000) (hT : tS s rd t f) (hA : tA t f) (hs : stok σ m a c) (htr : tr I t f m a c g)
    (h : ∀ I', fr0 I I' → xm σ (rn + 1) I' → Q (fs σ m a c) I') : x_X3_first t s rd J I Q := by
  unfold x_X3_first
  refine x_all_s hw hP hr hrn hT hA hs htr (fun I1 q1 q2 => ⟨σ 0 0 + 2, ?_⟩)
  exact x_first_lp hw hrn hT hA hs (q1.tr hA htr) (fun I' z1 z2 => h I' (q1.trans z1) z2) (σ 0 0 + 2) 0 I1 (by omega) (by omega) fr0.refl q2 (fs_P hw)
theorem m_first_lp {σ : wS} {st m a c : Nat} {I0 : mI} {J : mJ} {Q : Int32 → mI → mJ → Prop} (hw : wf σ) (hst : st < 1000) (hs : stok σ m a c) (h : ∀ I', mso I0 I' → mm σ st I' → Q (fs σ m a c) I' J) :
    ∀ n e I, 5 - e < n → e ≤ 5 → mso I0 I → mm σ st I → fs σ m a c = fsE σ m a c (5 - e) e → m_firstOf_l12 Q n (nI m) (nI a) (nI c) (nI (V σ m a c)) (aI e) I J := by
  intro n
  induction n with
  | zero => intro e I h1; omega
  | succ n ih =>
    intro e I h1 h2 h3 h4 h5
    have hV := V_le hw m a c
    unfold m_firstOf_l12
    by_cases h6 : e = 5
    · refine br_t ((aI_3 (by omega)).mpr h6) ?_
      have e9 : fs σ m a c = -9 := by rw [h5, h6]; rfl
      rw [← e9]
      exact h I h3 h4
    · refine br_f (fun q => h6 ((aI_3 (by omega)).mp q)) ?_
      have e5 : fsE σ m a c (5 - e) e = if tk σ m a e ≠ 0 ∧ vb σ m a c e = V σ m a c then aI e else fsE σ m a c (5 - (e + 1)) (e + 1) := by
        rw [show 5 - e = (5 - (e + 1)) + 1 by omega]
        rfl
      rw [e5] at h5
      refine m_mostBy_s hw hst h4 hs (by omega) (fun z => ?_) (fun z I' q1 q2 => ?_)
      · refine br_f (V_ne_m1 (by omega)) ?_
        rw [aI_next]
        rw [if_neg (fun y => y.1 z)] at h5
        exact ih (e + 1) I (by omega) (by omega) h3 h4 h5
      · have hv := vb_le (e := e) (m := m) (a := a) (c := c) hw
        refine pk_eq (vb σ m a c e) (V σ m a c) (fun y => ?_) (fun y => ?_) rfl rfl (by omega) (by omega)
        · rw [if_pos ⟨z, y⟩] at h5
          rw [← h5]
          exact h I' (h3.trans q1) q2
        · rw [aI_next]
          rw [if_neg (fun w => y w.2)] at h5
          exact ih (e + 1) I' (by omega) (by omega) (h3.trans q1) q2 h5
theorem m_firstOf_s {σ : wS} {st m a c : Nat} {I : mI} {J : mJ} {Q : Int32 → mI → mJ → Prop} (hw : wf σ) (hst : st < 1000) (hM : mm σ st I) (hs : stok σ m a c) (h : ∀ I', mso I I' → mm σ st I' → Q (fs σ m a c) I' J) : m_firstOf (nI m) (nI a) (nI c) I J Q := by
  unfold m_firstOf
  refine m_most_s hw hst hM hs (fun I1 q1 q2 => ⟨6, ?_⟩)
  exact m_first_lp hw hst hs (fun I' z1 z2 => h I' (q1.trans z1) z2) 6 0 I1 (by omega) (by omega) mso.refl q2 rfl
/-- the most was asked for, on both sides -/
theorem RelS.most {t : Nat} {σ : wS} {fz : Nat → Bool} {s : xS} {rd : xRd} {J : mJ} {I I' Im Im' : mI} {Jm : mJ} {rn st : Nat} (h : RelS t σ fz s rd J I Im Jm) (hx : fr0 I I') (hr : xr rn I') (hrn : rn ≤ 100 * (t + 1)) (hm : mso Im Im') (hM : mm σ st Im') (hst : st ≤ t + 2) : RelS (t + 1) σ fz s rd J I' Im' Jm :=
  h.chg h.1 (h.2.1.to (fun r r1 r2 => hx r (by omega) (by omega) (by omega))) (h.2.2.1.to (fun r r1 r2 => hm.1 r (by omega) (by omega) (by omega)) (fun k hk => hm.2 k (by omega))) ⟨rn, st, hr.1, hrn, hr.2, hM.2.1, hst, hM.2.2⟩ rfl rfl (fun _ _ => rfl) (fun r hr2 => hx r (by omega) (by omega) (by omega)) (fun r hr2 => hm.1 r (by omega) (by omega) (by omega)) (fun k hk => hm.2 k (by omega))
/-- what a call of 'most' finds -/
theorem RelS.mst {t : Nat} {σ : wS} {fz : Nat → Bool} {s : xS} {rd : xRd} {J : mJ} {I Im : mI} {Jm : mJ} (h : RelS t σ fz s rd J I Im Jm) : ∃ rn st, xr rn I ∧ rn ≤ 100 * t ∧ mm σ st Im ∧ st ≤ t + 1 := by
  obtain ⟨rn, st, h1, h2, h3, h4, h5, h6⟩ := h.2.2.2.1
  exact ⟨rn, st, ⟨h1, h3⟩, h2, ⟨h.2.2.1.mP, h4, h6⟩, h5⟩
theorem tA_10 : tA 10 11 := ⟨by decide, by decide⟩
theorem tA_97 : tA 97 98 := ⟨by decide, by decide⟩
theorem p_best {t : Nat} (ht : t ≤ 64) {s : xS} {rd : xRd} {J : mJ} {I Im : mI} {Jm : mJ} (h : Rel t s rd J I Im Jm) : x_X0_best s rd J I (fun r I' => m_best Im Jm (RelQ (t + 1) s rd J I' r)) := by
  obtain ⟨h0, σ, fz, hS⟩ := h.opn
  obtain ⟨rn, st, e1, e2, e3, e4⟩ := hS.mst
  unfold x_X0_best m_best
  refine x_all_s hS.1.1 hS.2.1.xP e1 (by omega) tS_10 tA_10 hS.1.stok hS.2.1.tr (fun I' q1 q2 => ?_)
  rw [hS.2.2.1.min, hS.2.2.1.at_, hS.2.2.1.food]
  exact m_most_s hS.1.1 (by omega) e3 hS.1.stok (fun Im' z1 z2 => ⟨rfl, (hS.most q1 q2.xr (by omega) z1 z2 (by omega)).cls (by omega)⟩)
theorem p_first {t : Nat} (ht : t ≤ 64) {s : xS} {rd : xRd} {J : mJ} {I Im : mI} {Jm : mJ} (h : Rel t s rd J I Im Jm) : x_X0_first s rd J I (fun r I' => m_first Im Jm (RelQ (t + 1) s rd J I' r)) := by
  obtain ⟨h0, σ, fz, hS⟩ := h.opn
  obtain ⟨rn, st, e1, e2, e3, e4⟩ := hS.mst
  unfold x_X0_first m_first
  refine x_first_s hS.1.1 hS.2.1.xP e1 (by omega) tS_10 tA_10 hS.1.stok hS.2.1.tr (fun I' q1 q2 => ?_)
  rw [hS.2.2.1.min, hS.2.2.1.at_, hS.2.2.1.food]
  exact m_firstOf_s hS.1.1 (by omega) e3 hS.1.stok (fun Im' z1 z2 => ⟨rfl, (hS.most q1 q2.xr (by omega) z1 z2 (by omega)).cls (by omega)⟩)
theorem p_with {t : Nat} (ht : t ≤ 64) {a : Int32} {s : xS} {rd : xRd} {J : mJ} {I Im : mI} {Jm : mJ} (h : Rel t s rd J I Im Jm) : x_X0_with a s rd J I (fun r I' => m_with a Im Jm (RelQ (t + 1) s rd J I' r)) := by
  obtain ⟨h0, σ, fz, hS⟩ := h.opn
  obtain ⟨rn, st, e1, e2, e3, e4⟩ := hS.mst
  unfold x_X0_with m_with
  refine x_isAct_c (fun q => br_f (by decide) ?_) (fun q => br_t rfl (m_isAct_c (fun z => absurd z q) (fun _ => br_t rfl ⟨rfl, h.same⟩)))
  obtain ⟨e, he, rfl⟩ := aI_in q
  have hv := vb_le (e := e) (m := σ 0 8) (a := σ 0 9) (c := σ 0 10) hS.1.1
  unfold x_X3_with
  refine x_begins_s hS.2.1.xP e1 (by omega) (fun I1 q1 q2 => ?_)
  have fin : ∀ r r' I', fr0 I I' → xm σ (rn + 1) I' → (tk σ (σ 0 8) (σ 0 9) e = 0 → r = -4) → (tk σ (σ 0 8) (σ 0 9) e ≠ 0 → r = nI (vb σ (σ 0 8) (σ 0 9) (σ 0 10) e)) → r' = r → m_isAct (aI e) Im Jm (fun r1 I2 J3 => (r1 = 0 → RelQ (t + 1) s rd J I' r' (-1) I2 J3) ∧ (¬ r1 = 0 → m_mostBy (I2 0 0) (I2 0 3) (I2 0 12) (aI e) I2 J3 (fun r5 I6 J7 => ((0 : Int32) ≤ r5 → RelQ (t + 1) s rd J I' r' r5 I6 J7) ∧ (¬ (0 : Int32) ≤ r5 → RelQ (t + 1) s rd J I' r' (-4) I6 J7)))) := by
    intro r r' I' k1 k2 k3 k4 k5
    subst k5
    refine m_isAct_c (fun _ => br_f (by decide) ?_) (fun z => absurd q z)
    rw [hS.2.2.1.min, hS.2.2.1.at_, hS.2.2.1.food]
    refine m_mostBy_s hS.1.1 (by omega) e3 hS.1.stok he (fun z => br_f (by decide) ⟨k3 z, ?_⟩) (fun z Im' z1 z2 => br_t (nI_pos' (by omega)) ⟨k4 z, ?_⟩)
    · exact (hS.most k1 k2.xr (by omega) mso.refl e3 (by omega)).cls (by omega)
    · exact (hS.most k1 k2.xr (by omega) z1 z2 (by omega)).cls (by omega)
  refine x_by0_s hS.1.1 q2 (by omega) tS_10 tA_10 hS.1.stok he (q1.tr tA_10 hS.2.1.tr) (fun z => br_f (by decide) ?_) (fun z I' z1 z2 => br_t (nI_pos' (by omega)) ?_)
  · exact fin _ _ _ q1 q2 (fun _ => rfl) (fun y => absurd z y) rfl
  · exact fin _ _ _ (q1.trans z1) z2 (fun y => absurd y z) (fun _ => rfl) rfl
