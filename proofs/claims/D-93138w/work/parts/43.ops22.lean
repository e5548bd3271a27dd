set_option maxRecDepth 100000
set_option maxHeartbeats 4000000
/-! PLAIN LAW, operations 22: the model's rule is determinate; run -/
theorem Dt_isPatch {a : Int32} {I : mI} {J : mJ} : Dt (fun Q => m_isPatch a I J Q) := by
  unfold m_isPatch
  exact Dt.bind Dt_in (fun _ _ _ => Dt.and Dt.pure)
theorem Dt_valueOf_j28 {a b : Int32} {I : mI} {J : mJ} : Dt (fun Q => m_valueOf_j28 Q a b I J) := by
  unfold m_valueOf_j28
  refine Dt.br (Dt.br Dt.pure (Dt.bind Dt_foodIn (fun _ _ _ => Dt.bind Dt_yieldIn (fun _ _ _ => Dt.pure)))) (Dt.br (Dt.br Dt.pure Dt.pure) (Dt.br Dt.pure (Dt.br (Dt.bind Dt_isPatch (fun _ _ _ => Dt.br Dt.pure (Dt.bind Dt_foodIn (fun _ _ _ => Dt.pure)))) (Dt.br (Dt.bind Dt_isPatch (fun _ _ _ => Dt.br Dt.pure (Dt.br Dt.pure (Dt.and Dt.pure)))) Dt.pure))))
theorem Dt_valueOf {a : Int32} {I : mI} {J : mJ} : Dt (fun Q => m_valueOf a I J Q) := by
  unfold m_valueOf
  exact Dt.br (Dt.br Dt_valueOf_j28 Dt_valueOf_j28) Dt.pure
theorem Dt_joined {a b c : Int32} {I : mI} {J : mJ} : Dt (fun Q => m_joined a b c I J Q) := by
  unfold m_joined
  exact Dt.br Dt.pure (Dt.br Dt.pure (Dt.br (Dt.br Dt.pure Dt.pure) (Dt.br (Dt.br Dt.pure Dt.pure) (Dt.br (Dt.br Dt.pure Dt.pure) (Dt.br (Dt.br Dt.pure Dt.pure) (Dt.br (Dt.br Dt.pure Dt.pure) (Dt.br (Dt.br Dt.pure Dt.pure) (Dt.br (Dt.br Dt.pure Dt.pure) (Dt.br Dt.pure Dt.pure)))))))))
theorem Dt_holds_l19 : ∀ n (a b c : Int32) (I : mI) (J : mJ), Dt (fun Q => m_holds_l19 Q n a b c I J) := by
  intro n
  induction n with
  | zero => intro a b c I J; exact Dt.false
  | succ n ih =>
    intro a b c I J
    have j91 : ∀ (d : Int32) (I : mI) (J : mJ), Dt (fun Q => m_holds_j91 Q (fun b0 b1 b2 I J => m_holds_l19 Q n b0 b1 b2 I J) a b c d I J) := by
      intro d I J
      unfold m_holds_j91 m_holds_j139
      exact Dt.and (Dt.and (Dt.bind Dt_joined (fun _ _ _ => Dt.and (ih _ _ _ _ _))))
    unfold m_holds_l19
    refine Dt.and (Dt.br (Dt.br Dt.pure Dt.pure) (Dt.and (Dt.br (Dt.and (Dt.and ?_)) (Dt.br (j91 _ _ _) (Dt.br (j91 _ _ _) (Dt.bind Dt_in (fun _ _ _ => Dt.br (Dt.bind Dt_valueOf (fun _ _ _ => Dt.and ?_)) (j91 _ _ _))))))))
    · unfold m_holds_j139; exact ih _ _ _ _ _
    · unfold m_holds_j139; exact ih _ _ _ _ _
theorem Dt_holds {a : Int32} {I : mI} {J : mJ} : Dt (fun Q => m_holds a I J Q) := by
  unfold m_holds m_holds_j18
  exact Dt.br (Dt.ex (fun n => Dt_holds_l19 n _ _ _ _ _)) (Dt.and (Dt.ex (fun n => Dt_holds_l19 n _ _ _ _ _)))
theorem Dt_clauseThere_l2 : ∀ n (a : Int32) (I : mI) (J : mJ), Dt (fun Q => m_clauseThere_l2 Q n a I J) := by
  intro n
  induction n with
  | zero => intro a I J; exact Dt.false
  | succ n ih =>
    intro a I J
    unfold m_clauseThere_l2 m_clauseThere_j45
    exact Dt.br Dt.pure (Dt.bind Dt_holds (fun _ _ _ => Dt.br (ih _ _ _) (Dt.and (Dt.bind Dt_leads (fun _ _ _ => Dt.br (ih _ _ _) Dt.pure)))))
theorem Dt_ruledThere {I : mI} {J : mJ} : Dt (fun Q => m_ruledThere I J Q) := by
  unfold m_ruledThere m_clauseThere
  exact Dt.bind (W := fun Q => ∃ n0, m_clauseThere_l2 Q n0 0 I J) (Dt.ex (fun n => Dt_clauseThere_l2 n _ _ _)) (fun _ _ _ => Dt.br (Dt.bind Dt_leads (fun _ _ _ => Dt.br Dt.pure Dt.pure)) (Dt.and Dt.pure))
theorem x_become97_s {σ : wS} {s : xS} {rd : xRd} {J : mJ} {I : mI} {m a c g : Nat} {Q : mI → Prop} (htr : tr I 10 11 m a c g) (K : ∀ I', (∀ r, r ≠ 97 → r ≠ 98 → I' r = I r) → tr I' 97 98 m a c g → Q I') : x_X2_become 97 10 s rd J I Q := by
  obtain ⟨t1, t2, t3, t4⟩ := htr
  unfold x_X2_become
  have e11 : xlen s 11 = 4 := xlen_c (by decide) rfl
  have e98 : xlen s 98 = 4 := xlen_c (by decide) rfl
  refine ⟨xo_c (by decide) rfl, xo_c (by decide) rfl, 11, xR_c rfl, 98, xR_c rfl, xo_c (by decide) rfl, xo_c (by decide) rfl, ?_⟩
  rw [e11, e98, show (0 : Int32).toNatClampNeg = 0 from rfl, show (4 : Int32).toNatClampNeg = 4 from rfl]
  refine ⟨⟨by decide, by decide, by decide, by decide, by decide⟩, nm_e (K _ (fun r r7 r8 => ?_) ⟨?_, ?_, ?_, fun p hp => ?_⟩)⟩
  · rw [ur_row r8, u2r r7, u2r r7, u2r r7]
  · rw [ur_row (by decide), u2_ne _ _ (Or.inr (by decide)), u2_self]; exact t1
  · rw [ur_row (by decide), u2_ne _ _ (Or.inr (by decide)), u2_ne _ _ (Or.inr (by decide)), u2_self]; exact t2
  · rw [ur_row (by decide), u2_self]; exact t3
  · rw [ur_self, pk_cpy_in (Nat.zero_le _) (by omega), Nat.zero_add, Nat.sub_zero, u2r (by decide), u2r (by decide), u2r (by decide)]; exact t4 p hp
/-- the model runs from a trip, whatever else its heap holds, and answers v -/
def mRun (σ : wS) (m a c g : Nat) (bv : Nat → Nat) (v : Int32) : Prop := ∀ (Im : mI) (Jm : mJ) (A : Int32 → mI → mJ → Prop) (fu : Nat), 21 - m < fu → mG σ Im → (Im 0 1 = nI (σ 0 11)) → aT Im m a c g → (∀ Im', sI Im Im' → A v Im' Jm) → m_run_l9 A fu (rI (rv σ m a bv)) Im Jm
theorem sI.trans {I I1 I2 : mI} (h : sI I I1) (g : sI I1 I2) : sI I I2 := ⟨fun r r0 r4 => (g.1 r r0 r4).trans (h.1 r r0 r4), fun f hf => (g.2 f hf).trans (h.2 f hf)⟩
theorem sI.mG {σ : wS} {I0 I : mI} (g : sI I0 I) (h : @@N@@.mG σ I0) : @@N@@.mG σ I := h.to (fun r r1 r2 => g.1 r (by omega) (by omega)) (fun k hk => g.2 k (by omega))
theorem x_runs_lp {σ : wS} {s : xS} {rd : xRd} {fz : Nat → Bool} {J : mJ} {I0 : mI} {Q : Int32 → mI → Prop} (hWF : WF σ) (hP : xP σ I0) (hX : xG 1 σ I0) (hRC : rC 9 σ s rd fz I0) :
    ∀ n m a c g bv (I : mI), 21 - m < n → stok σ m a c → (a < σ 0 0 ∨ (σ 0 0 = 0 ∧ a = 0)) → g ≤ 30 * m → (∀ r, r ≠ 97 → r ≠ 98 → I r = I0 r) → tr I 97 98 m a c g → (∀ k, k < σ 0 2 → bitC σ s rd J I 97 m a c g k (bv k)) → (∀ I' v, (∀ r, r ≠ 97 → r ≠ 98 → I' r = I0 r) → mRun σ m a c g bv v → Q v I') → x_X0_runs_l23 Q n (rI (rv σ m a bv)) s rd J I := by
  have hw := hWF.1
  have hC := hWF.2.2.1.2.1
  have h8 := hWF.2.2.2.2.2.2.2.2.2
  intro n
  induction n with
  | zero => intro m a c g bv I h1; omega
  | succ n ih =>
    intro m a c g bv I h1 hs hat hg fI htr hb K
    unfold x_X0_runs_l23
    have e10 : I 10 2 = nI (σ 0 11) := by rw [fI 10 (by decide) (by decide)]; exact hX.tr.2.2.1
    cases hr : rv σ m a bv with
    | none =>
      refine br_t rfl ?_
      rw [htr.2.2.1, e10]
      refine K I _ fI (fun Im Jm A fu hfu hG hgot hT hA => ?_)
      rw [hr, show fu = (fu - 1) + 1 by omega]
      unfold m_run_l9
      refine br_t rfl ?_
      rw [hT.2.2.2, hgot]
      exact hA Im sI.refl
    | some e =>
      obtain ⟨he, hk⟩ := rv_ok h8 hr
      have ne : ¬ rI (some e) = -9 := by
        show ¬ aI e = -9
        exact (by decide : ∀ e, e < 5 → ¬ aI e = -9) e he
      have hP' : xP σ I := by
        obtain ⟨q1, q2, q3, q4, q5, q6⟩ := hP
        unfold xP
        rw [fI 1 (by decide) (by decide), fI 3 (by decide) (by decide), fI 4 (by decide) (by decide), fI 6 (by decide) (by decide), fI 7 (by decide) (by decide)]
        exact ⟨q1, q2, q3, q4, q5, q6⟩
      have n1 := nx_ok hw hs hk
      have n2 := gn_tk (c := c) hw hk
      have n3 := tk_at hk hat
      have n4 := tk_le hk
      have n5 : 0 < tk σ m a e := Nat.pos_of_ne_zero hk
      have h20 := hw.2.1
      refine br_f ne ?_
      show x_X1_does 97 (aI e) s rd J I _
      refine x_does_s hw hP' tS_97 hs he hk htr (fun I4 o4 t4 => ?_)
      have fI4 : ∀ r, r ≠ 97 → r ≠ 98 → I4 r = I0 r := fun r r7 r8 => (o4 r r7 r8).trans (fI r r7 r8)
      have hP4 : xP σ I4 := by
        obtain ⟨q1, q2, q3, q4, q5, q6⟩ := hP
        unfold xP
        rw [fI4 1 (by decide) (by decide), fI4 3 (by decide) (by decide), fI4 4 (by decide) (by decide), fI4 6 (by decide) (by decide), fI4 7 (by decide) (by decide)]
        exact ⟨q1, q2, q3, q4, q5, q6⟩
      have hO : old s rd fz I0 s rd fz I4 := old.same (fun r hr => fI4 r (by omega) (by omega))
      have g30 : g + gn σ a c e ≤ 30 * (m + tk σ m a e) := by omega
      obtain ⟨bv', hb'⟩ := bits_s (J := J) (g := g + gn σ a c e) hw hP4 (tS_97 (s := s) (rd := rd)) t4 (by omega) n1.2.1 n1.2.2.1 (by omega) n3 hC (hRC.to hO (fun _ => rfl))
      refine x_ruledFor_s hw hP4 tS_97 t4 (by omega) n1.2.1 hC (by rw [fI4 1 (by decide) (by decide)]; exact hX.1 2 (by decide)) h8 hb' ?_
      refine ih (m + tk σ m a e) (nA a e) (nC σ m a c e) (g + gn σ a c e) bv' I4 (by omega) n1 n3 g30 fI4 t4 hb' (fun I' v fI' hRun => K I' v fI' (fun Im Jm A fu hfu hG hgot hT hA => ?_))
      rw [hr, show fu = (fu - 1) + 1 by omega]
      unfold m_run_l9 m_run_j83
      refine br_f ne ?_
      rw [hT.1, hT.2.1, hT.2.2.1]
      show m_leads (nI m) (nI a) (nI c) (aI e) Im Jm _
      refine m_leads_s hw hG.mP hs he (fun z => absurd z hk) (fun _ I5 z1 z2 z3 z4 zn => br_f (by decide) ?_)
      have s5 : sI Im (u2 (u2 (u2 (u2 I5 0 51 (I5 0 19)) 0 52 (I5 0 20)) 0 53 (I5 0 21)) 0 54 (I5 0 54 + I5 0 22)) := ((((sI.refl.q (qI.refl.nxo zn)).set (by omega)).set (by omega)).set (by omega)).set (by omega)
      have t5 : aT (u2 (u2 (u2 (u2 I5 0 51 (I5 0 19)) 0 52 (I5 0 20)) 0 53 (I5 0 21)) 0 54 (I5 0 54 + I5 0 22)) (m + tk σ m a e) (nA a e) (nC σ m a c e) (g + gn σ a c e) := by
        refine ⟨z1, z2, z3, ?_⟩
        rw [u2_self, zn.2 54 (by decide), hT.2.2.2, z4, nI_add]
      refine m_ruledThere_s hw n1 (s5.mP hG.mP) t5 (s5.mC hG.mC) hC h8 hb' (fun I6 zq => ?_)
      have s6 := s5.q zq
      exact hRun I6 Jm A (fu - 1) (by omega) (s6.mG hG) ((s6.2 1 (by decide)).trans hgot) (zq.aT t5) (fun Im' g7 => hA Im' (s6.trans g7))
theorem x_runs_s {σ : wS} {s : xS} {rd : xRd} {fz : Nat → Bool} {J : mJ} {I : mI} {Q : Int32 → mI → Prop} (hWF : WF σ) (hX : xG 1 σ I) (hRC : rC 9 σ s rd fz I) (K : ∀ I' v, (∀ r, r ≠ 97 → r ≠ 98 → I' r = I r) → (∀ (Im : mI) (Jm : mJ) (A : Int32 → mI → mJ → Prop), mG σ Im → (∀ Im', sI Im Im' → A v Im' Jm) → m_run Im Jm A) → Q v I') : x_X0_runs s rd J I Q := by
  have hw := hWF.1
  have hs := hWF.stok
  have hC := hWF.2.2.1.2.1
  have h8 := hWF.2.2.2.2.2.2.2.2.2
  unfold x_X0_runs
  refine x_become97_s (σ := σ) hX.tr (fun I1 f1 t1 => ?_)
  have hP1 : xP σ I1 := by
    obtain ⟨q1, q2, q3, q4, q5, q6⟩ := hX.xP
    unfold xP
    rw [f1 1 (by decide) (by decide), f1 3 (by decide) (by decide), f1 4 (by decide) (by decide), f1 6 (by decide) (by decide), f1 7 (by decide) (by decide)]
    exact ⟨q1, q2, q3, q4, q5, q6⟩
  have hO : old s rd fz I s rd fz I1 := old.same (fun r hr => f1 r (by omega) (by omega))
  obtain ⟨bv, hb⟩ := bits_s (J := J) hw hP1 (tS_97 (s := s) (rd := rd)) t1 hs.1 hs.2.1 hs.2.2.1 hWF.got hWF.2.2.2.1 hC (hRC.to hO (fun _ => rfl))
  refine x_ruledFor_s hw hP1 tS_97 t1 hs.1 hs.2.1 hC (by rw [f1 1 (by decide) (by decide)]; exact hX.1 2 (by decide)) h8 hb ?_
  refine ⟨22, x_runs_lp (I0 := I) hWF hX.xP hX hRC 22 (σ 0 8) (σ 0 9) (σ 0 10) (σ 0 11) bv I1 (by omega) hs hWF.2.2.2.1 hWF.2.2.1.2.2.2.2.2.2 f1 t1 hb (fun I' v fI' hRun => K I' v fI' (fun Im Jm A hG hA => ?_))⟩
  unfold m_run m_askHere
  obtain ⟨k1, k2⟩ := ask_s hG
  refine m_ruledThere_s hw hs (k1.mP hG.mP) k2 (k1.mC hG.mC) hC h8 hb (fun Im' g => ⟨22, ?_⟩)
  have s6 := k1.q g
  exact hRun Im' Jm A 22 (by omega) (s6.mG hG) ((s6.2 1 (by decide)).trans hG.got) (g.aT k2) (fun Im2 g7 => hA Im2 (s6.trans g7))
theorem p_run {t : Nat} {s : xS} {rd : xRd} {J : mJ} {I Im : mI} {Jm : mJ} (h : Rel t s rd J I Im Jm) : x_X0_run s rd J I (fun r I' => m_run Im Jm (RelQ (t + 1) s rd J I' r)) := by
  obtain ⟨h0, σ, fz, hS⟩ := h.opn
  unfold x_X0_run
  exact x_runs_s hS.1 hS.2.1 hS.2.2.2.2.2.2.1 (fun I' v fI hRun => hRun Im Jm _ hS.2.2.1 (fun Im' g => ⟨rfl, h.ask fI g⟩))
