set_option maxRecDepth 100000
set_option maxHeartbeats 4000000
/-! PLAIN LAW, operations 38: read, joined to the relation -/
theorem RelS.aft {t : Nat} {σ σ' : wS} {fz fz' : Nat → Bool} {s s' : xS} {rd rd' : xRd} {J J' : mJ} {I I' Im Im' : mI} {Jm Jm' : mJ} (hS : RelS t σ fz s rd J I Im Jm) (ho : old s rd fz I s' rd' fz' I')
    (gI : ∀ r, r < 133 + s.1 → r ≠ 93 → r ≠ 95 → r ≠ 1 → I' r = I r) (gJ : ∀ r, r < 133 + s.1 → J' r = J r) (gr : ∀ r, r < 133 → r ≠ 96 → r ≠ 93 → r ≠ 9 → rd' r = rd r)
    (gm : ∀ r, r ≠ 0 → r ≠ 4 → r ≠ 5 → r ≠ 6 → r ≠ 20 → r ≠ 21 → r ≠ 22 → r ≠ 23 → Im' r = Im r) (gf : ∀ k, k ≠ 10 → k ≠ 40 → k ≠ 41 → k ≠ 42 → k ≠ 44 → k ≠ 49 → k ≠ 50 → Im' 0 k = Im 0 k) (gj : ∀ r, r ≠ 0 → Jm' r = Jm r)
    (b1 : WF σ') (b2 : xG 1 σ' I') (b3 : mG σ' Im') (hp : pe σ σ') (p1 : σ' 0 1 = σ 0 1) (p7 : σ' 7 = σ 7) (b7 : rC 9 σ' s' rd' fz' I') (hf : rf s' rd') : RelS t σ' fz' s' rd' J' I' Im' Jm' := by
  refine hS.gen2 ho b1 b2 b3 (hS.2.2.2.1.pe hp (by rw [gI 23 (by omega) (by omega) (by omega) (by omega)]) (gI 24 (by omega) (by omega) (by omega) (by omega)) (gf 18 (by omega) (by omega) (by omega) (by omega) (by omega) (by omega) (by omega)) (gm 7 (by omega) (by omega) (by omega) (by omega) (by omega) (by omega) (by omega) (by omega))) ?_ ?_ b7 (fun r hr => gI r (by omega) (by omega) (by omega) (by omega)) (fun r r1 r2 => gI r r2 (by omega) (by omega) (by omega)) (fun r r1 r2 => gJ r r2) (fun r k hr => xR_row (gr r (by omega) (by omega) (by omega) (by omega))) (fun r hr => gm r (by omega) (by omega) (by omega) (by omega) (by omega) (by omega) (by omega) (by omega)) (fun f hf => gf f (by omega) (by omega) (by omega) (by omega) (by omega) (by omega) (by omega)) (gj 28 (by decide)) hf
  · obtain ⟨d, w1, w2, w3⟩ := hS.2.2.2.2.1
    refine ⟨d, w1, by rw [gf 34 (by omega) (by omega) (by omega) (by omega) (by omega) (by omega) (by omega)]; exact w2, fun m hm need hn => ?_⟩
    rw [gj 15 (by decide), w3 m hm need hn, p1, dp.sig p7]
  · exact (hS.2.2.2.2.2.1.sig p1 p7).to ho (fun k => xR_row (gr 8 (by omega) (by omega) (by omega) (by omega)))
/-- the class's clauses, the model's signs -/
def rdS (σ : wS) (n : Nat) (E e : Nat → Nat) (F : List Nat) : wS := ur (ur (ur (u2 σ 0 2 n) 8 (fun c => if c < n then e c else σ 8 c)) 9 (fun i => if i < F.length then F.getD i 0 else σ 9 i)) 10 (fun c => if c < n then E c else σ 10 c)
theorem ur_rw {α : Type} {f : Nat → Nat → α} {i r : Nat} {g : Nat → α} (h : r ≠ i) : ur f i g r = f r := by
  funext k
  unfold ur
  rw [if_neg h]
theorem ur_sf {α : Type} {f : Nat → Nat → α} {i : Nat} {g : Nat → α} : ur f i g i = g := by
  funext k
  unfold ur
  rw [if_pos rfl]
theorem rdS_r {σ : wS} {n r : Nat} {E e : Nat → Nat} {F : List Nat} (h8 : r ≠ 8) (h9 : r ≠ 9) (h10 : r ≠ 10) : rdS σ n E e F r = u2 σ 0 2 n r := by
  unfold rdS
  rw [ur_rw h10, ur_rw h9, ur_rw h8]
theorem rdS_8 {σ : wS} {n : Nat} {E e : Nat → Nat} {F : List Nat} (c : Nat) : rdS σ n E e F 8 c = if c < n then e c else σ 8 c := by
  unfold rdS
  rw [ur_rw (by decide), ur_rw (by decide), ur_sf]
theorem rdS_9 {σ : wS} {n : Nat} {E e : Nat → Nat} {F : List Nat} (c : Nat) : rdS σ n E e F 9 c = if c < F.length then F.getD c 0 else σ 9 c := by
  unfold rdS
  rw [ur_rw (by decide), ur_sf]
theorem rdS_10 {σ : wS} {n : Nat} {E e : Nat → Nat} {F : List Nat} (c : Nat) : rdS σ n E e F 10 c = if c < n then E c else σ 10 c := by
  unfold rdS
  rw [ur_sf]
theorem rdS_0 {σ : wS} {n k : Nat} {E e : Nat → Nat} {F : List Nat} (h : k ≠ 2) : rdS σ n E e F 0 k = σ 0 k := by
  rw [rdS_r (by decide) (by decide) (by decide), u2_ne _ _ (Or.inr h)]
theorem rdS_02 {σ : wS} {n : Nat} {E e : Nat → Nat} {F : List Nat} : rdS σ n E e F 0 2 = n := by
  rw [rdS_r (by decide) (by decide) (by decide), u2_self]
theorem rdS_s {σ : wS} {n r : Nat} {E e : Nat → Nat} {F : List Nat} (h0 : r ≠ 0) (h8 : r ≠ 8) (h9 : r ≠ 9) (h10 : r ≠ 10) : rdS σ n E e F r = σ r := by
  rw [rdS_r h8 h9 h10, u2r h0]
theorem rdS_pe {σ : wS} {n : Nat} {E e : Nat → Nat} {F : List Nat} : pe σ (rdS σ n E e F) := ⟨rdS_0 (by decide), rdS_0 (by decide), rdS_s (by decide) (by decide) (by decide) (by decide), rdS_s (by decide) (by decide) (by decide) (by decide), rdS_s (by decide) (by decide) (by decide) (by decide), rdS_s (by decide) (by decide) (by decide) (by decide)⟩
theorem rdS_wf {σ : wS} {n : Nat} {E e : Nat → Nat} {F : List Nat} (h : WF σ) (hn : n ≤ 6) (he : ∀ c, c < n → e c < 5) : WF (rdS σ n E e F) := by
  obtain ⟨a1, a2, a3, a4, a5, a6, a7, a8, a9, a10⟩ := h
  have q : ∀ {r}, r ≠ 0 → r ≠ 8 → r ≠ 9 → r ≠ 10 → rdS σ n E e F r = σ r := fun h0 h8 h9 h10 => rdS_s h0 h8 h9 h10
  have q0 : ∀ {k}, k ≠ 2 → rdS σ n E e F 0 k = σ 0 k := fun h => rdS_0 h
  refine ⟨?_, ?_, ?_, ?_, ?_, ?_, ?_, ?_, ?_, ?_⟩
  · unfold wf
    rw [q0 (k := 0) (by decide), q0 (k := 3) (by decide), q (r := 2) (by decide) (by decide) (by decide) (by decide), q (r := 3) (by decide) (by decide) (by decide) (by decide), q (r := 5) (by decide) (by decide) (by decide) (by decide), q (r := 6) (by decide) (by decide) (by decide) (by decide)]
    exact a1
  · rw [q0 (k := 8) (by decide), q0 (k := 9) (by decide), q0 (k := 10) (by decide)]
    exact (rdS_pe.stok _ _ _).mpr a2
  · rw [rdS_02, q0 (k := 1) (by decide), q0 (k := 4) (by decide), q0 (k := 5) (by decide), q0 (k := 6) (by decide), q0 (k := 7) (by decide), q0 (k := 11) (by decide), q0 (k := 8) (by decide)]
    exact ⟨a3.1, hn, a3.2.2⟩
  · rw [q0 (k := 9) (by decide), q0 (k := 0) (by decide)]
    exact a4
  · rw [q (r := 1) (by decide) (by decide) (by decide) (by decide)]
    exact a5
  · rw [q0 (k := 0) (by decide), q (r := 1) (by decide) (by decide) (by decide) (by decide), q (r := 2) (by decide) (by decide) (by decide) (by decide)]
    exact a6
  · rw [q (r := 4) (by decide) (by decide) (by decide) (by decide)]
    exact a7
  · rw [q (r := 7) (by decide) (by decide) (by decide) (by decide)]
    exact a8
  · rw [q0 (k := 0) (by decide), q (r := 6) (by decide) (by decide) (by decide) (by decide)]
    exact a9
  · intro c hc
    rw [rdS_02] at hc
    rw [rdS_8, if_pos hc]
    exact he c hc
theorem p_read {t : Nat} {s : xS} {rd : xRd} {J : mJ} {I Im : mI} {Jm : mJ} (ht : t ≤ 64) (h : Rel t s rd J I Im Jm) : x_X0_read s rd J I (fun r s' rd' J' I' => m_read Im Jm (RelQ (t + 1) s' rd' J' I' r)) := by
  obtain ⟨h0, σ, fz, hS⟩ := h.opn
  obtain ⟨T, hT, t1, t2, t3⟩ := hS.rT
  have hrf := hS.2.2.2.2.2.2.2.1.1
  obtain ⟨B, hB0⟩ : ∃ B : Nat → Nat, B = fun j => (Im 19 j).toNatClampNeg := ⟨_, rfl⟩
  have hB : ∀ j, j < T → B j < 256 ∧ Im 19 j = nI (B j) ∧ I 92 j = sb (B j) := by
    intro j hj
    obtain ⟨b, b1, b2, b3⟩ := t3 j hj
    have e : B j = b := by rw [hB0]; show (Im 19 j).toNatClampNeg = b; rw [b2, nI_clamp (by omega)]
    rw [e]
    exact ⟨b1, b2, b3⟩
  have hSt : RelS (t + 1) σ fz s rd J (u2 I 0 8 0) (u2 Im 0 39 0) Jm := by
    refine hS.tape (fun r r0 _ => u2r r0) (fun f hf => u2_ne _ _ (Or.inr hf)) (fun r r0 _ => u2r r0) (fun f hf => u2_ne _ _ (Or.inr hf)) ⟨0, by decide, u2_self _ _ _ _, u2_self _ _ _ _, fun j hj => absurd hj (Nat.not_lt_zero _)⟩
  -- the class's start
  obtain ⟨I1, hI1⟩ : ∃ I1 : mI, I1 = u2 (u2 (u2 (u2 (u2 I 0 8 0) 93 4 (nI T)) 93 6 0) 93 7 0) 93 8 0 := ⟨_, rfl⟩
  have I1r : ∀ r, r ≠ 93 → I1 r = u2 I 0 8 0 r := fun r hr => by rw [hI1, u2r hr, u2r hr, u2r hr, u2r hr]
  have hx1 : xb T B (u2 rd 93 3 (some 92)) I1 := by
    refine ⟨by rw [xR_d rfl, u2_self], ?_, fun j hj => ?_, fun k hk => (xR_row (u2r (by decide))).trans (hrf.2.2 k hk)⟩
    · rw [hI1, u2_ne _ _ (Or.inr (by decide)), u2_ne _ _ (Or.inr (by decide)), u2_ne _ _ (Or.inr (by decide)), u2_self]
    · rw [I1r 92 (by decide), u2r (by decide)]; exact ⟨(hB j hj).1, (hB j hj).2.2⟩
  have hBF : BF s (u2 rd 93 3 (some 92)) J (u2 I 0 8 0) fz s (u2 rd 93 3 (some 92)) J I1 fz := ⟨Nat.le_refl _, fun _ _ => ⟨rfl, rfl⟩, fun r hr => ⟨fun _ => rfl, rfl, fun h => I1r r h, rfl⟩⟩
  have h96 : ∀ i, i < 6 → ∀ y, xR (u2 rd 93 3 (some 92)) 96 i = some y → xo s y 16 := fun i hi y hy => hrf.2.1 96 (.inr (.inr rfl)) i hi y (by rw [← hy]; exact (xR_row (u2r (by decide))).symm)
  obtain ⟨q0, hq0⟩ : ∃ q0, rn T B cB 0 = q0 := ⟨_, rfl⟩
  have q0T : q0 ≤ T := by rw [← hq0]; exact (rn_le (Nat.zero_le _)).2
  -- the model's start
  have hW : gR T B Im Jm (fun QM => m_read Im Jm QM) 0 q0 [] := by
    intro QM hh
    obtain ⟨N, hh⟩ := hh
    show m_read Im Jm QM
    unfold m_read
    refine m_advance_s (T := T) (B := B) (p := 0) hT (Nat.zero_le _) (by rw [u2_ne _ _ (Or.inr (by decide)), u2_ne _ _ (Or.inr (by decide)), u2_ne _ _ (Or.inr (by decide))]; exact t2) (fun j hj => ⟨(hB j hj).1, by rw [u2r (by decide), u2r (by decide), u2r (by decide)]; exact (hB j hj).2.1⟩) (by rw [u2_ne _ _ (Or.inr (by decide)), u2_self]; rfl) (fun I' J' f y => ⟨N, hh I' J' ⟨⟨fun r a b c => ?_, fun k a b c d e g => ?_, fun r hr => f.2.2 r hr⟩, by rw [← hq0]; exact y, ?_, ?_, fun i hi => absurd hi (Nat.not_lt_zero _)⟩⟩)
    · rw [f.1 r a, u2r a, u2r a, u2r a]
    · rw [f.2.1 k a b c, u2_ne _ _ (Or.inr e), u2_ne _ _ (Or.inr c), u2_ne _ _ (Or.inr d)]
    · rw [f.2.1 44 (by decide) (by decide) (by decide), u2_ne _ _ (Or.inr (by decide)), u2_ne _ _ (Or.inr (by decide)), u2_self]
    · rw [f.2.1 49 (by decide) (by decide) (by decide), u2_self]; rfl
  have ho : ∀ {s' : xS} {rd' : xRd} {J' : mJ} {I' : mI} {fz' : Nat → Bool}, BF s (u2 rd 93 3 (some 92)) J (u2 I 0 8 0) fz s' rd' J' I' fz' → old s rd fz (u2 I 0 8 0) s' rd' fz' I' := fun z => ⟨z.1, z.2.1, fun r r1 r2 => by
    have w := z.2.2 r r2
    exact ⟨(w.1 (by omega)).trans (u2r (by omega)), w.2.2.2, fun _ => w.2.2.1 (by omega)⟩⟩
  unfold x_X0_read x_X7_read
  rw [t1]
  refine x_next_s (T := T) (B := B) (p := 0) hT (Nat.zero_le _) (by rw [xR_d rfl, u2_self]) (by rw [u2_ne _ _ (Or.inr (by decide)), u2_ne _ _ (Or.inr (by decide)), u2_ne _ _ (Or.inr (by decide)), u2_self]) (fun j hj => ⟨(hB j hj).1, by rw [u2r (by decide), u2r (by decide), u2r (by decide), u2r (by decide), u2r (by decide)]; exact (hB j hj).2.2⟩) (by rw [u2_ne _ _ (Or.inr (by decide)), u2_ne _ _ (Or.inr (by decide)), u2_self]; rfl) (fun I' f f5 f6 => ?_)
  rw [← hI1] at f
  rw [hq0] at f5 f6
  have eI : I' = NF T B I1 q0 0 (I1 93 9) (I1 93 10) := by
    funext r k
    by_cases er : r = 93
    · subst er
      unfold NF
      rw [if_pos rfl]
      by_cases e5 : k = 5
      · rw [if_pos e5, e5]; exact f5
      · rw [if_neg e5]
        by_cases e6 : k = 6
        · rw [if_pos e6, e6]; exact f6
        · rw [if_neg e6, f.2 k e5 e6]
          by_cases e7 : k = 7
          · rw [if_pos e7, e7, hI1, u2_ne _ _ (Or.inr (by decide)), u2_self]; rfl
          · rw [if_neg e7]
            by_cases e9 : k = 9
            · rw [if_pos e9, e9]
            · rw [if_neg e9]
              by_cases e10 : k = 10
              · rw [if_pos e10, e10]
              · rw [if_neg e10]
    · rw [f.1 r er, NF_r er]
  rw [eI]
  refine read_lp (W := fun QM => m_read Im Jm QM) (Im0 := Im) (Jm0 := Jm) (s0 := s) (rd0 := u2 rd 93 3 (some 92)) (J0 := J) (I0 := u2 I 0 8 0) (fz0 := fz) hT (by omega) (fun p s' rd' J' I' fz' o' a' b' Ie k1 k2 k3 k4 k5 k6 => ?_) (fun n E e F s' rd' J' I' fz' a' b' Ie k1 k2 k3 k4 k5 k6 k7 k8 k9 k10 => ?_) (T + 1) q0 0 (fun _ => 0) (fun _ => 0) [] s (u2 rd 93 3 (some 92)) J I1 fz (I1 93 9) (I1 93 10) Im 256 (by omega) q0T hBF h96 (fun c hc => absurd hc (Nat.not_lt_zero _)) (by decide) (by rw [hI1, u2_self]; rfl) rfl (Nat.zero_le _) (by omega) hx1 (fun _ _ _ => rfl) (fun c hc => absurd hc (Nat.not_lt_zero _)) hW (by omega)
  · -- a fault
    refine ⟨rfl, ?_⟩
    rw [show FH T B I' p o' a' b' 95 6 = nI p from u2_self _ _ _ _]
    refine k6 _ (fun I2 J2 fr => ⟨rfl, ?_⟩)
    have gI : ∀ r, r < 133 + s.1 → r ≠ 93 → r ≠ 95 → FH T B I' p o' a' b' r = u2 I 0 8 0 r := fun r hr h93 h95 => by
      unfold FH
      rw [u2r h95, NF_r h93]
      exact (k1.2.2 r hr).2.2.1 h93
    have gr : ∀ r, r < 133 → r ≠ 96 → r ≠ 93 → rd' r = rd r := fun r hr h96 h93 => ((k1.2.2 r (by omega)).1 h96).trans (u2r h93)
    have gm : ∀ r, r ≠ 0 → r ≠ 20 → r ≠ 21 → r ≠ 22 → r ≠ 23 → u2 I2 0 39 0 r = u2 Im 0 39 0 r := fun r r0 r20 r21 r22 r23 => by rw [u2r r0, u2r r0, fr.1.1 r r0 r20 r21, k5 r r22 r23]
    have gf : ∀ k, k ≠ 40 → k ≠ 41 → k ≠ 42 → k ≠ 44 → k ≠ 49 → k ≠ 50 → u2 I2 0 39 0 0 k = u2 Im 0 39 0 0 k := fun k a b c d e g => by
      by_cases e39 : k = 39
      · rw [e39, u2_self, u2_self]
      · rw [u2_ne _ _ (Or.inr e39), u2_ne _ _ (Or.inr e39), fr.1.2.1 k a b c d e g, k5 0 (by decide) (by decide)]
    have hO : old s rd fz (u2 I 0 8 0) s' rd' fz' (FH T B I' p o' a' b') := (ho k1).mod (fun r r1 r2 => ⟨rfl, rfl, fun _ => by unfold FH; rw [u2r (by omega), NF_r (by omega)]⟩)
    refine RelS.cls (hSt.aft hO (fun r hr h93 h95 _ => gI r hr h93 h95) (fun r hr => (k1.2.2 r hr).2.1) (fun r hr h96 h93 _ => gr r hr h96 h93) (fun r a b c d e g i j => gm r a e g i j) (fun k a b c d e g i => gf k b c d e g i) fr.1.2.2 hSt.1 (hSt.2.1.to (fun r r1 r2 => gI r (by omega) (by omega) (by omega))) (hSt.2.2.1.to (fun r r1 r2 => gm r (by omega) (by omega) (by omega) (by omega) (by omega)) (fun k hk => gf k (by omega) (by omega) (by omega) (by omega) (by omega) (by omega))) ⟨rfl, rfl, rfl, rfl, rfl, rfl⟩ rfl rfl (hSt.2.2.2.2.2.2.1.to hO (fun k => xR_row (gr 9 (by decide) (by decide) (by decide)))) ⟨fun q hq i hi y hy => ?_, fun q hq i hi y hy => ?_, fun k hk => (xR_row (gr 94 (by decide) (by decide) (by decide))).trans (hrf.2.2 k hk)⟩) (by omega)
    · exact hO.ko (hrf.1 q hq i hi y (by rw [← xR_row (gr q (by omega) (by omega) (by omega))]; exact hy))
    · rcases hq with rfl | rfl | rfl
      · exact hO.ko (hrf.2.1 9 (.inl rfl) i hi y (by rw [← xR_row (gr 9 (by decide) (by decide) (by decide))]; exact hy))
      · exact hO.ko (hrf.2.1 20 (.inr (.inl rfl)) i hi y (by rw [← xR_row (gr 20 (by decide) (by decide) (by decide))]; exact hy))
      · exact k2 i hi y hy
  · -- all is read
    have x96 : xlen s' 96 = 6 := xlen_c (by decide) rfl
    have x9 : xlen s' 9 = 6 := xlen_c (by decide) rfl
    rw [x96, x9, show NF T B I' T 0 a' b' 93 8 = nI n from k5]
    refine ⟨by decide, fun i hi y hy => k2 i hi y (by rw [show (0 : Int32).toNatClampNeg = 0 from rfl, Nat.zero_add] at hy; exact hy), ?_⟩
    refine r_end hT (Nat.lt_irrefl _) k4 k6 k10 _ (fun I2 J2 g1 g2 g3 g4 g5 g6 g7 g8 => ⟨rfl, ?_⟩)
    have n9 : ∀ k, xR0 9 k = none := fun k => rfl
    obtain ⟨rN, hrN⟩ : ∃ rN : xRd, rN = ur rd' 9 (va_cpy (xR rd' 96) (xR rd' 9) (0 : Int32).toNatClampNeg (0 : Int32).toNatClampNeg (6 : Int32).toNatClampNeg) := ⟨_, rfl⟩
    rw [← hrN]
    have rN9 : ∀ k, k < 6 → xR rN 9 k = xR rd' 96 k := by
      intro k hk
      rw [xR_d (n9 k), hrN, ur_sf]
      show va_cpy (xR rd' 96) (xR rd' 9) 0 0 6 k = _
      rw [pk_cpy_in (Nat.zero_le _) (by omega), Nat.zero_add, Nat.sub_zero]
    have rNr : ∀ r, r ≠ 9 → rN r = rd' r := fun r hr => by rw [hrN, ur_rw hr]
    have gI0 : ∀ r, r < 133 + s.1 → r ≠ 93 → NF T B I' T 0 a' b' r = u2 I 0 8 0 r := fun r hr h93 => by
      rw [NF_r h93]
      exact (k1.2.2 r hr).2.2.1 h93
    have gI : ∀ r, r < 133 + s.1 → r ≠ 93 → r ≠ 1 → u2 (NF T B I' T 0 a' b') 1 2 (nI n) r = u2 I 0 8 0 r := fun r hr h93 h1 => by rw [u2r h1]; exact gI0 r hr h93
    have gr : ∀ r, r < 133 → r ≠ 96 → r ≠ 93 → r ≠ 9 → rN r = rd r := fun r hr h96 h93 h9 => (rNr r h9).trans (((k1.2.2 r (by omega)).1 h96).trans (u2r h93))
    have gm : ∀ r, r ≠ 0 → r ≠ 4 → r ≠ 5 → r ≠ 6 → r ≠ 20 → r ≠ 21 → r ≠ 22 → r ≠ 23 → I2 r = u2 Im 0 39 0 r := fun r r0 r4 r5 r6 r20 r21 r22 r23 => by rw [g1 r r0 r4 r5 r6 r20 r21, k8 r r22 r23, u2r r0]
    have gf : ∀ k, k ≠ 10 → k ≠ 40 → k ≠ 41 → k ≠ 42 → k ≠ 44 → k ≠ 49 → k ≠ 50 → I2 0 k = u2 Im 0 39 0 0 k := fun k x a b c d e g => by
      by_cases e39 : k = 39
      · rw [e39, u2_self]; exact g3
      · rw [g2 k x e39 a b c d e g, k8 0 (by decide) (by decide), u2_ne _ _ (Or.inr e39)]
    have hO : old s rd fz (u2 I 0 8 0) s' rN fz' (u2 (NF T B I' T 0 a' b') 1 2 (nI n)) := (ho k1).mod (fun r r1 r2 => ⟨rNr r (by omega), rfl, fun _ => by rw [u2r (by omega), NF_r (by omega)]⟩)
    have oFt : oF s' rd' fz' I' s' rN fz' (u2 (NF T B I' T 0 a' b') 1 2 (nI n)) := ⟨Nat.le_refl _, fun _ _ => rfl, fun r r1 _ hf => ⟨rNr r (by omega), hf, by rw [u2r (by omega), NF_r (by omega)]⟩⟩
    have hG := hSt.2.1
    have hM := hSt.2.2.1
    have hXG : xG 1 (rdS σ n E e F) (u2 (NF T B I' T 0 a' b') 1 2 (nI n)) := by
      have a : xG 1 (u2 σ 0 2 n) (u2 (u2 I 0 8 0) 1 2 (nI n)) := hG.set (by decide) rfl
      have b : xG 1 (u2 σ 0 2 n) (u2 (NF T B I' T 0 a' b') 1 2 (nI n)) := a.to (fun r r1 r2 => by
        by_cases e1 : r = 1
        · subst e1
          funext k
          by_cases ek : k = 2
          · rw [ek, u2_self, u2_self]
          · rw [u2_ne _ _ (Or.inr ek), u2_ne _ _ (Or.inr ek), gI0 1 (by omega) (by decide)]
        · rw [u2r e1, u2r e1]; exact gI0 r (by omega) (by omega))
      have q : ∀ r, r ≠ 8 → r ≠ 9 → r ≠ 10 → rdS σ n E e F r = u2 σ 0 2 n r := fun r h8 h9 h10 => rdS_r h8 h9 h10
      unfold xG at b ⊢
      rw [q 0 (by decide) (by decide) (by decide), q 1 (by decide) (by decide) (by decide), q 2 (by decide) (by decide) (by decide), q 3 (by decide) (by decide) (by decide), q 4 (by decide) (by decide) (by decide), q 5 (by decide) (by decide) (by decide), q 6 (by decide) (by decide) (by decide)]
      exact b
    have hMG : mG (rdS σ n E e F) I2 := by
      obtain ⟨⟨c0, c1, c2, c3, c4, c5, c6, c7, c8, c9, c10, c11⟩, ⟨d1, d2, d3, d4, d5⟩, e1, e2, e3, e4, e5⟩ := hM
      have q0 : ∀ {k}, k ≠ 2 → rdS σ n E e F 0 k = σ 0 k := fun h => rdS_0 h
      have q : ∀ {r}, r ≠ 0 → r ≠ 8 → r ≠ 9 → r ≠ 10 → rdS σ n E e F r = σ r := fun h0 h8 h9 h10 => rdS_s h0 h8 h9 h10
      have cf : ∀ k, k < 12 → k ≠ 10 → mcnt I2 k = mcnt (u2 Im 0 39 0) k := fun k hk h10 => by
        unfold mcnt
        split
        · exact gf 12 (by decide) (by decide) (by decide) (by decide) (by decide) (by decide) (by decide)
        · exact gf k h10 (by omega) (by omega) (by omega) (by omega) (by omega) (by omega)
      have row1 : I2 1 = u2 Im 0 39 0 1 := gm 1 (by decide) (by decide) (by decide) (by decide) (by decide) (by decide) (by decide) (by decide)
      have row2 : I2 2 = u2 Im 0 39 0 2 := gm 2 (by decide) (by decide) (by decide) (by decide) (by decide) (by decide) (by decide) (by decide)
      have row3 : I2 3 = u2 Im 0 39 0 3 := gm 3 (by decide) (by decide) (by decide) (by decide) (by decide) (by decide) (by decide) (by decide)
      refine ⟨⟨?_, ?_, ?_, ?_, ?_, ?_, ?_, ?_, ?_, ?_, ?_, ?_⟩, ⟨?_, ?_, ?_, ?_, ?_⟩, ?_, ?_, fun k hk => ?_, fun k hk => ?_, fun k hk => ?_⟩
      · rw [cf 0 (by decide) (by decide), q0 (by decide)]; exact c0
      · rw [cf 1 (by decide) (by decide), q0 (by decide)]; exact c1
      · rw [cf 2 (by decide) (by decide), q0 (by decide)]; exact c2
      · rw [cf 3 (by decide) (by decide), q0 (by decide)]; exact c3
      · rw [cf 4 (by decide) (by decide), q0 (by decide)]; exact c4
      · rw [cf 5 (by decide) (by decide), q0 (by decide)]; exact c5
      · rw [cf 6 (by decide) (by decide), q0 (by decide)]; exact c6
      · rw [cf 7 (by decide) (by decide), q0 (by decide)]; exact c7
      · rw [cf 8 (by decide) (by decide), q0 (by decide)]; exact c8
      · rw [cf 9 (by decide) (by decide), q0 (by decide)]; exact c9
      · rw [rdS_02]
        show I2 0 10 = nI n
        exact g4
      · rw [cf 11 (by decide) (by decide), q0 (by decide)]; exact c11
      · rw [row1, q (by decide) (by decide) (by decide) (by decide)]; exact d1
      · rw [row1, q (by decide) (by decide) (by decide) (by decide)]; exact d2
      · rw [row1, q (by decide) (by decide) (by decide) (by decide)]; exact d3
      · rw [row1, q (by decide) (by decide) (by decide) (by decide)]; exact d4
      · rw [row1, q (by decide) (by decide) (by decide) (by decide)]; exact d5
      · rw [row2, q (by decide) (by decide) (by decide) (by decide)]; exact e1
      · rw [row3, q (by decide) (by decide) (by decide) (by decide)]; exact e2
      · rw [g6 k, rdS_10]
        by_cases ek : k < n
        · rw [if_pos ek, if_pos ek]; exact (k9 k ek).1
        · rw [if_neg ek, if_neg ek, k8 4 (by decide) (by decide)]
          have z := e3 k hk
          rw [u2r (by decide)] at z
          exact z
      · rw [g7 k, rdS_8]
        by_cases ek : k < n
        · rw [if_pos ek, if_pos ek]; exact (k9 k ek).2
        · rw [if_neg ek, if_neg ek, k8 5 (by decide) (by decide)]
          have z := e4 k hk
          rw [u2r (by decide)] at z
          exact z
      · rw [g8 k, rdS_9]
        by_cases ek : k < F.length
        · rw [if_pos ek, if_pos ek]
        · rw [if_neg ek, if_neg ek, k8 6 (by decide) (by decide)]
          have z := e5 k hk
          rw [u2r (by decide)] at z
          exact z
    have hC : rC 9 (rdS σ n E e F) s' rN fz' (u2 (NF T B I' T 0 a' b') 1 2 (nI n)) := by
      intro c hc
      rw [rdS_02] at hc
      obtain ⟨a1, a2, a3, o, cd, b1, b2, b3, b4, b5, b6, m, b7, b8⟩ := k3 c hc
      have eb : cbeg (rdS σ n E e F) c = cb E c := by
        unfold cbeg cb
        by_cases c0 : c = 0
        · rw [if_pos c0, if_pos c0]
        · rw [if_neg c0, if_neg c0, rdS_10, if_pos (by omega)]
      have ee : rdS σ n E e F 10 c = E c := by rw [rdS_10, if_pos hc]
      have es : sgs (rdS σ n E e F) c = sg E F c := by
        unfold sgs sg
        rw [eb, ee]
        apply List.map_congr_left
        intro i hi
        have z := List.mem_range'_1.mp hi
        rw [rdS_9, if_pos (by omega)]
      rw [eb, ee, es, rdS_8, if_pos hc]
      refine ⟨a1, by omega, o, cd, (rN9 c (by omega)).trans b1, b2, b3, b4, ?_, (xR_row (rNr o (by omega))).trans b6, m, b7, b8.toF oFt⟩
      rw [u2r (by omega), NF_r (by omega)]
      exact b5
    refine RelS.cls (hSt.aft (σ' := rdS σ n E e F) hO (fun r hr h93 _ h1 => gI r hr h93 h1) (fun r hr => (k1.2.2 r hr).2.1) gr gm gf g5 (rdS_wf hSt.1 k4 (fun c hc => (k3 c hc).2.2.1)) hXG hMG rdS_pe (rdS_0 (by decide)) (rdS_s (by decide) (by decide) (by decide) (by decide)) hC ⟨fun q hq i hi y hy => ?_, fun q hq i hi y hy => ?_, fun k hk => (xR_row (gr 94 (by decide) (by decide) (by decide) (by decide))).trans (hrf.2.2 k hk)⟩) (by omega)
    · exact hO.ko (hrf.1 q hq i hi y (by rw [← xR_row (gr q (by omega) (by omega) (by omega) (by omega))]; exact hy))
    · rcases hq with rfl | rfl | rfl
      · exact k2 i hi y (by rw [← rN9 i hi]; exact hy)
      · exact hO.ko (hrf.2.1 20 (.inr (.inl rfl)) i hi y (by rw [← xR_row (gr 20 (by decide) (by decide) (by decide) (by decide))]; exact hy))
      · exact k2 i hi y (by rw [← xR_row (rNr 96 (by decide))]; exact hy)
