set_option maxRecDepth 100000
set_option maxHeartbeats 4000000
/-! PLAIN LAW, operations 17: feed -/
theorem fb_x (a : Int64) (s : Int64) (m : Nat) (hm : m ≤ 56) (hs : (s.toBitVec.smod 64).toNat = m) : ((a >>> s).toInt32).toInt8 = (nI (a.toBitVec.toNat / 2 ^ m % 256)).toInt8 := by
  apply Int8.toBitVec_inj.mp
  have e : (a >>> s).toBitVec = a.toBitVec.sshiftRight m := by
    show a.toBitVec.sshiftRight' (s.toBitVec.smod 64) = _
    unfold BitVec.sshiftRight'
    rw [hs]
  have e1 : ((a >>> s).toInt32).toInt8.toBitVec = ((a.toBitVec.sshiftRight m).signExtend 32).signExtend 8 := by
    rw [← e]; rfl
  have e2 : (nI (a.toBitVec.toNat / 2 ^ m % 256)).toInt8.toBitVec = (BitVec.ofNat 32 (a.toBitVec.toNat / 2 ^ m % 256)).signExtend 8 := rfl
  rw [e1, e2]
  apply BitVec.eq_of_getLsbD_eq
  intro i hi
  rw [BitVec.getLsbD_signExtend, BitVec.getLsbD_signExtend, BitVec.getLsbD_signExtend, BitVec.getLsbD_sshiftRight, BitVec.getLsbD_ofNat, show (256 : Nat) = 2 ^ 8 from rfl, Nat.testBit_mod_two_pow, Nat.testBit_div_two_pow]
  have h1 : m + i < 64 := by omega
  have h2 : i < 32 := by omega
  have h3 : ¬ 64 ≤ i := by omega
  simp [hi, h1, h2, h3, BitVec.getLsbD, Nat.add_comm]
theorem fb_m (a : Int64) (s : UInt64) (m : Nat) (hs : (s.toBitVec % 64#64).toNat = m) : (((a.toUInt64 >>> s).toInt64) &&& 255).toInt32 = nI (a.toBitVec.toNat / 2 ^ m % 256) := by
  apply Int32.toBitVec_inj.mp
  have e : (a.toUInt64 >>> s).toBitVec = a.toBitVec >>> m := by
    show a.toBitVec >>> (s.toBitVec % 64#64) = _
    rw [BitVec.ushiftRight_eq', hs]
  have e1 : ((((a.toUInt64 >>> s).toInt64) &&& 255).toInt32).toBitVec = ((a.toBitVec >>> m) &&& 255#64).signExtend 32 := by
    rw [← e]; rfl
  rw [e1, BitVec.signExtend_eq_setWidth_of_le _ (by decide)]
  apply BitVec.eq_of_toNat_eq
  rw [BitVec.toNat_setWidth, BitVec.toNat_and, BitVec.toNat_ushiftRight, Nat.shiftRight_eq_div_pow]
  have e3 : (255#64).toNat = 2 ^ 8 - 1 := rfl
  rw [e3, Nat.and_two_pow_sub_one_eq_mod]
  rfl
theorem feed_b (a : Int64) {k : Nat} (hk : k < 8) : ∃ b, b < 256 ∧ ((((a.toUInt64 >>> ((8 * nI k).toInt64.toUInt64 &&& Int64.toUInt64 63)).toInt64) &&& 255).toInt32) = nI b ∧ vp_nar .byte (((a >>> ((8 * nI k).toInt64 &&& 63)).toInt32).toInt8.toInt32) = (nI b).toInt8.toInt32 := by
  refine ⟨a.toBitVec.toNat / 2 ^ (8 * k) % 256, Nat.mod_lt _ (by decide), fb_m a _ (8 * k) ?_, ?_⟩
  · exact (by decide +kernel : ∀ k, k < 8 → (((8 * nI k).toInt64.toUInt64 &&& Int64.toUInt64 63).toBitVec % 64#64).toNat = 8 * k) k hk
  · rw [pk_vb, fb_x a _ (8 * k) (by omega) ((by decide +kernel : ∀ k, k < 8 → ((((8 * nI k).toInt64 &&& 63).toBitVec.smod 64)).toNat = 8 * k) k hk)]
theorem RelS.tape {t : Nat} {σ : wS} {fz : Nat → Bool} {s : xS} {rd : xRd} {J : mJ} {I I' Im Im' : mI} {Jm : mJ} (hS : RelS t σ fz s rd J I Im Jm) (gI : ∀ r, r ≠ 0 → r ≠ 92 → I' r = I r) (gI0 : ∀ f, f ≠ 8 → I' 0 f = I 0 f) (gm : ∀ r, r ≠ 0 → r ≠ 19 → Im' r = Im r) (gm0 : ∀ f, f ≠ 39 → Im' 0 f = Im 0 f) (hT : @@N@@.rT I' Im') : RelS (t + 1) σ fz s rd J I' Im' Jm := by
  obtain ⟨a1, a2, a3, a4, a5, a6, a7, a8, a9, a10, a11, a12, a13⟩ := hS
  have ho : old s rd fz I s rd fz I' := old.same (fun r hr => gI r (by omega) (by omega))
  refine ⟨a1, a2.to (fun r r1 r2 => gI r (by omega) (by omega)), a3.to (fun r r1 r2 => gm r (by omega) (by omega)) (fun k hk => gm0 k (by omega)), a4.pe ⟨rfl, rfl, rfl, rfl, rfl, rfl⟩ (by rw [gI 23 (by decide) (by decide)]) (gI 24 (by decide) (by decide)) (gm0 18 (by decide)) (gm 7 (by decide) (by decide)), a5.sig rfl rfl (gm0 34 (by decide)), a6.to ho (fun _ => rfl), a7.to ho (fun _ => rfl), ?_, hT, ?_, ?_, ?_, ?_⟩
  · exact a8.to ho (gI0 2 (by decide)) (fun r r1 r2 => gI r (by omega) (by omega)) (fun _ => ⟨rfl, rfl⟩) (gm0 70 (by decide)) (gm 33 (by decide) (by decide)) a8.1
  · exact a10.to (gI0 12 (by decide)) (fun r r1 r2 => gI r (by omega) (by omega)) (gm0 57 (by decide)) (gm 25 (by decide) (by decide))
  · exact a11.to (gI0 17 (by decide)) (gI 127 (by decide) (by decide)) (gm0 68 (by decide)) (gm 32 (by decide) (by decide))
  · exact a12.to (fun r r1 => gI r (by omega) (by omega)) (fun r r1 r2 => gm r (by omega) (by omega))
  · exact a13.to (fun r r1 r2 => gI r (by omega) (by omega)) (fun r r1 r2 => gm r (by omega) (by omega))
theorem x_feed_lp {t c n0 : Nat} {a : Int64} {σ : wS} {fz : Nat → Bool} {s : xS} {rd : xRd} {J : mJ} {I0 Im0 : mI} {Jm : mJ} {Q : Int32 → mI → Prop} {W : Int32 → mI → Prop} (h0 : s.1 ≤ 600 * t) (hS : RelS t σ fz s rd J I0 Im0 Jm) (hc : c ≤ 8) (hn0 : n0 + c ≤ 200) :
    ∀ fuel i (I Im : mI), c - i < fuel → i ≤ c → I 0 8 = nI (n0 + i) → Im 0 39 = nI (n0 + i) → (∀ r, r ≠ 0 → r ≠ 92 → I r = I0 r) → (∀ f, f ≠ 8 → I 0 f = I0 0 f) → (∀ r, r ≠ 0 → r ≠ 19 → Im r = Im0 r) → (∀ f, f ≠ 39 → Im 0 f = Im0 0 f) → (∀ j, j < n0 + i → ∃ b, b < 256 ∧ Im 19 j = nI b ∧ I 92 j = (nI b).toInt8.toInt32) →
    (∀ r I', (∃ n, m_feed_l30 (RelQ (t + 1) s rd J I' r) n a (nI c) (nI i) Im Jm) → Q r I') → x_X0_feed_l30 Q fuel a (nI c) (nI i) s rd J I := by
  intro fuel
  induction fuel with
  | zero => intro i I Im g; omega
  | succ fuel ih =>
    intro i I Im g1 g2 e8 e39 y1 y2 y3 y4 y5 hQ
    unfold x_X0_feed_l30
    refine pk_le c i (fun le => ?_) (fun lt => ?_) rfl rfl (by omega) (by omega)
    · refine hQ _ _ ⟨1, ?_⟩
      unfold m_feed_l30
      exact br_t (nI_le le (by omega)) ⟨by rw [e8, e39], RelS.cls (hS.tape y1 y2 y3 y4 ⟨n0 + i, by omega, e8, e39, y5⟩) (by omega)⟩
    · obtain ⟨b, hb, b1, b2⟩ := feed_b a (show i < 8 by omega)
      have v : vp_in (nI (n0 + i)) 200 := vp_in_nI (by omega) (by decide)
      rw [e8, nI_clamp (by omega), b2, nI_1, nI_1]
      refine ⟨v, ih (i + 1) _ (u2 (u2 Im 19 (n0 + i) (nI b)) 0 39 (nI (n0 + i + 1))) (by omega) (by omega) (u2_self _ _ _ _) (u2_self _ _ _ _) (fun r r1 r2 => by rw [u2r r1, u2r r2]; exact y1 r r1 r2) (fun f hf => by rw [u2_ne _ _ (Or.inr hf), u2r (by decide)]; exact y2 f hf) (fun r r1 r2 => by rw [u2r r1, u2r r2]; exact y3 r r1 r2) (fun f hf => by rw [u2_ne _ _ (Or.inr hf), u2r (by decide)]; exact y4 f hf) (fun j hj => ?_) (fun r I' ⟨n, hn⟩ => hQ r I' ⟨n + 1, ?_⟩)⟩
      · rw [u2r (show 19 ≠ 0 by decide), u2r (show 92 ≠ 0 by decide)]
        by_cases e : j = n0 + i
        · rw [e, u2_self, u2_self]; exact ⟨b, hb, rfl, rfl⟩
        · rw [u2_ne _ _ (Or.inr e), u2_ne _ _ (Or.inr e)]; exact y5 j (by omega)
      · unfold m_feed_l30
        rw [e39, nI_clamp (by omega), b1, nI_1, nI_1]
        exact br_f (nI_ge lt (by omega)) ⟨v, hn⟩
theorem p_feed {t : Nat} {a : Int64} {c : Int32} {s : xS} {rd : xRd} {J : mJ} {I Im : mI} {Jm : mJ} (h : Rel t s rd J I Im Jm) : x_X0_feed a c s rd J I (fun r I' => m_feed a c Im Jm (RelQ (t + 1) s rd J I' r)) := by
  have no : ∀ z, RelQ (t + 1) s rd J I z z Im Jm := fun z => ⟨rfl, h.same⟩
  obtain ⟨h0, σ, fz, hS⟩ := h.opn
  obtain ⟨n, hn, t1, t2, t3⟩ := hS.rT
  unfold x_X0_feed
  refine x_in_c (fun y => br_f (by decide) ?_) (fun y => br_t rfl (by unfold m_feed; exact m_in_c (fun z => absurd z y) (fun _ => br_t rfl (no _))))
  obtain ⟨k, _, hk, rfl⟩ := in_of (lo := 1) (hi := 8) (by decide) (by decide) y
  rw [t1, nI_add]
  have mo : ∀ {A : Int32 → mI → mJ → Prop}, ((nI (n + k) ≤ 200 → ∃ n0 : Nat, m_feed_l30 A n0 a (nI k) 0 Im Jm) ∧ (¬ nI (n + k) ≤ 200 → A (-2) Im Jm)) → m_feed a (nI k) Im Jm A := by
    intro A hA
    unfold m_feed
    refine m_in_c (fun _ => br_f (by decide) ?_) (fun z => absurd y z)
    rw [t2, nI_add]
    exact hA
  refine pk_le (n + k) 200 (fun le => ⟨k + 1, ?_⟩) (fun lt => mo (br_f (nI_ge (a := 200) lt (by omega)) (no _))) rfl rfl (by omega) (by decide)
  exact x_feed_lp (W := fun _ _ => True) (I0 := I) (Im0 := Im) h0 hS hk le (k + 1) 0 I Im (by omega) (by omega) t1 t2 (fun _ _ _ => rfl) (fun _ _ => rfl) (fun _ _ _ => rfl) (fun _ _ => rfl) (fun j hj => t3 j hj) (fun r I' hex => mo (br_t (nI_le (b := 200) le (by decide)) hex))
