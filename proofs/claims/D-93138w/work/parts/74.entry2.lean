set_option maxRecDepth 100000
set_option maxHeartbeats 4000000
theorem he_zq {C n d : String} {A : Nat → Prop} {U : State} {H : Heap} (h : va_Zq C n d A U H) : ∃ t : Nat, va_Z C n d .null A U H ∨ va_Z C n d (.ref t) A U H := by
  rcases h with g | ⟨t, g⟩
  · exact ⟨0, .inl g⟩
  · exact ⟨t, .inr g⟩
/-- the constants' places -/
def he_phi (aK aV : Nat → Nat) (t0 t1 t2 : Nat) : Nat → Nat := fun i => if i < 1000100 then aK (i - 1000000) else if i < 1000200 then aV (i - 1000100) else if i = 1000200 then t0 else if i = 1000201 then t1 else t2
theorem hX_start {A : Array Value} {s : State} (h : he_N.before A s = true) (ht : ∀ w ∈ lw_tbl, w.before A s = true) : ∃ φ0 : Nat → Nat, hh_X φ0 (fun q => s.heap.size ≤ q) s s.heap := by
  have hA : ∀ a : Nat, a < s.heap.size → ¬ (fun q : Nat => s.heap.size ≤ q) a := fun a g => Nat.not_le.mpr g
  obtain ⟨aK, aV, hS, hE⟩ := vk_Sof (args := A) (s := s) (N := 13) (tm := he_tm) (len := hh_len) (byt := hh_byt) (A := fun q => s.heap.size ≤ q) (by decide) (he_ex h) (he_co h) (he_ar h) (he_le h) (he_el h) (he_ne h) hA
  have z0 := vx_Zqof (A := fun q => s.heap.size ≤ q) (ht _ (lw_at lw_m2 64 rfl)) (ht _ (lw_at lw_m1 9 rfl)) (he_of h [true, false, false, false, false, false, false, false, false, true, false] rfl) hA
  have z1 := vx_Zqof (A := fun q => s.heap.size ≤ q) (ht _ (lw_at lw_m2 66 rfl)) (ht _ (lw_at lw_m1 9 rfl)) (he_of h [true, false, false, false, false, false, false, false, false, true, true] rfl) hA
  have z2 := va_Zqof (A := fun q => s.heap.size ≤ q) (ht _ (lw_at lw_m4 191 rfl)) (ht _ (lw_at lw_m1 26 rfl)) (he_of h [true, false, false, false, false, false, false, false, true, false, true] rfl) hA
  have z3 := va_Zof (A := fun q => s.heap.size ≤ q) (ht _ (lw_at lw_m4 175 rfl)) (ht _ (lw_at lw_m1 20 rfl)) (va_eqt (he_of h [true, false, false, false, false, false, false, false, true, false, false] rfl)) hA
  obtain ⟨t0, w0⟩ := he_zq z0.1
  obtain ⟨t1, w1⟩ := he_zq z1.1
  obtain ⟨t2, w2⟩ := he_zq z2
  have eK : ∀ k, k < 13 → he_phi aK aV t0 t1 t2 (1000000 + k) = aK k := fun k hk => by
    unfold he_phi
    rw [if_pos (by omega), Nat.add_sub_cancel_left]
  have eV : ∀ k, k < 13 → he_phi aK aV t0 t1 t2 (1000100 + k) = aV k := fun k hk => by
    unfold he_phi
    rw [if_neg (by omega), if_pos (by omega), Nat.add_sub_cancel_left]
  refine ⟨he_phi aK aV t0 t1 t2, ⟨fun i hi => ?_, fun i j hi hj e => ?_⟩, fun k q hq => ?_, fun q hq => ?_, z3, w2⟩
  · show va_O _ (he_phi aK aV t0 t1 t2 (1000000 + i)) _ _ _ ∧ va_OF _ _ _ _ (he_phi aK aV t0 t1 t2 (1000000 + i)) _ _ _ ∧ va_OF _ _ _ (.ref (he_phi aK aV t0 t1 t2 (1000100 + i))) (he_phi aK aV t0 t1 t2 (1000000 + i)) _ _ _ ∧ va_T _ (he_phi aK aV t0 t1 t2 (1000100 + i)) _ _ _ _ _
    rw [eK i hi, eV i hi]
    exact hS.1 i hi
  · have e : he_phi aK aV t0 t1 t2 (1000000 + i) = he_phi aK aV t0 t1 t2 (1000000 + j) := e
    rw [eK i hi, eK j hj] at e
    exact hS.2 i j hi hj e
  · have hk : k < 13 := (List.getElem?_eq_some_iff.mp hq).1
    rw [eK k hk]
    have e := he_sr ht k hk
    have e2 := hE k hk
    have g : hh_str.getD k (0, "") = q := by rw [List.getD_eq_getElem?_getD, hq]; rfl
    rw [g] at e
    have e3 : (Term.string "HungryHedge$Reader" q.1).eval A s none [] s = some (.ref (aK k)) := by rw [← g]; exact e2
    exact vk_R.of e e3
  · simp only [hh_st2s, List.mem_cons, List.not_mem_nil, or_false] at hq
    rcases hq with rfl | rfl
    · exact ⟨w0, z0.2⟩
    · exact ⟨w1, z1.2⟩
