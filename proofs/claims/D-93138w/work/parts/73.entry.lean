set_option maxRecDepth 100000
set_option maxHeartbeats 4000000
/-! THE LAW'S ENTRY: what hh_S and hh_X ask, out of the Statement's premises (printed by gen73.py) -/
def he_at : List Bool → Cond → Cond
  | true :: p, .and _ b => he_at p b
  | false :: p, .and a _ => he_at p a
  | _, c => c
theorem he_at_before {A : Array Value} {s : State} : ∀ (p : List Bool) (c : Cond), c.before A s = true → (he_at p c).before A s = true
  | [], c, h => by unfold he_at; cases c <;> exact h
  | true :: p, .and a b, h => by
    rw [Cond.before_and, Bool.and_eq_true] at h
    exact he_at_before p b h.2
  | false :: p, .and a b, h => by
    rw [Cond.before_and, Bool.and_eq_true] at h
    exact he_at_before p a h.1
  | b :: p, c, h => by
    cases b <;> cases c <;> first
      | exact h
      | (rw [Cond.before_and, Bool.and_eq_true] at h; exact he_at_before p _ h.1)
      | (rw [Cond.before_and, Bool.and_eq_true] at h; exact he_at_before p _ h.2)
abbrev he_N : Cond := Jvm.Cond.and given_1 narrow_1
theorem he_of {A : Array Value} {s : State} (h : he_N.before A s = true) (p : List Bool) {c : Cond} (e : he_at p he_N = c) : c.before A s = true := e ▸ he_at_before p he_N h
theorem he_nc {A : Array Value} {s : State} (h : he_N.before A s = true) : ∀ q ∈ hh_ncs, (Cond.not (.castable q.1 q.2)).before A s = true := by
  intro q hq
  simp only [hh_ncs, List.mem_cons, List.not_mem_nil, or_false] at hq
  rcases hq with rfl | rfl | rfl | rfl | rfl | rfl | rfl | rfl | rfl | rfl | rfl | rfl | rfl | rfl | rfl | rfl | rfl | rfl | rfl | rfl | rfl | rfl | rfl | rfl | rfl | rfl | rfl | rfl | rfl | rfl | rfl | rfl | rfl | rfl | rfl | rfl | rfl | rfl | rfl | rfl | rfl | rfl | rfl | rfl | rfl | rfl | rfl | rfl | rfl | rfl | rfl | rfl | rfl | rfl | rfl | rfl | rfl | rfl | rfl | rfl | rfl | rfl | rfl | rfl | rfl | rfl | rfl | rfl | rfl | rfl | rfl | rfl | rfl | rfl | rfl | rfl | rfl | rfl | rfl | rfl | rfl | rfl | rfl | rfl | rfl | rfl | rfl | rfl | rfl | rfl | rfl | rfl | rfl | rfl | rfl | rfl | rfl | rfl | rfl | rfl | rfl | rfl | rfl | rfl | rfl | rfl | rfl | rfl | rfl | rfl | rfl | rfl | rfl | rfl | rfl | rfl | rfl | rfl | rfl | rfl | rfl | rfl | rfl | rfl | rfl | rfl | rfl
  · exact he_of h [true, false, false, false, false, false, true, false, false, false, true] rfl
  · exact he_of h [true, false, false, false, false, false, true, false, true, false, false] rfl
  · exact he_of h [true, false, false, false, false, false, true, false, true, true, true] rfl
  · exact he_of h [true, false, false, false, false, false, true, true, true, true, false] rfl
  · exact he_of h [true, false, false, false, false, true, false, false, true, false, true] rfl
  · exact he_of h [true, false, false, false, false, true, false, true, true, true, false] rfl
  · exact he_of h [true, false, false, false, false, true, true, false, false, false, true] rfl
  · exact he_of h [true, false, false, false, false, true, true, false, false, true, false] rfl
  · exact he_of h [true, false, false, false, false, true, true, true, false, true, true] rfl
  · exact he_of h [true, false, false, false, true, false, false, false, false, false, true] rfl
  · exact he_of h [true, false, false, false, true, false, false, true, true, false, false] rfl
  · exact he_of h [true, false, false, false, true, false, false, true, true, false, true] rfl
  · exact he_of h [true, false, false, false, true, false, true, false, false, false, false] rfl
  · exact he_of h [true, false, false, false, true, false, true, false, true, true, true] rfl
  · exact he_of h [true, false, false, false, true, false, true, true, true, true, false] rfl
  · exact he_of h [true, false, false, false, true, true, false, false, true, true, false] rfl
  · exact he_of h [true, false, false, false, true, true, false, true, false, false, true] rfl
  · exact he_of h [true, false, false, false, true, true, false, true, false, true, false] rfl
  · exact he_of h [true, false, false, false, true, true, false, true, true, false, true] rfl
  · exact he_of h [true, false, false, false, true, true, true, true, false, true, false] rfl
  · exact he_of h [true, false, false, true, false, false, false, false, false, true, false] rfl
  · exact he_of h [true, false, false, true, false, false, false, false, true, false, true] rfl
  · exact he_of h [true, false, false, true, false, false, false, true, false, false, false] rfl
  · exact he_of h [true, false, false, true, false, false, false, true, true, true, true] rfl
  · exact he_of h [true, false, false, true, false, false, true, false, true, true, false] rfl
  · exact he_of h [true, false, false, true, false, false, true, true, true, true, true, false] rfl
  · exact he_of h [true, false, false, true, false, true, false, false, false, false, true] rfl
  · exact he_of h [true, false, false, true, false, true, false, false, false, true, false] rfl
  · exact he_of h [true, false, false, true, false, true, false, false, true, false, true] rfl
  · exact he_of h [true, false, false, true, false, true, false, true, true, false, false] rfl
  · exact he_of h [true, false, false, true, true, true, false, false, false, false, false] rfl
  · exact he_of h [true, false, false, true, true, true, false, false, false, false, true] rfl
  · exact he_of h [true, false, false, true, true, true, true, true, false, true, false] rfl
  · exact he_of h [true, false, false, true, true, true, true, true, false, true, true] rfl
  · exact he_of h [true, false, false, true, true, true, true, true, true, false, false] rfl
  · exact he_of h [true, false, true, false, false, false, true, false, true, false, false] rfl
  · exact he_of h [true, false, true, false, false, false, true, false, true, false, true] rfl
  · exact he_of h [true, false, true, false, false, false, true, false, true, true, false] rfl
  · exact he_of h [true, false, true, false, false, false, true, false, true, true, true] rfl
  · exact he_of h [true, false, true, false, false, true, true, false, false, false, false] rfl
  · exact he_of h [true, false, true, false, false, true, true, false, false, false, true] rfl
  · exact he_of h [true, false, true, false, false, true, true, false, false, true, false] rfl
  · exact he_of h [true, false, true, false, false, true, true, false, false, true, true] rfl
  · exact he_of h [true, false, true, false, false, true, true, false, true, false, false] rfl
  · exact he_of h [true, false, true, false, true, false, false, true, true, false, false] rfl
  · exact he_of h [true, false, true, false, true, false, false, true, true, false, true] rfl
  · exact he_of h [true, false, true, false, true, false, false, true, true, true, false] rfl
  · exact he_of h [true, false, true, false, true, false, false, true, true, true, true] rfl
  · exact he_of h [true, false, true, false, true, false, true, false, false, false, false] rfl
  · exact he_of h [true, false, true, false, true, true, false, true, false, false, false] rfl
  · exact he_of h [true, false, true, false, true, true, false, true, false, false, true] rfl
  · exact he_of h [true, false, true, false, true, true, false, true, false, true, false] rfl
  · exact he_of h [true, false, true, false, true, true, false, true, false, true, true] rfl
  · exact he_of h [true, false, true, false, true, true, false, true, true, false, false] rfl
  · exact he_of h [true, false, true, true, false, false, false, false, true, false, false] rfl
  · exact he_of h [true, false, true, true, false, false, false, false, true, false, true] rfl
  · exact he_of h [true, false, true, true, false, false, false, false, true, true, false] rfl
  · exact he_of h [true, false, true, true, false, false, false, false, true, true, true] rfl
  · exact he_of h [true, false, true, true, false, false, false, true, false, false, false] rfl
  · exact he_of h [true, false, true, true, false, true, false, false, false, false, false] rfl
  · exact he_of h [true, false, true, true, false, true, false, false, false, false, true] rfl
  · exact he_of h [true, false, true, true, false, true, false, false, false, true, false] rfl
  · exact he_of h [true, false, true, true, false, true, false, false, false, true, true] rfl
  · exact he_of h [true, false, true, true, false, true, false, false, true, false, false] rfl
  · exact he_of h [true, false, true, true, false, true, false, false, true, false, true] rfl
  · exact he_of h [true, false, true, true, false, true, false, true, false, true, true] rfl
  · exact he_of h [true, false, true, true, false, true, false, true, true, true, false] rfl
  · exact he_of h [true, false, true, true, false, true, true, false, false, false, false] rfl
  · exact he_of h [true, false, true, true, true, false, false, true, false, true, false] rfl
  · exact he_of h [true, false, true, true, true, false, false, true, false, true, true] rfl
  · exact he_of h [true, false, true, true, true, false, false, true, true, false, false] rfl
  · exact he_of h [true, false, true, true, true, false, false, true, true, false, true] rfl
  · exact he_of h [true, false, true, true, true, false, false, true, true, true, false] rfl
  · exact he_of h [true, false, true, true, true, false, false, true, true, true, true] rfl
  · exact he_of h [true, false, true, true, true, false, true, false, true, false, true] rfl
  · exact he_of h [true, false, true, true, true, false, true, true, false, false, false] rfl
  · exact he_of h [true, false, true, true, true, false, true, true, true, false, true] rfl
  · exact he_of h [true, false, true, true, true, true, true, false, true, false, false] rfl
  · exact he_of h [true, false, true, true, true, true, true, false, true, false, true] rfl
  · exact he_of h [true, false, true, true, true, true, true, false, true, true, false] rfl
  · exact he_of h [true, false, true, true, true, true, true, false, true, true, true] rfl
  · exact he_of h [true, false, true, true, true, true, true, true, false, false, false] rfl
  · exact he_of h [true, false, true, true, true, true, true, true, false, false, true] rfl
  · exact he_of h [true, false, true, true, true, true, true, true, true, true, true, false] rfl
  · exact he_of h [true, true, false, false, false, false, false, false, false, true, false] rfl
  · exact he_of h [true, true, false, false, false, false, false, false, true, true, false] rfl
  · exact he_of h [true, true, false, false, false, false, true, true, true, true, false] rfl
  · exact he_of h [true, true, false, false, false, false, true, true, true, true, true] rfl
  · exact he_of h [true, true, false, false, false, true, false, false, false, false, false] rfl
  · exact he_of h [true, true, false, false, false, true, false, false, false, false, true] rfl
  · exact he_of h [true, true, false, false, false, true, false, false, false, true, false] rfl
  · exact he_of h [true, true, false, false, false, true, false, false, false, true, true] rfl
  · exact he_of h [true, true, false, false, false, true, false, true, false, true, true] rfl
  · exact he_of h [true, true, false, false, false, true, false, true, true, false, true] rfl
  · exact he_of h [true, true, false, false, false, true, true, false, false, false, true] rfl
  · exact he_of h [true, true, false, false, false, true, true, false, true, true, false] rfl
  · exact he_of h [true, true, false, false, false, true, true, true, false, false, true] rfl
  · exact he_of h [true, true, false, false, false, true, true, true, false, true, true] rfl
  · exact he_of h [true, true, false, false, false, true, true, true, true, true, true, false] rfl
  · exact he_of h [true, true, false, false, true, false, false, false, false, true, true] rfl
  · exact he_of h [true, true, false, false, true, false, false, false, true, true, false] rfl
  · exact he_of h [true, true, false, false, true, false, false, true, false, false, false] rfl
  · exact he_of h [true, true, false, false, true, false, false, true, true, false, false] rfl
  · exact he_of h [true, true, false, false, true, false, true, false, false, false, true] rfl
  · exact he_of h [true, true, false, false, true, false, true, false, true, false, false] rfl
  · exact he_of h [true, true, false, false, true, false, true, false, true, true, false] rfl
  · exact he_of h [true, true, false, false, true, false, true, true, false, true, false] rfl
  · exact he_of h [true, true, false, false, true, false, true, true, true, true, true, false] rfl
  · exact he_of h [true, true, false, false, true, true, false, false, false, false, true] rfl
  · exact he_of h [true, true, false, false, true, true, false, false, false, true, true] rfl
  · exact he_of h [true, true, false, false, true, true, false, false, true, true, true] rfl
  · exact he_of h [true, true, false, false, true, true, false, true, true, false, false] rfl
  · exact he_of h [true, true, false, false, true, true, false, true, true, true, true] rfl
  · exact he_of h [true, true, false, false, true, true, true, false, false, false, true] rfl
  · exact he_of h [true, true, false, false, true, true, true, false, true, false, true] rfl
  · exact he_of h [true, true, false, false, true, true, true, true, false, true, false] rfl
  · exact he_of h [true, true, false, false, true, true, true, true, true, false, true] rfl
  · exact he_of h [true, true, false, false, true, true, true, true, true, true, true, false] rfl
  · exact he_of h [true, true, false, true, false, false, false, false, false, true, false] rfl
  · exact he_of h [true, true, false, true, false, false, false, false, true, true, true] rfl
  · exact he_of h [true, true, false, true, false, false, false, true, false, true, false] rfl
  · exact he_of h [true, true, false, true, false, false, false, true, true, false, false] rfl
  · exact he_of h [true, true, false, true, false, false, true, false, false, false, false] rfl
  · exact he_of h [true, true, false, true, false, false, true, false, true, false, true] rfl
  · exact he_of h [true, true, false, true, false, false, true, true, false, false, false] rfl
  · exact he_of h [true, true, false, true, false, false, true, true, false, true, false] rfl
  · exact he_of h [true, true, false, true, false, false, true, true, true, true, false] rfl
theorem he_iw {A : Array Value} {s : State} (h : he_N.before A s = true) (ht : ∀ w ∈ lw_tbl, w.before A s = true) : hh_IW s := by
  intro w hw
  simp only [hh_iws, List.mem_cons, List.not_mem_nil, or_false] at hw
  rcases hw with rfl | rfl | rfl | rfl | rfl | rfl | rfl | rfl | rfl
  · exact va_Nw.of rfl (he_of h [true, true, true, true, true, true, true, true, false, true, true] rfl)
  · exact va_Nw.of rfl (he_of h [true, true, true, true, true, true, true, true, true, false, true] rfl)
  · exact va_Nw.of rfl (he_of h [true, true, true, true, true, true, true, true, true, true, true, true] rfl)
  · exact va_Nw.of rfl (he_of h [true, true, true, true, true, true, true, true, true, true, false] rfl)
  · exact va_Nw.of rfl (he_of h [true, true, true, true, true, true, true, true, false, true, false] rfl)
  · exact va_Nw.of rfl (he_of h [true, true, true, true, true, true, true, true, true, false, false] rfl)
  · exact va_Nw.of rfl (he_of h [true, true, true, true, true, true, true, true, true, true, true, false] rfl)
  · exact (he_of h [true, true, true, true, true, true, true, true, false, false, true] rfl)
  · exact (ht _ (lw_at lw_m1 227 rfl))
theorem he_fw {A : Array Value} {s : State} (ht : ∀ w ∈ lw_tbl, w.before A s = true) : hh_FW s := by
  intro t hq
  simp only [hh_fws, List.mem_cons, List.not_mem_nil, or_false] at hq
  rcases hq with rfl | rfl | rfl | rfl | rfl | rfl | rfl | rfl | rfl | rfl | rfl | rfl | rfl | rfl | rfl | rfl
  · exact va_Fw.of (ht _ (lw_at lw_m5 95 rfl)) (ht _ (lw_at lw_m5 94 rfl)) (ht _ (lw_at lw_m5 108 rfl)) (ht _ (lw_at lw_m5 106 rfl)) (ht _ (lw_at lw_m5 104 rfl))
  · exact va_Fw.of (ht _ (lw_at lw_m5 95 rfl)) (ht _ (lw_at lw_m5 94 rfl)) (ht _ (lw_at lw_m5 127 rfl)) (ht _ (lw_at lw_m5 125 rfl)) (ht _ (lw_at lw_m5 123 rfl))
  · exact va_Fw.of (ht _ (lw_at lw_m5 95 rfl)) (ht _ (lw_at lw_m5 94 rfl)) (ht _ (lw_at lw_m5 100 rfl)) (ht _ (lw_at lw_m5 98 rfl)) (ht _ (lw_at lw_m5 96 rfl))
  · exact va_Fw.of (ht _ (lw_at lw_m5 95 rfl)) (ht _ (lw_at lw_m5 94 rfl)) (ht _ (lw_at lw_m5 119 rfl)) (ht _ (lw_at lw_m5 117 rfl)) (ht _ (lw_at lw_m5 115 rfl))
  · exact va_Fw.of (ht _ (lw_at lw_m6 197 rfl)) (ht _ (lw_at lw_m7 25 rfl)) (ht _ (lw_at lw_m6 202 rfl)) (ht _ (lw_at lw_m6 200 rfl)) (ht _ (lw_at lw_m7 26 rfl))
  · exact va_Fw.of (ht _ (lw_at lw_m7 84 rfl)) (ht _ (lw_at lw_m7 83 rfl)) (ht _ (lw_at lw_m7 88 rfl)) (ht _ (lw_at lw_m7 86 rfl)) (ht _ (lw_at lw_m6 198 rfl))
  · exact va_Fw.of (ht _ (lw_at lw_m6 197 rfl)) (ht _ (lw_at lw_m7 25 rfl)) (ht _ (lw_at lw_m6 212 rfl)) (ht _ (lw_at lw_m6 210 rfl)) (ht _ (lw_at lw_m7 27 rfl))
  · exact va_Fw.of (ht _ (lw_at lw_m7 84 rfl)) (ht _ (lw_at lw_m7 83 rfl)) (ht _ (lw_at lw_m7 94 rfl)) (ht _ (lw_at lw_m7 92 rfl)) (ht _ (lw_at lw_m6 208 rfl))
  · exact va_Fw.of (ht _ (lw_at lw_m6 197 rfl)) (ht _ (lw_at lw_m7 25 rfl)) (ht _ (lw_at lw_m6 219 rfl)) (ht _ (lw_at lw_m6 217 rfl)) (ht _ (lw_at lw_m7 28 rfl))
  · exact va_Fw.of (ht _ (lw_at lw_m7 84 rfl)) (ht _ (lw_at lw_m7 83 rfl)) (ht _ (lw_at lw_m7 100 rfl)) (ht _ (lw_at lw_m7 98 rfl)) (ht _ (lw_at lw_m6 215 rfl))
  · exact va_Fw.of (ht _ (lw_at lw_m6 197 rfl)) (ht _ (lw_at lw_m7 25 rfl)) (ht _ (lw_at lw_m6 232 rfl)) (ht _ (lw_at lw_m6 231 rfl)) (ht _ (lw_at lw_m7 29 rfl))
  · exact va_Fw.of (ht _ (lw_at lw_m7 84 rfl)) (ht _ (lw_at lw_m7 83 rfl)) (ht _ (lw_at lw_m7 100 rfl)) (ht _ (lw_at lw_m7 109 rfl)) (ht _ (lw_at lw_m6 229 rfl))
  · exact va_Fw.of (ht _ (lw_at lw_m6 197 rfl)) (ht _ (lw_at lw_m7 25 rfl)) (ht _ (lw_at lw_m6 212 rfl)) (ht _ (lw_at lw_m6 235 rfl)) (ht _ (lw_at lw_m7 30 rfl))
  · exact va_Fw.of (ht _ (lw_at lw_m7 84 rfl)) (ht _ (lw_at lw_m7 83 rfl)) (ht _ (lw_at lw_m7 94 rfl)) (ht _ (lw_at lw_m7 111 rfl)) (ht _ (lw_at lw_m6 233 rfl))
  · exact va_Fw.of (ht _ (lw_at lw_m6 197 rfl)) (ht _ (lw_at lw_m7 25 rfl)) (ht _ (lw_at lw_m7 0 rfl)) (ht _ (lw_at lw_m6 238 rfl)) (ht _ (lw_at lw_m7 31 rfl))
  · exact va_Fw.of (ht _ (lw_at lw_m7 84 rfl)) (ht _ (lw_at lw_m7 83 rfl)) (ht _ (lw_at lw_m7 115 rfl)) (ht _ (lw_at lw_m7 113 rfl)) (ht _ (lw_at lw_m6 236 rfl))
theorem he_ao {A : Array Value} {s : State} (ht : ∀ w ∈ lw_tbl, w.before A s = true) : hh_AO s := by
  intro C hq
  simp only [hh_aos, List.mem_cons, List.not_mem_nil, or_false] at hq
  rcases hq with rfl | rfl | rfl | rfl | rfl | rfl | rfl
  · exact va_AO.of (ht _ (lw_at lw_m1 180 rfl))
  · exact va_AO.of (ht _ (lw_at lw_m1 57 rfl))
  · exact va_AO.of (ht _ (lw_at lw_m1 59 rfl))
  · exact va_AO.of (ht _ (lw_at lw_m2 154 rfl))
  · exact va_AO.of (ht _ (lw_at lw_m2 168 rfl))
  · exact va_AO.of (ht _ (lw_at lw_m2 221 rfl))
  · exact va_AO.of (ht _ (lw_at lw_m2 30 rfl))
abbrev he_tm (i : Nat) : Term := .string "HungryHedge$Reader" (hh_str.getD i (0, "")).1
abbrev he_val (i : Nat) : Term := .field (he_tm i) "java/lang/String" "value" "[B"
theorem he_ex {A : Array Value} {s : State} (h : he_N.before A s = true) : ∀ i : Nat, i < 13 → (Cond.exactly (he_tm i) "java/lang/String").before A s = true := by
  intro i hi
  match i, hi with
  | 0, _ => exact he_of h [true, true, true, false, true, false, true, false, false, true, true] rfl
  | 1, _ => exact he_of h [true, true, true, false, true, false, true, true, false, true, true] rfl
  | 2, _ => exact he_of h [true, true, true, false, true, true, false, false, true, false, false] rfl
  | 3, _ => exact he_of h [true, true, true, false, true, true, false, true, true, true, true] rfl
  | 4, _ => exact he_of h [true, true, true, false, true, true, true, true, false, true, false] rfl
  | 5, _ => exact he_of h [true, true, true, true, false, false, false, false, true, false, false] rfl
  | 6, _ => exact he_of h [true, true, true, true, false, false, true, false, false, false, true] rfl
  | 7, _ => exact he_of h [true, true, true, true, false, false, true, true, true, true, true, false] rfl
  | 8, _ => exact he_of h [true, true, true, true, false, true, false, true, false, true, true] rfl
  | 9, _ => exact he_of h [true, true, true, true, false, true, true, true, false, true, false] rfl
  | 10, _ => exact he_of h [true, true, true, true, true, false, false, false, true, true, true] rfl
  | 11, _ => exact he_of h [true, true, true, true, true, false, true, true, false, false, false] rfl
  | 12, _ => exact he_of h [true, true, true, true, true, true, false, true, false, false, false] rfl
  | n + 13, hn => omega
theorem he_co {A : Array Value} {s : State} (h : he_N.before A s = true) : ∀ i : Nat, i < 13 → (Cond.eq (.field (he_tm i) "java/lang/String" "coder" "B") (.int 0)).before A s = true := by
  intro i hi
  match i, hi with
  | 0, _ => exact he_of h [true, true, true, false, true, false, true, false, true, false, false] rfl
  | 1, _ => exact he_of h [true, true, true, false, true, false, true, true, true, false, false] rfl
  | 2, _ => exact he_of h [true, true, true, false, true, true, false, false, true, false, true] rfl
  | 3, _ => exact he_of h [true, true, true, false, true, true, true, false, false, false, false] rfl
  | 4, _ => exact he_of h [true, true, true, false, true, true, true, true, false, true, true] rfl
  | 5, _ => exact he_of h [true, true, true, true, false, false, false, false, true, false, true] rfl
  | 6, _ => exact he_of h [true, true, true, true, false, false, true, false, false, true, false] rfl
  | 7, _ => exact he_of h [true, true, true, true, false, false, true, true, true, true, true, true] rfl
  | 8, _ => exact he_of h [true, true, true, true, false, true, false, true, true, false, false] rfl
  | 9, _ => exact he_of h [true, true, true, true, false, true, true, true, false, true, true] rfl
  | 10, _ => exact he_of h [true, true, true, true, true, false, false, true, false, false, false] rfl
  | 11, _ => exact he_of h [true, true, true, true, true, false, true, true, false, false, true] rfl
  | 12, _ => exact he_of h [true, true, true, true, true, true, false, true, false, false, true] rfl
  | n + 13, hn => omega
theorem he_ar {A : Array Value} {s : State} (h : he_N.before A s = true) : ∀ i : Nat, i < 13 → (Cond.arrayOf (he_val i) .byte).before A s = true := by
  intro i hi
  match i, hi with
  | 0, _ => exact he_of h [true, true, true, false, true, false, true, false, true, false, true] rfl
  | 1, _ => exact he_of h [true, true, true, false, true, false, true, true, true, false, true] rfl
  | 2, _ => exact he_of h [true, true, true, false, true, true, false, false, true, true, false] rfl
  | 3, _ => exact he_of h [true, true, true, false, true, true, true, false, false, false, true] rfl
  | 4, _ => exact he_of h [true, true, true, false, true, true, true, true, true, false, false] rfl
  | 5, _ => exact he_of h [true, true, true, true, false, false, false, false, true, true, false] rfl
  | 6, _ => exact he_of h [true, true, true, true, false, false, true, false, false, true, true] rfl
  | 7, _ => exact he_of h [true, true, true, true, false, true, false, false, false, false, false] rfl
  | 8, _ => exact he_of h [true, true, true, true, false, true, false, true, true, false, true] rfl
  | 9, _ => exact he_of h [true, true, true, true, false, true, true, true, true, false, false] rfl
  | 10, _ => exact he_of h [true, true, true, true, true, false, false, true, false, false, true] rfl
  | 11, _ => exact he_of h [true, true, true, true, true, false, true, true, false, true, false] rfl
  | 12, _ => exact he_of h [true, true, true, true, true, true, false, true, false, true, false] rfl
  | n + 13, hn => omega
theorem he_le {A : Array Value} {s : State} (h : he_N.before A s = true) : ∀ i : Nat, i < 13 → (Cond.eq (.length (he_val i)) (.int (Int32.ofNat (hh_len.getD i 0)))).before A s = true := by
  intro i hi
  match i, hi with
  | 0, _ => exact he_of h [true, true, true, false, true, false, true, false, true, true, false] rfl
  | 1, _ => exact he_of h [true, true, true, false, true, false, true, true, true, true, false] rfl
  | 2, _ => exact he_of h [true, true, true, false, true, true, false, false, true, true, true] rfl
  | 3, _ => exact he_of h [true, true, true, false, true, true, true, false, false, true, false] rfl
  | 4, _ => exact he_of h [true, true, true, false, true, true, true, true, true, false, true] rfl
  | 5, _ => exact he_of h [true, true, true, true, false, false, false, false, true, true, true] rfl
  | 6, _ => exact he_of h [true, true, true, true, false, false, true, false, true, false, false] rfl
  | 7, _ => exact he_of h [true, true, true, true, false, true, false, false, false, false, true] rfl
  | 8, _ => exact he_of h [true, true, true, true, false, true, false, true, true, true, false] rfl
  | 9, _ => exact he_of h [true, true, true, true, false, true, true, true, true, false, true] rfl
  | 10, _ => exact he_of h [true, true, true, true, true, false, false, true, false, true, false] rfl
  | 11, _ => exact he_of h [true, true, true, true, true, false, true, true, false, true, true] rfl
  | 12, _ => exact he_of h [true, true, true, true, true, true, false, true, false, true, true] rfl
  | n + 13, hn => omega
theorem he_el {A : Array Value} {s : State} (h : he_N.before A s = true) : ∀ i : Nat, i < 13 → ∀ j : Nat, j < hh_len.getD i 0 → (Cond.eq (.elem (he_val i) (.int (Int32.ofNat j))) (.int ((hh_byt.getD i []).getD j 0))).before A s = true := by
  intro i hi j hj
  match i, hi, j, hj with
  | 0, _, 0, _ => exact he_of h [true, true, true, false, true, false, true, false, true, true, true] rfl
  | 0, _, 1, _ => exact he_of h [true, true, true, false, true, false, true, true, false, false, false] rfl
  | 0, _, 2, _ => exact he_of h [true, true, true, false, true, false, true, true, false, false, true] rfl
  | 0, _, 3, _ => exact he_of h [true, true, true, false, true, false, true, true, false, true, false] rfl
  | 0, _, n + 4, hn => exact absurd hn (by show ¬ n + 4 < 4; omega)
  | 1, _, 0, _ => exact he_of h [true, true, true, false, true, false, true, true, true, true, true, false] rfl
  | 1, _, 1, _ => exact he_of h [true, true, true, false, true, false, true, true, true, true, true, true] rfl
  | 1, _, 2, _ => exact he_of h [true, true, true, false, true, true, false, false, false, false, false] rfl
  | 1, _, 3, _ => exact he_of h [true, true, true, false, true, true, false, false, false, false, true] rfl
  | 1, _, 4, _ => exact he_of h [true, true, true, false, true, true, false, false, false, true, false] rfl
  | 1, _, n + 5, hn => exact absurd hn (by show ¬ n + 5 < 5; omega)
  | 2, _, 0, _ => exact he_of h [true, true, true, false, true, true, false, true, false, false, false] rfl
  | 2, _, 1, _ => exact he_of h [true, true, true, false, true, true, false, true, false, false, true] rfl
  | 2, _, 2, _ => exact he_of h [true, true, true, false, true, true, false, true, false, true, false] rfl
  | 2, _, 3, _ => exact he_of h [true, true, true, false, true, true, false, true, false, true, true] rfl
  | 2, _, 4, _ => exact he_of h [true, true, true, false, true, true, false, true, true, false, false] rfl
  | 2, _, n + 5, hn => exact absurd hn (by show ¬ n + 5 < 5; omega)
  | 3, _, 0, _ => exact he_of h [true, true, true, false, true, true, true, false, false, true, true] rfl
  | 3, _, 1, _ => exact he_of h [true, true, true, false, true, true, true, false, true, false, false] rfl
  | 3, _, 2, _ => exact he_of h [true, true, true, false, true, true, true, false, true, false, true] rfl
  | 3, _, 3, _ => exact he_of h [true, true, true, false, true, true, true, false, true, true, false] rfl
  | 3, _, n + 4, hn => exact absurd hn (by show ¬ n + 4 < 4; omega)
  | 4, _, 0, _ => exact he_of h [true, true, true, false, true, true, true, true, true, true, false] rfl
  | 4, _, 1, _ => exact he_of h [true, true, true, false, true, true, true, true, true, true, true, false] rfl
  | 4, _, 2, _ => exact he_of h [true, true, true, false, true, true, true, true, true, true, true, true] rfl
  | 4, _, n + 3, hn => exact absurd hn (by show ¬ n + 3 < 3; omega)
  | 5, _, 0, _ => exact he_of h [true, true, true, true, false, false, false, true, false, false, false] rfl
  | 5, _, 1, _ => exact he_of h [true, true, true, true, false, false, false, true, false, false, true] rfl
  | 5, _, 2, _ => exact he_of h [true, true, true, true, false, false, false, true, false, true, false] rfl
  | 5, _, 3, _ => exact he_of h [true, true, true, true, false, false, false, true, false, true, true] rfl
  | 5, _, n + 4, hn => exact absurd hn (by show ¬ n + 4 < 4; omega)
  | 6, _, 0, _ => exact he_of h [true, true, true, true, false, false, true, false, true, false, true] rfl
  | 6, _, 1, _ => exact he_of h [true, true, true, true, false, false, true, false, true, true, false] rfl
  | 6, _, 2, _ => exact he_of h [true, true, true, true, false, false, true, false, true, true, true] rfl
  | 6, _, 3, _ => exact he_of h [true, true, true, true, false, false, true, true, false, false, false] rfl
  | 6, _, n + 4, hn => exact absurd hn (by show ¬ n + 4 < 4; omega)
  | 7, _, 0, _ => exact he_of h [true, true, true, true, false, true, false, false, false, true, false] rfl
  | 7, _, 1, _ => exact he_of h [true, true, true, true, false, true, false, false, false, true, true] rfl
  | 7, _, n + 2, hn => exact absurd hn (by show ¬ n + 2 < 2; omega)
  | 8, _, 0, _ => exact he_of h [true, true, true, true, false, true, false, true, true, true, true] rfl
  | 8, _, 1, _ => exact he_of h [true, true, true, true, false, true, true, false, false, false, false] rfl
  | 8, _, 2, _ => exact he_of h [true, true, true, true, false, true, true, false, false, false, true] rfl
  | 8, _, n + 3, hn => exact absurd hn (by show ¬ n + 3 < 3; omega)
  | 9, _, 0, _ => exact he_of h [true, true, true, true, false, true, true, true, true, true, false] rfl
  | 9, _, n + 1, hn => exact absurd hn (by show ¬ n + 1 < 1; omega)
  | 10, _, 0, _ => exact he_of h [true, true, true, true, true, false, false, true, false, true, true] rfl
  | 10, _, 1, _ => exact he_of h [true, true, true, true, true, false, false, true, true, false, false] rfl
  | 10, _, 2, _ => exact he_of h [true, true, true, true, true, false, false, true, true, false, true] rfl
  | 10, _, n + 3, hn => exact absurd hn (by show ¬ n + 3 < 3; omega)
  | 11, _, 0, _ => exact he_of h [true, true, true, true, true, false, true, true, true, false, false] rfl
  | 11, _, 1, _ => exact he_of h [true, true, true, true, true, false, true, true, true, false, true] rfl
  | 11, _, n + 2, hn => exact absurd hn (by show ¬ n + 2 < 2; omega)
  | 12, _, 0, _ => exact he_of h [true, true, true, true, true, true, false, true, true, false, false] rfl
  | 12, _, n + 1, hn => exact absurd hn (by show ¬ n + 1 < 1; omega)
  | n + 13, hn, _, _ => omega
theorem he_ne0 {A : Array Value} {s : State} (h : he_N.before A s = true) : ∀ j : Nat, j < 13 → 0 < j → (Cond.not (Cond.eq (he_tm 0) (he_tm j))).before A s = true ∨ (Cond.not (Cond.eq (he_tm j) (he_tm 0))).before A s = true := by
  intro j hj hij
  match j, hj, hij with
  | 0, _, hij => exact absurd hij (by decide)
  | 1, _, _ => exact .inl (he_of h [true, true, true, false, true, true, false, false, false, true, true] rfl)
  | 2, _, _ => exact .inl (he_of h [true, true, true, false, true, true, false, true, true, false, true] rfl)
  | 3, _, _ => exact .inl (he_of h [true, true, true, false, true, true, true, false, true, true, true] rfl)
  | 4, _, _ => exact .inl (he_of h [true, true, true, true, false, false, false, false, false, false, false] rfl)
  | 5, _, _ => exact .inl (he_of h [true, true, true, true, false, false, false, true, true, false, false] rfl)
  | 6, _, _ => exact .inl (he_of h [true, true, true, true, false, false, true, true, false, false, true] rfl)
  | 7, _, _ => exact .inl (he_of h [true, true, true, true, false, true, false, false, true, false, false] rfl)
  | 8, _, _ => exact .inl (he_of h [true, true, true, true, false, true, true, false, false, true, false] rfl)
  | 9, _, _ => exact .inl (he_of h [true, true, true, true, false, true, true, true, true, true, true, false] rfl)
  | 10, _, _ => exact .inl (he_of h [true, true, true, true, true, false, false, true, true, true, false] rfl)
  | 11, _, _ => exact .inl (he_of h [true, true, true, true, true, false, true, true, true, true, false] rfl)
  | 12, _, _ => exact .inl (he_of h [true, true, true, true, true, true, false, true, true, false, true] rfl)
  | n + 13, hn, _ => omega
theorem he_ne1 {A : Array Value} {s : State} (h : he_N.before A s = true) : ∀ j : Nat, j < 13 → 1 < j → (Cond.not (Cond.eq (he_tm 1) (he_tm j))).before A s = true ∨ (Cond.not (Cond.eq (he_tm j) (he_tm 1))).before A s = true := by
  intro j hj hij
  match j, hj, hij with
  | 0, _, hij => exact absurd hij (by decide)
  | 1, _, hij => exact absurd hij (by decide)
  | 2, _, _ => exact .inl (he_of h [true, true, true, false, true, true, false, true, true, true, false] rfl)
  | 3, _, _ => exact .inl (he_of h [true, true, true, false, true, true, true, true, false, false, false] rfl)
  | 4, _, _ => exact .inl (he_of h [true, true, true, true, false, false, false, false, false, false, true] rfl)
  | 5, _, _ => exact .inl (he_of h [true, true, true, true, false, false, false, true, true, false, true] rfl)
  | 6, _, _ => exact .inl (he_of h [true, true, true, true, false, false, true, true, false, true, false] rfl)
  | 7, _, _ => exact .inl (he_of h [true, true, true, true, false, true, false, false, true, false, true] rfl)
  | 8, _, _ => exact .inl (he_of h [true, true, true, true, false, true, true, false, false, true, true] rfl)
  | 9, _, _ => exact .inl (he_of h [true, true, true, true, false, true, true, true, true, true, true, true] rfl)
  | 10, _, _ => exact .inl (he_of h [true, true, true, true, true, false, false, true, true, true, true] rfl)
  | 11, _, _ => exact .inl (he_of h [true, true, true, true, true, false, true, true, true, true, true, false] rfl)
  | 12, _, _ => exact .inl (he_of h [true, true, true, true, true, true, false, true, true, true, false] rfl)
  | n + 13, hn, _ => omega
theorem he_ne2 {A : Array Value} {s : State} (h : he_N.before A s = true) : ∀ j : Nat, j < 13 → 2 < j → (Cond.not (Cond.eq (he_tm 2) (he_tm j))).before A s = true ∨ (Cond.not (Cond.eq (he_tm j) (he_tm 2))).before A s = true := by
  intro j hj hij
  match j, hj, hij with
  | 0, _, hij => exact absurd hij (by decide)
  | 1, _, hij => exact absurd hij (by decide)
  | 2, _, hij => exact absurd hij (by decide)
  | 3, _, _ => exact .inl (he_of h [true, true, true, false, true, true, true, true, false, false, true] rfl)
  | 4, _, _ => exact .inl (he_of h [true, true, true, true, false, false, false, false, false, true, false] rfl)
  | 5, _, _ => exact .inl (he_of h [true, true, true, true, false, false, false, true, true, true, false] rfl)
  | 6, _, _ => exact .inl (he_of h [true, true, true, true, false, false, true, true, false, true, true] rfl)
  | 7, _, _ => exact .inl (he_of h [true, true, true, true, false, true, false, false, true, true, false] rfl)
  | 8, _, _ => exact .inl (he_of h [true, true, true, true, false, true, true, false, true, false, false] rfl)
  | 9, _, _ => exact .inl (he_of h [true, true, true, true, true, false, false, false, false, false, false] rfl)
  | 10, _, _ => exact .inl (he_of h [true, true, true, true, true, false, true, false, false, false, false] rfl)
  | 11, _, _ => exact .inl (he_of h [true, true, true, true, true, false, true, true, true, true, true, true] rfl)
  | 12, _, _ => exact .inl (he_of h [true, true, true, true, true, true, false, true, true, true, true] rfl)
  | n + 13, hn, _ => omega
theorem he_ne3 {A : Array Value} {s : State} (h : he_N.before A s = true) : ∀ j : Nat, j < 13 → 3 < j → (Cond.not (Cond.eq (he_tm 3) (he_tm j))).before A s = true ∨ (Cond.not (Cond.eq (he_tm j) (he_tm 3))).before A s = true := by
  intro j hj hij
  match j, hj, hij with
  | 0, _, hij => exact absurd hij (by decide)
  | 1, _, hij => exact absurd hij (by decide)
  | 2, _, hij => exact absurd hij (by decide)
  | 3, _, hij => exact absurd hij (by decide)
  | 4, _, _ => exact .inl (he_of h [true, true, true, true, false, false, false, false, false, true, true] rfl)
  | 5, _, _ => exact .inl (he_of h [true, true, true, true, false, false, false, true, true, true, true] rfl)
  | 6, _, _ => exact .inl (he_of h [true, true, true, true, false, false, true, true, true, false, false] rfl)
  | 7, _, _ => exact .inl (he_of h [true, true, true, true, false, true, false, false, true, true, true] rfl)
  | 8, _, _ => exact .inl (he_of h [true, true, true, true, false, true, true, false, true, false, true] rfl)
  | 9, _, _ => exact .inl (he_of h [true, true, true, true, true, false, false, false, false, false, true] rfl)
  | 10, _, _ => exact .inl (he_of h [true, true, true, true, true, false, true, false, false, false, true] rfl)
  | 11, _, _ => exact .inl (he_of h [true, true, true, true, true, true, false, false, false, false, false] rfl)
  | 12, _, _ => exact .inl (he_of h [true, true, true, true, true, true, true, false, false, false, false] rfl)
  | n + 13, hn, _ => omega
theorem he_ne4 {A : Array Value} {s : State} (h : he_N.before A s = true) : ∀ j : Nat, j < 13 → 4 < j → (Cond.not (Cond.eq (he_tm 4) (he_tm j))).before A s = true ∨ (Cond.not (Cond.eq (he_tm j) (he_tm 4))).before A s = true := by
  intro j hj hij
  match j, hj, hij with
  | 0, _, hij => exact absurd hij (by decide)
  | 1, _, hij => exact absurd hij (by decide)
  | 2, _, hij => exact absurd hij (by decide)
  | 3, _, hij => exact absurd hij (by decide)
  | 4, _, hij => exact absurd hij (by decide)
  | 5, _, _ => exact .inl (he_of h [true, true, true, true, false, false, true, false, false, false, false] rfl)
  | 6, _, _ => exact .inl (he_of h [true, true, true, true, false, false, true, true, true, false, true] rfl)
  | 7, _, _ => exact .inl (he_of h [true, true, true, true, false, true, false, true, false, false, false] rfl)
  | 8, _, _ => exact .inl (he_of h [true, true, true, true, false, true, true, false, true, true, false] rfl)
  | 9, _, _ => exact .inl (he_of h [true, true, true, true, true, false, false, false, false, true, false] rfl)
  | 10, _, _ => exact .inl (he_of h [true, true, true, true, true, false, true, false, false, true, false] rfl)
  | 11, _, _ => exact .inl (he_of h [true, true, true, true, true, true, false, false, false, false, true] rfl)
  | 12, _, _ => exact .inl (he_of h [true, true, true, true, true, true, true, false, false, false, true] rfl)
  | n + 13, hn, _ => omega
theorem he_ne5 {A : Array Value} {s : State} (h : he_N.before A s = true) : ∀ j : Nat, j < 13 → 5 < j → (Cond.not (Cond.eq (he_tm 5) (he_tm j))).before A s = true ∨ (Cond.not (Cond.eq (he_tm j) (he_tm 5))).before A s = true := by
  intro j hj hij
  match j, hj, hij with
  | 0, _, hij => exact absurd hij (by decide)
  | 1, _, hij => exact absurd hij (by decide)
  | 2, _, hij => exact absurd hij (by decide)
  | 3, _, hij => exact absurd hij (by decide)
  | 4, _, hij => exact absurd hij (by decide)
  | 5, _, hij => exact absurd hij (by decide)
  | 6, _, _ => exact .inl (he_of h [true, true, true, true, false, false, true, true, true, true, false] rfl)
  | 7, _, _ => exact .inl (he_of h [true, true, true, true, false, true, false, true, false, false, true] rfl)
  | 8, _, _ => exact .inl (he_of h [true, true, true, true, false, true, true, false, true, true, true] rfl)
  | 9, _, _ => exact .inl (he_of h [true, true, true, true, true, false, false, false, false, true, true] rfl)
  | 10, _, _ => exact .inl (he_of h [true, true, true, true, true, false, true, false, false, true, true] rfl)
  | 11, _, _ => exact .inl (he_of h [true, true, true, true, true, true, false, false, false, true, false] rfl)
  | 12, _, _ => exact .inl (he_of h [true, true, true, true, true, true, true, false, false, true, false] rfl)
  | n + 13, hn, _ => omega
theorem he_ne6 {A : Array Value} {s : State} (h : he_N.before A s = true) : ∀ j : Nat, j < 13 → 6 < j → (Cond.not (Cond.eq (he_tm 6) (he_tm j))).before A s = true ∨ (Cond.not (Cond.eq (he_tm j) (he_tm 6))).before A s = true := by
  intro j hj hij
  match j, hj, hij with
  | 0, _, hij => exact absurd hij (by decide)
  | 1, _, hij => exact absurd hij (by decide)
  | 2, _, hij => exact absurd hij (by decide)
  | 3, _, hij => exact absurd hij (by decide)
  | 4, _, hij => exact absurd hij (by decide)
  | 5, _, hij => exact absurd hij (by decide)
  | 6, _, hij => exact absurd hij (by decide)
  | 7, _, _ => exact .inl (he_of h [true, true, true, true, false, true, false, true, false, true, false] rfl)
  | 8, _, _ => exact .inl (he_of h [true, true, true, true, false, true, true, true, false, false, false] rfl)
  | 9, _, _ => exact .inl (he_of h [true, true, true, true, true, false, false, false, true, false, false] rfl)
  | 10, _, _ => exact .inl (he_of h [true, true, true, true, true, false, true, false, true, false, false] rfl)
  | 11, _, _ => exact .inl (he_of h [true, true, true, true, true, true, false, false, false, true, true] rfl)
  | 12, _, _ => exact .inl (he_of h [true, true, true, true, true, true, true, false, false, true, true] rfl)
  | n + 13, hn, _ => omega
theorem he_ne7 {A : Array Value} {s : State} (h : he_N.before A s = true) : ∀ j : Nat, j < 13 → 7 < j → (Cond.not (Cond.eq (he_tm 7) (he_tm j))).before A s = true ∨ (Cond.not (Cond.eq (he_tm j) (he_tm 7))).before A s = true := by
  intro j hj hij
  match j, hj, hij with
  | 0, _, hij => exact absurd hij (by decide)
  | 1, _, hij => exact absurd hij (by decide)
  | 2, _, hij => exact absurd hij (by decide)
  | 3, _, hij => exact absurd hij (by decide)
  | 4, _, hij => exact absurd hij (by decide)
  | 5, _, hij => exact absurd hij (by decide)
  | 6, _, hij => exact absurd hij (by decide)
  | 7, _, hij => exact absurd hij (by decide)
  | 8, _, _ => exact .inl (he_of h [true, true, true, true, false, true, true, true, false, false, true] rfl)
  | 9, _, _ => exact .inl (he_of h [true, true, true, true, true, false, false, false, true, false, true] rfl)
  | 10, _, _ => exact .inl (he_of h [true, true, true, true, true, false, true, false, true, false, true] rfl)
  | 11, _, _ => exact .inl (he_of h [true, true, true, true, true, true, false, false, true, false, false] rfl)
  | 12, _, _ => exact .inl (he_of h [true, true, true, true, true, true, true, false, true, false, false] rfl)
  | n + 13, hn, _ => omega
theorem he_ne8 {A : Array Value} {s : State} (h : he_N.before A s = true) : ∀ j : Nat, j < 13 → 8 < j → (Cond.not (Cond.eq (he_tm 8) (he_tm j))).before A s = true ∨ (Cond.not (Cond.eq (he_tm j) (he_tm 8))).before A s = true := by
  intro j hj hij
  match j, hj, hij with
  | 0, _, hij => exact absurd hij (by decide)
  | 1, _, hij => exact absurd hij (by decide)
  | 2, _, hij => exact absurd hij (by decide)
  | 3, _, hij => exact absurd hij (by decide)
  | 4, _, hij => exact absurd hij (by decide)
  | 5, _, hij => exact absurd hij (by decide)
  | 6, _, hij => exact absurd hij (by decide)
  | 7, _, hij => exact absurd hij (by decide)
  | 8, _, hij => exact absurd hij (by decide)
  | 9, _, _ => exact .inl (he_of h [true, true, true, true, true, false, false, false, true, true, false] rfl)
  | 10, _, _ => exact .inl (he_of h [true, true, true, true, true, false, true, false, true, true, false] rfl)
  | 11, _, _ => exact .inl (he_of h [true, true, true, true, true, true, false, false, true, false, true] rfl)
  | 12, _, _ => exact .inl (he_of h [true, true, true, true, true, true, true, false, true, false, true] rfl)
  | n + 13, hn, _ => omega
theorem he_ne9 {A : Array Value} {s : State} (h : he_N.before A s = true) : ∀ j : Nat, j < 13 → 9 < j → (Cond.not (Cond.eq (he_tm 9) (he_tm j))).before A s = true ∨ (Cond.not (Cond.eq (he_tm j) (he_tm 9))).before A s = true := by
  intro j hj hij
  match j, hj, hij with
  | 0, _, hij => exact absurd hij (by decide)
  | 1, _, hij => exact absurd hij (by decide)
  | 2, _, hij => exact absurd hij (by decide)
  | 3, _, hij => exact absurd hij (by decide)
  | 4, _, hij => exact absurd hij (by decide)
  | 5, _, hij => exact absurd hij (by decide)
  | 6, _, hij => exact absurd hij (by decide)
  | 7, _, hij => exact absurd hij (by decide)
  | 8, _, hij => exact absurd hij (by decide)
  | 9, _, hij => exact absurd hij (by decide)
  | 10, _, _ => exact .inl (he_of h [true, true, true, true, true, false, true, false, true, true, true] rfl)
  | 11, _, _ => exact .inl (he_of h [true, true, true, true, true, true, false, false, true, true, false] rfl)
  | 12, _, _ => exact .inl (he_of h [true, true, true, true, true, true, true, false, true, true, false] rfl)
  | n + 13, hn, _ => omega
theorem he_ne10 {A : Array Value} {s : State} (h : he_N.before A s = true) : ∀ j : Nat, j < 13 → 10 < j → (Cond.not (Cond.eq (he_tm 10) (he_tm j))).before A s = true ∨ (Cond.not (Cond.eq (he_tm j) (he_tm 10))).before A s = true := by
  intro j hj hij
  match j, hj, hij with
  | 0, _, hij => exact absurd hij (by decide)
  | 1, _, hij => exact absurd hij (by decide)
  | 2, _, hij => exact absurd hij (by decide)
  | 3, _, hij => exact absurd hij (by decide)
  | 4, _, hij => exact absurd hij (by decide)
  | 5, _, hij => exact absurd hij (by decide)
  | 6, _, hij => exact absurd hij (by decide)
  | 7, _, hij => exact absurd hij (by decide)
  | 8, _, hij => exact absurd hij (by decide)
  | 9, _, hij => exact absurd hij (by decide)
  | 10, _, hij => exact absurd hij (by decide)
  | 11, _, _ => exact .inl (he_of h [true, true, true, true, true, true, false, false, true, true, true] rfl)
  | 12, _, _ => exact .inl (he_of h [true, true, true, true, true, true, true, false, true, true, true] rfl)
  | n + 13, hn, _ => omega
theorem he_ne11 {A : Array Value} {s : State} (h : he_N.before A s = true) : ∀ j : Nat, j < 13 → 11 < j → (Cond.not (Cond.eq (he_tm 11) (he_tm j))).before A s = true ∨ (Cond.not (Cond.eq (he_tm j) (he_tm 11))).before A s = true := by
  intro j hj hij
  match j, hj, hij with
  | 0, _, hij => exact absurd hij (by decide)
  | 1, _, hij => exact absurd hij (by decide)
  | 2, _, hij => exact absurd hij (by decide)
  | 3, _, hij => exact absurd hij (by decide)
  | 4, _, hij => exact absurd hij (by decide)
  | 5, _, hij => exact absurd hij (by decide)
  | 6, _, hij => exact absurd hij (by decide)
  | 7, _, hij => exact absurd hij (by decide)
  | 8, _, hij => exact absurd hij (by decide)
  | 9, _, hij => exact absurd hij (by decide)
  | 10, _, hij => exact absurd hij (by decide)
  | 11, _, hij => exact absurd hij (by decide)
  | 12, _, _ => exact .inl (he_of h [true, true, true, true, true, true, true, true, false, false, false] rfl)
  | n + 13, hn, _ => omega
theorem he_ne12 {A : Array Value} {s : State} (h : he_N.before A s = true) : ∀ j : Nat, j < 13 → 12 < j → (Cond.not (Cond.eq (he_tm 12) (he_tm j))).before A s = true ∨ (Cond.not (Cond.eq (he_tm j) (he_tm 12))).before A s = true := by
  intro j hj hij
  match j, hj, hij with
  | 0, _, hij => exact absurd hij (by decide)
  | 1, _, hij => exact absurd hij (by decide)
  | 2, _, hij => exact absurd hij (by decide)
  | 3, _, hij => exact absurd hij (by decide)
  | 4, _, hij => exact absurd hij (by decide)
  | 5, _, hij => exact absurd hij (by decide)
  | 6, _, hij => exact absurd hij (by decide)
  | 7, _, hij => exact absurd hij (by decide)
  | 8, _, hij => exact absurd hij (by decide)
  | 9, _, hij => exact absurd hij (by decide)
  | 10, _, hij => exact absurd hij (by decide)
  | 11, _, hij => exact absurd hij (by decide)
  | 12, _, hij => exact absurd hij (by decide)
  | n + 13, hn, _ => omega
theorem he_nelt {A : Array Value} {s : State} (h : he_N.before A s = true) : ∀ i j : Nat, i < 13 → j < 13 → i < j → (Cond.not (Cond.eq (he_tm i) (he_tm j))).before A s = true ∨ (Cond.not (Cond.eq (he_tm j) (he_tm i))).before A s = true := by
  intro i j hi hj hij
  match i, hi, hij with
  | 0, _, hij => exact he_ne0 h j hj hij
  | 1, _, hij => exact he_ne1 h j hj hij
  | 2, _, hij => exact he_ne2 h j hj hij
  | 3, _, hij => exact he_ne3 h j hj hij
  | 4, _, hij => exact he_ne4 h j hj hij
  | 5, _, hij => exact he_ne5 h j hj hij
  | 6, _, hij => exact he_ne6 h j hj hij
  | 7, _, hij => exact he_ne7 h j hj hij
  | 8, _, hij => exact he_ne8 h j hj hij
  | 9, _, hij => exact he_ne9 h j hj hij
  | 10, _, hij => exact he_ne10 h j hj hij
  | 11, _, hij => exact he_ne11 h j hj hij
  | 12, _, hij => exact he_ne12 h j hj hij
  | n + 13, hn, _ => omega
theorem he_ne {A : Array Value} {s : State} (h : he_N.before A s = true) : ∀ i j : Nat, i < 13 → j < 13 → i ≠ j → (Cond.not (Cond.eq (he_tm i) (he_tm j))).before A s = true ∨ (Cond.not (Cond.eq (he_tm j) (he_tm i))).before A s = true := by
  intro i j hi hj hij
  rcases Nat.lt_or_gt_of_ne hij with g | g
  · exact he_nelt h i j hi hj g
  · exact (he_nelt h j i hj hi g).symm
theorem he_sr {A : Array Value} {s : State} (ht : ∀ w ∈ lw_tbl, w.before A s = true) : ∀ i : Nat, i < 13 → (Cond.stringRef "HungryHedge$Reader" (hh_str.getD i (0, "")).1 (hh_str.getD i (0, "")).2).before A s = true := by
  intro i hi
  match i, hi with
  | 0, _ => exact ht _ (lw_at lw_m2 31 rfl)
  | 1, _ => exact ht _ (lw_at lw_m2 32 rfl)
  | 2, _ => exact ht _ (lw_at lw_m2 33 rfl)
  | 3, _ => exact ht _ (lw_at lw_m2 34 rfl)
  | 4, _ => exact ht _ (lw_at lw_m2 35 rfl)
  | 5, _ => exact ht _ (lw_at lw_m2 36 rfl)
  | 6, _ => exact ht _ (lw_at lw_m4 157 rfl)
  | 7, _ => exact ht _ (lw_at lw_m4 214 rfl)
  | 8, _ => exact ht _ (lw_at lw_m4 236 rfl)
  | 9, _ => exact ht _ (lw_at lw_m4 237 rfl)
  | 10, _ => exact ht _ (lw_at lw_m5 38 rfl)
  | 11, _ => exact ht _ (lw_at lw_m5 56 rfl)
  | 12, _ => exact ht _ (lw_at lw_m5 79 rfl)
  | n + 13, hn => omega
theorem he_kn {A : Array Value} {s : State} (ht : ∀ w ∈ lw_tbl, w.before A s = true) : ∀ k : Nat, ∃ x : ClassId × (Nat → Nat), ∀ q : vw_C, hh_cl[k]? = some q → u_Kn s q.1 q.2.1 q.2.2 x.1 x.2 := by
  have ha : ∀ w ∈ lw_all, w.before A s = true := fun w h => ht w (lw_all_tbl h)
  have g : ∀ {C : String} {T : u_T} {N n : Nat} {k : Nat}, hh_cl[k]? = some (C, T, N) → (∀ w ∈ u_ws C T N, w ∈ lw_all) → (Cond.instantiable C n).before A s = true → ∃ x : ClassId × (Nat → Nat), ∀ q : vw_C, hh_cl[k]? = some q → u_Kn s q.1 q.2.1 q.2.2 x.1 x.2 := fun {C T N n k} e hin hi => by
    obtain ⟨c0, i0, h0⟩ := u_known (C := C) (T := T) (N := N) (n := n) ha hin hi
    exact ⟨(c0, i0), fun q hq => by rw [e] at hq; cases hq; exact h0⟩
  intro k
  match k with
  | 0 => exact g rfl in_X0 (ht _ (lw_at lw_m1 43 rfl))
  | 1 => exact g rfl in_X1 (ht _ (lw_at lw_m1 51 rfl))
  | 2 => exact g rfl in_X2 (ht _ (lw_at lw_m1 61 rfl))
  | 3 => exact g rfl in_X3 (ht _ (lw_at lw_m1 173 rfl))
  | 4 => exact g rfl in_X4 (ht _ (lw_at lw_m1 196 rfl))
  | 5 => exact g rfl in_X5 (ht _ (lw_at lw_m1 221 rfl))
  | 6 => exact g rfl in_X6 (ht _ (lw_at lw_m1 238 rfl))
  | 7 => exact g rfl in_X7 (ht _ (lw_at lw_m2 24 rfl))
  | 8 => exact g rfl in_X8 (ht _ (lw_at lw_m2 38 rfl))
  | 9 => exact g rfl in_X9 (ht _ (lw_at lw_m2 155 rfl))
  | 10 => exact g rfl in_X10 (ht _ (lw_at lw_m2 169 rfl))
  | 11 => exact g rfl in_X11 (ht _ (lw_at lw_m2 191 rfl))
  | 12 => exact g rfl in_X12 (ht _ (lw_at lw_m2 206 rfl))
  | 13 => exact g rfl in_X13 (ht _ (lw_at lw_m2 222 rfl))
  | 14 => exact g rfl in_X14 (ht _ (lw_at lw_m7 145 rfl))
  | 15 => exact g rfl in_X15 (ht _ (lw_at lw_m4 65 rfl))
  | 16 => exact g rfl in_X16 (ht _ (lw_at lw_m4 223 rfl))
  | 17 => exact g rfl in_X17 (ht _ (lw_at lw_m5 7 rfl))
  | 18 => exact g rfl in_X18 (ht _ (lw_at lw_m5 29 rfl))
  | 19 => exact g rfl in_X19 (ht _ (lw_at lw_m5 40 rfl))
  | 20 => exact g rfl in_X20 (ht _ (lw_at lw_m5 58 rfl))
  | 21 => exact g rfl in_X22 (ht _ (lw_at lw_m6 30 rfl))
  | 22 => exact g rfl in_X22 (ht _ (lw_at lw_m6 30 rfl))
  | 23 => exact g rfl in_X23 (ht _ (lw_at lw_m6 56 rfl))
  | 24 => exact g rfl in_X24 (ht _ (lw_at lw_m6 70 rfl))
  | 25 => exact g rfl in_X25 (ht _ (lw_at lw_m6 85 rfl))
  | 26 => exact g rfl in_X26 (ht _ (lw_at lw_m6 98 rfl))
  | 27 => exact g rfl in_X27 (ht _ (lw_at lw_m6 119 rfl))
  | n + 28 => exact ⟨(0, fun _ => 0), fun q hq => by simp [hh_cl] at hq⟩
theorem he_ac {A : Array Value} {s : State} {t : FieldType} (hr : ∀ C, t ≠ .object C) (h : (Cond.arrayClass t).before A s = true) : ∃ cA : ClassId, ArrOfT s cA t ∧ va_RA s cA t := by
  obtain ⟨cA, kA, comp, h1, h2, h3⟩ := Cond.arrayClass_spec h
  refine ⟨cA, fun n z => ⟨fun k h => (by cases h), kA, h2, comp, h3⟩, ?_⟩
  cases t with
  | object C => exact absurd rfl (hr C)
  | _ => exact h1
theorem he_ao1 {A : Array Value} {s : State} {C : String} (h : (Cond.arrayOver (.object C)).before A s = true) : ∃ cA : ClassId, ArrOfT s cA (.object C) ∧ va_RA s cA (.object C) := by
  obtain ⟨comp, c, k, h1, h2, h3, h4, h5⟩ := Cond.arrayOver_spec h
  exact ⟨c, fun n z => ⟨fun k h => (by cases h), k, h3, comp, h4⟩, k, comp, h3, h4, h1, h5⟩
theorem he_ao2 {A : Array Value} {s : State} {t : FieldType} (h : (Cond.arrayOver (.array t)).before A s = true) : ∃ cA : ClassId, ArrOfT s cA (.array t) ∧ va_RA s cA (.array t) := by
  unfold Cond.before Cond.holds at h
  simp only [Cond.value] at h
  cases hc : s.vm.findClass (FieldType.array t).toString with
  | none => simp [hc] at h
  | some comp =>
    simp only [hc, Option.bind_some, beq_iff_eq, Option.bind_eq_some_iff, Option.map_eq_some_iff] at h
    obtain ⟨c, hi, k, hk, hb⟩ := h
    cases hkd : k.kind with
    | array comp2 ty =>
      rw [hkd] at hb
      simp only [Bool.and_eq_true, decide_eq_true_eq] at hb
      refine ⟨c, fun n z => ⟨fun k h => (by cases h), k, hk, comp2, ?_⟩, hb.2⟩
      rw [hkd, hb.1]
    | _ => simp [hkd] at hb
theorem he_dA {A : Array Value} {s : State} (ht : ∀ w ∈ lw_tbl, w.before A s = true) : ∀ a : Nat, ∃ cA : ClassId, ArrOfT s cA (hh_ay a) ∧ va_RA s cA (hh_ay a) := by
  intro a
  have z : ∃ cA : ClassId, ArrOfT s cA (.array .long) ∧ va_RA s cA (.array .long) := he_ao2 (ht _ (lw_at lw_m1 227 rfl))
  unfold hh_ay
  split
  · exact he_ac (fun C h => by cases h) (ht _ (lw_at lw_m1 91 rfl))
  · exact he_ac (fun C h => by cases h) (ht _ (lw_at lw_m2 110 rfl))
  · exact he_ac (fun C h => by cases h) (ht _ (lw_at lw_m5 195 rfl))
  · exact he_ac (fun C h => by cases h) (ht _ (lw_at lw_m1 236 rfl))
  · exact he_ao1 (ht _ (lw_at lw_m1 180 rfl))
  · exact he_ao1 (ht _ (lw_at lw_m1 57 rfl))
  · exact he_ao1 (ht _ (lw_at lw_m1 59 rfl))
  · exact he_ao1 (ht _ (lw_at lw_m2 154 rfl))
  · exact he_ao1 (ht _ (lw_at lw_m2 168 rfl))
  · exact he_ao1 (ht _ (lw_at lw_m2 221 rfl))
  · exact he_ao1 (ht _ (lw_at lw_m2 30 rfl))
  · exact z
theorem hS_start {A : Array Value} {s : State} (h : he_N.before A s = true) (ht : ∀ w ∈ lw_tbl, w.before A s = true) (hm : modulesRight_1 s = true) : ∃ G : hh_G, hh_S G s := by
  obtain ⟨x, hx⟩ := Classical.axiomOfChoice (he_kn ht)
  obtain ⟨dA, hA⟩ := Classical.axiomOfChoice (he_dA ht)
  refine ⟨((fun k => (x k).1, fun k => (x k).2), dA), ⟨fun c q hq => hx c q hq, fun k q hq => ?_⟩, hh_NW.of ht, he_ao ht, he_fw ht, fun q hq => va_Nc.of (he_nc h q hq), hm, he_iw h ht⟩
  obtain ⟨a, -, rfl⟩ := List.mem_map.mp (List.mem_of_getElem? hq)
  exact hA a
