set_option maxRecDepth 100000
set_option maxHeartbeats 4000000
/-! PLAIN LAW, operations 40: taken -/
/-- is a thing of kind m one of the class b? -/
def isU (m b : Nat) : Bool := if b = 0 then decide (m < 5) else if b = 1 then decide (m < 4) else if b = 2 then (m == 2 || m == 3) else m == b
theorem le6 {m : Nat} (h1 : 1 ≤ m) (h6 : m ≤ 6) : m = 1 ∨ m = 2 ∨ m = 3 ∨ m = 4 ∨ m = 5 ∨ m = 6 := by omega
theorem x_cast_t0 {m q : Nat} {s : xS} {rd : xRd} {J : mJ} {I : mI} {QX : Nat → Prop} {Q : Int32 → Prop} (h1 : 1 ≤ m) (h6 : m ≤ 6) (ho : xo s q (21 + m)) (hy : isU m 0 = true → Q (I q 0)) (hn : isU m 0 = false → QX 3) : x_X0_castTo q (nI 0) s rd J I QX Q := by
  unfold x_X0_castTo
  rcases le6 h1 h6 with rfl | rfl | rfl | rfl | rfl | rfl
  · exact br_t rfl (.inr (.inr (.inr (.inr (.inl (⟨ho, And.intro ho (hy (by decide))⟩))))))
  · exact br_t rfl (.inr (.inr (.inr (.inr (.inr (.inl (⟨ho, And.intro ho (hy (by decide))⟩)))))))
  · exact br_t rfl (.inr (.inr (.inr (.inr (.inr (.inr (.inl (⟨ho, And.intro ho (hy (by decide))⟩))))))))
  · exact br_t rfl (.inr (.inr (.inr (.inr (.inr (.inr (.inr (.inl (⟨ho, And.intro ho (hy (by decide))⟩)))))))))
  · exact br_t rfl (.inr (.inr (.inr (.inr (.inr (.inr (.inr (.inr (.inl (⟨ho, hn (by decide)⟩))))))))))
  · exact br_t rfl (.inr (.inr (.inr (.inr (.inr (.inr (.inr (.inr (.inr (⟨ho, hn (by decide)⟩))))))))))
theorem x_cast_t1 {m q : Nat} {s : xS} {rd : xRd} {J : mJ} {I : mI} {QX : Nat → Prop} {Q : Int32 → Prop} (h1 : 1 ≤ m) (h6 : m ≤ 6) (ho : xo s q (21 + m)) (hy : isU m 1 = true → Q (I q 0)) (hn : isU m 1 = false → QX 3) : x_X0_castTo q (nI 1) s rd J I QX Q := by
  unfold x_X0_castTo
  rcases le6 h1 h6 with rfl | rfl | rfl | rfl | rfl | rfl
  · exact br_f (by decide) (br_t rfl (.inr (.inr (.inr (.inr (.inl (⟨ho, And.intro ho (hy (by decide))⟩)))))))
  · exact br_f (by decide) (br_t rfl (.inr (.inr (.inr (.inr (.inr (.inl (⟨ho, And.intro ho (hy (by decide))⟩))))))))
  · exact br_f (by decide) (br_t rfl (.inr (.inr (.inr (.inr (.inr (.inr (.inl (⟨ho, And.intro ho (hy (by decide))⟩)))))))))
  · exact br_f (by decide) (br_t rfl (.inr (.inr (.inr (.inr (.inr (.inr (.inr (.inl (⟨ho, hn (by decide)⟩))))))))))
  · exact br_f (by decide) (br_t rfl (.inr (.inr (.inr (.inr (.inr (.inr (.inr (.inr (.inl (⟨ho, hn (by decide)⟩)))))))))))
  · exact br_f (by decide) (br_t rfl (.inr (.inr (.inr (.inr (.inr (.inr (.inr (.inr (.inr (⟨ho, hn (by decide)⟩)))))))))))
theorem x_cast_t2 {m q : Nat} {s : xS} {rd : xRd} {J : mJ} {I : mI} {QX : Nat → Prop} {Q : Int32 → Prop} (h1 : 1 ≤ m) (h6 : m ≤ 6) (ho : xo s q (21 + m)) (hy : isU m 2 = true → Q (I q 0)) (hn : isU m 2 = false → QX 3) : x_X0_castTo q (nI 2) s rd J I QX Q := by
  unfold x_X0_castTo
  rcases le6 h1 h6 with rfl | rfl | rfl | rfl | rfl | rfl
  · exact br_f (by decide) (br_f (by decide) (br_t rfl (.inr (.inr (.inr (.inr (.inl (⟨ho, hn (by decide)⟩))))))))
  · exact br_f (by decide) (br_f (by decide) (br_t rfl (.inr (.inr (.inr (.inr (.inr (.inl (⟨ho, And.intro ho (hy (by decide))⟩)))))))))
  · exact br_f (by decide) (br_f (by decide) (br_t rfl (.inr (.inr (.inr (.inr (.inr (.inr (.inl (⟨ho, And.intro ho (hy (by decide))⟩))))))))))
  · exact br_f (by decide) (br_f (by decide) (br_t rfl (.inr (.inr (.inr (.inr (.inr (.inr (.inr (.inl (⟨ho, hn (by decide)⟩)))))))))))
  · exact br_f (by decide) (br_f (by decide) (br_t rfl (.inr (.inr (.inr (.inr (.inr (.inr (.inr (.inr (.inl (⟨ho, hn (by decide)⟩))))))))))))
  · exact br_f (by decide) (br_f (by decide) (br_t rfl (.inr (.inr (.inr (.inr (.inr (.inr (.inr (.inr (.inr (⟨ho, hn (by decide)⟩))))))))))))
theorem x_cast_t3 {m q : Nat} {s : xS} {rd : xRd} {J : mJ} {I : mI} {QX : Nat → Prop} {Q : Int32 → Prop} (h1 : 1 ≤ m) (h6 : m ≤ 6) (ho : xo s q (21 + m)) (hy : isU m 3 = true → Q (I q 0)) (hn : isU m 3 = false → QX 3) : x_X0_castTo q (nI 3) s rd J I QX Q := by
  unfold x_X0_castTo
  rcases le6 h1 h6 with rfl | rfl | rfl | rfl | rfl | rfl
  · exact br_f (by decide) (br_f (by decide) (br_f (by decide) (br_t rfl (.inr (.inr (.inr (.inr (.inl (⟨ho, hn (by decide)⟩)))))))))
  · exact br_f (by decide) (br_f (by decide) (br_f (by decide) (br_t rfl (.inr (.inr (.inr (.inr (.inr (.inl (⟨ho, hn (by decide)⟩))))))))))
  · exact br_f (by decide) (br_f (by decide) (br_f (by decide) (br_t rfl (.inr (.inr (.inr (.inr (.inr (.inr (.inl (⟨ho, And.intro ho (hy (by decide))⟩)))))))))))
  · exact br_f (by decide) (br_f (by decide) (br_f (by decide) (br_t rfl (.inr (.inr (.inr (.inr (.inr (.inr (.inr (.inl (⟨ho, hn (by decide)⟩))))))))))))
  · exact br_f (by decide) (br_f (by decide) (br_f (by decide) (br_t rfl (.inr (.inr (.inr (.inr (.inr (.inr (.inr (.inr (.inl (⟨ho, hn (by decide)⟩)))))))))))))
  · exact br_f (by decide) (br_f (by decide) (br_f (by decide) (br_t rfl (.inr (.inr (.inr (.inr (.inr (.inr (.inr (.inr (.inr (⟨ho, hn (by decide)⟩)))))))))))))
theorem x_cast_t4 {m q : Nat} {s : xS} {rd : xRd} {J : mJ} {I : mI} {QX : Nat → Prop} {Q : Int32 → Prop} (h1 : 1 ≤ m) (h6 : m ≤ 6) (ho : xo s q (21 + m)) (hy : isU m 4 = true → Q (I q 0)) (hn : isU m 4 = false → QX 3) : x_X0_castTo q (nI 4) s rd J I QX Q := by
  unfold x_X0_castTo
  rcases le6 h1 h6 with rfl | rfl | rfl | rfl | rfl | rfl
  · exact br_f (by decide) (br_f (by decide) (br_f (by decide) (br_f (by decide) (br_t rfl (.inr (.inr (.inr (.inr (.inl (⟨ho, hn (by decide)⟩))))))))))
  · exact br_f (by decide) (br_f (by decide) (br_f (by decide) (br_f (by decide) (br_t rfl (.inr (.inr (.inr (.inr (.inr (.inl (⟨ho, hn (by decide)⟩)))))))))))
  · exact br_f (by decide) (br_f (by decide) (br_f (by decide) (br_f (by decide) (br_t rfl (.inr (.inr (.inr (.inr (.inr (.inr (.inl (⟨ho, hn (by decide)⟩))))))))))))
  · exact br_f (by decide) (br_f (by decide) (br_f (by decide) (br_f (by decide) (br_t rfl (.inr (.inr (.inr (.inr (.inr (.inr (.inr (.inl (⟨ho, And.intro ho (hy (by decide))⟩)))))))))))))
  · exact br_f (by decide) (br_f (by decide) (br_f (by decide) (br_f (by decide) (br_t rfl (.inr (.inr (.inr (.inr (.inr (.inr (.inr (.inr (.inl (⟨ho, hn (by decide)⟩))))))))))))))
  · exact br_f (by decide) (br_f (by decide) (br_f (by decide) (br_f (by decide) (br_t rfl (.inr (.inr (.inr (.inr (.inr (.inr (.inr (.inr (.inr (⟨ho, hn (by decide)⟩))))))))))))))
theorem x_cast_t5 {m q : Nat} {s : xS} {rd : xRd} {J : mJ} {I : mI} {QX : Nat → Prop} {Q : Int32 → Prop} (h1 : 1 ≤ m) (h6 : m ≤ 6) (ho : xo s q (21 + m)) (hy : isU m 5 = true → Q (I q 0)) (hn : isU m 5 = false → QX 3) : x_X0_castTo q (nI 5) s rd J I QX Q := by
  unfold x_X0_castTo
  rcases le6 h1 h6 with rfl | rfl | rfl | rfl | rfl | rfl
  · exact br_f (by decide) (br_f (by decide) (br_f (by decide) (br_f (by decide) (br_f (by decide) (br_t rfl (.inr (.inr (.inr (.inr (.inl (⟨ho, hn (by decide)⟩)))))))))))
  · exact br_f (by decide) (br_f (by decide) (br_f (by decide) (br_f (by decide) (br_f (by decide) (br_t rfl (.inr (.inr (.inr (.inr (.inr (.inl (⟨ho, hn (by decide)⟩))))))))))))
  · exact br_f (by decide) (br_f (by decide) (br_f (by decide) (br_f (by decide) (br_f (by decide) (br_t rfl (.inr (.inr (.inr (.inr (.inr (.inr (.inl (⟨ho, hn (by decide)⟩)))))))))))))
  · exact br_f (by decide) (br_f (by decide) (br_f (by decide) (br_f (by decide) (br_f (by decide) (br_t rfl (.inr (.inr (.inr (.inr (.inr (.inr (.inr (.inl (⟨ho, hn (by decide)⟩))))))))))))))
  · exact br_f (by decide) (br_f (by decide) (br_f (by decide) (br_f (by decide) (br_f (by decide) (br_t rfl (.inr (.inr (.inr (.inr (.inr (.inr (.inr (.inr (.inl (⟨ho, And.intro ho (hy (by decide))⟩)))))))))))))))
  · exact br_f (by decide) (br_f (by decide) (br_f (by decide) (br_f (by decide) (br_f (by decide) (br_t rfl (.inr (.inr (.inr (.inr (.inr (.inr (.inr (.inr (.inr (⟨ho, hn (by decide)⟩)))))))))))))))
theorem x_cast_t6 {m q : Nat} {s : xS} {rd : xRd} {J : mJ} {I : mI} {QX : Nat → Prop} {Q : Int32 → Prop} (h1 : 1 ≤ m) (h6 : m ≤ 6) (ho : xo s q (21 + m)) (hy : isU m 6 = true → Q (I q 0)) (hn : isU m 6 = false → QX 3) : x_X0_castTo q (nI 6) s rd J I QX Q := by
  unfold x_X0_castTo
  rcases le6 h1 h6 with rfl | rfl | rfl | rfl | rfl | rfl
  · exact br_f (by decide) (br_f (by decide) (br_f (by decide) (br_f (by decide) (br_f (by decide) (br_f (by decide) (br_t rfl (.inr (.inr (.inr (.inr (.inl (⟨ho, hn (by decide)⟩))))))))))))
  · exact br_f (by decide) (br_f (by decide) (br_f (by decide) (br_f (by decide) (br_f (by decide) (br_f (by decide) (br_t rfl (.inr (.inr (.inr (.inr (.inr (.inl (⟨ho, hn (by decide)⟩)))))))))))))
  · exact br_f (by decide) (br_f (by decide) (br_f (by decide) (br_f (by decide) (br_f (by decide) (br_f (by decide) (br_t rfl (.inr (.inr (.inr (.inr (.inr (.inr (.inl (⟨ho, hn (by decide)⟩))))))))))))))
  · exact br_f (by decide) (br_f (by decide) (br_f (by decide) (br_f (by decide) (br_f (by decide) (br_f (by decide) (br_t rfl (.inr (.inr (.inr (.inr (.inr (.inr (.inr (.inl (⟨ho, hn (by decide)⟩)))))))))))))))
  · exact br_f (by decide) (br_f (by decide) (br_f (by decide) (br_f (by decide) (br_f (by decide) (br_f (by decide) (br_t rfl (.inr (.inr (.inr (.inr (.inr (.inr (.inr (.inr (.inl (⟨ho, hn (by decide)⟩))))))))))))))))
  · exact br_f (by decide) (br_f (by decide) (br_f (by decide) (br_f (by decide) (br_f (by decide) (br_f (by decide) (br_t rfl (.inr (.inr (.inr (.inr (.inr (.inr (.inr (.inr (.inr (⟨ho, And.intro ho (hy (by decide))⟩))))))))))))))))
theorem x_cast_t10 {m q : Nat} {s : xS} {rd : xRd} {J : mJ} {I : mI} {QX : Nat → Prop} {Q : Int32 → Prop} (h1 : 1 ≤ m) (h6 : m ≤ 6) (ho : xo s q (21 + m)) (hn : QX 3) : x_X0_castTo q (nI 10) s rd J I QX Q := by
  unfold x_X0_castTo x_X0_rowAs
  rcases le6 h1 h6 with rfl | rfl | rfl | rfl | rfl | rfl
  · exact br_f (by decide) (br_f (by decide) (br_f (by decide) (br_f (by decide) (br_f (by decide) (br_f (by decide) (br_f (by decide) (br_t rfl (.inr (.inr (.inr (.inr (.inl (⟨ho, hn⟩)))))))))))))
  · exact br_f (by decide) (br_f (by decide) (br_f (by decide) (br_f (by decide) (br_f (by decide) (br_f (by decide) (br_f (by decide) (br_t rfl (.inr (.inr (.inr (.inr (.inr (.inl (⟨ho, hn⟩))))))))))))))
  · exact br_f (by decide) (br_f (by decide) (br_f (by decide) (br_f (by decide) (br_f (by decide) (br_f (by decide) (br_f (by decide) (br_t rfl (.inr (.inr (.inr (.inr (.inr (.inr (.inl (⟨ho, hn⟩)))))))))))))))
  · exact br_f (by decide) (br_f (by decide) (br_f (by decide) (br_f (by decide) (br_f (by decide) (br_f (by decide) (br_f (by decide) (br_t rfl (.inr (.inr (.inr (.inr (.inr (.inr (.inr (.inl (⟨ho, hn⟩))))))))))))))))
  · exact br_f (by decide) (br_f (by decide) (br_f (by decide) (br_f (by decide) (br_f (by decide) (br_f (by decide) (br_f (by decide) (br_t rfl (.inr (.inr (.inr (.inr (.inr (.inr (.inr (.inr (.inl (⟨ho, hn⟩)))))))))))))))))
  · exact br_f (by decide) (br_f (by decide) (br_f (by decide) (br_f (by decide) (br_f (by decide) (br_f (by decide) (br_f (by decide) (br_t rfl (.inr (.inr (.inr (.inr (.inr (.inr (.inr (.inr (.inr (⟨ho, hn⟩)))))))))))))))))
theorem x_cast_t11 {m q : Nat} {s : xS} {rd : xRd} {J : mJ} {I : mI} {QX : Nat → Prop} {Q : Int32 → Prop} (h1 : 1 ≤ m) (h6 : m ≤ 6) (ho : xo s q (21 + m)) (hn : QX 3) : x_X0_castTo q (nI 11) s rd J I QX Q := by
  unfold x_X0_castTo x_X0_rowAs
  rcases le6 h1 h6 with rfl | rfl | rfl | rfl | rfl | rfl
  · exact br_f (by decide) (br_f (by decide) (br_f (by decide) (br_f (by decide) (br_f (by decide) (br_f (by decide) (br_f (by decide) (br_f (by decide) (br_t rfl (.inr (.inr (.inr (.inr (.inl (⟨ho, hn⟩))))))))))))))
  · exact br_f (by decide) (br_f (by decide) (br_f (by decide) (br_f (by decide) (br_f (by decide) (br_f (by decide) (br_f (by decide) (br_f (by decide) (br_t rfl (.inr (.inr (.inr (.inr (.inr (.inl (⟨ho, hn⟩)))))))))))))))
  · exact br_f (by decide) (br_f (by decide) (br_f (by decide) (br_f (by decide) (br_f (by decide) (br_f (by decide) (br_f (by decide) (br_f (by decide) (br_t rfl (.inr (.inr (.inr (.inr (.inr (.inr (.inl (⟨ho, hn⟩))))))))))))))))
  · exact br_f (by decide) (br_f (by decide) (br_f (by decide) (br_f (by decide) (br_f (by decide) (br_f (by decide) (br_f (by decide) (br_f (by decide) (br_t rfl (.inr (.inr (.inr (.inr (.inr (.inr (.inr (.inl (⟨ho, hn⟩)))))))))))))))))
  · exact br_f (by decide) (br_f (by decide) (br_f (by decide) (br_f (by decide) (br_f (by decide) (br_f (by decide) (br_f (by decide) (br_f (by decide) (br_t rfl (.inr (.inr (.inr (.inr (.inr (.inr (.inr (.inr (.inl (⟨ho, hn⟩))))))))))))))))))
  · exact br_f (by decide) (br_f (by decide) (br_f (by decide) (br_f (by decide) (br_f (by decide) (br_f (by decide) (br_f (by decide) (br_f (by decide) (br_t rfl (.inr (.inr (.inr (.inr (.inr (.inr (.inr (.inr (.inr (⟨ho, hn⟩))))))))))))))))))
theorem x_cast_t12 {m q : Nat} {s : xS} {rd : xRd} {J : mJ} {I : mI} {QX : Nat → Prop} {Q : Int32 → Prop} (h1 : 1 ≤ m) (h6 : m ≤ 6) (ho : xo s q (21 + m)) (hn : QX 3) : x_X0_castTo q (nI 12) s rd J I QX Q := by
  unfold x_X0_castTo x_X0_rowAs
  rcases le6 h1 h6 with rfl | rfl | rfl | rfl | rfl | rfl
  · exact br_f (by decide) (br_f (by decide) (br_f (by decide) (br_f (by decide) (br_f (by decide) (br_f (by decide) (br_f (by decide) (br_f (by decide) (br_f (by decide) (br_t rfl (.inr (.inr (.inr (.inr (.inl (⟨ho, hn⟩)))))))))))))))
  · exact br_f (by decide) (br_f (by decide) (br_f (by decide) (br_f (by decide) (br_f (by decide) (br_f (by decide) (br_f (by decide) (br_f (by decide) (br_f (by decide) (br_t rfl (.inr (.inr (.inr (.inr (.inr (.inl (⟨ho, hn⟩))))))))))))))))
  · exact br_f (by decide) (br_f (by decide) (br_f (by decide) (br_f (by decide) (br_f (by decide) (br_f (by decide) (br_f (by decide) (br_f (by decide) (br_f (by decide) (br_t rfl (.inr (.inr (.inr (.inr (.inr (.inr (.inl (⟨ho, hn⟩)))))))))))))))))
  · exact br_f (by decide) (br_f (by decide) (br_f (by decide) (br_f (by decide) (br_f (by decide) (br_f (by decide) (br_f (by decide) (br_f (by decide) (br_f (by decide) (br_t rfl (.inr (.inr (.inr (.inr (.inr (.inr (.inr (.inl (⟨ho, hn⟩))))))))))))))))))
  · exact br_f (by decide) (br_f (by decide) (br_f (by decide) (br_f (by decide) (br_f (by decide) (br_f (by decide) (br_f (by decide) (br_f (by decide) (br_f (by decide) (br_t rfl (.inr (.inr (.inr (.inr (.inr (.inr (.inr (.inr (.inl (⟨ho, hn⟩)))))))))))))))))))
  · exact br_f (by decide) (br_f (by decide) (br_f (by decide) (br_f (by decide) (br_f (by decide) (br_f (by decide) (br_f (by decide) (br_f (by decide) (br_f (by decide) (br_t rfl (.inr (.inr (.inr (.inr (.inr (.inr (.inr (.inr (.inr (⟨ho, hn⟩)))))))))))))))))))
theorem x_cast_t13 {m q : Nat} {s : xS} {rd : xRd} {J : mJ} {I : mI} {QX : Nat → Prop} {Q : Int32 → Prop} (h1 : 1 ≤ m) (h6 : m ≤ 6) (ho : xo s q (21 + m)) (hn : QX 3) : x_X0_castTo q (nI 13) s rd J I QX Q := by
  unfold x_X0_castTo x_X0_rowAs
  rcases le6 h1 h6 with rfl | rfl | rfl | rfl | rfl | rfl
  · exact br_f (by decide) (br_f (by decide) (br_f (by decide) (br_f (by decide) (br_f (by decide) (br_f (by decide) (br_f (by decide) (br_f (by decide) (br_f (by decide) (br_f (by decide) (.inr (.inr (.inr (.inr (.inl (⟨ho, hn⟩)))))))))))))))
  · exact br_f (by decide) (br_f (by decide) (br_f (by decide) (br_f (by decide) (br_f (by decide) (br_f (by decide) (br_f (by decide) (br_f (by decide) (br_f (by decide) (br_f (by decide) (.inr (.inr (.inr (.inr (.inr (.inl (⟨ho, hn⟩))))))))))))))))
  · exact br_f (by decide) (br_f (by decide) (br_f (by decide) (br_f (by decide) (br_f (by decide) (br_f (by decide) (br_f (by decide) (br_f (by decide) (br_f (by decide) (br_f (by decide) (.inr (.inr (.inr (.inr (.inr (.inr (.inl (⟨ho, hn⟩)))))))))))))))))
  · exact br_f (by decide) (br_f (by decide) (br_f (by decide) (br_f (by decide) (br_f (by decide) (br_f (by decide) (br_f (by decide) (br_f (by decide) (br_f (by decide) (br_f (by decide) (.inr (.inr (.inr (.inr (.inr (.inr (.inr (.inl (⟨ho, hn⟩))))))))))))))))))
  · exact br_f (by decide) (br_f (by decide) (br_f (by decide) (br_f (by decide) (br_f (by decide) (br_f (by decide) (br_f (by decide) (br_f (by decide) (br_f (by decide) (br_f (by decide) (.inr (.inr (.inr (.inr (.inr (.inr (.inr (.inr (.inl (⟨ho, hn⟩)))))))))))))))))))
  · exact br_f (by decide) (br_f (by decide) (br_f (by decide) (br_f (by decide) (br_f (by decide) (br_f (by decide) (br_f (by decide) (br_f (by decide) (br_f (by decide) (br_f (by decide) (.inr (.inr (.inr (.inr (.inr (.inr (.inr (.inr (.inr (⟨ho, hn⟩)))))))))))))))))))
theorem x_cast_r0 {q a : Nat} {s : xS} {rd : xRd} {J : mJ} {I : mI} {QX : Nat → Prop} {Q : Int32 → Prop} (hq : q < 4) (ho : xo s a (ak q)) (hy : 0 = 10 + q → Q (nI (xlen s a))) (hn : 0 ≠ 10 + q → QX 3) : x_X0_castTo a (nI 0) s rd J I QX Q := by
  unfold x_X0_castTo
  rcases lt4 hq with rfl | rfl | rfl | rfl
  · exact br_t rfl (.inr (.inl (⟨ho, hn (by decide)⟩)))
  · exact br_t rfl (.inr (.inr (.inl (⟨ho, hn (by decide)⟩))))
  · exact br_t rfl (.inl (⟨ho, hn (by decide)⟩))
  · exact br_t rfl (.inr (.inr (.inr (.inl (⟨ho, hn (by decide)⟩)))))
theorem x_cast_r1 {q a : Nat} {s : xS} {rd : xRd} {J : mJ} {I : mI} {QX : Nat → Prop} {Q : Int32 → Prop} (hq : q < 4) (ho : xo s a (ak q)) (hy : 1 = 10 + q → Q (nI (xlen s a))) (hn : 1 ≠ 10 + q → QX 3) : x_X0_castTo a (nI 1) s rd J I QX Q := by
  unfold x_X0_castTo
  rcases lt4 hq with rfl | rfl | rfl | rfl
  · exact br_f (by decide) (br_t rfl (.inr (.inl (⟨ho, hn (by decide)⟩))))
  · exact br_f (by decide) (br_t rfl (.inr (.inr (.inl (⟨ho, hn (by decide)⟩)))))
  · exact br_f (by decide) (br_t rfl (.inl (⟨ho, hn (by decide)⟩)))
  · exact br_f (by decide) (br_t rfl (.inr (.inr (.inr (.inl (⟨ho, hn (by decide)⟩))))))
theorem x_cast_r2 {q a : Nat} {s : xS} {rd : xRd} {J : mJ} {I : mI} {QX : Nat → Prop} {Q : Int32 → Prop} (hq : q < 4) (ho : xo s a (ak q)) (hy : 2 = 10 + q → Q (nI (xlen s a))) (hn : 2 ≠ 10 + q → QX 3) : x_X0_castTo a (nI 2) s rd J I QX Q := by
  unfold x_X0_castTo
  rcases lt4 hq with rfl | rfl | rfl | rfl
  · exact br_f (by decide) (br_f (by decide) (br_t rfl (.inr (.inl (⟨ho, hn (by decide)⟩)))))
  · exact br_f (by decide) (br_f (by decide) (br_t rfl (.inr (.inr (.inl (⟨ho, hn (by decide)⟩))))))
  · exact br_f (by decide) (br_f (by decide) (br_t rfl (.inl (⟨ho, hn (by decide)⟩))))
  · exact br_f (by decide) (br_f (by decide) (br_t rfl (.inr (.inr (.inr (.inl (⟨ho, hn (by decide)⟩)))))))
theorem x_cast_r3 {q a : Nat} {s : xS} {rd : xRd} {J : mJ} {I : mI} {QX : Nat → Prop} {Q : Int32 → Prop} (hq : q < 4) (ho : xo s a (ak q)) (hy : 3 = 10 + q → Q (nI (xlen s a))) (hn : 3 ≠ 10 + q → QX 3) : x_X0_castTo a (nI 3) s rd J I QX Q := by
  unfold x_X0_castTo
  rcases lt4 hq with rfl | rfl | rfl | rfl
  · exact br_f (by decide) (br_f (by decide) (br_f (by decide) (br_t rfl (.inr (.inl (⟨ho, hn (by decide)⟩))))))
  · exact br_f (by decide) (br_f (by decide) (br_f (by decide) (br_t rfl (.inr (.inr (.inl (⟨ho, hn (by decide)⟩)))))))
  · exact br_f (by decide) (br_f (by decide) (br_f (by decide) (br_t rfl (.inl (⟨ho, hn (by decide)⟩)))))
  · exact br_f (by decide) (br_f (by decide) (br_f (by decide) (br_t rfl (.inr (.inr (.inr (.inl (⟨ho, hn (by decide)⟩))))))))
theorem x_cast_r4 {q a : Nat} {s : xS} {rd : xRd} {J : mJ} {I : mI} {QX : Nat → Prop} {Q : Int32 → Prop} (hq : q < 4) (ho : xo s a (ak q)) (hy : 4 = 10 + q → Q (nI (xlen s a))) (hn : 4 ≠ 10 + q → QX 3) : x_X0_castTo a (nI 4) s rd J I QX Q := by
  unfold x_X0_castTo
  rcases lt4 hq with rfl | rfl | rfl | rfl
  · exact br_f (by decide) (br_f (by decide) (br_f (by decide) (br_f (by decide) (br_t rfl (.inr (.inl (⟨ho, hn (by decide)⟩)))))))
  · exact br_f (by decide) (br_f (by decide) (br_f (by decide) (br_f (by decide) (br_t rfl (.inr (.inr (.inl (⟨ho, hn (by decide)⟩))))))))
  · exact br_f (by decide) (br_f (by decide) (br_f (by decide) (br_f (by decide) (br_t rfl (.inl (⟨ho, hn (by decide)⟩))))))
  · exact br_f (by decide) (br_f (by decide) (br_f (by decide) (br_f (by decide) (br_t rfl (.inr (.inr (.inr (.inl (⟨ho, hn (by decide)⟩)))))))))
theorem x_cast_r5 {q a : Nat} {s : xS} {rd : xRd} {J : mJ} {I : mI} {QX : Nat → Prop} {Q : Int32 → Prop} (hq : q < 4) (ho : xo s a (ak q)) (hy : 5 = 10 + q → Q (nI (xlen s a))) (hn : 5 ≠ 10 + q → QX 3) : x_X0_castTo a (nI 5) s rd J I QX Q := by
  unfold x_X0_castTo
  rcases lt4 hq with rfl | rfl | rfl | rfl
  · exact br_f (by decide) (br_f (by decide) (br_f (by decide) (br_f (by decide) (br_f (by decide) (br_t rfl (.inr (.inl (⟨ho, hn (by decide)⟩))))))))
  · exact br_f (by decide) (br_f (by decide) (br_f (by decide) (br_f (by decide) (br_f (by decide) (br_t rfl (.inr (.inr (.inl (⟨ho, hn (by decide)⟩)))))))))
  · exact br_f (by decide) (br_f (by decide) (br_f (by decide) (br_f (by decide) (br_f (by decide) (br_t rfl (.inl (⟨ho, hn (by decide)⟩)))))))
  · exact br_f (by decide) (br_f (by decide) (br_f (by decide) (br_f (by decide) (br_f (by decide) (br_t rfl (.inr (.inr (.inr (.inl (⟨ho, hn (by decide)⟩))))))))))
theorem x_cast_r6 {q a : Nat} {s : xS} {rd : xRd} {J : mJ} {I : mI} {QX : Nat → Prop} {Q : Int32 → Prop} (hq : q < 4) (ho : xo s a (ak q)) (hy : 6 = 10 + q → Q (nI (xlen s a))) (hn : 6 ≠ 10 + q → QX 3) : x_X0_castTo a (nI 6) s rd J I QX Q := by
  unfold x_X0_castTo
  rcases lt4 hq with rfl | rfl | rfl | rfl
  · exact br_f (by decide) (br_f (by decide) (br_f (by decide) (br_f (by decide) (br_f (by decide) (br_f (by decide) (br_t rfl (.inr (.inl (⟨ho, hn (by decide)⟩)))))))))
  · exact br_f (by decide) (br_f (by decide) (br_f (by decide) (br_f (by decide) (br_f (by decide) (br_f (by decide) (br_t rfl (.inr (.inr (.inl (⟨ho, hn (by decide)⟩))))))))))
  · exact br_f (by decide) (br_f (by decide) (br_f (by decide) (br_f (by decide) (br_f (by decide) (br_f (by decide) (br_t rfl (.inl (⟨ho, hn (by decide)⟩))))))))
  · exact br_f (by decide) (br_f (by decide) (br_f (by decide) (br_f (by decide) (br_f (by decide) (br_f (by decide) (br_t rfl (.inr (.inr (.inr (.inl (⟨ho, hn (by decide)⟩)))))))))))
theorem x_cast_r10 {q a : Nat} {s : xS} {rd : xRd} {J : mJ} {I : mI} {QX : Nat → Prop} {Q : Int32 → Prop} (hq : q < 4) (ho : xo s a (ak q)) (hy : 10 = 10 + q → Q (nI (xlen s a))) (hn : 10 ≠ 10 + q → QX 3) : x_X0_castTo a (nI 10) s rd J I QX Q := by
  unfold x_X0_castTo x_X0_rowAs
  rcases lt4 hq with rfl | rfl | rfl | rfl
  · exact br_f (by decide) (br_f (by decide) (br_f (by decide) (br_f (by decide) (br_f (by decide) (br_f (by decide) (br_f (by decide) (br_t rfl (.inr (.inl (⟨ho, hy (by decide)⟩))))))))))
  · exact br_f (by decide) (br_f (by decide) (br_f (by decide) (br_f (by decide) (br_f (by decide) (br_f (by decide) (br_f (by decide) (br_t rfl (.inr (.inr (.inl (⟨ho, hn (by decide)⟩)))))))))))
  · exact br_f (by decide) (br_f (by decide) (br_f (by decide) (br_f (by decide) (br_f (by decide) (br_f (by decide) (br_f (by decide) (br_t rfl (.inl (⟨ho, hn (by decide)⟩)))))))))
  · exact br_f (by decide) (br_f (by decide) (br_f (by decide) (br_f (by decide) (br_f (by decide) (br_f (by decide) (br_f (by decide) (br_t rfl (.inr (.inr (.inr (.inl (⟨ho, hn (by decide)⟩))))))))))))
theorem x_cast_r11 {q a : Nat} {s : xS} {rd : xRd} {J : mJ} {I : mI} {QX : Nat → Prop} {Q : Int32 → Prop} (hq : q < 4) (ho : xo s a (ak q)) (hy : 11 = 10 + q → Q (nI (xlen s a))) (hn : 11 ≠ 10 + q → QX 3) : x_X0_castTo a (nI 11) s rd J I QX Q := by
  unfold x_X0_castTo x_X0_rowAs
  rcases lt4 hq with rfl | rfl | rfl | rfl
  · exact br_f (by decide) (br_f (by decide) (br_f (by decide) (br_f (by decide) (br_f (by decide) (br_f (by decide) (br_f (by decide) (br_f (by decide) (br_t rfl (.inr (.inl (⟨ho, hn (by decide)⟩)))))))))))
  · exact br_f (by decide) (br_f (by decide) (br_f (by decide) (br_f (by decide) (br_f (by decide) (br_f (by decide) (br_f (by decide) (br_f (by decide) (br_t rfl (.inr (.inr (.inl (⟨ho, hy (by decide)⟩))))))))))))
  · exact br_f (by decide) (br_f (by decide) (br_f (by decide) (br_f (by decide) (br_f (by decide) (br_f (by decide) (br_f (by decide) (br_f (by decide) (br_t rfl (.inl (⟨ho, hn (by decide)⟩))))))))))
  · exact br_f (by decide) (br_f (by decide) (br_f (by decide) (br_f (by decide) (br_f (by decide) (br_f (by decide) (br_f (by decide) (br_f (by decide) (br_t rfl (.inr (.inr (.inr (.inl (⟨ho, hn (by decide)⟩)))))))))))))
theorem x_cast_r12 {q a : Nat} {s : xS} {rd : xRd} {J : mJ} {I : mI} {QX : Nat → Prop} {Q : Int32 → Prop} (hq : q < 4) (ho : xo s a (ak q)) (hy : 12 = 10 + q → Q (nI (xlen s a))) (hn : 12 ≠ 10 + q → QX 3) : x_X0_castTo a (nI 12) s rd J I QX Q := by
  unfold x_X0_castTo x_X0_rowAs
  rcases lt4 hq with rfl | rfl | rfl | rfl
  · exact br_f (by decide) (br_f (by decide) (br_f (by decide) (br_f (by decide) (br_f (by decide) (br_f (by decide) (br_f (by decide) (br_f (by decide) (br_f (by decide) (br_t rfl (.inr (.inl (⟨ho, hn (by decide)⟩))))))))))))
  · exact br_f (by decide) (br_f (by decide) (br_f (by decide) (br_f (by decide) (br_f (by decide) (br_f (by decide) (br_f (by decide) (br_f (by decide) (br_f (by decide) (br_t rfl (.inr (.inr (.inl (⟨ho, hn (by decide)⟩)))))))))))))
  · exact br_f (by decide) (br_f (by decide) (br_f (by decide) (br_f (by decide) (br_f (by decide) (br_f (by decide) (br_f (by decide) (br_f (by decide) (br_f (by decide) (br_t rfl (.inl (⟨ho, hy (by decide)⟩)))))))))))
  · exact br_f (by decide) (br_f (by decide) (br_f (by decide) (br_f (by decide) (br_f (by decide) (br_f (by decide) (br_f (by decide) (br_f (by decide) (br_f (by decide) (br_t rfl (.inr (.inr (.inr (.inl (⟨ho, hn (by decide)⟩))))))))))))))
theorem x_cast_r13 {q a : Nat} {s : xS} {rd : xRd} {J : mJ} {I : mI} {QX : Nat → Prop} {Q : Int32 → Prop} (hq : q < 4) (ho : xo s a (ak q)) (hy : 13 = 10 + q → Q (nI (xlen s a))) (hn : 13 ≠ 10 + q → QX 3) : x_X0_castTo a (nI 13) s rd J I QX Q := by
  unfold x_X0_castTo x_X0_rowAs
  rcases lt4 hq with rfl | rfl | rfl | rfl
  · exact br_f (by decide) (br_f (by decide) (br_f (by decide) (br_f (by decide) (br_f (by decide) (br_f (by decide) (br_f (by decide) (br_f (by decide) (br_f (by decide) (br_f (by decide) (.inr (.inl (⟨ho, hn (by decide)⟩))))))))))))
  · exact br_f (by decide) (br_f (by decide) (br_f (by decide) (br_f (by decide) (br_f (by decide) (br_f (by decide) (br_f (by decide) (br_f (by decide) (br_f (by decide) (br_f (by decide) (.inr (.inr (.inl (⟨ho, hn (by decide)⟩)))))))))))))
  · exact br_f (by decide) (br_f (by decide) (br_f (by decide) (br_f (by decide) (br_f (by decide) (br_f (by decide) (br_f (by decide) (br_f (by decide) (br_f (by decide) (br_f (by decide) (.inl (⟨ho, hn (by decide)⟩)))))))))))
  · exact br_f (by decide) (br_f (by decide) (br_f (by decide) (br_f (by decide) (br_f (by decide) (br_f (by decide) (br_f (by decide) (br_f (by decide) (br_f (by decide) (br_f (by decide) (.inr (.inr (.inr (.inl (⟨ho, hy (by decide)⟩))))))))))))))
theorem m_under0 {m : Nat} {I : mI} {J : mJ} {A : Int32 → mI → mJ → Prop} (h1 : 1 ≤ m) (h6 : m ≤ 6) (hy : isU m 0 = true → A 1 I J) (hn : isU m 0 = false → A 0 I J) : m_isUnder (nI m) (nI 0) I J A := by
  unfold m_isUnder
  rcases le6 h1 h6 with rfl | rfl | rfl | rfl | rfl | rfl
  · exact br_t rfl (br_f (by decide) (hy (by decide)))
  · exact br_t rfl (br_f (by decide) (hy (by decide)))
  · exact br_t rfl (br_f (by decide) (hy (by decide)))
  · exact br_t rfl (br_f (by decide) (hy (by decide)))
  · exact br_t rfl (br_t (by decide) (hn (by decide)))
  · exact br_t rfl (br_t (by decide) (hn (by decide)))
theorem m_under1 {m : Nat} {I : mI} {J : mJ} {A : Int32 → mI → mJ → Prop} (h1 : 1 ≤ m) (h6 : m ≤ 6) (hy : isU m 1 = true → A 1 I J) (hn : isU m 1 = false → A 0 I J) : m_isUnder (nI m) (nI 1) I J A := by
  unfold m_isUnder
  rcases le6 h1 h6 with rfl | rfl | rfl | rfl | rfl | rfl
  · exact br_f (by decide) (br_t rfl (br_f (by decide) (hy (by decide))))
  · exact br_f (by decide) (br_t rfl (br_f (by decide) (hy (by decide))))
  · exact br_f (by decide) (br_t rfl (br_f (by decide) (hy (by decide))))
  · exact br_f (by decide) (br_t rfl (br_t (by decide) (hn (by decide))))
  · exact br_f (by decide) (br_t rfl (br_t (by decide) (hn (by decide))))
  · exact br_f (by decide) (br_t rfl (br_t (by decide) (hn (by decide))))
theorem m_under2 {m : Nat} {I : mI} {J : mJ} {A : Int32 → mI → mJ → Prop} (h1 : 1 ≤ m) (h6 : m ≤ 6) (hy : isU m 2 = true → A 1 I J) (hn : isU m 2 = false → A 0 I J) : m_isUnder (nI m) (nI 2) I J A := by
  unfold m_isUnder
  rcases le6 h1 h6 with rfl | rfl | rfl | rfl | rfl | rfl
  · exact br_f (by decide) (br_f (by decide) (br_t rfl (br_f (by decide) (br_f (by decide) (hn (by decide))))))
  · exact br_f (by decide) (br_f (by decide) (br_t rfl (br_t rfl (hy (by decide)))))
  · exact br_f (by decide) (br_f (by decide) (br_t rfl (br_f (by decide) (br_t rfl (hy (by decide))))))
  · exact br_f (by decide) (br_f (by decide) (br_t rfl (br_f (by decide) (br_f (by decide) (hn (by decide))))))
  · exact br_f (by decide) (br_f (by decide) (br_t rfl (br_f (by decide) (br_f (by decide) (hn (by decide))))))
  · exact br_f (by decide) (br_f (by decide) (br_t rfl (br_f (by decide) (br_f (by decide) (hn (by decide))))))
theorem m_under3 {m : Nat} {I : mI} {J : mJ} {A : Int32 → mI → mJ → Prop} (h1 : 1 ≤ m) (h6 : m ≤ 6) (hy : isU m 3 = true → A 1 I J) (hn : isU m 3 = false → A 0 I J) : m_isUnder (nI m) (nI 3) I J A := by
  unfold m_isUnder
  rcases le6 h1 h6 with rfl | rfl | rfl | rfl | rfl | rfl
  · exact br_f (by decide) (br_f (by decide) (br_f (by decide) (br_f (by decide) (hn (by decide)))))
  · exact br_f (by decide) (br_f (by decide) (br_f (by decide) (br_f (by decide) (hn (by decide)))))
  · exact br_f (by decide) (br_f (by decide) (br_f (by decide) (br_t rfl (hy (by decide)))))
  · exact br_f (by decide) (br_f (by decide) (br_f (by decide) (br_f (by decide) (hn (by decide)))))
  · exact br_f (by decide) (br_f (by decide) (br_f (by decide) (br_f (by decide) (hn (by decide)))))
  · exact br_f (by decide) (br_f (by decide) (br_f (by decide) (br_f (by decide) (hn (by decide)))))
theorem m_under4 {m : Nat} {I : mI} {J : mJ} {A : Int32 → mI → mJ → Prop} (h1 : 1 ≤ m) (h6 : m ≤ 6) (hy : isU m 4 = true → A 1 I J) (hn : isU m 4 = false → A 0 I J) : m_isUnder (nI m) (nI 4) I J A := by
  unfold m_isUnder
  rcases le6 h1 h6 with rfl | rfl | rfl | rfl | rfl | rfl
  · exact br_f (by decide) (br_f (by decide) (br_f (by decide) (br_f (by decide) (hn (by decide)))))
  · exact br_f (by decide) (br_f (by decide) (br_f (by decide) (br_f (by decide) (hn (by decide)))))
  · exact br_f (by decide) (br_f (by decide) (br_f (by decide) (br_f (by decide) (hn (by decide)))))
  · exact br_f (by decide) (br_f (by decide) (br_f (by decide) (br_t rfl (hy (by decide)))))
  · exact br_f (by decide) (br_f (by decide) (br_f (by decide) (br_f (by decide) (hn (by decide)))))
  · exact br_f (by decide) (br_f (by decide) (br_f (by decide) (br_f (by decide) (hn (by decide)))))
theorem m_under5 {m : Nat} {I : mI} {J : mJ} {A : Int32 → mI → mJ → Prop} (h1 : 1 ≤ m) (h6 : m ≤ 6) (hy : isU m 5 = true → A 1 I J) (hn : isU m 5 = false → A 0 I J) : m_isUnder (nI m) (nI 5) I J A := by
  unfold m_isUnder
  rcases le6 h1 h6 with rfl | rfl | rfl | rfl | rfl | rfl
  · exact br_f (by decide) (br_f (by decide) (br_f (by decide) (br_f (by decide) (hn (by decide)))))
  · exact br_f (by decide) (br_f (by decide) (br_f (by decide) (br_f (by decide) (hn (by decide)))))
  · exact br_f (by decide) (br_f (by decide) (br_f (by decide) (br_f (by decide) (hn (by decide)))))
  · exact br_f (by decide) (br_f (by decide) (br_f (by decide) (br_f (by decide) (hn (by decide)))))
  · exact br_f (by decide) (br_f (by decide) (br_f (by decide) (br_t rfl (hy (by decide)))))
  · exact br_f (by decide) (br_f (by decide) (br_f (by decide) (br_f (by decide) (hn (by decide)))))
theorem m_under6 {m : Nat} {I : mI} {J : mJ} {A : Int32 → mI → mJ → Prop} (h1 : 1 ≤ m) (h6 : m ≤ 6) (hy : isU m 6 = true → A 1 I J) (hn : isU m 6 = false → A 0 I J) : m_isUnder (nI m) (nI 6) I J A := by
  unfold m_isUnder
  rcases le6 h1 h6 with rfl | rfl | rfl | rfl | rfl | rfl
  · exact br_f (by decide) (br_f (by decide) (br_f (by decide) (br_f (by decide) (hn (by decide)))))
  · exact br_f (by decide) (br_f (by decide) (br_f (by decide) (br_f (by decide) (hn (by decide)))))
  · exact br_f (by decide) (br_f (by decide) (br_f (by decide) (br_f (by decide) (hn (by decide)))))
  · exact br_f (by decide) (br_f (by decide) (br_f (by decide) (br_f (by decide) (hn (by decide)))))
  · exact br_f (by decide) (br_f (by decide) (br_f (by decide) (br_f (by decide) (hn (by decide)))))
  · exact br_f (by decide) (br_f (by decide) (br_f (by decide) (br_t rfl (hy (by decide)))))
/-- a thing made leaves all else -/
theorem tMade.old {s : xS} {rd : xRd} {J : mJ} {I : mI} {m : Nat} {num a : Int32} {q : Nat} {s' : xS} {rd' : xRd} {J' : mJ} {I' : mI} (fz : Nat → Bool) (h : tMade s rd J I m num a q s' rd' J' I') : @@N@@.old s rd fz I s' rd' fz I' := by
  obtain ⟨rfl, rfl, h3, -⟩ := h
  have h0 : @@N@@.old s rd fz I (xn s (21 + m) (tN m)) (ur rd (133 + s.1) (fun _ => none)) (u1 fz (133 + s.1) true) (ur I (133 + s.1) (fun _ => 0)) := old.new
  exact ⟨h0.1, h0.2.1, fun r r1 r2 => ⟨(h3 r (by omega)).2.1, rfl, fun _ => (h3 r (by omega)).1⟩⟩
theorem tMade.xo {s : xS} {rd : xRd} {J : mJ} {I : mI} {m : Nat} {num a : Int32} {q : Nat} {s' : xS} {rd' : xRd} {J' : mJ} {I' : mI} (h : tMade s rd J I m num a q s' rd' J' I') : @@N@@.xo s' q (21 + m) := by
  obtain ⟨rfl, rfl, -⟩ := h
  exact xo_new'
theorem RelS.made {t : Nat} {σ : wS} {fz : Nat → Bool} {s : xS} {rd : xRd} {J : mJ} {I Im : mI} {Jm : mJ} {m : Nat} {num a : Int32} {q : Nat} {s' : xS} {rd' : xRd} {J' : mJ} {I' : mI} (hS : RelS t σ fz s rd J I Im Jm) (h : tMade s rd J I m num a q s' rd' J' I') : RelS (t + 1) σ fz s' rd' J' I' Im Jm := by
  have ho := h.old fz
  obtain ⟨rfl, -, h3, -⟩ := h
  have gI : ∀ r, r < 133 + s.1 → I' r = I r := fun r hr => (h3 r (by omega)).1
  have gJ : ∀ r, r < 133 + s.1 → J' r = J r := fun r hr => (h3 r (by omega)).2.2
  have gr : ∀ r k, r < 133 + s.1 → xR rd' r k = xR rd r k := fun r k hr => xR_row (h3 r (by omega)).2.1
  exact hS.gen ho (fun r hr => gI r (by omega)) (fun r k hr => gr r k (by omega)) (fun _ _ => rfl) rfl (hS.rS.old ho (fun r r1 r2 => ⟨gI r r2, gJ r r2⟩) (fun r k r1 r2 => gr r k (by omega)) (fun _ _ _ => rfl) rfl) (hS.rH.old ho (fun r r1 r2 => gI r (by omega)) (fun r k r1 r2 => gr r k (by omega)) (fun _ _ _ => rfl))
theorem p_taken {t : Nat} (ht : t ≤ 64) {a b : Int32} {s : xS} {rd : xRd} {J : mJ} {I Im : mI} {Jm : mJ} (h : Rel t s rd J I Im Jm) : x_X0_taken a b s rd J I (fun r s' rd' J' I' => m_taken a b Im Jm (RelQ (t + 1) s' rd' J' I' r)) := by
  have no : ∀ z, RelQ (t + 1) s rd J I z z Im Jm := fun z => ⟨rfl, h.same⟩
  obtain ⟨h0, σ, fz, hS⟩ := h.opn
  unfold x_X0_taken
  refine (show x_X0_isShelf a s rd J I _ from by
    unfold x_X0_isShelf
    refine x_in_c (fun y => ⟨.inr rfl, br_f (by decide) ?_⟩) (fun y => ⟨.inl rfl, br_t rfl (by unfold m_taken; exact m_isShelf_c (fun z => absurd z y) (fun _ => br_t rfl (no _)))⟩)
    obtain ⟨k, _, hk3, rfl⟩ := in_of (lo := 0) (hi := 3) (by decide) (by decide) y
    have hk : k < 4 := by omega
    have vin : vp_in (nI k) 4 := vp_in_nI hk (by decide)
    have cl : (nI k).toNatClampNeg = k := nI_clamp (by omega)
    -- the words past the checks
    have go : ∀ c : Nat, c ≤ 13 → (c ≤ 6 ∨ 10 ≤ c) → b = nI c → (∀ A : Int32 → mI → mJ → Prop, m_taken_j30 A (nI k) b Im Jm → m_taken (nI k) b Im Jm A) → x_X0_taken_j30 (fun r s' rd' J' I' => m_taken (nI k) b Im Jm (RelQ (t + 1) s' rd' J' I' r)) (nI k) b s rd J I := by
      intro c hc13 hc6 eb md
      unfold x_X0_taken_j30
      rw [cl]
      refine ⟨vin, 129 + k, xR128 hk, ?_⟩
      rcases held_s hS hk (show s.1 < 900000 by omega) with ⟨m1, x1⟩ | ⟨ar, q, n, hq, hn, e1, e2, e3, e4, m1, x1⟩ | ⟨m, num, ab, hm1, hm6, m1, m2, m3, m4, m5, x1⟩
      · refine x1 _ (x_there_n ⟨rfl, md _ ?_⟩)
        unfold m_taken_j30
        exact m1 _ (br_f (by decide) (no _))
      · refine x1 _ (x_there_s ?_)
        have yes : c = 10 + q → m_taken (nI k) b Im Jm (RelQ (t + 1) s rd J I (nI (xlen s ar))) := by
          intro ec
          refine md _ ?_
          unfold m_taken_j30
          refine m1 _ (br_t (by decide) (br_t rfl ?_))
          rw [cl, e3, e4, eb]
          refine ⟨vin, br_t ?_ ⟨vin, ?_⟩⟩
          · rw [show (10 : Int32) = nI 10 from rfl, nI_add, ec]
          · rw [e2]; exact no _
        have nay : c ≠ 10 + q → 3 = 3 ∧ m_taken (nI k) b Im Jm (RelQ (t + 1) s rd J I (-13)) := by
          intro ec
          refine ⟨rfl, md _ ?_⟩
          unfold m_taken_j30
          refine m1 _ (br_t (by decide) (br_t rfl ?_))
          rw [cl, e3, eb]
          refine ⟨vin, br_f ?_ (no _)⟩
          rw [show (10 : Int32) = nI 10 from rfl, nI_add]
          exact fun z => ec ((nI_eq (by omega) (by omega)).mp z)
        have hc : c = 0 ∨ c = 1 ∨ c = 2 ∨ c = 3 ∨ c = 4 ∨ c = 5 ∨ c = 6 ∨ c = 10 ∨ c = 11 ∨ c = 12 ∨ c = 13 := by omega
        rw [show x_X0_castTo ar b s rd J I = x_X0_castTo ar (nI c) s rd J I by rw [eb]]
        rcases hc with rfl | rfl | rfl | rfl | rfl | rfl | rfl | rfl | rfl | rfl | rfl
        · exact x_cast_r0 hq e1 yes nay
        · exact x_cast_r1 hq e1 yes nay
        · exact x_cast_r2 hq e1 yes nay
        · exact x_cast_r3 hq e1 yes nay
        · exact x_cast_r4 hq e1 yes nay
        · exact x_cast_r5 hq e1 yes nay
        · exact x_cast_r6 hq e1 yes nay
        · exact x_cast_r10 hq e1 yes nay
        · exact x_cast_r11 hq e1 yes nay
        · exact x_cast_r12 hq e1 yes nay
        · exact x_cast_r13 hq e1 yes nay
      · refine x1 _ (fun q s' rd' J' I' hT => x_there_s ?_)
        have fin : ∀ z, RelQ (t + 1) s' rd' J' I' z z Im Jm := fun z => ⟨rfl, RelS.cls (hS.made hT) (by
          obtain ⟨-, rfl, -⟩ := hT
          show s.1 + 1 ≤ _
          omega)⟩
        have hnum : I' q 0 = num := hT.2.2.2.1
        have ho := hT.xo
        have yes : c ≤ 6 → isU m c = true → (∀ A : Int32 → mI → mJ → Prop, A 1 Im Jm → m_isUnder (nI m) (nI c) Im Jm A) → m_taken (nI k) b Im Jm (RelQ (t + 1) s' rd' J' I' (I' q 0)) := by
          intro hc6 _ hu
          refine md _ ?_
          unfold m_taken_j30
          refine m1 _ (br_t (nI_pos' (by omega)) (br_f ?_ (br_f ?_ ?_)))
          · exact fun z => absurd ((nI_eq (b := 9) (by omega) (by decide)).mp z) (by omega)
          · rw [eb]; exact fun z => absurd ((nI_leI (a := 10) (by decide) (by omega)).mp z) (by omega)
          · rw [eb]
            refine hu _ (br_f (by decide) (m2 _ _ (fun _ _ => rfl) rfl ?_))
            rw [hnum]; exact fin _
        have nay : c ≤ 6 → (∀ A : Int32 → mI → mJ → Prop, A 0 Im Jm → m_isUnder (nI m) (nI c) Im Jm A) → 3 = 3 ∧ m_taken (nI k) b Im Jm (RelQ (t + 1) s' rd' J' I' (-13)) := by
          intro hc6 hu
          refine ⟨rfl, md _ ?_⟩
          unfold m_taken_j30
          refine m1 _ (br_t (nI_pos' (by omega)) (br_f ?_ (br_f ?_ ?_)))
          · exact fun z => absurd ((nI_eq (b := 9) (by omega) (by decide)).mp z) (by omega)
          · rw [eb]; exact fun z => absurd ((nI_leI (a := 10) (by decide) (by omega)).mp z) (by omega)
          · rw [eb]
            exact hu _ (br_t rfl (fin _))
        have row : 10 ≤ c → 3 = 3 ∧ m_taken (nI k) b Im Jm (RelQ (t + 1) s' rd' J' I' (-13)) := by
          intro hc10
          refine ⟨rfl, md _ ?_⟩
          unfold m_taken_j30
          refine m1 _ (br_t (nI_pos' (by omega)) (br_f ?_ (br_t ?_ (fin _))))
          · exact fun z => absurd ((nI_eq (b := 9) (by omega) (by decide)).mp z) (by omega)
          · rw [eb]; exact (nI_leI (a := 10) (by decide) (by omega)).mpr hc10
        have hc : c = 0 ∨ c = 1 ∨ c = 2 ∨ c = 3 ∨ c = 4 ∨ c = 5 ∨ c = 6 ∨ c = 10 ∨ c = 11 ∨ c = 12 ∨ c = 13 := by omega
        rw [show x_X0_castTo q b s' rd' J' I' = x_X0_castTo q (nI c) s' rd' J' I' by rw [eb]]
        rcases hc with rfl | rfl | rfl | rfl | rfl | rfl | rfl | rfl | rfl | rfl | rfl
        · exact x_cast_t0 hm1 hm6 ho (fun u => yes (by decide) u (fun A hA => m_under0 hm1 hm6 (fun _ => hA) (fun z => absurd (u.symm.trans z) (by decide)))) (fun u => nay (by decide) (fun A hA => m_under0 hm1 hm6 (fun z => absurd (u.symm.trans z) (by decide)) (fun _ => hA)))
        · exact x_cast_t1 hm1 hm6 ho (fun u => yes (by decide) u (fun A hA => m_under1 hm1 hm6 (fun _ => hA) (fun z => absurd (u.symm.trans z) (by decide)))) (fun u => nay (by decide) (fun A hA => m_under1 hm1 hm6 (fun z => absurd (u.symm.trans z) (by decide)) (fun _ => hA)))
        · exact x_cast_t2 hm1 hm6 ho (fun u => yes (by decide) u (fun A hA => m_under2 hm1 hm6 (fun _ => hA) (fun z => absurd (u.symm.trans z) (by decide)))) (fun u => nay (by decide) (fun A hA => m_under2 hm1 hm6 (fun z => absurd (u.symm.trans z) (by decide)) (fun _ => hA)))
        · exact x_cast_t3 hm1 hm6 ho (fun u => yes (by decide) u (fun A hA => m_under3 hm1 hm6 (fun _ => hA) (fun z => absurd (u.symm.trans z) (by decide)))) (fun u => nay (by decide) (fun A hA => m_under3 hm1 hm6 (fun z => absurd (u.symm.trans z) (by decide)) (fun _ => hA)))
        · exact x_cast_t4 hm1 hm6 ho (fun u => yes (by decide) u (fun A hA => m_under4 hm1 hm6 (fun _ => hA) (fun z => absurd (u.symm.trans z) (by decide)))) (fun u => nay (by decide) (fun A hA => m_under4 hm1 hm6 (fun z => absurd (u.symm.trans z) (by decide)) (fun _ => hA)))
        · exact x_cast_t5 hm1 hm6 ho (fun u => yes (by decide) u (fun A hA => m_under5 hm1 hm6 (fun _ => hA) (fun z => absurd (u.symm.trans z) (by decide)))) (fun u => nay (by decide) (fun A hA => m_under5 hm1 hm6 (fun z => absurd (u.symm.trans z) (by decide)) (fun _ => hA)))
        · exact x_cast_t6 hm1 hm6 ho (fun u => yes (by decide) u (fun A hA => m_under6 hm1 hm6 (fun _ => hA) (fun z => absurd (u.symm.trans z) (by decide)))) (fun u => nay (by decide) (fun A hA => m_under6 hm1 hm6 (fun z => absurd (u.symm.trans z) (by decide)) (fun _ => hA)))
        · exact x_cast_t10 hm1 hm6 ho (row (by decide))
        · exact x_cast_t11 hm1 hm6 ho (row (by decide))
        · exact x_cast_t12 hm1 hm6 ho (row (by decide))
        · exact x_cast_t13 hm1 hm6 ho (row (by decide))
    refine x_in_c (fun z => br_f (by decide) ?_) (fun z => br_t rfl (x_in_c (fun z2 => br_f (by decide) ?_) (fun z2 => br_t rfl (by unfold m_taken; exact m_sh_c hk (br_f (by decide) (m_in_c (fun u => absurd u z) (fun _ => br_t rfl (m_in_c (fun u => absurd u z2) (fun _ => br_t rfl (no _))))))))))
    · obtain ⟨c, _, hc, ec⟩ := in_of (lo := 0) (hi := 6) (by decide) (by decide) z
      exact go c (by omega) (.inl hc) ec (fun A hA => by unfold m_taken; exact m_sh_c hk (br_f (by decide) (m_in_c (fun _ => br_f (by decide) hA) (fun u => absurd z u))))
    · obtain ⟨c, hc1, hc, ec⟩ := in_of (lo := 10) (hi := 13) (by decide) (by decide) z2
      exact go c (by omega) (.inr hc1) ec (fun A hA => by unfold m_taken; exact m_sh_c hk (br_f (by decide) (m_in_c (fun u => absurd u z) (fun _ => br_t rfl (m_in_c (fun _ => br_f (by decide) hA) (fun u => absurd z2 u)))))))
