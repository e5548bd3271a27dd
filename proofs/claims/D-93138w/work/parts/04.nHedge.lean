/-! HungryHedge -/
set_option maxRecDepth 100000
def RX0 : String := "HungryHedge"
def TX0 : u_T := fun k => match k with
  | 0 => ("HungryHedge", "d", "LHungryHedge$Kept;", true)
  | 1 => ("HungryHedge", "kept", "LHungryHedge$Kept;", true)
  | 2 => ("HungryHedge", "isKept", "Z", false)
  | 3 => ("HungryHedge", "most", "LHungryHedge$Most;", true)
  | 4 => ("HungryHedge", "round", "LHungryHedge$Round;", true)
  | 5 => ("HungryHedge", "dares", "LHungryHedge$Dares;", true)
  | 6 => ("HungryHedge", "spread", "LHungryHedge$Spread;", true)
  | 7 => ("HungryHedge", "tape", "[B", true)
  | 8 => ("HungryHedge", "taped", "I", false)
  | 9 => ("HungryHedge", "reader", "LHungryHedge$Reader;", true)
  | 10 => ("HungryHedge", "trial", "LHungryHedge$Trip;", true)
  | 11 => ("HungryHedge", "rows", "[LHungryHedge$Row;", true)
  | 12 => ("HungryHedge", "rowMany", "I", false)
  | 13 => ("HungryHedge", "sheets", "[LHungryHedge$Sheet;", true)
  | 14 => ("HungryHedge", "beyond", "LHungryHedge$Beyond;", true)
  | 15 => ("HungryHedge", "nothing", "LHungryHedge$Nothing;", true)
  | 16 => ("HungryHedge", "traced", "[I", true)
  | 17 => ("HungryHedge", "bodies", "I", false)
  | _ => ("HungryHedge", "shelves", "[LHungryHedge$Shelf;", true)
def tyX0 : Nat → FieldType := fun k => match k with
  | 0 => .object "HungryHedge$Kept"
  | 1 => .object "HungryHedge$Kept"
  | 2 => .boolean
  | 3 => .object "HungryHedge$Most"
  | 4 => .object "HungryHedge$Round"
  | 5 => .object "HungryHedge$Dares"
  | 6 => .object "HungryHedge$Spread"
  | 7 => .array .byte
  | 8 => .int
  | 9 => .object "HungryHedge$Reader"
  | 10 => .object "HungryHedge$Trip"
  | 11 => .array (.object "HungryHedge$Row")
  | 12 => .int
  | 13 => .array (.object "HungryHedge$Sheet")
  | 14 => .object "HungryHedge$Beyond"
  | 15 => .object "HungryHedge$Nothing"
  | 16 => .array .int
  | 17 => .int
  | _ => .array (.object "HungryHedge$Shelf")
abbrev wsX00 : List Cond := u_ws RX0 TX0 19
set_option maxRecDepth 100000 in
theorem nmX0 : ∀ a, a < 19 → ∀ b, b < 19 → a ≠ b → (TX0 a).2.1 ≠ (TX0 b).2.1 := by decide +kernel
set_option maxRecDepth 100000 in
theorem tyX0_ok : ∀ k, k < 19 → parseFieldDescriptor (TX0 k).2.2.1 = some (tyX0 k) := by decide +kernel
abbrev cX0_init : ByteArray := prog_1_method_3_code
def yX0_init : MethodName := ⟨RX0, "<init>", "()V"⟩
def dkwX0_init_10 : List UInt8 := [181, 0, 103, 177]
abbrev dktX0_init_10 : List UInt8 := dkwX0_init_10 ++ []
def dkwX0_init_9 : List UInt8 := [183, 0, 102, 83, 89, 5, 187, 0, 100, 89, 183, 0, 102, 83, 89, 6, 187, 0, 100, 89, 183, 0, 102, 83]
abbrev dktX0_init_9 : List UInt8 := dkwX0_init_9 ++ dktX0_init_10
def dkwX0_init_8 : List UInt8 := [181, 0, 96, 42, 7, 189, 0, 100, 89, 3, 187, 0, 100, 89, 183, 0, 102, 83, 89, 4, 187, 0, 100, 89]
abbrev dktX0_init_8 : List UInt8 := dkwX0_init_8 ++ dktX0_init_9
def dkwX0_init_7 : List UInt8 := [183, 0, 84, 181, 0, 85, 42, 187, 0, 89, 89, 183, 0, 91, 181, 0, 92, 42, 16, 30, 188, 10]
abbrev dktX0_init_7 : List UInt8 := dkwX0_init_7 ++ dktX0_init_8
def dkwX0_init_6 : List UInt8 := [183, 0, 77, 83, 89, 6, 187, 0, 75, 89, 183, 0, 77, 83, 181, 0, 78, 42, 187, 0, 82, 89]
abbrev dktX0_init_6 : List UInt8 := dkwX0_init_6 ++ dktX0_init_7
def dkwX0_init_5 : List UInt8 := [187, 0, 75, 89, 183, 0, 77, 83, 89, 4, 187, 0, 75, 89, 183, 0, 77, 83, 89, 5, 187, 0, 75, 89]
abbrev dktX0_init_5 : List UInt8 := dkwX0_init_5 ++ dktX0_init_6
def dkwX0_init_4 : List UInt8 := [187, 0, 60, 89, 183, 0, 62, 181, 0, 63, 42, 184, 0, 67, 181, 0, 71, 42, 7, 189, 0, 75, 89, 3]
abbrev dktX0_init_4 : List UInt8 := dkwX0_init_4 ++ dktX0_init_5
def dkwX0_init_3 : List UInt8 := [181, 0, 45, 42, 17, 0, 200, 188, 8, 181, 0, 49, 42, 187, 0, 53, 89, 183, 0, 55, 181, 0, 56, 42]
abbrev dktX0_init_3 : List UInt8 := dkwX0_init_3 ++ dktX0_init_4
def dkwX0_init_2 : List UInt8 := [181, 0, 31, 42, 187, 0, 35, 89, 42, 183, 0, 37, 181, 0, 38, 42, 187, 0, 42, 89, 42, 183, 0, 44]
abbrev dktX0_init_2 : List UInt8 := dkwX0_init_2 ++ dktX0_init_3
def dkwX0_init_1 : List UInt8 := [181, 0, 16, 42, 187, 0, 19, 89, 42, 183, 0, 21, 181, 0, 24, 42, 187, 0, 28, 89, 42, 183, 0, 30]
abbrev dktX0_init_1 : List UInt8 := dkwX0_init_1 ++ dktX0_init_2
def dkwX0_init_0 : List UInt8 := [42, 183, 0, 1, 42, 187, 0, 7, 89, 183, 0, 9, 181, 0, 10, 42, 187, 0, 7, 89, 183, 0, 9]
abbrev dktX0_init_0 : List UInt8 := dkwX0_init_0 ++ dktX0_init_1
theorem dksX0_init_0 : cX0_init.data.toList.drop 0 = dktX0_init_0 := by decide +kernel
theorem dksX0_init_1 : cX0_init.data.toList.drop 23 = dktX0_init_1 := dk_seg dksX0_init_0 23 rfl rfl
theorem dksX0_init_2 : cX0_init.data.toList.drop 47 = dktX0_init_2 := dk_seg dksX0_init_1 24 rfl rfl
theorem dksX0_init_3 : cX0_init.data.toList.drop 71 = dktX0_init_3 := dk_seg dksX0_init_2 24 rfl rfl
theorem dksX0_init_4 : cX0_init.data.toList.drop 95 = dktX0_init_4 := dk_seg dksX0_init_3 24 rfl rfl
theorem dksX0_init_5 : cX0_init.data.toList.drop 119 = dktX0_init_5 := dk_seg dksX0_init_4 24 rfl rfl
theorem dksX0_init_6 : cX0_init.data.toList.drop 143 = dktX0_init_6 := dk_seg dksX0_init_5 24 rfl rfl
theorem dksX0_init_7 : cX0_init.data.toList.drop 165 = dktX0_init_7 := dk_seg dksX0_init_6 22 rfl rfl
theorem dksX0_init_8 : cX0_init.data.toList.drop 187 = dktX0_init_8 := dk_seg dksX0_init_7 22 rfl rfl
theorem dksX0_init_9 : cX0_init.data.toList.drop 211 = dktX0_init_9 := dk_seg dksX0_init_8 24 rfl rfl
theorem dksX0_init_10 : cX0_init.data.toList.drop 235 = dktX0_init_10 := dk_seg dksX0_init_9 24 rfl rfl
theorem dX0_init_0 : decode cX0_init 0 = .ok (.aload_n 0, 1) := dk_42 (dk_at dksX0_init_0 0 rfl rfl)
theorem dX0_init_1 : decode cX0_init 1 = .ok (.invokespecial 1, 3) := dk_183 0 1 (dk_at dksX0_init_0 1 rfl rfl)
theorem dX0_init_4 : decode cX0_init 4 = .ok (.aload_n 0, 1) := dk_42 (dk_at dksX0_init_0 4 rfl rfl)
theorem dX0_init_5 : decode cX0_init 5 = .ok (.new 7, 3) := dk_187 0 7 (dk_at dksX0_init_0 5 rfl rfl)
theorem dX0_init_8 : decode cX0_init 8 = .ok (.dup, 1) := dk_89 (dk_at dksX0_init_0 8 rfl rfl)
theorem dX0_init_9 : decode cX0_init 9 = .ok (.invokespecial 9, 3) := dk_183 0 9 (dk_at dksX0_init_0 9 rfl rfl)
theorem dX0_init_12 : decode cX0_init 12 = .ok (.putfield 10, 3) := dk_181 0 10 (dk_at dksX0_init_0 12 rfl rfl)
theorem dX0_init_15 : decode cX0_init 15 = .ok (.aload_n 0, 1) := dk_42 (dk_at dksX0_init_0 15 rfl rfl)
theorem dX0_init_16 : decode cX0_init 16 = .ok (.new 7, 3) := dk_187 0 7 (dk_at dksX0_init_0 16 rfl rfl)
theorem dX0_init_19 : decode cX0_init 19 = .ok (.dup, 1) := dk_89 (dk_at dksX0_init_0 19 rfl rfl)
theorem dX0_init_20 : decode cX0_init 20 = .ok (.invokespecial 9, 3) := dk_183 0 9 (dk_at dksX0_init_0 20 rfl rfl)
theorem dX0_init_23 : decode cX0_init 23 = .ok (.putfield 16, 3) := dk_181 0 16 (dk_at dksX0_init_1 0 rfl rfl)
theorem dX0_init_26 : decode cX0_init 26 = .ok (.aload_n 0, 1) := dk_42 (dk_at dksX0_init_1 3 rfl rfl)
theorem dX0_init_27 : decode cX0_init 27 = .ok (.new 19, 3) := dk_187 0 19 (dk_at dksX0_init_1 4 rfl rfl)
theorem dX0_init_30 : decode cX0_init 30 = .ok (.dup, 1) := dk_89 (dk_at dksX0_init_1 7 rfl rfl)
theorem dX0_init_31 : decode cX0_init 31 = .ok (.aload_n 0, 1) := dk_42 (dk_at dksX0_init_1 8 rfl rfl)
theorem dX0_init_32 : decode cX0_init 32 = .ok (.invokespecial 21, 3) := dk_183 0 21 (dk_at dksX0_init_1 9 rfl rfl)
theorem dX0_init_35 : decode cX0_init 35 = .ok (.putfield 24, 3) := dk_181 0 24 (dk_at dksX0_init_1 12 rfl rfl)
theorem dX0_init_38 : decode cX0_init 38 = .ok (.aload_n 0, 1) := dk_42 (dk_at dksX0_init_1 15 rfl rfl)
theorem dX0_init_39 : decode cX0_init 39 = .ok (.new 28, 3) := dk_187 0 28 (dk_at dksX0_init_1 16 rfl rfl)
theorem dX0_init_42 : decode cX0_init 42 = .ok (.dup, 1) := dk_89 (dk_at dksX0_init_1 19 rfl rfl)
theorem dX0_init_43 : decode cX0_init 43 = .ok (.aload_n 0, 1) := dk_42 (dk_at dksX0_init_1 20 rfl rfl)
theorem dX0_init_44 : decode cX0_init 44 = .ok (.invokespecial 30, 3) := dk_183 0 30 (dk_at dksX0_init_1 21 rfl rfl)
theorem dX0_init_47 : decode cX0_init 47 = .ok (.putfield 31, 3) := dk_181 0 31 (dk_at dksX0_init_2 0 rfl rfl)
theorem dX0_init_50 : decode cX0_init 50 = .ok (.aload_n 0, 1) := dk_42 (dk_at dksX0_init_2 3 rfl rfl)
theorem dX0_init_51 : decode cX0_init 51 = .ok (.new 35, 3) := dk_187 0 35 (dk_at dksX0_init_2 4 rfl rfl)
theorem dX0_init_54 : decode cX0_init 54 = .ok (.dup, 1) := dk_89 (dk_at dksX0_init_2 7 rfl rfl)
theorem dX0_init_55 : decode cX0_init 55 = .ok (.aload_n 0, 1) := dk_42 (dk_at dksX0_init_2 8 rfl rfl)
theorem dX0_init_56 : decode cX0_init 56 = .ok (.invokespecial 37, 3) := dk_183 0 37 (dk_at dksX0_init_2 9 rfl rfl)
theorem dX0_init_59 : decode cX0_init 59 = .ok (.putfield 38, 3) := dk_181 0 38 (dk_at dksX0_init_2 12 rfl rfl)
theorem dX0_init_62 : decode cX0_init 62 = .ok (.aload_n 0, 1) := dk_42 (dk_at dksX0_init_2 15 rfl rfl)
theorem dX0_init_63 : decode cX0_init 63 = .ok (.new 42, 3) := dk_187 0 42 (dk_at dksX0_init_2 16 rfl rfl)
theorem dX0_init_66 : decode cX0_init 66 = .ok (.dup, 1) := dk_89 (dk_at dksX0_init_2 19 rfl rfl)
theorem dX0_init_67 : decode cX0_init 67 = .ok (.aload_n 0, 1) := dk_42 (dk_at dksX0_init_2 20 rfl rfl)
theorem dX0_init_68 : decode cX0_init 68 = .ok (.invokespecial 44, 3) := dk_183 0 44 (dk_at dksX0_init_2 21 rfl rfl)
theorem dX0_init_71 : decode cX0_init 71 = .ok (.putfield 45, 3) := dk_181 0 45 (dk_at dksX0_init_3 0 rfl rfl)
theorem dX0_init_74 : decode cX0_init 74 = .ok (.aload_n 0, 1) := dk_42 (dk_at dksX0_init_3 3 rfl rfl)
theorem dX0_init_75 : decode cX0_init 75 = .ok (.sipush 200, 3) := dk_17 0 200 (dk_at dksX0_init_3 4 rfl rfl)
theorem dX0_init_78 : decode cX0_init 78 = .ok (.newarray .byte, 2) := dk_188_8 (dk_at dksX0_init_3 7 rfl rfl)
theorem dX0_init_80 : decode cX0_init 80 = .ok (.putfield 49, 3) := dk_181 0 49 (dk_at dksX0_init_3 9 rfl rfl)
theorem dX0_init_83 : decode cX0_init 83 = .ok (.aload_n 0, 1) := dk_42 (dk_at dksX0_init_3 12 rfl rfl)
theorem dX0_init_84 : decode cX0_init 84 = .ok (.new 53, 3) := dk_187 0 53 (dk_at dksX0_init_3 13 rfl rfl)
theorem dX0_init_87 : decode cX0_init 87 = .ok (.dup, 1) := dk_89 (dk_at dksX0_init_3 16 rfl rfl)
theorem dX0_init_88 : decode cX0_init 88 = .ok (.invokespecial 55, 3) := dk_183 0 55 (dk_at dksX0_init_3 17 rfl rfl)
theorem dX0_init_91 : decode cX0_init 91 = .ok (.putfield 56, 3) := dk_181 0 56 (dk_at dksX0_init_3 20 rfl rfl)
theorem dX0_init_94 : decode cX0_init 94 = .ok (.aload_n 0, 1) := dk_42 (dk_at dksX0_init_3 23 rfl rfl)
theorem dX0_init_95 : decode cX0_init 95 = .ok (.new 60, 3) := dk_187 0 60 (dk_at dksX0_init_4 0 rfl rfl)
theorem dX0_init_98 : decode cX0_init 98 = .ok (.dup, 1) := dk_89 (dk_at dksX0_init_4 3 rfl rfl)
theorem dX0_init_99 : decode cX0_init 99 = .ok (.invokespecial 62, 3) := dk_183 0 62 (dk_at dksX0_init_4 4 rfl rfl)
theorem dX0_init_102 : decode cX0_init 102 = .ok (.putfield 63, 3) := dk_181 0 63 (dk_at dksX0_init_4 7 rfl rfl)
theorem dX0_init_105 : decode cX0_init 105 = .ok (.aload_n 0, 1) := dk_42 (dk_at dksX0_init_4 10 rfl rfl)
theorem dX0_init_106 : decode cX0_init 106 = .ok (.invokestatic 67, 3) := dk_184 0 67 (dk_at dksX0_init_4 11 rfl rfl)
theorem dX0_init_109 : decode cX0_init 109 = .ok (.putfield 71, 3) := dk_181 0 71 (dk_at dksX0_init_4 14 rfl rfl)
theorem dX0_init_112 : decode cX0_init 112 = .ok (.aload_n 0, 1) := dk_42 (dk_at dksX0_init_4 17 rfl rfl)
theorem dX0_init_113 : decode cX0_init 113 = .ok (.iconst 4, 1) := dk_7 (dk_at dksX0_init_4 18 rfl rfl)
theorem dX0_init_114 : decode cX0_init 114 = .ok (.anewarray 75, 3) := dk_189 0 75 (dk_at dksX0_init_4 19 rfl rfl)
theorem dX0_init_117 : decode cX0_init 117 = .ok (.dup, 1) := dk_89 (dk_at dksX0_init_4 22 rfl rfl)
theorem dX0_init_118 : decode cX0_init 118 = .ok (.iconst 0, 1) := dk_3 (dk_at dksX0_init_4 23 rfl rfl)
theorem dX0_init_119 : decode cX0_init 119 = .ok (.new 75, 3) := dk_187 0 75 (dk_at dksX0_init_5 0 rfl rfl)
theorem dX0_init_122 : decode cX0_init 122 = .ok (.dup, 1) := dk_89 (dk_at dksX0_init_5 3 rfl rfl)
theorem dX0_init_123 : decode cX0_init 123 = .ok (.invokespecial 77, 3) := dk_183 0 77 (dk_at dksX0_init_5 4 rfl rfl)
theorem dX0_init_126 : decode cX0_init 126 = .ok (.aastore, 1) := dk_83 (dk_at dksX0_init_5 7 rfl rfl)
theorem dX0_init_127 : decode cX0_init 127 = .ok (.dup, 1) := dk_89 (dk_at dksX0_init_5 8 rfl rfl)
theorem dX0_init_128 : decode cX0_init 128 = .ok (.iconst 1, 1) := dk_4 (dk_at dksX0_init_5 9 rfl rfl)
theorem dX0_init_129 : decode cX0_init 129 = .ok (.new 75, 3) := dk_187 0 75 (dk_at dksX0_init_5 10 rfl rfl)
theorem dX0_init_132 : decode cX0_init 132 = .ok (.dup, 1) := dk_89 (dk_at dksX0_init_5 13 rfl rfl)
theorem dX0_init_133 : decode cX0_init 133 = .ok (.invokespecial 77, 3) := dk_183 0 77 (dk_at dksX0_init_5 14 rfl rfl)
theorem dX0_init_136 : decode cX0_init 136 = .ok (.aastore, 1) := dk_83 (dk_at dksX0_init_5 17 rfl rfl)
theorem dX0_init_137 : decode cX0_init 137 = .ok (.dup, 1) := dk_89 (dk_at dksX0_init_5 18 rfl rfl)
theorem dX0_init_138 : decode cX0_init 138 = .ok (.iconst 2, 1) := dk_5 (dk_at dksX0_init_5 19 rfl rfl)
theorem dX0_init_139 : decode cX0_init 139 = .ok (.new 75, 3) := dk_187 0 75 (dk_at dksX0_init_5 20 rfl rfl)
theorem dX0_init_142 : decode cX0_init 142 = .ok (.dup, 1) := dk_89 (dk_at dksX0_init_5 23 rfl rfl)
theorem dX0_init_143 : decode cX0_init 143 = .ok (.invokespecial 77, 3) := dk_183 0 77 (dk_at dksX0_init_6 0 rfl rfl)
theorem dX0_init_146 : decode cX0_init 146 = .ok (.aastore, 1) := dk_83 (dk_at dksX0_init_6 3 rfl rfl)
theorem dX0_init_147 : decode cX0_init 147 = .ok (.dup, 1) := dk_89 (dk_at dksX0_init_6 4 rfl rfl)
theorem dX0_init_148 : decode cX0_init 148 = .ok (.iconst 3, 1) := dk_6 (dk_at dksX0_init_6 5 rfl rfl)
theorem dX0_init_149 : decode cX0_init 149 = .ok (.new 75, 3) := dk_187 0 75 (dk_at dksX0_init_6 6 rfl rfl)
theorem dX0_init_152 : decode cX0_init 152 = .ok (.dup, 1) := dk_89 (dk_at dksX0_init_6 9 rfl rfl)
theorem dX0_init_153 : decode cX0_init 153 = .ok (.invokespecial 77, 3) := dk_183 0 77 (dk_at dksX0_init_6 10 rfl rfl)
theorem dX0_init_156 : decode cX0_init 156 = .ok (.aastore, 1) := dk_83 (dk_at dksX0_init_6 13 rfl rfl)
theorem dX0_init_157 : decode cX0_init 157 = .ok (.putfield 78, 3) := dk_181 0 78 (dk_at dksX0_init_6 14 rfl rfl)
theorem dX0_init_160 : decode cX0_init 160 = .ok (.aload_n 0, 1) := dk_42 (dk_at dksX0_init_6 17 rfl rfl)
theorem dX0_init_161 : decode cX0_init 161 = .ok (.new 82, 3) := dk_187 0 82 (dk_at dksX0_init_6 18 rfl rfl)
theorem dX0_init_164 : decode cX0_init 164 = .ok (.dup, 1) := dk_89 (dk_at dksX0_init_6 21 rfl rfl)
theorem dX0_init_165 : decode cX0_init 165 = .ok (.invokespecial 84, 3) := dk_183 0 84 (dk_at dksX0_init_7 0 rfl rfl)
theorem dX0_init_168 : decode cX0_init 168 = .ok (.putfield 85, 3) := dk_181 0 85 (dk_at dksX0_init_7 3 rfl rfl)
theorem dX0_init_171 : decode cX0_init 171 = .ok (.aload_n 0, 1) := dk_42 (dk_at dksX0_init_7 6 rfl rfl)
theorem dX0_init_172 : decode cX0_init 172 = .ok (.new 89, 3) := dk_187 0 89 (dk_at dksX0_init_7 7 rfl rfl)
theorem dX0_init_175 : decode cX0_init 175 = .ok (.dup, 1) := dk_89 (dk_at dksX0_init_7 10 rfl rfl)
theorem dX0_init_176 : decode cX0_init 176 = .ok (.invokespecial 91, 3) := dk_183 0 91 (dk_at dksX0_init_7 11 rfl rfl)
theorem dX0_init_179 : decode cX0_init 179 = .ok (.putfield 92, 3) := dk_181 0 92 (dk_at dksX0_init_7 14 rfl rfl)
theorem dX0_init_182 : decode cX0_init 182 = .ok (.aload_n 0, 1) := dk_42 (dk_at dksX0_init_7 17 rfl rfl)
theorem dX0_init_183 : decode cX0_init 183 = .ok (.bipush 30, 2) := dk_16 30 (dk_at dksX0_init_7 18 rfl rfl)
theorem dX0_init_185 : decode cX0_init 185 = .ok (.newarray .int, 2) := dk_188_10 (dk_at dksX0_init_7 20 rfl rfl)
theorem dX0_init_187 : decode cX0_init 187 = .ok (.putfield 96, 3) := dk_181 0 96 (dk_at dksX0_init_8 0 rfl rfl)
theorem dX0_init_190 : decode cX0_init 190 = .ok (.aload_n 0, 1) := dk_42 (dk_at dksX0_init_8 3 rfl rfl)
theorem dX0_init_191 : decode cX0_init 191 = .ok (.iconst 4, 1) := dk_7 (dk_at dksX0_init_8 4 rfl rfl)
theorem dX0_init_192 : decode cX0_init 192 = .ok (.anewarray 100, 3) := dk_189 0 100 (dk_at dksX0_init_8 5 rfl rfl)
theorem dX0_init_195 : decode cX0_init 195 = .ok (.dup, 1) := dk_89 (dk_at dksX0_init_8 8 rfl rfl)
theorem dX0_init_196 : decode cX0_init 196 = .ok (.iconst 0, 1) := dk_3 (dk_at dksX0_init_8 9 rfl rfl)
theorem dX0_init_197 : decode cX0_init 197 = .ok (.new 100, 3) := dk_187 0 100 (dk_at dksX0_init_8 10 rfl rfl)
theorem dX0_init_200 : decode cX0_init 200 = .ok (.dup, 1) := dk_89 (dk_at dksX0_init_8 13 rfl rfl)
theorem dX0_init_201 : decode cX0_init 201 = .ok (.invokespecial 102, 3) := dk_183 0 102 (dk_at dksX0_init_8 14 rfl rfl)
theorem dX0_init_204 : decode cX0_init 204 = .ok (.aastore, 1) := dk_83 (dk_at dksX0_init_8 17 rfl rfl)
theorem dX0_init_205 : decode cX0_init 205 = .ok (.dup, 1) := dk_89 (dk_at dksX0_init_8 18 rfl rfl)
theorem dX0_init_206 : decode cX0_init 206 = .ok (.iconst 1, 1) := dk_4 (dk_at dksX0_init_8 19 rfl rfl)
theorem dX0_init_207 : decode cX0_init 207 = .ok (.new 100, 3) := dk_187 0 100 (dk_at dksX0_init_8 20 rfl rfl)
theorem dX0_init_210 : decode cX0_init 210 = .ok (.dup, 1) := dk_89 (dk_at dksX0_init_8 23 rfl rfl)
theorem dX0_init_211 : decode cX0_init 211 = .ok (.invokespecial 102, 3) := dk_183 0 102 (dk_at dksX0_init_9 0 rfl rfl)
theorem dX0_init_214 : decode cX0_init 214 = .ok (.aastore, 1) := dk_83 (dk_at dksX0_init_9 3 rfl rfl)
theorem dX0_init_215 : decode cX0_init 215 = .ok (.dup, 1) := dk_89 (dk_at dksX0_init_9 4 rfl rfl)
theorem dX0_init_216 : decode cX0_init 216 = .ok (.iconst 2, 1) := dk_5 (dk_at dksX0_init_9 5 rfl rfl)
theorem dX0_init_217 : decode cX0_init 217 = .ok (.new 100, 3) := dk_187 0 100 (dk_at dksX0_init_9 6 rfl rfl)
theorem dX0_init_220 : decode cX0_init 220 = .ok (.dup, 1) := dk_89 (dk_at dksX0_init_9 9 rfl rfl)
theorem dX0_init_221 : decode cX0_init 221 = .ok (.invokespecial 102, 3) := dk_183 0 102 (dk_at dksX0_init_9 10 rfl rfl)
theorem dX0_init_224 : decode cX0_init 224 = .ok (.aastore, 1) := dk_83 (dk_at dksX0_init_9 13 rfl rfl)
theorem dX0_init_225 : decode cX0_init 225 = .ok (.dup, 1) := dk_89 (dk_at dksX0_init_9 14 rfl rfl)
theorem dX0_init_226 : decode cX0_init 226 = .ok (.iconst 3, 1) := dk_6 (dk_at dksX0_init_9 15 rfl rfl)
theorem dX0_init_227 : decode cX0_init 227 = .ok (.new 100, 3) := dk_187 0 100 (dk_at dksX0_init_9 16 rfl rfl)
theorem dX0_init_230 : decode cX0_init 230 = .ok (.dup, 1) := dk_89 (dk_at dksX0_init_9 19 rfl rfl)
theorem dX0_init_231 : decode cX0_init 231 = .ok (.invokespecial 102, 3) := dk_183 0 102 (dk_at dksX0_init_9 20 rfl rfl)
theorem dX0_init_234 : decode cX0_init 234 = .ok (.aastore, 1) := dk_83 (dk_at dksX0_init_9 23 rfl rfl)
theorem dX0_init_235 : decode cX0_init 235 = .ok (.putfield 103, 3) := dk_181 0 103 (dk_at dksX0_init_10 0 rfl rfl)
theorem dX0_init_238 : decode cX0_init 238 = .ok (.return_, 1) := dk_177 (dk_at dksX0_init_10 3 rfl rfl)
abbrev cX0_someRows : ByteArray := prog_1_method_46_code
def yX0_someRows : MethodName := ⟨RX0, "someRows", "()[LHungryHedge$Row;"⟩
def dkwX0_someRows_1 : List UInt8 := [132, 1, 1, 167, 255, 237, 42, 176]
abbrev dktX0_someRows_1 : List UInt8 := dkwX0_someRows_1 ++ []
def dkwX0_someRows_0 : List UInt8 := [16, 20, 189, 1, 75, 75, 3, 60, 27, 16, 20, 162, 0, 19, 42, 27, 187, 1, 75, 89, 183, 1, 77, 83]
abbrev dktX0_someRows_0 : List UInt8 := dkwX0_someRows_0 ++ dktX0_someRows_1
theorem dksX0_someRows_0 : cX0_someRows.data.toList.drop 0 = dktX0_someRows_0 := by decide +kernel
theorem dksX0_someRows_1 : cX0_someRows.data.toList.drop 24 = dktX0_someRows_1 := dk_seg dksX0_someRows_0 24 rfl rfl
theorem dX0_someRows_0 : decode cX0_someRows 0 = .ok (.bipush 20, 2) := dk_16 20 (dk_at dksX0_someRows_0 0 rfl rfl)
theorem dX0_someRows_2 : decode cX0_someRows 2 = .ok (.anewarray 331, 3) := dk_189 1 75 (dk_at dksX0_someRows_0 2 rfl rfl)
theorem dX0_someRows_5 : decode cX0_someRows 5 = .ok (.astore_n 0, 1) := dk_75 (dk_at dksX0_someRows_0 5 rfl rfl)
theorem dX0_someRows_6 : decode cX0_someRows 6 = .ok (.iconst 0, 1) := dk_3 (dk_at dksX0_someRows_0 6 rfl rfl)
theorem dX0_someRows_7 : decode cX0_someRows 7 = .ok (.istore_n 1, 1) := dk_60 (dk_at dksX0_someRows_0 7 rfl rfl)
theorem dX0_someRows_8 : decode cX0_someRows 8 = .ok (.iload_n 1, 1) := dk_27 (dk_at dksX0_someRows_0 8 rfl rfl)
theorem dX0_someRows_9 : decode cX0_someRows 9 = .ok (.bipush 20, 2) := dk_16 20 (dk_at dksX0_someRows_0 9 rfl rfl)
theorem dX0_someRows_11 : decode cX0_someRows 11 = .ok (.if_icmp .ge 19, 3) := dk_162 0 19 (dk_at dksX0_someRows_0 11 rfl rfl)
theorem dX0_someRows_14 : decode cX0_someRows 14 = .ok (.aload_n 0, 1) := dk_42 (dk_at dksX0_someRows_0 14 rfl rfl)
theorem dX0_someRows_15 : decode cX0_someRows 15 = .ok (.iload_n 1, 1) := dk_27 (dk_at dksX0_someRows_0 15 rfl rfl)
theorem dX0_someRows_16 : decode cX0_someRows 16 = .ok (.new 331, 3) := dk_187 1 75 (dk_at dksX0_someRows_0 16 rfl rfl)
theorem dX0_someRows_19 : decode cX0_someRows 19 = .ok (.dup, 1) := dk_89 (dk_at dksX0_someRows_0 19 rfl rfl)
theorem dX0_someRows_20 : decode cX0_someRows 20 = .ok (.invokespecial 333, 3) := dk_183 1 77 (dk_at dksX0_someRows_0 20 rfl rfl)
theorem dX0_someRows_23 : decode cX0_someRows 23 = .ok (.aastore, 1) := dk_83 (dk_at dksX0_someRows_0 23 rfl rfl)
theorem dX0_someRows_24 : decode cX0_someRows 24 = .ok (.iinc 1 1, 3) := dk_132 1 1 (dk_at dksX0_someRows_1 0 rfl rfl)
theorem dX0_someRows_27 : decode cX0_someRows 27 = .ok (.goto (-19), 3) := dk_167 255 237 (dk_at dksX0_someRows_1 3 rfl rfl)
theorem dX0_someRows_30 : decode cX0_someRows 30 = .ok (.aload_n 0, 1) := dk_42 (dk_at dksX0_someRows_1 6 rfl rfl)
theorem dX0_someRows_31 : decode cX0_someRows 31 = .ok (.areturn, 1) := dk_176 (dk_at dksX0_someRows_1 7 rfl rfl)
abbrev cX0_patch : ByteArray := prog_1_method_6_code
def yX0_patch : MethodName := ⟨RX0, "patch", "(III)I"⟩
def dkwX0_patch_6 : List UInt8 := [132, 5, 1, 167, 255, 229, 42, 180, 0, 10, 89, 180, 0, 107, 4, 96, 181, 0, 107, 21, 4, 172]
abbrev dktX0_patch_6 : List UInt8 := dkwX0_patch_6 ++ []
def dkwX0_patch_5 : List UInt8 := [21, 5, 16, 7, 162, 0, 26, 42, 180, 0, 10, 180, 0, 133, 16, 7, 21, 4, 104, 21, 5, 96, 3, 79]
abbrev dktX0_patch_5 : List UInt8 := dkwX0_patch_5 ++ dktX0_patch_6
def dkwX0_patch_4 : List UInt8 := [180, 0, 124, 21, 4, 3, 79, 42, 180, 0, 10, 180, 0, 127, 180, 0, 130, 21, 4, 28, 79, 3, 54, 5]
abbrev dktX0_patch_4 : List UInt8 := dkwX0_patch_4 ++ dktX0_patch_5
def dkwX0_patch_3 : List UInt8 := [180, 0, 118, 21, 4, 28, 79, 42, 180, 0, 10, 180, 0, 121, 21, 4, 29, 79, 42, 180, 0, 10]
abbrev dktX0_patch_3 : List UInt8 := dkwX0_patch_3 ++ dktX0_patch_4
def dkwX0_patch_2 : List UInt8 := [180, 0, 10, 180, 0, 107, 54, 4, 42, 180, 0, 10, 180, 0, 115, 21, 4, 27, 79, 42, 180, 0, 10]
abbrev dktX0_patch_2 : List UInt8 := dkwX0_patch_2 ++ dktX0_patch_3
def dkwX0_patch_1 : List UInt8 := [184, 0, 111, 154, 0, 5, 2, 172, 42, 180, 0, 10, 180, 0, 107, 7, 160, 0, 6, 16, 254, 172, 42]
abbrev dktX0_patch_1 : List UInt8 := dkwX0_patch_1 ++ dktX0_patch_2
def dkwX0_patch_0 : List UInt8 := [27, 4, 7, 184, 0, 111, 153, 0, 23, 28, 4, 16, 6, 184, 0, 111, 153, 0, 13, 29, 3, 16, 9]
abbrev dktX0_patch_0 : List UInt8 := dkwX0_patch_0 ++ dktX0_patch_1
theorem dksX0_patch_0 : cX0_patch.data.toList.drop 0 = dktX0_patch_0 := by decide +kernel
theorem dksX0_patch_1 : cX0_patch.data.toList.drop 23 = dktX0_patch_1 := dk_seg dksX0_patch_0 23 rfl rfl
theorem dksX0_patch_2 : cX0_patch.data.toList.drop 46 = dktX0_patch_2 := dk_seg dksX0_patch_1 23 rfl rfl
theorem dksX0_patch_3 : cX0_patch.data.toList.drop 69 = dktX0_patch_3 := dk_seg dksX0_patch_2 23 rfl rfl
theorem dksX0_patch_4 : cX0_patch.data.toList.drop 91 = dktX0_patch_4 := dk_seg dksX0_patch_3 22 rfl rfl
theorem dksX0_patch_5 : cX0_patch.data.toList.drop 115 = dktX0_patch_5 := dk_seg dksX0_patch_4 24 rfl rfl
theorem dksX0_patch_6 : cX0_patch.data.toList.drop 139 = dktX0_patch_6 := dk_seg dksX0_patch_5 24 rfl rfl
theorem dX0_patch_0 : decode cX0_patch 0 = .ok (.iload_n 1, 1) := dk_27 (dk_at dksX0_patch_0 0 rfl rfl)
theorem dX0_patch_1 : decode cX0_patch 1 = .ok (.iconst 1, 1) := dk_4 (dk_at dksX0_patch_0 1 rfl rfl)
theorem dX0_patch_2 : decode cX0_patch 2 = .ok (.iconst 4, 1) := dk_7 (dk_at dksX0_patch_0 2 rfl rfl)
theorem dX0_patch_3 : decode cX0_patch 3 = .ok (.invokestatic 111, 3) := dk_184 0 111 (dk_at dksX0_patch_0 3 rfl rfl)
theorem dX0_patch_6 : decode cX0_patch 6 = .ok (.ifCond .eq 23, 3) := dk_153 0 23 (dk_at dksX0_patch_0 6 rfl rfl)
theorem dX0_patch_9 : decode cX0_patch 9 = .ok (.iload_n 2, 1) := dk_28 (dk_at dksX0_patch_0 9 rfl rfl)
theorem dX0_patch_10 : decode cX0_patch 10 = .ok (.iconst 1, 1) := dk_4 (dk_at dksX0_patch_0 10 rfl rfl)
theorem dX0_patch_11 : decode cX0_patch 11 = .ok (.bipush 6, 2) := dk_16 6 (dk_at dksX0_patch_0 11 rfl rfl)
theorem dX0_patch_13 : decode cX0_patch 13 = .ok (.invokestatic 111, 3) := dk_184 0 111 (dk_at dksX0_patch_0 13 rfl rfl)
theorem dX0_patch_16 : decode cX0_patch 16 = .ok (.ifCond .eq 13, 3) := dk_153 0 13 (dk_at dksX0_patch_0 16 rfl rfl)
theorem dX0_patch_19 : decode cX0_patch 19 = .ok (.iload_n 3, 1) := dk_29 (dk_at dksX0_patch_0 19 rfl rfl)
theorem dX0_patch_20 : decode cX0_patch 20 = .ok (.iconst 0, 1) := dk_3 (dk_at dksX0_patch_0 20 rfl rfl)
theorem dX0_patch_21 : decode cX0_patch 21 = .ok (.bipush 9, 2) := dk_16 9 (dk_at dksX0_patch_0 21 rfl rfl)
theorem dX0_patch_23 : decode cX0_patch 23 = .ok (.invokestatic 111, 3) := dk_184 0 111 (dk_at dksX0_patch_1 0 rfl rfl)
theorem dX0_patch_26 : decode cX0_patch 26 = .ok (.ifCond .ne 5, 3) := dk_154 0 5 (dk_at dksX0_patch_1 3 rfl rfl)
theorem dX0_patch_29 : decode cX0_patch 29 = .ok (.iconst (-1), 1) := dk_2 (dk_at dksX0_patch_1 6 rfl rfl)
theorem dX0_patch_30 : decode cX0_patch 30 = .ok (.ireturn, 1) := dk_172 (dk_at dksX0_patch_1 7 rfl rfl)
theorem dX0_patch_31 : decode cX0_patch 31 = .ok (.aload_n 0, 1) := dk_42 (dk_at dksX0_patch_1 8 rfl rfl)
theorem dX0_patch_32 : decode cX0_patch 32 = .ok (.getfield 10, 3) := dk_180 0 10 (dk_at dksX0_patch_1 9 rfl rfl)
theorem dX0_patch_35 : decode cX0_patch 35 = .ok (.getfield 107, 3) := dk_180 0 107 (dk_at dksX0_patch_1 12 rfl rfl)
theorem dX0_patch_38 : decode cX0_patch 38 = .ok (.iconst 4, 1) := dk_7 (dk_at dksX0_patch_1 15 rfl rfl)
theorem dX0_patch_39 : decode cX0_patch 39 = .ok (.if_icmp .ne 6, 3) := dk_160 0 6 (dk_at dksX0_patch_1 16 rfl rfl)
theorem dX0_patch_42 : decode cX0_patch 42 = .ok (.bipush (-2), 2) := dk_16 254 (dk_at dksX0_patch_1 19 rfl rfl)
theorem dX0_patch_44 : decode cX0_patch 44 = .ok (.ireturn, 1) := dk_172 (dk_at dksX0_patch_1 21 rfl rfl)
theorem dX0_patch_45 : decode cX0_patch 45 = .ok (.aload_n 0, 1) := dk_42 (dk_at dksX0_patch_1 22 rfl rfl)
theorem dX0_patch_46 : decode cX0_patch 46 = .ok (.getfield 10, 3) := dk_180 0 10 (dk_at dksX0_patch_2 0 rfl rfl)
theorem dX0_patch_49 : decode cX0_patch 49 = .ok (.getfield 107, 3) := dk_180 0 107 (dk_at dksX0_patch_2 3 rfl rfl)
theorem dX0_patch_52 : decode cX0_patch 52 = .ok (.istore 4, 2) := dk_54 4 (dk_at dksX0_patch_2 6 rfl rfl)
theorem dX0_patch_54 : decode cX0_patch 54 = .ok (.aload_n 0, 1) := dk_42 (dk_at dksX0_patch_2 8 rfl rfl)
theorem dX0_patch_55 : decode cX0_patch 55 = .ok (.getfield 10, 3) := dk_180 0 10 (dk_at dksX0_patch_2 9 rfl rfl)
theorem dX0_patch_58 : decode cX0_patch 58 = .ok (.getfield 115, 3) := dk_180 0 115 (dk_at dksX0_patch_2 12 rfl rfl)
theorem dX0_patch_61 : decode cX0_patch 61 = .ok (.iload 4, 2) := dk_21 4 (dk_at dksX0_patch_2 15 rfl rfl)
theorem dX0_patch_63 : decode cX0_patch 63 = .ok (.iload_n 1, 1) := dk_27 (dk_at dksX0_patch_2 17 rfl rfl)
theorem dX0_patch_64 : decode cX0_patch 64 = .ok (.iastore, 1) := dk_79 (dk_at dksX0_patch_2 18 rfl rfl)
theorem dX0_patch_65 : decode cX0_patch 65 = .ok (.aload_n 0, 1) := dk_42 (dk_at dksX0_patch_2 19 rfl rfl)
theorem dX0_patch_66 : decode cX0_patch 66 = .ok (.getfield 10, 3) := dk_180 0 10 (dk_at dksX0_patch_2 20 rfl rfl)
theorem dX0_patch_69 : decode cX0_patch 69 = .ok (.getfield 118, 3) := dk_180 0 118 (dk_at dksX0_patch_3 0 rfl rfl)
theorem dX0_patch_72 : decode cX0_patch 72 = .ok (.iload 4, 2) := dk_21 4 (dk_at dksX0_patch_3 3 rfl rfl)
theorem dX0_patch_74 : decode cX0_patch 74 = .ok (.iload_n 2, 1) := dk_28 (dk_at dksX0_patch_3 5 rfl rfl)
theorem dX0_patch_75 : decode cX0_patch 75 = .ok (.iastore, 1) := dk_79 (dk_at dksX0_patch_3 6 rfl rfl)
theorem dX0_patch_76 : decode cX0_patch 76 = .ok (.aload_n 0, 1) := dk_42 (dk_at dksX0_patch_3 7 rfl rfl)
theorem dX0_patch_77 : decode cX0_patch 77 = .ok (.getfield 10, 3) := dk_180 0 10 (dk_at dksX0_patch_3 8 rfl rfl)
theorem dX0_patch_80 : decode cX0_patch 80 = .ok (.getfield 121, 3) := dk_180 0 121 (dk_at dksX0_patch_3 11 rfl rfl)
theorem dX0_patch_83 : decode cX0_patch 83 = .ok (.iload 4, 2) := dk_21 4 (dk_at dksX0_patch_3 14 rfl rfl)
theorem dX0_patch_85 : decode cX0_patch 85 = .ok (.iload_n 3, 1) := dk_29 (dk_at dksX0_patch_3 16 rfl rfl)
theorem dX0_patch_86 : decode cX0_patch 86 = .ok (.iastore, 1) := dk_79 (dk_at dksX0_patch_3 17 rfl rfl)
theorem dX0_patch_87 : decode cX0_patch 87 = .ok (.aload_n 0, 1) := dk_42 (dk_at dksX0_patch_3 18 rfl rfl)
theorem dX0_patch_88 : decode cX0_patch 88 = .ok (.getfield 10, 3) := dk_180 0 10 (dk_at dksX0_patch_3 19 rfl rfl)
theorem dX0_patch_91 : decode cX0_patch 91 = .ok (.getfield 124, 3) := dk_180 0 124 (dk_at dksX0_patch_4 0 rfl rfl)
theorem dX0_patch_94 : decode cX0_patch 94 = .ok (.iload 4, 2) := dk_21 4 (dk_at dksX0_patch_4 3 rfl rfl)
theorem dX0_patch_96 : decode cX0_patch 96 = .ok (.iconst 0, 1) := dk_3 (dk_at dksX0_patch_4 5 rfl rfl)
theorem dX0_patch_97 : decode cX0_patch 97 = .ok (.iastore, 1) := dk_79 (dk_at dksX0_patch_4 6 rfl rfl)
theorem dX0_patch_98 : decode cX0_patch 98 = .ok (.aload_n 0, 1) := dk_42 (dk_at dksX0_patch_4 7 rfl rfl)
theorem dX0_patch_99 : decode cX0_patch 99 = .ok (.getfield 10, 3) := dk_180 0 10 (dk_at dksX0_patch_4 8 rfl rfl)
theorem dX0_patch_102 : decode cX0_patch 102 = .ok (.getfield 127, 3) := dk_180 0 127 (dk_at dksX0_patch_4 11 rfl rfl)
theorem dX0_patch_105 : decode cX0_patch 105 = .ok (.getfield 130, 3) := dk_180 0 130 (dk_at dksX0_patch_4 14 rfl rfl)
theorem dX0_patch_108 : decode cX0_patch 108 = .ok (.iload 4, 2) := dk_21 4 (dk_at dksX0_patch_4 17 rfl rfl)
theorem dX0_patch_110 : decode cX0_patch 110 = .ok (.iload_n 2, 1) := dk_28 (dk_at dksX0_patch_4 19 rfl rfl)
theorem dX0_patch_111 : decode cX0_patch 111 = .ok (.iastore, 1) := dk_79 (dk_at dksX0_patch_4 20 rfl rfl)
theorem dX0_patch_112 : decode cX0_patch 112 = .ok (.iconst 0, 1) := dk_3 (dk_at dksX0_patch_4 21 rfl rfl)
theorem dX0_patch_113 : decode cX0_patch 113 = .ok (.istore 5, 2) := dk_54 5 (dk_at dksX0_patch_4 22 rfl rfl)
theorem dX0_patch_115 : decode cX0_patch 115 = .ok (.iload 5, 2) := dk_21 5 (dk_at dksX0_patch_5 0 rfl rfl)
theorem dX0_patch_117 : decode cX0_patch 117 = .ok (.bipush 7, 2) := dk_16 7 (dk_at dksX0_patch_5 2 rfl rfl)
theorem dX0_patch_119 : decode cX0_patch 119 = .ok (.if_icmp .ge 26, 3) := dk_162 0 26 (dk_at dksX0_patch_5 4 rfl rfl)
theorem dX0_patch_122 : decode cX0_patch 122 = .ok (.aload_n 0, 1) := dk_42 (dk_at dksX0_patch_5 7 rfl rfl)
theorem dX0_patch_123 : decode cX0_patch 123 = .ok (.getfield 10, 3) := dk_180 0 10 (dk_at dksX0_patch_5 8 rfl rfl)
theorem dX0_patch_126 : decode cX0_patch 126 = .ok (.getfield 133, 3) := dk_180 0 133 (dk_at dksX0_patch_5 11 rfl rfl)
theorem dX0_patch_129 : decode cX0_patch 129 = .ok (.bipush 7, 2) := dk_16 7 (dk_at dksX0_patch_5 14 rfl rfl)
theorem dX0_patch_131 : decode cX0_patch 131 = .ok (.iload 4, 2) := dk_21 4 (dk_at dksX0_patch_5 16 rfl rfl)
theorem dX0_patch_133 : decode cX0_patch 133 = .ok (.imul, 1) := dk_104 (dk_at dksX0_patch_5 18 rfl rfl)
theorem dX0_patch_134 : decode cX0_patch 134 = .ok (.iload 5, 2) := dk_21 5 (dk_at dksX0_patch_5 19 rfl rfl)
theorem dX0_patch_136 : decode cX0_patch 136 = .ok (.iadd, 1) := dk_96 (dk_at dksX0_patch_5 21 rfl rfl)
theorem dX0_patch_137 : decode cX0_patch 137 = .ok (.iconst 0, 1) := dk_3 (dk_at dksX0_patch_5 22 rfl rfl)
theorem dX0_patch_138 : decode cX0_patch 138 = .ok (.iastore, 1) := dk_79 (dk_at dksX0_patch_5 23 rfl rfl)
theorem dX0_patch_139 : decode cX0_patch 139 = .ok (.iinc 5 1, 3) := dk_132 5 1 (dk_at dksX0_patch_6 0 rfl rfl)
theorem dX0_patch_142 : decode cX0_patch 142 = .ok (.goto (-27), 3) := dk_167 255 229 (dk_at dksX0_patch_6 3 rfl rfl)
theorem dX0_patch_145 : decode cX0_patch 145 = .ok (.aload_n 0, 1) := dk_42 (dk_at dksX0_patch_6 6 rfl rfl)
theorem dX0_patch_146 : decode cX0_patch 146 = .ok (.getfield 10, 3) := dk_180 0 10 (dk_at dksX0_patch_6 7 rfl rfl)
theorem dX0_patch_149 : decode cX0_patch 149 = .ok (.dup, 1) := dk_89 (dk_at dksX0_patch_6 10 rfl rfl)
theorem dX0_patch_150 : decode cX0_patch 150 = .ok (.getfield 107, 3) := dk_180 0 107 (dk_at dksX0_patch_6 11 rfl rfl)
theorem dX0_patch_153 : decode cX0_patch 153 = .ok (.iconst 1, 1) := dk_4 (dk_at dksX0_patch_6 14 rfl rfl)
theorem dX0_patch_154 : decode cX0_patch 154 = .ok (.iadd, 1) := dk_96 (dk_at dksX0_patch_6 15 rfl rfl)
theorem dX0_patch_155 : decode cX0_patch 155 = .ok (.putfield 107, 3) := dk_181 0 107 (dk_at dksX0_patch_6 16 rfl rfl)
theorem dX0_patch_158 : decode cX0_patch 158 = .ok (.iload 4, 2) := dk_21 4 (dk_at dksX0_patch_6 19 rfl rfl)
theorem dX0_patch_160 : decode cX0_patch 160 = .ok (.ireturn, 1) := dk_172 (dk_at dksX0_patch_6 21 rfl rfl)
abbrev cX0_in : ByteArray := prog_1_method_1_code
def yX0_in : MethodName := ⟨RX0, "in", "(III)Z"⟩
def dkwX0_in_0 : List UInt8 := [26, 27, 161, 0, 12, 26, 28, 163, 0, 7, 4, 167, 0, 4, 3, 172]
abbrev dktX0_in_0 : List UInt8 := dkwX0_in_0 ++ []
theorem dksX0_in_0 : cX0_in.data.toList.drop 0 = dktX0_in_0 := by decide +kernel
theorem dX0_in_0 : decode cX0_in 0 = .ok (.iload_n 0, 1) := dk_26 (dk_at dksX0_in_0 0 rfl rfl)
theorem dX0_in_1 : decode cX0_in 1 = .ok (.iload_n 1, 1) := dk_27 (dk_at dksX0_in_0 1 rfl rfl)
theorem dX0_in_2 : decode cX0_in 2 = .ok (.if_icmp .lt 12, 3) := dk_161 0 12 (dk_at dksX0_in_0 2 rfl rfl)
theorem dX0_in_5 : decode cX0_in 5 = .ok (.iload_n 0, 1) := dk_26 (dk_at dksX0_in_0 5 rfl rfl)
theorem dX0_in_6 : decode cX0_in 6 = .ok (.iload_n 2, 1) := dk_28 (dk_at dksX0_in_0 6 rfl rfl)
theorem dX0_in_7 : decode cX0_in 7 = .ok (.if_icmp .gt 7, 3) := dk_163 0 7 (dk_at dksX0_in_0 7 rfl rfl)
theorem dX0_in_10 : decode cX0_in 10 = .ok (.iconst 1, 1) := dk_4 (dk_at dksX0_in_0 10 rfl rfl)
theorem dX0_in_11 : decode cX0_in 11 = .ok (.goto 4, 3) := dk_167 0 4 (dk_at dksX0_in_0 11 rfl rfl)
theorem dX0_in_14 : decode cX0_in 14 = .ok (.iconst 0, 1) := dk_3 (dk_at dksX0_in_0 14 rfl rfl)
theorem dX0_in_15 : decode cX0_in 15 = .ok (.ireturn, 1) := dk_172 (dk_at dksX0_in_0 15 rfl rfl)
abbrev cX0_patchOf : ByteArray := prog_1_method_7_code
def yX0_patchOf : MethodName := ⟨RX0, "patchOf", "(II)I"⟩
def dkwX0_patchOf_4 : List UInt8 := [180, 0, 124, 27, 46, 172, 2, 172]
abbrev dktX0_patchOf_4 : List UInt8 := dkwX0_patchOf_4 ++ []
def dkwX0_patchOf_3 : List UInt8 := [180, 0, 127, 180, 0, 130, 27, 46, 172, 42, 180, 0, 10, 180, 0, 121, 27, 46, 172, 42, 180, 0, 10]
abbrev dktX0_patchOf_3 : List UInt8 := dkwX0_patchOf_3 ++ dktX0_patchOf_4
def dkwX0_patchOf_2 : List UInt8 := [42, 180, 0, 10, 180, 0, 115, 27, 46, 172, 42, 180, 0, 10, 180, 0, 118, 27, 46, 172, 42, 180, 0, 10]
abbrev dktX0_patchOf_2 : List UInt8 := dkwX0_patchOf_2 ++ dktX0_patchOf_3
def dkwX0_patchOf_1 : List UInt8 := [170, 0, 0, 0, 86, 0, 0, 0, 0, 0, 0, 0, 4, 0, 0, 0, 33, 0, 0, 0, 43, 0, 0, 0, 53, 0, 0, 0, 66, 0, 0, 0, 76]
abbrev dktX0_patchOf_1 : List UInt8 := dkwX0_patchOf_1 ++ dktX0_patchOf_2
def dkwX0_patchOf_0 : List UInt8 := [42, 27, 182, 0, 136, 154, 0, 5, 2, 172, 28]
abbrev dktX0_patchOf_0 : List UInt8 := dkwX0_patchOf_0 ++ dktX0_patchOf_1
theorem dksX0_patchOf_0 : cX0_patchOf.data.toList.drop 0 = dktX0_patchOf_0 := by decide +kernel
theorem dksX0_patchOf_1 : cX0_patchOf.data.toList.drop 11 = dktX0_patchOf_1 := dk_seg dksX0_patchOf_0 11 rfl rfl
theorem dksX0_patchOf_2 : cX0_patchOf.data.toList.drop 44 = dktX0_patchOf_2 := dk_seg dksX0_patchOf_1 33 rfl rfl
theorem dksX0_patchOf_3 : cX0_patchOf.data.toList.drop 68 = dktX0_patchOf_3 := dk_seg dksX0_patchOf_2 24 rfl rfl
theorem dksX0_patchOf_4 : cX0_patchOf.data.toList.drop 91 = dktX0_patchOf_4 := dk_seg dksX0_patchOf_3 23 rfl rfl
theorem dX0_patchOf_0 : decode cX0_patchOf 0 = .ok (.aload_n 0, 1) := dk_42 (dk_at dksX0_patchOf_0 0 rfl rfl)
theorem dX0_patchOf_1 : decode cX0_patchOf 1 = .ok (.iload_n 1, 1) := dk_27 (dk_at dksX0_patchOf_0 1 rfl rfl)
theorem dX0_patchOf_2 : decode cX0_patchOf 2 = .ok (.invokevirtual 136, 3) := dk_182 0 136 (dk_at dksX0_patchOf_0 2 rfl rfl)
theorem dX0_patchOf_5 : decode cX0_patchOf 5 = .ok (.ifCond .ne 5, 3) := dk_154 0 5 (dk_at dksX0_patchOf_0 5 rfl rfl)
theorem dX0_patchOf_8 : decode cX0_patchOf 8 = .ok (.iconst (-1), 1) := dk_2 (dk_at dksX0_patchOf_0 8 rfl rfl)
theorem dX0_patchOf_9 : decode cX0_patchOf 9 = .ok (.ireturn, 1) := dk_172 (dk_at dksX0_patchOf_0 9 rfl rfl)
theorem dX0_patchOf_10 : decode cX0_patchOf 10 = .ok (.iload_n 2, 1) := dk_28 (dk_at dksX0_patchOf_0 10 rfl rfl)
theorem dX0_patchOf_11 : decode cX0_patchOf 11 = .ok (.tableswitch 86 0 4 #[33, 43, 53, 66, 76], 33) := by decide +kernel
theorem dX0_patchOf_44 : decode cX0_patchOf 44 = .ok (.aload_n 0, 1) := dk_42 (dk_at dksX0_patchOf_2 0 rfl rfl)
theorem dX0_patchOf_45 : decode cX0_patchOf 45 = .ok (.getfield 10, 3) := dk_180 0 10 (dk_at dksX0_patchOf_2 1 rfl rfl)
theorem dX0_patchOf_48 : decode cX0_patchOf 48 = .ok (.getfield 115, 3) := dk_180 0 115 (dk_at dksX0_patchOf_2 4 rfl rfl)
theorem dX0_patchOf_51 : decode cX0_patchOf 51 = .ok (.iload_n 1, 1) := dk_27 (dk_at dksX0_patchOf_2 7 rfl rfl)
theorem dX0_patchOf_52 : decode cX0_patchOf 52 = .ok (.iaload, 1) := dk_46 (dk_at dksX0_patchOf_2 8 rfl rfl)
theorem dX0_patchOf_53 : decode cX0_patchOf 53 = .ok (.ireturn, 1) := dk_172 (dk_at dksX0_patchOf_2 9 rfl rfl)
theorem dX0_patchOf_54 : decode cX0_patchOf 54 = .ok (.aload_n 0, 1) := dk_42 (dk_at dksX0_patchOf_2 10 rfl rfl)
theorem dX0_patchOf_55 : decode cX0_patchOf 55 = .ok (.getfield 10, 3) := dk_180 0 10 (dk_at dksX0_patchOf_2 11 rfl rfl)
theorem dX0_patchOf_58 : decode cX0_patchOf 58 = .ok (.getfield 118, 3) := dk_180 0 118 (dk_at dksX0_patchOf_2 14 rfl rfl)
theorem dX0_patchOf_61 : decode cX0_patchOf 61 = .ok (.iload_n 1, 1) := dk_27 (dk_at dksX0_patchOf_2 17 rfl rfl)
theorem dX0_patchOf_62 : decode cX0_patchOf 62 = .ok (.iaload, 1) := dk_46 (dk_at dksX0_patchOf_2 18 rfl rfl)
theorem dX0_patchOf_63 : decode cX0_patchOf 63 = .ok (.ireturn, 1) := dk_172 (dk_at dksX0_patchOf_2 19 rfl rfl)
theorem dX0_patchOf_64 : decode cX0_patchOf 64 = .ok (.aload_n 0, 1) := dk_42 (dk_at dksX0_patchOf_2 20 rfl rfl)
theorem dX0_patchOf_65 : decode cX0_patchOf 65 = .ok (.getfield 10, 3) := dk_180 0 10 (dk_at dksX0_patchOf_2 21 rfl rfl)
theorem dX0_patchOf_68 : decode cX0_patchOf 68 = .ok (.getfield 127, 3) := dk_180 0 127 (dk_at dksX0_patchOf_3 0 rfl rfl)
theorem dX0_patchOf_71 : decode cX0_patchOf 71 = .ok (.getfield 130, 3) := dk_180 0 130 (dk_at dksX0_patchOf_3 3 rfl rfl)
theorem dX0_patchOf_74 : decode cX0_patchOf 74 = .ok (.iload_n 1, 1) := dk_27 (dk_at dksX0_patchOf_3 6 rfl rfl)
theorem dX0_patchOf_75 : decode cX0_patchOf 75 = .ok (.iaload, 1) := dk_46 (dk_at dksX0_patchOf_3 7 rfl rfl)
theorem dX0_patchOf_76 : decode cX0_patchOf 76 = .ok (.ireturn, 1) := dk_172 (dk_at dksX0_patchOf_3 8 rfl rfl)
theorem dX0_patchOf_77 : decode cX0_patchOf 77 = .ok (.aload_n 0, 1) := dk_42 (dk_at dksX0_patchOf_3 9 rfl rfl)
theorem dX0_patchOf_78 : decode cX0_patchOf 78 = .ok (.getfield 10, 3) := dk_180 0 10 (dk_at dksX0_patchOf_3 10 rfl rfl)
theorem dX0_patchOf_81 : decode cX0_patchOf 81 = .ok (.getfield 121, 3) := dk_180 0 121 (dk_at dksX0_patchOf_3 13 rfl rfl)
theorem dX0_patchOf_84 : decode cX0_patchOf 84 = .ok (.iload_n 1, 1) := dk_27 (dk_at dksX0_patchOf_3 16 rfl rfl)
theorem dX0_patchOf_85 : decode cX0_patchOf 85 = .ok (.iaload, 1) := dk_46 (dk_at dksX0_patchOf_3 17 rfl rfl)
theorem dX0_patchOf_86 : decode cX0_patchOf 86 = .ok (.ireturn, 1) := dk_172 (dk_at dksX0_patchOf_3 18 rfl rfl)
theorem dX0_patchOf_87 : decode cX0_patchOf 87 = .ok (.aload_n 0, 1) := dk_42 (dk_at dksX0_patchOf_3 19 rfl rfl)
theorem dX0_patchOf_88 : decode cX0_patchOf 88 = .ok (.getfield 10, 3) := dk_180 0 10 (dk_at dksX0_patchOf_3 20 rfl rfl)
theorem dX0_patchOf_91 : decode cX0_patchOf 91 = .ok (.getfield 124, 3) := dk_180 0 124 (dk_at dksX0_patchOf_4 0 rfl rfl)
theorem dX0_patchOf_94 : decode cX0_patchOf 94 = .ok (.iload_n 1, 1) := dk_27 (dk_at dksX0_patchOf_4 3 rfl rfl)
theorem dX0_patchOf_95 : decode cX0_patchOf 95 = .ok (.iaload, 1) := dk_46 (dk_at dksX0_patchOf_4 4 rfl rfl)
theorem dX0_patchOf_96 : decode cX0_patchOf 96 = .ok (.ireturn, 1) := dk_172 (dk_at dksX0_patchOf_4 5 rfl rfl)
theorem dX0_patchOf_97 : decode cX0_patchOf 97 = .ok (.iconst (-1), 1) := dk_2 (dk_at dksX0_patchOf_4 6 rfl rfl)
theorem dX0_patchOf_98 : decode cX0_patchOf 98 = .ok (.ireturn, 1) := dk_172 (dk_at dksX0_patchOf_4 7 rfl rfl)
abbrev cX0_isPatch : ByteArray := prog_1_method_4_code
def yX0_isPatch : MethodName := ⟨RX0, "isPatch", "(I)Z"⟩
def dkwX0_isPatch_0 : List UInt8 := [27, 3, 42, 180, 0, 10, 180, 0, 107, 4, 100, 184, 0, 111, 172]
abbrev dktX0_isPatch_0 : List UInt8 := dkwX0_isPatch_0 ++ []
theorem dksX0_isPatch_0 : cX0_isPatch.data.toList.drop 0 = dktX0_isPatch_0 := by decide +kernel
theorem dX0_isPatch_0 : decode cX0_isPatch 0 = .ok (.iload_n 1, 1) := dk_27 (dk_at dksX0_isPatch_0 0 rfl rfl)
theorem dX0_isPatch_1 : decode cX0_isPatch 1 = .ok (.iconst 0, 1) := dk_3 (dk_at dksX0_isPatch_0 1 rfl rfl)
theorem dX0_isPatch_2 : decode cX0_isPatch 2 = .ok (.aload_n 0, 1) := dk_42 (dk_at dksX0_isPatch_0 2 rfl rfl)
theorem dX0_isPatch_3 : decode cX0_isPatch 3 = .ok (.getfield 10, 3) := dk_180 0 10 (dk_at dksX0_isPatch_0 3 rfl rfl)
theorem dX0_isPatch_6 : decode cX0_isPatch 6 = .ok (.getfield 107, 3) := dk_180 0 107 (dk_at dksX0_isPatch_0 6 rfl rfl)
theorem dX0_isPatch_9 : decode cX0_isPatch 9 = .ok (.iconst 1, 1) := dk_4 (dk_at dksX0_isPatch_0 9 rfl rfl)
theorem dX0_isPatch_10 : decode cX0_isPatch 10 = .ok (.isub, 1) := dk_100 (dk_at dksX0_isPatch_0 10 rfl rfl)
theorem dX0_isPatch_11 : decode cX0_isPatch 11 = .ok (.invokestatic 111, 3) := dk_184 0 111 (dk_at dksX0_isPatch_0 11 rfl rfl)
theorem dX0_isPatch_14 : decode cX0_isPatch 14 = .ok (.ireturn, 1) := dk_172 (dk_at dksX0_isPatch_0 14 rfl rfl)
abbrev cX0_yieldOf : ByteArray := prog_1_method_8_code
def yX0_yieldOf : MethodName := ⟨RX0, "yieldOf", "(II)I"⟩
def dkwX0_yieldOf_1 : List UInt8 := [182, 0, 140, 167, 0, 4, 2, 172]
abbrev dktX0_yieldOf_1 : List UInt8 := dkwX0_yieldOf_1 ++ []
def dkwX0_yieldOf_0 : List UInt8 := [42, 27, 182, 0, 136, 153, 0, 25, 28, 3, 16, 6, 184, 0, 111, 153, 0, 15, 42, 180, 0, 10, 27, 28]
abbrev dktX0_yieldOf_0 : List UInt8 := dkwX0_yieldOf_0 ++ dktX0_yieldOf_1
theorem dksX0_yieldOf_0 : cX0_yieldOf.data.toList.drop 0 = dktX0_yieldOf_0 := by decide +kernel
theorem dksX0_yieldOf_1 : cX0_yieldOf.data.toList.drop 24 = dktX0_yieldOf_1 := dk_seg dksX0_yieldOf_0 24 rfl rfl
theorem dX0_yieldOf_0 : decode cX0_yieldOf 0 = .ok (.aload_n 0, 1) := dk_42 (dk_at dksX0_yieldOf_0 0 rfl rfl)
theorem dX0_yieldOf_1 : decode cX0_yieldOf 1 = .ok (.iload_n 1, 1) := dk_27 (dk_at dksX0_yieldOf_0 1 rfl rfl)
theorem dX0_yieldOf_2 : decode cX0_yieldOf 2 = .ok (.invokevirtual 136, 3) := dk_182 0 136 (dk_at dksX0_yieldOf_0 2 rfl rfl)
theorem dX0_yieldOf_5 : decode cX0_yieldOf 5 = .ok (.ifCond .eq 25, 3) := dk_153 0 25 (dk_at dksX0_yieldOf_0 5 rfl rfl)
theorem dX0_yieldOf_8 : decode cX0_yieldOf 8 = .ok (.iload_n 2, 1) := dk_28 (dk_at dksX0_yieldOf_0 8 rfl rfl)
theorem dX0_yieldOf_9 : decode cX0_yieldOf 9 = .ok (.iconst 0, 1) := dk_3 (dk_at dksX0_yieldOf_0 9 rfl rfl)
theorem dX0_yieldOf_10 : decode cX0_yieldOf 10 = .ok (.bipush 6, 2) := dk_16 6 (dk_at dksX0_yieldOf_0 10 rfl rfl)
theorem dX0_yieldOf_12 : decode cX0_yieldOf 12 = .ok (.invokestatic 111, 3) := dk_184 0 111 (dk_at dksX0_yieldOf_0 12 rfl rfl)
theorem dX0_yieldOf_15 : decode cX0_yieldOf 15 = .ok (.ifCond .eq 15, 3) := dk_153 0 15 (dk_at dksX0_yieldOf_0 15 rfl rfl)
theorem dX0_yieldOf_18 : decode cX0_yieldOf 18 = .ok (.aload_n 0, 1) := dk_42 (dk_at dksX0_yieldOf_0 18 rfl rfl)
theorem dX0_yieldOf_19 : decode cX0_yieldOf 19 = .ok (.getfield 10, 3) := dk_180 0 10 (dk_at dksX0_yieldOf_0 19 rfl rfl)
theorem dX0_yieldOf_22 : decode cX0_yieldOf 22 = .ok (.iload_n 1, 1) := dk_27 (dk_at dksX0_yieldOf_0 22 rfl rfl)
theorem dX0_yieldOf_23 : decode cX0_yieldOf 23 = .ok (.iload_n 2, 1) := dk_28 (dk_at dksX0_yieldOf_0 23 rfl rfl)
theorem dX0_yieldOf_24 : decode cX0_yieldOf 24 = .ok (.invokevirtual 140, 3) := dk_182 0 140 (dk_at dksX0_yieldOf_1 0 rfl rfl)
theorem dX0_yieldOf_27 : decode cX0_yieldOf 27 = .ok (.goto 4, 3) := dk_167 0 4 (dk_at dksX0_yieldOf_1 3 rfl rfl)
theorem dX0_yieldOf_30 : decode cX0_yieldOf 30 = .ok (.iconst (-1), 1) := dk_2 (dk_at dksX0_yieldOf_1 6 rfl rfl)
theorem dX0_yieldOf_31 : decode cX0_yieldOf 31 = .ok (.ireturn, 1) := dk_172 (dk_at dksX0_yieldOf_1 7 rfl rfl)
abbrev cX0_lay : ByteArray := prog_1_method_9_code
def yX0_lay : MethodName := ⟨RX0, "lay", "(III)I"⟩
def dkwX0_lay_3 : List UInt8 := [58, 4, 25, 4, 27, 46, 54, 5, 25, 4, 27, 29, 79, 21, 5, 172]
abbrev dktX0_lay_3 : List UInt8 := dkwX0_lay_3 ++ []
def dkwX0_lay_2 : List UInt8 := [154, 0, 16, 42, 180, 0, 10, 180, 0, 127, 180, 0, 130, 167, 0, 10, 42, 180, 0, 10, 180, 0, 124]
abbrev dktX0_lay_2 : List UInt8 := dkwX0_lay_2 ++ dktX0_lay_3
def dkwX0_lay_1 : List UInt8 := [180, 0, 10, 180, 0, 118, 27, 46, 167, 0, 5, 16, 60, 184, 0, 111, 154, 0, 5, 2, 172, 28]
abbrev dktX0_lay_1 : List UInt8 := dkwX0_lay_1 ++ dktX0_lay_2
def dkwX0_lay_0 : List UInt8 := [42, 27, 182, 0, 136, 153, 0, 38, 28, 3, 4, 184, 0, 111, 153, 0, 29, 29, 3, 28, 154, 0, 15, 42]
abbrev dktX0_lay_0 : List UInt8 := dkwX0_lay_0 ++ dktX0_lay_1
theorem dksX0_lay_0 : cX0_lay.data.toList.drop 0 = dktX0_lay_0 := by decide +kernel
theorem dksX0_lay_1 : cX0_lay.data.toList.drop 24 = dktX0_lay_1 := dk_seg dksX0_lay_0 24 rfl rfl
theorem dksX0_lay_2 : cX0_lay.data.toList.drop 46 = dktX0_lay_2 := dk_seg dksX0_lay_1 22 rfl rfl
theorem dksX0_lay_3 : cX0_lay.data.toList.drop 69 = dktX0_lay_3 := dk_seg dksX0_lay_2 23 rfl rfl
theorem dX0_lay_0 : decode cX0_lay 0 = .ok (.aload_n 0, 1) := dk_42 (dk_at dksX0_lay_0 0 rfl rfl)
theorem dX0_lay_1 : decode cX0_lay 1 = .ok (.iload_n 1, 1) := dk_27 (dk_at dksX0_lay_0 1 rfl rfl)
theorem dX0_lay_2 : decode cX0_lay 2 = .ok (.invokevirtual 136, 3) := dk_182 0 136 (dk_at dksX0_lay_0 2 rfl rfl)
theorem dX0_lay_5 : decode cX0_lay 5 = .ok (.ifCond .eq 38, 3) := dk_153 0 38 (dk_at dksX0_lay_0 5 rfl rfl)
theorem dX0_lay_8 : decode cX0_lay 8 = .ok (.iload_n 2, 1) := dk_28 (dk_at dksX0_lay_0 8 rfl rfl)
theorem dX0_lay_9 : decode cX0_lay 9 = .ok (.iconst 0, 1) := dk_3 (dk_at dksX0_lay_0 9 rfl rfl)
theorem dX0_lay_10 : decode cX0_lay 10 = .ok (.iconst 1, 1) := dk_4 (dk_at dksX0_lay_0 10 rfl rfl)
theorem dX0_lay_11 : decode cX0_lay 11 = .ok (.invokestatic 111, 3) := dk_184 0 111 (dk_at dksX0_lay_0 11 rfl rfl)
theorem dX0_lay_14 : decode cX0_lay 14 = .ok (.ifCond .eq 29, 3) := dk_153 0 29 (dk_at dksX0_lay_0 14 rfl rfl)
theorem dX0_lay_17 : decode cX0_lay 17 = .ok (.iload_n 3, 1) := dk_29 (dk_at dksX0_lay_0 17 rfl rfl)
theorem dX0_lay_18 : decode cX0_lay 18 = .ok (.iconst 0, 1) := dk_3 (dk_at dksX0_lay_0 18 rfl rfl)
theorem dX0_lay_19 : decode cX0_lay 19 = .ok (.iload_n 2, 1) := dk_28 (dk_at dksX0_lay_0 19 rfl rfl)
theorem dX0_lay_20 : decode cX0_lay 20 = .ok (.ifCond .ne 15, 3) := dk_154 0 15 (dk_at dksX0_lay_0 20 rfl rfl)
theorem dX0_lay_23 : decode cX0_lay 23 = .ok (.aload_n 0, 1) := dk_42 (dk_at dksX0_lay_0 23 rfl rfl)
theorem dX0_lay_24 : decode cX0_lay 24 = .ok (.getfield 10, 3) := dk_180 0 10 (dk_at dksX0_lay_1 0 rfl rfl)
theorem dX0_lay_27 : decode cX0_lay 27 = .ok (.getfield 118, 3) := dk_180 0 118 (dk_at dksX0_lay_1 3 rfl rfl)
theorem dX0_lay_30 : decode cX0_lay 30 = .ok (.iload_n 1, 1) := dk_27 (dk_at dksX0_lay_1 6 rfl rfl)
theorem dX0_lay_31 : decode cX0_lay 31 = .ok (.iaload, 1) := dk_46 (dk_at dksX0_lay_1 7 rfl rfl)
theorem dX0_lay_32 : decode cX0_lay 32 = .ok (.goto 5, 3) := dk_167 0 5 (dk_at dksX0_lay_1 8 rfl rfl)
theorem dX0_lay_35 : decode cX0_lay 35 = .ok (.bipush 60, 2) := dk_16 60 (dk_at dksX0_lay_1 11 rfl rfl)
theorem dX0_lay_37 : decode cX0_lay 37 = .ok (.invokestatic 111, 3) := dk_184 0 111 (dk_at dksX0_lay_1 13 rfl rfl)
theorem dX0_lay_40 : decode cX0_lay 40 = .ok (.ifCond .ne 5, 3) := dk_154 0 5 (dk_at dksX0_lay_1 16 rfl rfl)
theorem dX0_lay_43 : decode cX0_lay 43 = .ok (.iconst (-1), 1) := dk_2 (dk_at dksX0_lay_1 19 rfl rfl)
theorem dX0_lay_44 : decode cX0_lay 44 = .ok (.ireturn, 1) := dk_172 (dk_at dksX0_lay_1 20 rfl rfl)
theorem dX0_lay_45 : decode cX0_lay 45 = .ok (.iload_n 2, 1) := dk_28 (dk_at dksX0_lay_1 21 rfl rfl)
theorem dX0_lay_46 : decode cX0_lay 46 = .ok (.ifCond .ne 16, 3) := dk_154 0 16 (dk_at dksX0_lay_2 0 rfl rfl)
theorem dX0_lay_49 : decode cX0_lay 49 = .ok (.aload_n 0, 1) := dk_42 (dk_at dksX0_lay_2 3 rfl rfl)
theorem dX0_lay_50 : decode cX0_lay 50 = .ok (.getfield 10, 3) := dk_180 0 10 (dk_at dksX0_lay_2 4 rfl rfl)
theorem dX0_lay_53 : decode cX0_lay 53 = .ok (.getfield 127, 3) := dk_180 0 127 (dk_at dksX0_lay_2 7 rfl rfl)
theorem dX0_lay_56 : decode cX0_lay 56 = .ok (.getfield 130, 3) := dk_180 0 130 (dk_at dksX0_lay_2 10 rfl rfl)
theorem dX0_lay_59 : decode cX0_lay 59 = .ok (.goto 10, 3) := dk_167 0 10 (dk_at dksX0_lay_2 13 rfl rfl)
theorem dX0_lay_62 : decode cX0_lay 62 = .ok (.aload_n 0, 1) := dk_42 (dk_at dksX0_lay_2 16 rfl rfl)
theorem dX0_lay_63 : decode cX0_lay 63 = .ok (.getfield 10, 3) := dk_180 0 10 (dk_at dksX0_lay_2 17 rfl rfl)
theorem dX0_lay_66 : decode cX0_lay 66 = .ok (.getfield 124, 3) := dk_180 0 124 (dk_at dksX0_lay_2 20 rfl rfl)
theorem dX0_lay_69 : decode cX0_lay 69 = .ok (.astore 4, 2) := dk_58 4 (dk_at dksX0_lay_3 0 rfl rfl)
theorem dX0_lay_71 : decode cX0_lay 71 = .ok (.aload 4, 2) := dk_25 4 (dk_at dksX0_lay_3 2 rfl rfl)
theorem dX0_lay_73 : decode cX0_lay 73 = .ok (.iload_n 1, 1) := dk_27 (dk_at dksX0_lay_3 4 rfl rfl)
theorem dX0_lay_74 : decode cX0_lay 74 = .ok (.iaload, 1) := dk_46 (dk_at dksX0_lay_3 5 rfl rfl)
theorem dX0_lay_75 : decode cX0_lay 75 = .ok (.istore 5, 2) := dk_54 5 (dk_at dksX0_lay_3 6 rfl rfl)
theorem dX0_lay_77 : decode cX0_lay 77 = .ok (.aload 4, 2) := dk_25 4 (dk_at dksX0_lay_3 8 rfl rfl)
theorem dX0_lay_79 : decode cX0_lay 79 = .ok (.iload_n 1, 1) := dk_27 (dk_at dksX0_lay_3 10 rfl rfl)
theorem dX0_lay_80 : decode cX0_lay 80 = .ok (.iload_n 3, 1) := dk_29 (dk_at dksX0_lay_3 11 rfl rfl)
theorem dX0_lay_81 : decode cX0_lay 81 = .ok (.iastore, 1) := dk_79 (dk_at dksX0_lay_3 12 rfl rfl)
theorem dX0_lay_82 : decode cX0_lay 82 = .ok (.iload 5, 2) := dk_21 5 (dk_at dksX0_lay_3 13 rfl rfl)
theorem dX0_lay_84 : decode cX0_lay 84 = .ok (.ireturn, 1) := dk_172 (dk_at dksX0_lay_3 15 rfl rfl)
abbrev cX0_way : ByteArray := prog_1_method_10_code
def yX0_way : MethodName := ⟨RX0, "way", "(III)I"⟩
def dkwX0_way_3 : List UInt8 := [96, 29, 79, 21, 4, 172]
abbrev dktX0_way_3 : List UInt8 := dkwX0_way_3 ++ []
def dkwX0_way_2 : List UInt8 := [180, 0, 10, 180, 0, 144, 7, 27, 104, 28, 96, 29, 79, 42, 180, 0, 10, 180, 0, 144, 7, 28, 104, 27]
abbrev dktX0_way_2 : List UInt8 := dkwX0_way_2 ++ dktX0_way_3
def dkwX0_way_1 : List UInt8 := [184, 0, 111, 154, 0, 5, 2, 172, 42, 180, 0, 10, 180, 0, 144, 7, 27, 104, 28, 96, 46, 54, 4, 42]
abbrev dktX0_way_1 : List UInt8 := dkwX0_way_1 ++ dktX0_way_2
def dkwX0_way_0 : List UInt8 := [42, 27, 182, 0, 136, 153, 0, 25, 42, 28, 182, 0, 136, 153, 0, 17, 27, 28, 159, 0, 12, 29, 3, 8]
abbrev dktX0_way_0 : List UInt8 := dkwX0_way_0 ++ dktX0_way_1
theorem dksX0_way_0 : cX0_way.data.toList.drop 0 = dktX0_way_0 := by decide +kernel
theorem dksX0_way_1 : cX0_way.data.toList.drop 24 = dktX0_way_1 := dk_seg dksX0_way_0 24 rfl rfl
theorem dksX0_way_2 : cX0_way.data.toList.drop 48 = dktX0_way_2 := dk_seg dksX0_way_1 24 rfl rfl
theorem dksX0_way_3 : cX0_way.data.toList.drop 72 = dktX0_way_3 := dk_seg dksX0_way_2 24 rfl rfl
theorem dX0_way_0 : decode cX0_way 0 = .ok (.aload_n 0, 1) := dk_42 (dk_at dksX0_way_0 0 rfl rfl)
theorem dX0_way_1 : decode cX0_way 1 = .ok (.iload_n 1, 1) := dk_27 (dk_at dksX0_way_0 1 rfl rfl)
theorem dX0_way_2 : decode cX0_way 2 = .ok (.invokevirtual 136, 3) := dk_182 0 136 (dk_at dksX0_way_0 2 rfl rfl)
theorem dX0_way_5 : decode cX0_way 5 = .ok (.ifCond .eq 25, 3) := dk_153 0 25 (dk_at dksX0_way_0 5 rfl rfl)
theorem dX0_way_8 : decode cX0_way 8 = .ok (.aload_n 0, 1) := dk_42 (dk_at dksX0_way_0 8 rfl rfl)
theorem dX0_way_9 : decode cX0_way 9 = .ok (.iload_n 2, 1) := dk_28 (dk_at dksX0_way_0 9 rfl rfl)
theorem dX0_way_10 : decode cX0_way 10 = .ok (.invokevirtual 136, 3) := dk_182 0 136 (dk_at dksX0_way_0 10 rfl rfl)
theorem dX0_way_13 : decode cX0_way 13 = .ok (.ifCond .eq 17, 3) := dk_153 0 17 (dk_at dksX0_way_0 13 rfl rfl)
theorem dX0_way_16 : decode cX0_way 16 = .ok (.iload_n 1, 1) := dk_27 (dk_at dksX0_way_0 16 rfl rfl)
theorem dX0_way_17 : decode cX0_way 17 = .ok (.iload_n 2, 1) := dk_28 (dk_at dksX0_way_0 17 rfl rfl)
theorem dX0_way_18 : decode cX0_way 18 = .ok (.if_icmp .eq 12, 3) := dk_159 0 12 (dk_at dksX0_way_0 18 rfl rfl)
theorem dX0_way_21 : decode cX0_way 21 = .ok (.iload_n 3, 1) := dk_29 (dk_at dksX0_way_0 21 rfl rfl)
theorem dX0_way_22 : decode cX0_way 22 = .ok (.iconst 0, 1) := dk_3 (dk_at dksX0_way_0 22 rfl rfl)
theorem dX0_way_23 : decode cX0_way 23 = .ok (.iconst 5, 1) := dk_8 (dk_at dksX0_way_0 23 rfl rfl)
theorem dX0_way_24 : decode cX0_way 24 = .ok (.invokestatic 111, 3) := dk_184 0 111 (dk_at dksX0_way_1 0 rfl rfl)
theorem dX0_way_27 : decode cX0_way 27 = .ok (.ifCond .ne 5, 3) := dk_154 0 5 (dk_at dksX0_way_1 3 rfl rfl)
theorem dX0_way_30 : decode cX0_way 30 = .ok (.iconst (-1), 1) := dk_2 (dk_at dksX0_way_1 6 rfl rfl)
theorem dX0_way_31 : decode cX0_way 31 = .ok (.ireturn, 1) := dk_172 (dk_at dksX0_way_1 7 rfl rfl)
theorem dX0_way_32 : decode cX0_way 32 = .ok (.aload_n 0, 1) := dk_42 (dk_at dksX0_way_1 8 rfl rfl)
theorem dX0_way_33 : decode cX0_way 33 = .ok (.getfield 10, 3) := dk_180 0 10 (dk_at dksX0_way_1 9 rfl rfl)
theorem dX0_way_36 : decode cX0_way 36 = .ok (.getfield 144, 3) := dk_180 0 144 (dk_at dksX0_way_1 12 rfl rfl)
theorem dX0_way_39 : decode cX0_way 39 = .ok (.iconst 4, 1) := dk_7 (dk_at dksX0_way_1 15 rfl rfl)
theorem dX0_way_40 : decode cX0_way 40 = .ok (.iload_n 1, 1) := dk_27 (dk_at dksX0_way_1 16 rfl rfl)
theorem dX0_way_41 : decode cX0_way 41 = .ok (.imul, 1) := dk_104 (dk_at dksX0_way_1 17 rfl rfl)
theorem dX0_way_42 : decode cX0_way 42 = .ok (.iload_n 2, 1) := dk_28 (dk_at dksX0_way_1 18 rfl rfl)
theorem dX0_way_43 : decode cX0_way 43 = .ok (.iadd, 1) := dk_96 (dk_at dksX0_way_1 19 rfl rfl)
theorem dX0_way_44 : decode cX0_way 44 = .ok (.iaload, 1) := dk_46 (dk_at dksX0_way_1 20 rfl rfl)
theorem dX0_way_45 : decode cX0_way 45 = .ok (.istore 4, 2) := dk_54 4 (dk_at dksX0_way_1 21 rfl rfl)
theorem dX0_way_47 : decode cX0_way 47 = .ok (.aload_n 0, 1) := dk_42 (dk_at dksX0_way_1 23 rfl rfl)
theorem dX0_way_48 : decode cX0_way 48 = .ok (.getfield 10, 3) := dk_180 0 10 (dk_at dksX0_way_2 0 rfl rfl)
theorem dX0_way_51 : decode cX0_way 51 = .ok (.getfield 144, 3) := dk_180 0 144 (dk_at dksX0_way_2 3 rfl rfl)
theorem dX0_way_54 : decode cX0_way 54 = .ok (.iconst 4, 1) := dk_7 (dk_at dksX0_way_2 6 rfl rfl)
theorem dX0_way_55 : decode cX0_way 55 = .ok (.iload_n 1, 1) := dk_27 (dk_at dksX0_way_2 7 rfl rfl)
theorem dX0_way_56 : decode cX0_way 56 = .ok (.imul, 1) := dk_104 (dk_at dksX0_way_2 8 rfl rfl)
theorem dX0_way_57 : decode cX0_way 57 = .ok (.iload_n 2, 1) := dk_28 (dk_at dksX0_way_2 9 rfl rfl)
theorem dX0_way_58 : decode cX0_way 58 = .ok (.iadd, 1) := dk_96 (dk_at dksX0_way_2 10 rfl rfl)
theorem dX0_way_59 : decode cX0_way 59 = .ok (.iload_n 3, 1) := dk_29 (dk_at dksX0_way_2 11 rfl rfl)
theorem dX0_way_60 : decode cX0_way 60 = .ok (.iastore, 1) := dk_79 (dk_at dksX0_way_2 12 rfl rfl)
theorem dX0_way_61 : decode cX0_way 61 = .ok (.aload_n 0, 1) := dk_42 (dk_at dksX0_way_2 13 rfl rfl)
theorem dX0_way_62 : decode cX0_way 62 = .ok (.getfield 10, 3) := dk_180 0 10 (dk_at dksX0_way_2 14 rfl rfl)
theorem dX0_way_65 : decode cX0_way 65 = .ok (.getfield 144, 3) := dk_180 0 144 (dk_at dksX0_way_2 17 rfl rfl)
theorem dX0_way_68 : decode cX0_way 68 = .ok (.iconst 4, 1) := dk_7 (dk_at dksX0_way_2 20 rfl rfl)
theorem dX0_way_69 : decode cX0_way 69 = .ok (.iload_n 2, 1) := dk_28 (dk_at dksX0_way_2 21 rfl rfl)
theorem dX0_way_70 : decode cX0_way 70 = .ok (.imul, 1) := dk_104 (dk_at dksX0_way_2 22 rfl rfl)
theorem dX0_way_71 : decode cX0_way 71 = .ok (.iload_n 1, 1) := dk_27 (dk_at dksX0_way_2 23 rfl rfl)
theorem dX0_way_72 : decode cX0_way 72 = .ok (.iadd, 1) := dk_96 (dk_at dksX0_way_3 0 rfl rfl)
theorem dX0_way_73 : decode cX0_way 73 = .ok (.iload_n 3, 1) := dk_29 (dk_at dksX0_way_3 1 rfl rfl)
theorem dX0_way_74 : decode cX0_way 74 = .ok (.iastore, 1) := dk_79 (dk_at dksX0_way_3 2 rfl rfl)
theorem dX0_way_75 : decode cX0_way 75 = .ok (.iload 4, 2) := dk_21 4 (dk_at dksX0_way_3 3 rfl rfl)
theorem dX0_way_77 : decode cX0_way 77 = .ok (.ireturn, 1) := dk_172 (dk_at dksX0_way_3 5 rfl rfl)
abbrev cX0_dusk : ByteArray := prog_1_method_11_code
def yX0_dusk : MethodName := ⟨RX0, "dusk", "(I)I"⟩
def dkwX0_dusk_1 : List UInt8 := [164, 0, 6, 16, 252, 172, 42, 180, 0, 10, 180, 0, 150, 61, 42, 180, 0, 10, 27, 181, 0, 150, 28, 172]
abbrev dktX0_dusk_1 : List UInt8 := dkwX0_dusk_1 ++ []
def dkwX0_dusk_0 : List UInt8 := [27, 4, 16, 20, 184, 0, 111, 154, 0, 5, 2, 172, 42, 180, 0, 10, 180, 0, 127, 180, 0, 147, 27]
abbrev dktX0_dusk_0 : List UInt8 := dkwX0_dusk_0 ++ dktX0_dusk_1
theorem dksX0_dusk_0 : cX0_dusk.data.toList.drop 0 = dktX0_dusk_0 := by decide +kernel
theorem dksX0_dusk_1 : cX0_dusk.data.toList.drop 23 = dktX0_dusk_1 := dk_seg dksX0_dusk_0 23 rfl rfl
theorem dX0_dusk_0 : decode cX0_dusk 0 = .ok (.iload_n 1, 1) := dk_27 (dk_at dksX0_dusk_0 0 rfl rfl)
theorem dX0_dusk_1 : decode cX0_dusk 1 = .ok (.iconst 1, 1) := dk_4 (dk_at dksX0_dusk_0 1 rfl rfl)
theorem dX0_dusk_2 : decode cX0_dusk 2 = .ok (.bipush 20, 2) := dk_16 20 (dk_at dksX0_dusk_0 2 rfl rfl)
theorem dX0_dusk_4 : decode cX0_dusk 4 = .ok (.invokestatic 111, 3) := dk_184 0 111 (dk_at dksX0_dusk_0 4 rfl rfl)
theorem dX0_dusk_7 : decode cX0_dusk 7 = .ok (.ifCond .ne 5, 3) := dk_154 0 5 (dk_at dksX0_dusk_0 7 rfl rfl)
theorem dX0_dusk_10 : decode cX0_dusk 10 = .ok (.iconst (-1), 1) := dk_2 (dk_at dksX0_dusk_0 10 rfl rfl)
theorem dX0_dusk_11 : decode cX0_dusk 11 = .ok (.ireturn, 1) := dk_172 (dk_at dksX0_dusk_0 11 rfl rfl)
theorem dX0_dusk_12 : decode cX0_dusk 12 = .ok (.aload_n 0, 1) := dk_42 (dk_at dksX0_dusk_0 12 rfl rfl)
theorem dX0_dusk_13 : decode cX0_dusk 13 = .ok (.getfield 10, 3) := dk_180 0 10 (dk_at dksX0_dusk_0 13 rfl rfl)
theorem dX0_dusk_16 : decode cX0_dusk 16 = .ok (.getfield 127, 3) := dk_180 0 127 (dk_at dksX0_dusk_0 16 rfl rfl)
theorem dX0_dusk_19 : decode cX0_dusk 19 = .ok (.getfield 147, 3) := dk_180 0 147 (dk_at dksX0_dusk_0 19 rfl rfl)
theorem dX0_dusk_22 : decode cX0_dusk 22 = .ok (.iload_n 1, 1) := dk_27 (dk_at dksX0_dusk_0 22 rfl rfl)
theorem dX0_dusk_23 : decode cX0_dusk 23 = .ok (.if_icmp .le 6, 3) := dk_164 0 6 (dk_at dksX0_dusk_1 0 rfl rfl)
theorem dX0_dusk_26 : decode cX0_dusk 26 = .ok (.bipush (-4), 2) := dk_16 252 (dk_at dksX0_dusk_1 3 rfl rfl)
theorem dX0_dusk_28 : decode cX0_dusk 28 = .ok (.ireturn, 1) := dk_172 (dk_at dksX0_dusk_1 5 rfl rfl)
theorem dX0_dusk_29 : decode cX0_dusk 29 = .ok (.aload_n 0, 1) := dk_42 (dk_at dksX0_dusk_1 6 rfl rfl)
theorem dX0_dusk_30 : decode cX0_dusk 30 = .ok (.getfield 10, 3) := dk_180 0 10 (dk_at dksX0_dusk_1 7 rfl rfl)
theorem dX0_dusk_33 : decode cX0_dusk 33 = .ok (.getfield 150, 3) := dk_180 0 150 (dk_at dksX0_dusk_1 10 rfl rfl)
theorem dX0_dusk_36 : decode cX0_dusk 36 = .ok (.istore_n 2, 1) := dk_61 (dk_at dksX0_dusk_1 13 rfl rfl)
theorem dX0_dusk_37 : decode cX0_dusk 37 = .ok (.aload_n 0, 1) := dk_42 (dk_at dksX0_dusk_1 14 rfl rfl)
theorem dX0_dusk_38 : decode cX0_dusk 38 = .ok (.getfield 10, 3) := dk_180 0 10 (dk_at dksX0_dusk_1 15 rfl rfl)
theorem dX0_dusk_41 : decode cX0_dusk 41 = .ok (.iload_n 1, 1) := dk_27 (dk_at dksX0_dusk_1 18 rfl rfl)
theorem dX0_dusk_42 : decode cX0_dusk 42 = .ok (.putfield 150, 3) := dk_181 0 150 (dk_at dksX0_dusk_1 19 rfl rfl)
theorem dX0_dusk_45 : decode cX0_dusk 45 = .ok (.iload_n 2, 1) := dk_28 (dk_at dksX0_dusk_1 22 rfl rfl)
theorem dX0_dusk_46 : decode cX0_dusk 46 = .ok (.ireturn, 1) := dk_172 (dk_at dksX0_dusk_1 23 rfl rfl)
abbrev cX0_perch : ByteArray := prog_1_method_12_code
def yX0_perch : MethodName := ⟨RX0, "perch", "(I)I"⟩
def dkwX0_perch_1 : List UInt8 := [180, 0, 10, 180, 0, 127, 27, 181, 0, 153, 28, 172]
abbrev dktX0_perch_1 : List UInt8 := dkwX0_perch_1 ++ []
def dkwX0_perch_0 : List UInt8 := [42, 27, 182, 0, 136, 154, 0, 5, 2, 172, 42, 180, 0, 10, 180, 0, 127, 180, 0, 153, 61, 42]
abbrev dktX0_perch_0 : List UInt8 := dkwX0_perch_0 ++ dktX0_perch_1
theorem dksX0_perch_0 : cX0_perch.data.toList.drop 0 = dktX0_perch_0 := by decide +kernel
theorem dksX0_perch_1 : cX0_perch.data.toList.drop 22 = dktX0_perch_1 := dk_seg dksX0_perch_0 22 rfl rfl
theorem dX0_perch_0 : decode cX0_perch 0 = .ok (.aload_n 0, 1) := dk_42 (dk_at dksX0_perch_0 0 rfl rfl)
theorem dX0_perch_1 : decode cX0_perch 1 = .ok (.iload_n 1, 1) := dk_27 (dk_at dksX0_perch_0 1 rfl rfl)
theorem dX0_perch_2 : decode cX0_perch 2 = .ok (.invokevirtual 136, 3) := dk_182 0 136 (dk_at dksX0_perch_0 2 rfl rfl)
theorem dX0_perch_5 : decode cX0_perch 5 = .ok (.ifCond .ne 5, 3) := dk_154 0 5 (dk_at dksX0_perch_0 5 rfl rfl)
theorem dX0_perch_8 : decode cX0_perch 8 = .ok (.iconst (-1), 1) := dk_2 (dk_at dksX0_perch_0 8 rfl rfl)
theorem dX0_perch_9 : decode cX0_perch 9 = .ok (.ireturn, 1) := dk_172 (dk_at dksX0_perch_0 9 rfl rfl)
theorem dX0_perch_10 : decode cX0_perch 10 = .ok (.aload_n 0, 1) := dk_42 (dk_at dksX0_perch_0 10 rfl rfl)
theorem dX0_perch_11 : decode cX0_perch 11 = .ok (.getfield 10, 3) := dk_180 0 10 (dk_at dksX0_perch_0 11 rfl rfl)
theorem dX0_perch_14 : decode cX0_perch 14 = .ok (.getfield 127, 3) := dk_180 0 127 (dk_at dksX0_perch_0 14 rfl rfl)
theorem dX0_perch_17 : decode cX0_perch 17 = .ok (.getfield 153, 3) := dk_180 0 153 (dk_at dksX0_perch_0 17 rfl rfl)
theorem dX0_perch_20 : decode cX0_perch 20 = .ok (.istore_n 2, 1) := dk_61 (dk_at dksX0_perch_0 20 rfl rfl)
theorem dX0_perch_21 : decode cX0_perch 21 = .ok (.aload_n 0, 1) := dk_42 (dk_at dksX0_perch_0 21 rfl rfl)
theorem dX0_perch_22 : decode cX0_perch 22 = .ok (.getfield 10, 3) := dk_180 0 10 (dk_at dksX0_perch_1 0 rfl rfl)
theorem dX0_perch_25 : decode cX0_perch 25 = .ok (.getfield 127, 3) := dk_180 0 127 (dk_at dksX0_perch_1 3 rfl rfl)
theorem dX0_perch_28 : decode cX0_perch 28 = .ok (.iload_n 1, 1) := dk_27 (dk_at dksX0_perch_1 6 rfl rfl)
theorem dX0_perch_29 : decode cX0_perch 29 = .ok (.putfield 153, 3) := dk_181 0 153 (dk_at dksX0_perch_1 7 rfl rfl)
theorem dX0_perch_32 : decode cX0_perch 32 = .ok (.iload_n 2, 1) := dk_28 (dk_at dksX0_perch_1 10 rfl rfl)
theorem dX0_perch_33 : decode cX0_perch 33 = .ok (.ireturn, 1) := dk_172 (dk_at dksX0_perch_1 11 rfl rfl)
abbrev cX0_dawn : ByteArray := prog_1_method_13_code
def yX0_dawn : MethodName := ⟨RX0, "dawn", "()I"⟩
def dkwX0_dawn_2 : List UInt8 := [180, 0, 127, 180, 0, 130, 3, 42, 180, 0, 10, 180, 0, 107, 184, 0, 159, 27, 172]
abbrev dktX0_dawn_2 : List UInt8 := dkwX0_dawn_2 ++ []
def dkwX0_dawn_1 : List UInt8 := [180, 0, 10, 180, 0, 127, 3, 181, 0, 147, 42, 180, 0, 10, 180, 0, 118, 3, 42, 180, 0, 10]
abbrev dktX0_dawn_1 : List UInt8 := dkwX0_dawn_1 ++ dktX0_dawn_2
def dkwX0_dawn_0 : List UInt8 := [42, 180, 0, 10, 180, 0, 127, 180, 0, 156, 60, 42, 180, 0, 10, 180, 0, 127, 3, 181, 0, 156, 42]
abbrev dktX0_dawn_0 : List UInt8 := dkwX0_dawn_0 ++ dktX0_dawn_1
theorem dksX0_dawn_0 : cX0_dawn.data.toList.drop 0 = dktX0_dawn_0 := by decide +kernel
theorem dksX0_dawn_1 : cX0_dawn.data.toList.drop 23 = dktX0_dawn_1 := dk_seg dksX0_dawn_0 23 rfl rfl
theorem dksX0_dawn_2 : cX0_dawn.data.toList.drop 45 = dktX0_dawn_2 := dk_seg dksX0_dawn_1 22 rfl rfl
theorem dX0_dawn_0 : decode cX0_dawn 0 = .ok (.aload_n 0, 1) := dk_42 (dk_at dksX0_dawn_0 0 rfl rfl)
theorem dX0_dawn_1 : decode cX0_dawn 1 = .ok (.getfield 10, 3) := dk_180 0 10 (dk_at dksX0_dawn_0 1 rfl rfl)
theorem dX0_dawn_4 : decode cX0_dawn 4 = .ok (.getfield 127, 3) := dk_180 0 127 (dk_at dksX0_dawn_0 4 rfl rfl)
theorem dX0_dawn_7 : decode cX0_dawn 7 = .ok (.getfield 156, 3) := dk_180 0 156 (dk_at dksX0_dawn_0 7 rfl rfl)
theorem dX0_dawn_10 : decode cX0_dawn 10 = .ok (.istore_n 1, 1) := dk_60 (dk_at dksX0_dawn_0 10 rfl rfl)
theorem dX0_dawn_11 : decode cX0_dawn 11 = .ok (.aload_n 0, 1) := dk_42 (dk_at dksX0_dawn_0 11 rfl rfl)
theorem dX0_dawn_12 : decode cX0_dawn 12 = .ok (.getfield 10, 3) := dk_180 0 10 (dk_at dksX0_dawn_0 12 rfl rfl)
theorem dX0_dawn_15 : decode cX0_dawn 15 = .ok (.getfield 127, 3) := dk_180 0 127 (dk_at dksX0_dawn_0 15 rfl rfl)
theorem dX0_dawn_18 : decode cX0_dawn 18 = .ok (.iconst 0, 1) := dk_3 (dk_at dksX0_dawn_0 18 rfl rfl)
theorem dX0_dawn_19 : decode cX0_dawn 19 = .ok (.putfield 156, 3) := dk_181 0 156 (dk_at dksX0_dawn_0 19 rfl rfl)
theorem dX0_dawn_22 : decode cX0_dawn 22 = .ok (.aload_n 0, 1) := dk_42 (dk_at dksX0_dawn_0 22 rfl rfl)
theorem dX0_dawn_23 : decode cX0_dawn 23 = .ok (.getfield 10, 3) := dk_180 0 10 (dk_at dksX0_dawn_1 0 rfl rfl)
theorem dX0_dawn_26 : decode cX0_dawn 26 = .ok (.getfield 127, 3) := dk_180 0 127 (dk_at dksX0_dawn_1 3 rfl rfl)
theorem dX0_dawn_29 : decode cX0_dawn 29 = .ok (.iconst 0, 1) := dk_3 (dk_at dksX0_dawn_1 6 rfl rfl)
theorem dX0_dawn_30 : decode cX0_dawn 30 = .ok (.putfield 147, 3) := dk_181 0 147 (dk_at dksX0_dawn_1 7 rfl rfl)
theorem dX0_dawn_33 : decode cX0_dawn 33 = .ok (.aload_n 0, 1) := dk_42 (dk_at dksX0_dawn_1 10 rfl rfl)
theorem dX0_dawn_34 : decode cX0_dawn 34 = .ok (.getfield 10, 3) := dk_180 0 10 (dk_at dksX0_dawn_1 11 rfl rfl)
theorem dX0_dawn_37 : decode cX0_dawn 37 = .ok (.getfield 118, 3) := dk_180 0 118 (dk_at dksX0_dawn_1 14 rfl rfl)
theorem dX0_dawn_40 : decode cX0_dawn 40 = .ok (.iconst 0, 1) := dk_3 (dk_at dksX0_dawn_1 17 rfl rfl)
theorem dX0_dawn_41 : decode cX0_dawn 41 = .ok (.aload_n 0, 1) := dk_42 (dk_at dksX0_dawn_1 18 rfl rfl)
theorem dX0_dawn_42 : decode cX0_dawn 42 = .ok (.getfield 10, 3) := dk_180 0 10 (dk_at dksX0_dawn_1 19 rfl rfl)
theorem dX0_dawn_45 : decode cX0_dawn 45 = .ok (.getfield 127, 3) := dk_180 0 127 (dk_at dksX0_dawn_2 0 rfl rfl)
theorem dX0_dawn_48 : decode cX0_dawn 48 = .ok (.getfield 130, 3) := dk_180 0 130 (dk_at dksX0_dawn_2 3 rfl rfl)
theorem dX0_dawn_51 : decode cX0_dawn 51 = .ok (.iconst 0, 1) := dk_3 (dk_at dksX0_dawn_2 6 rfl rfl)
theorem dX0_dawn_52 : decode cX0_dawn 52 = .ok (.aload_n 0, 1) := dk_42 (dk_at dksX0_dawn_2 7 rfl rfl)
theorem dX0_dawn_53 : decode cX0_dawn 53 = .ok (.getfield 10, 3) := dk_180 0 10 (dk_at dksX0_dawn_2 8 rfl rfl)
theorem dX0_dawn_56 : decode cX0_dawn 56 = .ok (.getfield 107, 3) := dk_180 0 107 (dk_at dksX0_dawn_2 11 rfl rfl)
theorem dX0_dawn_59 : decode cX0_dawn 59 = .ok (.invokestatic 159, 3) := dk_184 0 159 (dk_at dksX0_dawn_2 14 rfl rfl)
theorem dX0_dawn_62 : decode cX0_dawn 62 = .ok (.iload_n 1, 1) := dk_27 (dk_at dksX0_dawn_2 17 rfl rfl)
theorem dX0_dawn_63 : decode cX0_dawn 63 = .ok (.ireturn, 1) := dk_172 (dk_at dksX0_dawn_2 18 rfl rfl)
abbrev cX0_does : ByteArray := prog_1_method_14_code
def yX0_does : MethodName := ⟨RX0, "does", "(I)I"⟩
def dkwX0_does_2 : List UInt8 := [180, 0, 10, 180, 0, 127, 180, 0, 156, 172]
abbrev dktX0_does_2 : List UInt8 := dkwX0_does_2 ++ []
def dkwX0_does_1 : List UInt8 := [154, 0, 6, 16, 252, 172, 42, 180, 0, 10, 42, 180, 0, 10, 180, 0, 127, 27, 182, 0, 172, 42]
abbrev dktX0_does_1 : List UInt8 := dkwX0_does_1 ++ dktX0_does_2
def dkwX0_does_0 : List UInt8 := [27, 184, 0, 165, 154, 0, 5, 2, 172, 42, 180, 0, 10, 42, 180, 0, 10, 180, 0, 127, 27, 182, 0, 168]
abbrev dktX0_does_0 : List UInt8 := dkwX0_does_0 ++ dktX0_does_1
theorem dksX0_does_0 : cX0_does.data.toList.drop 0 = dktX0_does_0 := by decide +kernel
theorem dksX0_does_1 : cX0_does.data.toList.drop 24 = dktX0_does_1 := dk_seg dksX0_does_0 24 rfl rfl
theorem dksX0_does_2 : cX0_does.data.toList.drop 46 = dktX0_does_2 := dk_seg dksX0_does_1 22 rfl rfl
theorem dX0_does_0 : decode cX0_does 0 = .ok (.iload_n 1, 1) := dk_27 (dk_at dksX0_does_0 0 rfl rfl)
theorem dX0_does_1 : decode cX0_does 1 = .ok (.invokestatic 165, 3) := dk_184 0 165 (dk_at dksX0_does_0 1 rfl rfl)
theorem dX0_does_4 : decode cX0_does 4 = .ok (.ifCond .ne 5, 3) := dk_154 0 5 (dk_at dksX0_does_0 4 rfl rfl)
theorem dX0_does_7 : decode cX0_does 7 = .ok (.iconst (-1), 1) := dk_2 (dk_at dksX0_does_0 7 rfl rfl)
theorem dX0_does_8 : decode cX0_does 8 = .ok (.ireturn, 1) := dk_172 (dk_at dksX0_does_0 8 rfl rfl)
theorem dX0_does_9 : decode cX0_does 9 = .ok (.aload_n 0, 1) := dk_42 (dk_at dksX0_does_0 9 rfl rfl)
theorem dX0_does_10 : decode cX0_does 10 = .ok (.getfield 10, 3) := dk_180 0 10 (dk_at dksX0_does_0 10 rfl rfl)
theorem dX0_does_13 : decode cX0_does 13 = .ok (.aload_n 0, 1) := dk_42 (dk_at dksX0_does_0 13 rfl rfl)
theorem dX0_does_14 : decode cX0_does 14 = .ok (.getfield 10, 3) := dk_180 0 10 (dk_at dksX0_does_0 14 rfl rfl)
theorem dX0_does_17 : decode cX0_does 17 = .ok (.getfield 127, 3) := dk_180 0 127 (dk_at dksX0_does_0 17 rfl rfl)
theorem dX0_does_20 : decode cX0_does 20 = .ok (.iload_n 1, 1) := dk_27 (dk_at dksX0_does_0 20 rfl rfl)
theorem dX0_does_21 : decode cX0_does 21 = .ok (.invokevirtual 168, 3) := dk_182 0 168 (dk_at dksX0_does_0 21 rfl rfl)
theorem dX0_does_24 : decode cX0_does 24 = .ok (.ifCond .ne 6, 3) := dk_154 0 6 (dk_at dksX0_does_1 0 rfl rfl)
theorem dX0_does_27 : decode cX0_does 27 = .ok (.bipush (-4), 2) := dk_16 252 (dk_at dksX0_does_1 3 rfl rfl)
theorem dX0_does_29 : decode cX0_does 29 = .ok (.ireturn, 1) := dk_172 (dk_at dksX0_does_1 5 rfl rfl)
theorem dX0_does_30 : decode cX0_does 30 = .ok (.aload_n 0, 1) := dk_42 (dk_at dksX0_does_1 6 rfl rfl)
theorem dX0_does_31 : decode cX0_does 31 = .ok (.getfield 10, 3) := dk_180 0 10 (dk_at dksX0_does_1 7 rfl rfl)
theorem dX0_does_34 : decode cX0_does 34 = .ok (.aload_n 0, 1) := dk_42 (dk_at dksX0_does_1 10 rfl rfl)
theorem dX0_does_35 : decode cX0_does 35 = .ok (.getfield 10, 3) := dk_180 0 10 (dk_at dksX0_does_1 11 rfl rfl)
theorem dX0_does_38 : decode cX0_does 38 = .ok (.getfield 127, 3) := dk_180 0 127 (dk_at dksX0_does_1 14 rfl rfl)
theorem dX0_does_41 : decode cX0_does 41 = .ok (.iload_n 1, 1) := dk_27 (dk_at dksX0_does_1 17 rfl rfl)
theorem dX0_does_42 : decode cX0_does 42 = .ok (.invokevirtual 172, 3) := dk_182 0 172 (dk_at dksX0_does_1 18 rfl rfl)
theorem dX0_does_45 : decode cX0_does 45 = .ok (.aload_n 0, 1) := dk_42 (dk_at dksX0_does_1 21 rfl rfl)
theorem dX0_does_46 : decode cX0_does 46 = .ok (.getfield 10, 3) := dk_180 0 10 (dk_at dksX0_does_2 0 rfl rfl)
theorem dX0_does_49 : decode cX0_does 49 = .ok (.getfield 127, 3) := dk_180 0 127 (dk_at dksX0_does_2 3 rfl rfl)
theorem dX0_does_52 : decode cX0_does 52 = .ok (.getfield 156, 3) := dk_180 0 156 (dk_at dksX0_does_2 6 rfl rfl)
theorem dX0_does_55 : decode cX0_does 55 = .ok (.ireturn, 1) := dk_172 (dk_at dksX0_does_2 9 rfl rfl)
abbrev cX0_isAct : ByteArray := prog_1_method_5_code
def yX0_isAct : MethodName := ⟨RX0, "isAct", "(I)Z"⟩
def dkwX0_isAct_0 : List UInt8 := [26, 2, 6, 184, 0, 111, 172]
abbrev dktX0_isAct_0 : List UInt8 := dkwX0_isAct_0 ++ []
theorem dksX0_isAct_0 : cX0_isAct.data.toList.drop 0 = dktX0_isAct_0 := by decide +kernel
theorem dX0_isAct_0 : decode cX0_isAct 0 = .ok (.iload_n 0, 1) := dk_26 (dk_at dksX0_isAct_0 0 rfl rfl)
theorem dX0_isAct_1 : decode cX0_isAct 1 = .ok (.iconst (-1), 1) := dk_2 (dk_at dksX0_isAct_0 1 rfl rfl)
theorem dX0_isAct_2 : decode cX0_isAct 2 = .ok (.iconst 3, 1) := dk_6 (dk_at dksX0_isAct_0 2 rfl rfl)
theorem dX0_isAct_3 : decode cX0_isAct 3 = .ok (.invokestatic 111, 3) := dk_184 0 111 (dk_at dksX0_isAct_0 3 rfl rfl)
theorem dX0_isAct_6 : decode cX0_isAct 6 = .ok (.ireturn, 1) := dk_172 (dk_at dksX0_isAct_0 6 rfl rfl)
abbrev cX0_best : ByteArray := prog_1_method_15_code
def yX0_best : MethodName := ⟨RX0, "best", "()I"⟩
def dkwX0_best_0 : List UInt8 := [42, 180, 0, 24, 42, 180, 0, 10, 180, 0, 127, 182, 0, 176, 172]
abbrev dktX0_best_0 : List UInt8 := dkwX0_best_0 ++ []
theorem dksX0_best_0 : cX0_best.data.toList.drop 0 = dktX0_best_0 := by decide +kernel
theorem dX0_best_0 : decode cX0_best 0 = .ok (.aload_n 0, 1) := dk_42 (dk_at dksX0_best_0 0 rfl rfl)
theorem dX0_best_1 : decode cX0_best 1 = .ok (.getfield 24, 3) := dk_180 0 24 (dk_at dksX0_best_0 1 rfl rfl)
theorem dX0_best_4 : decode cX0_best 4 = .ok (.aload_n 0, 1) := dk_42 (dk_at dksX0_best_0 4 rfl rfl)
theorem dX0_best_5 : decode cX0_best 5 = .ok (.getfield 10, 3) := dk_180 0 10 (dk_at dksX0_best_0 5 rfl rfl)
theorem dX0_best_8 : decode cX0_best 8 = .ok (.getfield 127, 3) := dk_180 0 127 (dk_at dksX0_best_0 8 rfl rfl)
theorem dX0_best_11 : decode cX0_best 11 = .ok (.invokevirtual 176, 3) := dk_182 0 176 (dk_at dksX0_best_0 11 rfl rfl)
theorem dX0_best_14 : decode cX0_best 14 = .ok (.ireturn, 1) := dk_172 (dk_at dksX0_best_0 14 rfl rfl)
abbrev cX0_first : ByteArray := prog_1_method_16_code
def yX0_first : MethodName := ⟨RX0, "first", "()I"⟩
def dkwX0_first_0 : List UInt8 := [42, 180, 0, 24, 42, 180, 0, 10, 180, 0, 127, 182, 0, 180, 172]
abbrev dktX0_first_0 : List UInt8 := dkwX0_first_0 ++ []
theorem dksX0_first_0 : cX0_first.data.toList.drop 0 = dktX0_first_0 := by decide +kernel
theorem dX0_first_0 : decode cX0_first 0 = .ok (.aload_n 0, 1) := dk_42 (dk_at dksX0_first_0 0 rfl rfl)
theorem dX0_first_1 : decode cX0_first 1 = .ok (.getfield 24, 3) := dk_180 0 24 (dk_at dksX0_first_0 1 rfl rfl)
theorem dX0_first_4 : decode cX0_first 4 = .ok (.aload_n 0, 1) := dk_42 (dk_at dksX0_first_0 4 rfl rfl)
theorem dX0_first_5 : decode cX0_first 5 = .ok (.getfield 10, 3) := dk_180 0 10 (dk_at dksX0_first_0 5 rfl rfl)
theorem dX0_first_8 : decode cX0_first 8 = .ok (.getfield 127, 3) := dk_180 0 127 (dk_at dksX0_first_0 8 rfl rfl)
theorem dX0_first_11 : decode cX0_first 11 = .ok (.invokevirtual 180, 3) := dk_182 0 180 (dk_at dksX0_first_0 11 rfl rfl)
theorem dX0_first_14 : decode cX0_first 14 = .ok (.ireturn, 1) := dk_172 (dk_at dksX0_first_0 14 rfl rfl)
abbrev cX0_with : ByteArray := prog_1_method_17_code
def yX0_with : MethodName := ⟨RX0, "with", "(I)I"⟩
def dkwX0_with_1 : List UInt8 := [61, 28, 156, 0, 8, 16, 252, 167, 0, 4, 28, 172]
abbrev dktX0_with_1 : List UInt8 := dkwX0_with_1 ++ []
def dkwX0_with_0 : List UInt8 := [27, 184, 0, 165, 154, 0, 5, 2, 172, 42, 180, 0, 24, 42, 180, 0, 10, 180, 0, 127, 27, 182, 0, 183]
abbrev dktX0_with_0 : List UInt8 := dkwX0_with_0 ++ dktX0_with_1
theorem dksX0_with_0 : cX0_with.data.toList.drop 0 = dktX0_with_0 := by decide +kernel
theorem dksX0_with_1 : cX0_with.data.toList.drop 24 = dktX0_with_1 := dk_seg dksX0_with_0 24 rfl rfl
theorem dX0_with_0 : decode cX0_with 0 = .ok (.iload_n 1, 1) := dk_27 (dk_at dksX0_with_0 0 rfl rfl)
theorem dX0_with_1 : decode cX0_with 1 = .ok (.invokestatic 165, 3) := dk_184 0 165 (dk_at dksX0_with_0 1 rfl rfl)
theorem dX0_with_4 : decode cX0_with 4 = .ok (.ifCond .ne 5, 3) := dk_154 0 5 (dk_at dksX0_with_0 4 rfl rfl)
theorem dX0_with_7 : decode cX0_with 7 = .ok (.iconst (-1), 1) := dk_2 (dk_at dksX0_with_0 7 rfl rfl)
theorem dX0_with_8 : decode cX0_with 8 = .ok (.ireturn, 1) := dk_172 (dk_at dksX0_with_0 8 rfl rfl)
theorem dX0_with_9 : decode cX0_with 9 = .ok (.aload_n 0, 1) := dk_42 (dk_at dksX0_with_0 9 rfl rfl)
theorem dX0_with_10 : decode cX0_with 10 = .ok (.getfield 24, 3) := dk_180 0 24 (dk_at dksX0_with_0 10 rfl rfl)
theorem dX0_with_13 : decode cX0_with 13 = .ok (.aload_n 0, 1) := dk_42 (dk_at dksX0_with_0 13 rfl rfl)
theorem dX0_with_14 : decode cX0_with 14 = .ok (.getfield 10, 3) := dk_180 0 10 (dk_at dksX0_with_0 14 rfl rfl)
theorem dX0_with_17 : decode cX0_with 17 = .ok (.getfield 127, 3) := dk_180 0 127 (dk_at dksX0_with_0 17 rfl rfl)
theorem dX0_with_20 : decode cX0_with 20 = .ok (.iload_n 1, 1) := dk_27 (dk_at dksX0_with_0 20 rfl rfl)
theorem dX0_with_21 : decode cX0_with 21 = .ok (.invokevirtual 183, 3) := dk_182 0 183 (dk_at dksX0_with_0 21 rfl rfl)
theorem dX0_with_24 : decode cX0_with 24 = .ok (.istore_n 2, 1) := dk_61 (dk_at dksX0_with_1 0 rfl rfl)
theorem dX0_with_25 : decode cX0_with 25 = .ok (.iload_n 2, 1) := dk_28 (dk_at dksX0_with_1 1 rfl rfl)
theorem dX0_with_26 : decode cX0_with 26 = .ok (.ifCond .ge 8, 3) := dk_156 0 8 (dk_at dksX0_with_1 2 rfl rfl)
theorem dX0_with_29 : decode cX0_with 29 = .ok (.bipush (-4), 2) := dk_16 252 (dk_at dksX0_with_1 5 rfl rfl)
theorem dX0_with_31 : decode cX0_with 31 = .ok (.goto 4, 3) := dk_167 0 4 (dk_at dksX0_with_1 7 rfl rfl)
theorem dX0_with_34 : decode cX0_with 34 = .ok (.iload_n 2, 1) := dk_28 (dk_at dksX0_with_1 10 rfl rfl)
theorem dX0_with_35 : decode cX0_with 35 = .ok (.ireturn, 1) := dk_172 (dk_at dksX0_with_1 11 rfl rfl)
abbrev cX0_journey : ByteArray := prog_1_method_19_code
def yX0_journey : MethodName := ⟨RX0, "journey", "(I)I"⟩
def dkwX0_journey_1 : List UInt8 := [27, 181, 0, 186, 28, 172]
abbrev dktX0_journey_1 : List UInt8 := dkwX0_journey_1 ++ []
def dkwX0_journey_0 : List UInt8 := [27, 4, 16, 60, 184, 0, 111, 154, 0, 5, 2, 172, 42, 180, 0, 10, 180, 0, 186, 61, 42, 180, 0, 10]
abbrev dktX0_journey_0 : List UInt8 := dkwX0_journey_0 ++ dktX0_journey_1
theorem dksX0_journey_0 : cX0_journey.data.toList.drop 0 = dktX0_journey_0 := by decide +kernel
theorem dksX0_journey_1 : cX0_journey.data.toList.drop 24 = dktX0_journey_1 := dk_seg dksX0_journey_0 24 rfl rfl
theorem dX0_journey_0 : decode cX0_journey 0 = .ok (.iload_n 1, 1) := dk_27 (dk_at dksX0_journey_0 0 rfl rfl)
theorem dX0_journey_1 : decode cX0_journey 1 = .ok (.iconst 1, 1) := dk_4 (dk_at dksX0_journey_0 1 rfl rfl)
theorem dX0_journey_2 : decode cX0_journey 2 = .ok (.bipush 60, 2) := dk_16 60 (dk_at dksX0_journey_0 2 rfl rfl)
theorem dX0_journey_4 : decode cX0_journey 4 = .ok (.invokestatic 111, 3) := dk_184 0 111 (dk_at dksX0_journey_0 4 rfl rfl)
theorem dX0_journey_7 : decode cX0_journey 7 = .ok (.ifCond .ne 5, 3) := dk_154 0 5 (dk_at dksX0_journey_0 7 rfl rfl)
theorem dX0_journey_10 : decode cX0_journey 10 = .ok (.iconst (-1), 1) := dk_2 (dk_at dksX0_journey_0 10 rfl rfl)
theorem dX0_journey_11 : decode cX0_journey 11 = .ok (.ireturn, 1) := dk_172 (dk_at dksX0_journey_0 11 rfl rfl)
theorem dX0_journey_12 : decode cX0_journey 12 = .ok (.aload_n 0, 1) := dk_42 (dk_at dksX0_journey_0 12 rfl rfl)
theorem dX0_journey_13 : decode cX0_journey 13 = .ok (.getfield 10, 3) := dk_180 0 10 (dk_at dksX0_journey_0 13 rfl rfl)
theorem dX0_journey_16 : decode cX0_journey 16 = .ok (.getfield 186, 3) := dk_180 0 186 (dk_at dksX0_journey_0 16 rfl rfl)
theorem dX0_journey_19 : decode cX0_journey 19 = .ok (.istore_n 2, 1) := dk_61 (dk_at dksX0_journey_0 19 rfl rfl)
theorem dX0_journey_20 : decode cX0_journey 20 = .ok (.aload_n 0, 1) := dk_42 (dk_at dksX0_journey_0 20 rfl rfl)
theorem dX0_journey_21 : decode cX0_journey 21 = .ok (.getfield 10, 3) := dk_180 0 10 (dk_at dksX0_journey_0 21 rfl rfl)
theorem dX0_journey_24 : decode cX0_journey 24 = .ok (.iload_n 1, 1) := dk_27 (dk_at dksX0_journey_1 0 rfl rfl)
theorem dX0_journey_25 : decode cX0_journey 25 = .ok (.putfield 186, 3) := dk_181 0 186 (dk_at dksX0_journey_1 1 rfl rfl)
theorem dX0_journey_28 : decode cX0_journey 28 = .ok (.iload_n 2, 1) := dk_28 (dk_at dksX0_journey_1 4 rfl rfl)
theorem dX0_journey_29 : decode cX0_journey 29 = .ok (.ireturn, 1) := dk_172 (dk_at dksX0_journey_1 5 rfl rfl)
abbrev cX0_rate : ByteArray := prog_1_method_21_code
def yX0_rate : MethodName := ⟨RX0, "rate", "(I)I"⟩
def dkwX0_rate_3 : List UInt8 := [180, 0, 31, 180, 0, 195, 28, 108, 172]
abbrev dktX0_rate_3 : List UInt8 := dkwX0_rate_3 ++ []
def dkwX0_rate_2 : List UInt8 := [184, 0, 198, 136, 61, 27, 154, 0, 15, 42, 180, 0, 31, 180, 0, 192, 28, 108, 167, 0, 12, 42]
abbrev dktX0_rate_2 : List UInt8 := dkwX0_rate_2 ++ dktX0_rate_3
def dkwX0_rate_1 : List UInt8 := [42, 180, 0, 31, 182, 0, 189, 42, 180, 0, 31, 180, 0, 192, 133, 42, 180, 0, 31, 180, 0, 195, 133]
abbrev dktX0_rate_1 : List UInt8 := dkwX0_rate_1 ++ dktX0_rate_2
def dkwX0_rate_0 : List UInt8 := [27, 3, 4, 184, 0, 111, 154, 0, 5, 2, 172, 42, 180, 0, 10, 180, 0, 107, 154, 0, 6, 16, 253, 172]
abbrev dktX0_rate_0 : List UInt8 := dkwX0_rate_0 ++ dktX0_rate_1
theorem dksX0_rate_0 : cX0_rate.data.toList.drop 0 = dktX0_rate_0 := by decide +kernel
theorem dksX0_rate_1 : cX0_rate.data.toList.drop 24 = dktX0_rate_1 := dk_seg dksX0_rate_0 24 rfl rfl
theorem dksX0_rate_2 : cX0_rate.data.toList.drop 47 = dktX0_rate_2 := dk_seg dksX0_rate_1 23 rfl rfl
theorem dksX0_rate_3 : cX0_rate.data.toList.drop 69 = dktX0_rate_3 := dk_seg dksX0_rate_2 22 rfl rfl
theorem dX0_rate_0 : decode cX0_rate 0 = .ok (.iload_n 1, 1) := dk_27 (dk_at dksX0_rate_0 0 rfl rfl)
theorem dX0_rate_1 : decode cX0_rate 1 = .ok (.iconst 0, 1) := dk_3 (dk_at dksX0_rate_0 1 rfl rfl)
theorem dX0_rate_2 : decode cX0_rate 2 = .ok (.iconst 1, 1) := dk_4 (dk_at dksX0_rate_0 2 rfl rfl)
theorem dX0_rate_3 : decode cX0_rate 3 = .ok (.invokestatic 111, 3) := dk_184 0 111 (dk_at dksX0_rate_0 3 rfl rfl)
theorem dX0_rate_6 : decode cX0_rate 6 = .ok (.ifCond .ne 5, 3) := dk_154 0 5 (dk_at dksX0_rate_0 6 rfl rfl)
theorem dX0_rate_9 : decode cX0_rate 9 = .ok (.iconst (-1), 1) := dk_2 (dk_at dksX0_rate_0 9 rfl rfl)
theorem dX0_rate_10 : decode cX0_rate 10 = .ok (.ireturn, 1) := dk_172 (dk_at dksX0_rate_0 10 rfl rfl)
theorem dX0_rate_11 : decode cX0_rate 11 = .ok (.aload_n 0, 1) := dk_42 (dk_at dksX0_rate_0 11 rfl rfl)
theorem dX0_rate_12 : decode cX0_rate 12 = .ok (.getfield 10, 3) := dk_180 0 10 (dk_at dksX0_rate_0 12 rfl rfl)
theorem dX0_rate_15 : decode cX0_rate 15 = .ok (.getfield 107, 3) := dk_180 0 107 (dk_at dksX0_rate_0 15 rfl rfl)
theorem dX0_rate_18 : decode cX0_rate 18 = .ok (.ifCond .ne 6, 3) := dk_154 0 6 (dk_at dksX0_rate_0 18 rfl rfl)
theorem dX0_rate_21 : decode cX0_rate 21 = .ok (.bipush (-3), 2) := dk_16 253 (dk_at dksX0_rate_0 21 rfl rfl)
theorem dX0_rate_23 : decode cX0_rate 23 = .ok (.ireturn, 1) := dk_172 (dk_at dksX0_rate_0 23 rfl rfl)
theorem dX0_rate_24 : decode cX0_rate 24 = .ok (.aload_n 0, 1) := dk_42 (dk_at dksX0_rate_1 0 rfl rfl)
theorem dX0_rate_25 : decode cX0_rate 25 = .ok (.getfield 31, 3) := dk_180 0 31 (dk_at dksX0_rate_1 1 rfl rfl)
theorem dX0_rate_28 : decode cX0_rate 28 = .ok (.invokevirtual 189, 3) := dk_182 0 189 (dk_at dksX0_rate_1 4 rfl rfl)
theorem dX0_rate_31 : decode cX0_rate 31 = .ok (.aload_n 0, 1) := dk_42 (dk_at dksX0_rate_1 7 rfl rfl)
theorem dX0_rate_32 : decode cX0_rate 32 = .ok (.getfield 31, 3) := dk_180 0 31 (dk_at dksX0_rate_1 8 rfl rfl)
theorem dX0_rate_35 : decode cX0_rate 35 = .ok (.getfield 192, 3) := dk_180 0 192 (dk_at dksX0_rate_1 11 rfl rfl)
theorem dX0_rate_38 : decode cX0_rate 38 = .ok (.i2l, 1) := dk_133 (dk_at dksX0_rate_1 14 rfl rfl)
theorem dX0_rate_39 : decode cX0_rate 39 = .ok (.aload_n 0, 1) := dk_42 (dk_at dksX0_rate_1 15 rfl rfl)
theorem dX0_rate_40 : decode cX0_rate 40 = .ok (.getfield 31, 3) := dk_180 0 31 (dk_at dksX0_rate_1 16 rfl rfl)
theorem dX0_rate_43 : decode cX0_rate 43 = .ok (.getfield 195, 3) := dk_180 0 195 (dk_at dksX0_rate_1 19 rfl rfl)
theorem dX0_rate_46 : decode cX0_rate 46 = .ok (.i2l, 1) := dk_133 (dk_at dksX0_rate_1 22 rfl rfl)
theorem dX0_rate_47 : decode cX0_rate 47 = .ok (.invokestatic 198, 3) := dk_184 0 198 (dk_at dksX0_rate_2 0 rfl rfl)
theorem dX0_rate_50 : decode cX0_rate 50 = .ok (.l2i, 1) := dk_136 (dk_at dksX0_rate_2 3 rfl rfl)
theorem dX0_rate_51 : decode cX0_rate 51 = .ok (.istore_n 2, 1) := dk_61 (dk_at dksX0_rate_2 4 rfl rfl)
theorem dX0_rate_52 : decode cX0_rate 52 = .ok (.iload_n 1, 1) := dk_27 (dk_at dksX0_rate_2 5 rfl rfl)
theorem dX0_rate_53 : decode cX0_rate 53 = .ok (.ifCond .ne 15, 3) := dk_154 0 15 (dk_at dksX0_rate_2 6 rfl rfl)
theorem dX0_rate_56 : decode cX0_rate 56 = .ok (.aload_n 0, 1) := dk_42 (dk_at dksX0_rate_2 9 rfl rfl)
theorem dX0_rate_57 : decode cX0_rate 57 = .ok (.getfield 31, 3) := dk_180 0 31 (dk_at dksX0_rate_2 10 rfl rfl)
theorem dX0_rate_60 : decode cX0_rate 60 = .ok (.getfield 192, 3) := dk_180 0 192 (dk_at dksX0_rate_2 13 rfl rfl)
theorem dX0_rate_63 : decode cX0_rate 63 = .ok (.iload_n 2, 1) := dk_28 (dk_at dksX0_rate_2 16 rfl rfl)
theorem dX0_rate_64 : decode cX0_rate 64 = .ok (.idiv, 1) := dk_108 (dk_at dksX0_rate_2 17 rfl rfl)
theorem dX0_rate_65 : decode cX0_rate 65 = .ok (.goto 12, 3) := dk_167 0 12 (dk_at dksX0_rate_2 18 rfl rfl)
theorem dX0_rate_68 : decode cX0_rate 68 = .ok (.aload_n 0, 1) := dk_42 (dk_at dksX0_rate_2 21 rfl rfl)
theorem dX0_rate_69 : decode cX0_rate 69 = .ok (.getfield 31, 3) := dk_180 0 31 (dk_at dksX0_rate_3 0 rfl rfl)
theorem dX0_rate_72 : decode cX0_rate 72 = .ok (.getfield 195, 3) := dk_180 0 195 (dk_at dksX0_rate_3 3 rfl rfl)
theorem dX0_rate_75 : decode cX0_rate 75 = .ok (.iload_n 2, 1) := dk_28 (dk_at dksX0_rate_3 6 rfl rfl)
theorem dX0_rate_76 : decode cX0_rate 76 = .ok (.idiv, 1) := dk_108 (dk_at dksX0_rate_3 7 rfl rfl)
theorem dX0_rate_77 : decode cX0_rate 77 = .ok (.ireturn, 1) := dk_172 (dk_at dksX0_rate_3 8 rfl rfl)
abbrev cX0_broughtIn : ByteArray := prog_1_method_20_code
def yX0_broughtIn : MethodName := ⟨RX0, "broughtIn", "(II)I"⟩
def dkwX0_broughtIn_1 : List UInt8 := [27, 46, 21, 4, 100, 182, 0, 140, 96, 62, 132, 4, 1, 167, 255, 224, 29, 172]
abbrev dktX0_broughtIn_1 : List UInt8 := dkwX0_broughtIn_1 ++ []
def dkwX0_broughtIn_0 : List UInt8 := [3, 62, 3, 54, 4, 21, 4, 28, 162, 0, 32, 29, 42, 180, 0, 10, 27, 42, 180, 0, 10, 180, 0, 118]
abbrev dktX0_broughtIn_0 : List UInt8 := dkwX0_broughtIn_0 ++ dktX0_broughtIn_1
theorem dksX0_broughtIn_0 : cX0_broughtIn.data.toList.drop 0 = dktX0_broughtIn_0 := by decide +kernel
theorem dksX0_broughtIn_1 : cX0_broughtIn.data.toList.drop 24 = dktX0_broughtIn_1 := dk_seg dksX0_broughtIn_0 24 rfl rfl
theorem dX0_broughtIn_0 : decode cX0_broughtIn 0 = .ok (.iconst 0, 1) := dk_3 (dk_at dksX0_broughtIn_0 0 rfl rfl)
theorem dX0_broughtIn_1 : decode cX0_broughtIn 1 = .ok (.istore_n 3, 1) := dk_62 (dk_at dksX0_broughtIn_0 1 rfl rfl)
theorem dX0_broughtIn_2 : decode cX0_broughtIn 2 = .ok (.iconst 0, 1) := dk_3 (dk_at dksX0_broughtIn_0 2 rfl rfl)
theorem dX0_broughtIn_3 : decode cX0_broughtIn 3 = .ok (.istore 4, 2) := dk_54 4 (dk_at dksX0_broughtIn_0 3 rfl rfl)
theorem dX0_broughtIn_5 : decode cX0_broughtIn 5 = .ok (.iload 4, 2) := dk_21 4 (dk_at dksX0_broughtIn_0 5 rfl rfl)
theorem dX0_broughtIn_7 : decode cX0_broughtIn 7 = .ok (.iload_n 2, 1) := dk_28 (dk_at dksX0_broughtIn_0 7 rfl rfl)
theorem dX0_broughtIn_8 : decode cX0_broughtIn 8 = .ok (.if_icmp .ge 32, 3) := dk_162 0 32 (dk_at dksX0_broughtIn_0 8 rfl rfl)
theorem dX0_broughtIn_11 : decode cX0_broughtIn 11 = .ok (.iload_n 3, 1) := dk_29 (dk_at dksX0_broughtIn_0 11 rfl rfl)
theorem dX0_broughtIn_12 : decode cX0_broughtIn 12 = .ok (.aload_n 0, 1) := dk_42 (dk_at dksX0_broughtIn_0 12 rfl rfl)
theorem dX0_broughtIn_13 : decode cX0_broughtIn 13 = .ok (.getfield 10, 3) := dk_180 0 10 (dk_at dksX0_broughtIn_0 13 rfl rfl)
theorem dX0_broughtIn_16 : decode cX0_broughtIn 16 = .ok (.iload_n 1, 1) := dk_27 (dk_at dksX0_broughtIn_0 16 rfl rfl)
theorem dX0_broughtIn_17 : decode cX0_broughtIn 17 = .ok (.aload_n 0, 1) := dk_42 (dk_at dksX0_broughtIn_0 17 rfl rfl)
theorem dX0_broughtIn_18 : decode cX0_broughtIn 18 = .ok (.getfield 10, 3) := dk_180 0 10 (dk_at dksX0_broughtIn_0 18 rfl rfl)
theorem dX0_broughtIn_21 : decode cX0_broughtIn 21 = .ok (.getfield 118, 3) := dk_180 0 118 (dk_at dksX0_broughtIn_0 21 rfl rfl)
theorem dX0_broughtIn_24 : decode cX0_broughtIn 24 = .ok (.iload_n 1, 1) := dk_27 (dk_at dksX0_broughtIn_1 0 rfl rfl)
theorem dX0_broughtIn_25 : decode cX0_broughtIn 25 = .ok (.iaload, 1) := dk_46 (dk_at dksX0_broughtIn_1 1 rfl rfl)
theorem dX0_broughtIn_26 : decode cX0_broughtIn 26 = .ok (.iload 4, 2) := dk_21 4 (dk_at dksX0_broughtIn_1 2 rfl rfl)
theorem dX0_broughtIn_28 : decode cX0_broughtIn 28 = .ok (.isub, 1) := dk_100 (dk_at dksX0_broughtIn_1 4 rfl rfl)
theorem dX0_broughtIn_29 : decode cX0_broughtIn 29 = .ok (.invokevirtual 140, 3) := dk_182 0 140 (dk_at dksX0_broughtIn_1 5 rfl rfl)
theorem dX0_broughtIn_32 : decode cX0_broughtIn 32 = .ok (.iadd, 1) := dk_96 (dk_at dksX0_broughtIn_1 8 rfl rfl)
theorem dX0_broughtIn_33 : decode cX0_broughtIn 33 = .ok (.istore_n 3, 1) := dk_62 (dk_at dksX0_broughtIn_1 9 rfl rfl)
theorem dX0_broughtIn_34 : decode cX0_broughtIn 34 = .ok (.iinc 4 1, 3) := dk_132 4 1 (dk_at dksX0_broughtIn_1 10 rfl rfl)
theorem dX0_broughtIn_37 : decode cX0_broughtIn 37 = .ok (.goto (-32), 3) := dk_167 255 224 (dk_at dksX0_broughtIn_1 13 rfl rfl)
theorem dX0_broughtIn_40 : decode cX0_broughtIn 40 = .ok (.iload_n 3, 1) := dk_29 (dk_at dksX0_broughtIn_1 16 rfl rfl)
theorem dX0_broughtIn_41 : decode cX0_broughtIn 41 = .ok (.ireturn, 1) := dk_172 (dk_at dksX0_broughtIn_1 17 rfl rfl)
abbrev cX0_divisor : ByteArray := prog_1_method_18_code
def yX0_divisor : MethodName := ⟨RX0, "divisor", "(JJ)J"⟩
def dkwX0_divisor_1 : List UInt8 := [22, 8, 55, 6, 167, 255, 234, 22, 4, 173]
abbrev dktX0_divisor_1 : List UInt8 := dkwX0_divisor_1 ++ []
def dkwX0_divisor_0 : List UInt8 := [30, 55, 4, 32, 55, 6, 22, 6, 9, 148, 153, 0, 21, 22, 4, 22, 6, 113, 55, 8, 22, 6, 55, 4]
abbrev dktX0_divisor_0 : List UInt8 := dkwX0_divisor_0 ++ dktX0_divisor_1
theorem dksX0_divisor_0 : cX0_divisor.data.toList.drop 0 = dktX0_divisor_0 := by decide +kernel
theorem dksX0_divisor_1 : cX0_divisor.data.toList.drop 24 = dktX0_divisor_1 := dk_seg dksX0_divisor_0 24 rfl rfl
theorem dX0_divisor_0 : decode cX0_divisor 0 = .ok (.lload_n 0, 1) := dk_30 (dk_at dksX0_divisor_0 0 rfl rfl)
theorem dX0_divisor_1 : decode cX0_divisor 1 = .ok (.lstore 4, 2) := dk_55 4 (dk_at dksX0_divisor_0 1 rfl rfl)
theorem dX0_divisor_3 : decode cX0_divisor 3 = .ok (.lload_n 2, 1) := dk_32 (dk_at dksX0_divisor_0 3 rfl rfl)
theorem dX0_divisor_4 : decode cX0_divisor 4 = .ok (.lstore 6, 2) := dk_55 6 (dk_at dksX0_divisor_0 4 rfl rfl)
theorem dX0_divisor_6 : decode cX0_divisor 6 = .ok (.lload 6, 2) := dk_22 6 (dk_at dksX0_divisor_0 6 rfl rfl)
theorem dX0_divisor_8 : decode cX0_divisor 8 = .ok (.lconst 0, 1) := dk_9 (dk_at dksX0_divisor_0 8 rfl rfl)
theorem dX0_divisor_9 : decode cX0_divisor 9 = .ok (.lcmp, 1) := dk_148 (dk_at dksX0_divisor_0 9 rfl rfl)
theorem dX0_divisor_10 : decode cX0_divisor 10 = .ok (.ifCond .eq 21, 3) := dk_153 0 21 (dk_at dksX0_divisor_0 10 rfl rfl)
theorem dX0_divisor_13 : decode cX0_divisor 13 = .ok (.lload 4, 2) := dk_22 4 (dk_at dksX0_divisor_0 13 rfl rfl)
theorem dX0_divisor_15 : decode cX0_divisor 15 = .ok (.lload 6, 2) := dk_22 6 (dk_at dksX0_divisor_0 15 rfl rfl)
theorem dX0_divisor_17 : decode cX0_divisor 17 = .ok (.lrem, 1) := dk_113 (dk_at dksX0_divisor_0 17 rfl rfl)
theorem dX0_divisor_18 : decode cX0_divisor 18 = .ok (.lstore 8, 2) := dk_55 8 (dk_at dksX0_divisor_0 18 rfl rfl)
theorem dX0_divisor_20 : decode cX0_divisor 20 = .ok (.lload 6, 2) := dk_22 6 (dk_at dksX0_divisor_0 20 rfl rfl)
theorem dX0_divisor_22 : decode cX0_divisor 22 = .ok (.lstore 4, 2) := dk_55 4 (dk_at dksX0_divisor_0 22 rfl rfl)
theorem dX0_divisor_24 : decode cX0_divisor 24 = .ok (.lload 8, 2) := dk_22 8 (dk_at dksX0_divisor_1 0 rfl rfl)
theorem dX0_divisor_26 : decode cX0_divisor 26 = .ok (.lstore 6, 2) := dk_55 6 (dk_at dksX0_divisor_1 2 rfl rfl)
theorem dX0_divisor_28 : decode cX0_divisor 28 = .ok (.goto (-22), 3) := dk_167 255 234 (dk_at dksX0_divisor_1 4 rfl rfl)
theorem dX0_divisor_31 : decode cX0_divisor 31 = .ok (.lload 4, 2) := dk_22 4 (dk_at dksX0_divisor_1 7 rfl rfl)
theorem dX0_divisor_33 : decode cX0_divisor 33 = .ok (.lreturn, 1) := dk_173 (dk_at dksX0_divisor_1 9 rfl rfl)
abbrev cX0_stay : ByteArray := prog_1_method_22_code
def yX0_stay : MethodName := ⟨RX0, "stay", "(I)I"⟩
def dkwX0_stay_1 : List UInt8 := [27, 46, 172]
abbrev dktX0_stay_1 : List UInt8 := dkwX0_stay_1 ++ []
def dkwX0_stay_0 : List UInt8 := [42, 27, 182, 0, 136, 154, 0, 5, 2, 172, 42, 180, 0, 31, 182, 0, 189, 42, 180, 0, 31, 180, 0, 202]
abbrev dktX0_stay_0 : List UInt8 := dkwX0_stay_0 ++ dktX0_stay_1
theorem dksX0_stay_0 : cX0_stay.data.toList.drop 0 = dktX0_stay_0 := by decide +kernel
theorem dksX0_stay_1 : cX0_stay.data.toList.drop 24 = dktX0_stay_1 := dk_seg dksX0_stay_0 24 rfl rfl
theorem dX0_stay_0 : decode cX0_stay 0 = .ok (.aload_n 0, 1) := dk_42 (dk_at dksX0_stay_0 0 rfl rfl)
theorem dX0_stay_1 : decode cX0_stay 1 = .ok (.iload_n 1, 1) := dk_27 (dk_at dksX0_stay_0 1 rfl rfl)
theorem dX0_stay_2 : decode cX0_stay 2 = .ok (.invokevirtual 136, 3) := dk_182 0 136 (dk_at dksX0_stay_0 2 rfl rfl)
theorem dX0_stay_5 : decode cX0_stay 5 = .ok (.ifCond .ne 5, 3) := dk_154 0 5 (dk_at dksX0_stay_0 5 rfl rfl)
theorem dX0_stay_8 : decode cX0_stay 8 = .ok (.iconst (-1), 1) := dk_2 (dk_at dksX0_stay_0 8 rfl rfl)
theorem dX0_stay_9 : decode cX0_stay 9 = .ok (.ireturn, 1) := dk_172 (dk_at dksX0_stay_0 9 rfl rfl)
theorem dX0_stay_10 : decode cX0_stay 10 = .ok (.aload_n 0, 1) := dk_42 (dk_at dksX0_stay_0 10 rfl rfl)
theorem dX0_stay_11 : decode cX0_stay 11 = .ok (.getfield 31, 3) := dk_180 0 31 (dk_at dksX0_stay_0 11 rfl rfl)
theorem dX0_stay_14 : decode cX0_stay 14 = .ok (.invokevirtual 189, 3) := dk_182 0 189 (dk_at dksX0_stay_0 14 rfl rfl)
theorem dX0_stay_17 : decode cX0_stay 17 = .ok (.aload_n 0, 1) := dk_42 (dk_at dksX0_stay_0 17 rfl rfl)
theorem dX0_stay_18 : decode cX0_stay 18 = .ok (.getfield 31, 3) := dk_180 0 31 (dk_at dksX0_stay_0 18 rfl rfl)
theorem dX0_stay_21 : decode cX0_stay 21 = .ok (.getfield 202, 3) := dk_180 0 202 (dk_at dksX0_stay_0 21 rfl rfl)
theorem dX0_stay_24 : decode cX0_stay 24 = .ok (.iload_n 1, 1) := dk_27 (dk_at dksX0_stay_1 0 rfl rfl)
theorem dX0_stay_25 : decode cX0_stay 25 = .ok (.iaload, 1) := dk_46 (dk_at dksX0_stay_1 1 rfl rfl)
theorem dX0_stay_26 : decode cX0_stay 26 = .ok (.ireturn, 1) := dk_172 (dk_at dksX0_stay_1 2 rfl rfl)
abbrev cX0_load : ByteArray := prog_1_method_23_code
def yX0_load : MethodName := ⟨RX0, "load", "(III)I"⟩
def dkwX0_load_6 : List UInt8 := [21, 5, 21, 7, 108, 167, 0, 8, 21, 6, 21, 7, 108, 172]
abbrev dktX0_load_6 : List UInt8 := dkwX0_load_6 ++ []
def dkwX0_load_5 : List UInt8 := [21, 6, 133, 184, 0, 198, 136, 54, 7, 29, 154, 0, 8, 21, 4, 167, 0, 21, 29, 4, 160, 0, 11]
abbrev dktX0_load_5 : List UInt8 := dkwX0_load_5 ++ dktX0_load_6
def dkwX0_load_4 : List UInt8 := [167, 255, 199, 42, 27, 21, 4, 182, 0, 205, 54, 5, 21, 4, 5, 28, 104, 96, 54, 6, 21, 5, 133]
abbrev dktX0_load_4 : List UInt8 := dkwX0_load_4 ++ dktX0_load_5
def dkwX0_load_3 : List UInt8 := [21, 5, 5, 28, 104, 96, 104, 164, 0, 8, 21, 5, 167, 0, 5, 21, 4, 54, 4, 132, 5, 1]
abbrev dktX0_load_3 : List UInt8 := dkwX0_load_3 ++ dktX0_load_4
def dkwX0_load_2 : List UInt8 := [163, 0, 49, 42, 27, 21, 5, 182, 0, 205, 21, 4, 5, 28, 104, 96, 104, 42, 27, 21, 4, 182, 0, 205]
abbrev dktX0_load_2 : List UInt8 := dkwX0_load_2 ++ dktX0_load_3
def dkwX0_load_1 : List UInt8 := [154, 0, 5, 2, 172, 4, 54, 4, 5, 54, 5, 21, 5, 42, 180, 0, 10, 180, 0, 118, 27, 46]
abbrev dktX0_load_1 : List UInt8 := dkwX0_load_1 ++ dktX0_load_2
def dkwX0_load_0 : List UInt8 := [42, 27, 182, 0, 136, 153, 0, 22, 28, 4, 16, 30, 184, 0, 111, 153, 0, 12, 29, 3, 5, 184, 0, 111]
abbrev dktX0_load_0 : List UInt8 := dkwX0_load_0 ++ dktX0_load_1
theorem dksX0_load_0 : cX0_load.data.toList.drop 0 = dktX0_load_0 := by decide +kernel
theorem dksX0_load_1 : cX0_load.data.toList.drop 24 = dktX0_load_1 := dk_seg dksX0_load_0 24 rfl rfl
theorem dksX0_load_2 : cX0_load.data.toList.drop 46 = dktX0_load_2 := dk_seg dksX0_load_1 22 rfl rfl
theorem dksX0_load_3 : cX0_load.data.toList.drop 70 = dktX0_load_3 := dk_seg dksX0_load_2 24 rfl rfl
theorem dksX0_load_4 : cX0_load.data.toList.drop 92 = dktX0_load_4 := dk_seg dksX0_load_3 22 rfl rfl
theorem dksX0_load_5 : cX0_load.data.toList.drop 115 = dktX0_load_5 := dk_seg dksX0_load_4 23 rfl rfl
theorem dksX0_load_6 : cX0_load.data.toList.drop 138 = dktX0_load_6 := dk_seg dksX0_load_5 23 rfl rfl
theorem dX0_load_0 : decode cX0_load 0 = .ok (.aload_n 0, 1) := dk_42 (dk_at dksX0_load_0 0 rfl rfl)
theorem dX0_load_1 : decode cX0_load 1 = .ok (.iload_n 1, 1) := dk_27 (dk_at dksX0_load_0 1 rfl rfl)
theorem dX0_load_2 : decode cX0_load 2 = .ok (.invokevirtual 136, 3) := dk_182 0 136 (dk_at dksX0_load_0 2 rfl rfl)
theorem dX0_load_5 : decode cX0_load 5 = .ok (.ifCond .eq 22, 3) := dk_153 0 22 (dk_at dksX0_load_0 5 rfl rfl)
theorem dX0_load_8 : decode cX0_load 8 = .ok (.iload_n 2, 1) := dk_28 (dk_at dksX0_load_0 8 rfl rfl)
theorem dX0_load_9 : decode cX0_load 9 = .ok (.iconst 1, 1) := dk_4 (dk_at dksX0_load_0 9 rfl rfl)
theorem dX0_load_10 : decode cX0_load 10 = .ok (.bipush 30, 2) := dk_16 30 (dk_at dksX0_load_0 10 rfl rfl)
theorem dX0_load_12 : decode cX0_load 12 = .ok (.invokestatic 111, 3) := dk_184 0 111 (dk_at dksX0_load_0 12 rfl rfl)
theorem dX0_load_15 : decode cX0_load 15 = .ok (.ifCond .eq 12, 3) := dk_153 0 12 (dk_at dksX0_load_0 15 rfl rfl)
theorem dX0_load_18 : decode cX0_load 18 = .ok (.iload_n 3, 1) := dk_29 (dk_at dksX0_load_0 18 rfl rfl)
theorem dX0_load_19 : decode cX0_load 19 = .ok (.iconst 0, 1) := dk_3 (dk_at dksX0_load_0 19 rfl rfl)
theorem dX0_load_20 : decode cX0_load 20 = .ok (.iconst 2, 1) := dk_5 (dk_at dksX0_load_0 20 rfl rfl)
theorem dX0_load_21 : decode cX0_load 21 = .ok (.invokestatic 111, 3) := dk_184 0 111 (dk_at dksX0_load_0 21 rfl rfl)
theorem dX0_load_24 : decode cX0_load 24 = .ok (.ifCond .ne 5, 3) := dk_154 0 5 (dk_at dksX0_load_1 0 rfl rfl)
theorem dX0_load_27 : decode cX0_load 27 = .ok (.iconst (-1), 1) := dk_2 (dk_at dksX0_load_1 3 rfl rfl)
theorem dX0_load_28 : decode cX0_load 28 = .ok (.ireturn, 1) := dk_172 (dk_at dksX0_load_1 4 rfl rfl)
theorem dX0_load_29 : decode cX0_load 29 = .ok (.iconst 1, 1) := dk_4 (dk_at dksX0_load_1 5 rfl rfl)
theorem dX0_load_30 : decode cX0_load 30 = .ok (.istore 4, 2) := dk_54 4 (dk_at dksX0_load_1 6 rfl rfl)
theorem dX0_load_32 : decode cX0_load 32 = .ok (.iconst 2, 1) := dk_5 (dk_at dksX0_load_1 8 rfl rfl)
theorem dX0_load_33 : decode cX0_load 33 = .ok (.istore 5, 2) := dk_54 5 (dk_at dksX0_load_1 9 rfl rfl)
theorem dX0_load_35 : decode cX0_load 35 = .ok (.iload 5, 2) := dk_21 5 (dk_at dksX0_load_1 11 rfl rfl)
theorem dX0_load_37 : decode cX0_load 37 = .ok (.aload_n 0, 1) := dk_42 (dk_at dksX0_load_1 13 rfl rfl)
theorem dX0_load_38 : decode cX0_load 38 = .ok (.getfield 10, 3) := dk_180 0 10 (dk_at dksX0_load_1 14 rfl rfl)
theorem dX0_load_41 : decode cX0_load 41 = .ok (.getfield 118, 3) := dk_180 0 118 (dk_at dksX0_load_1 17 rfl rfl)
theorem dX0_load_44 : decode cX0_load 44 = .ok (.iload_n 1, 1) := dk_27 (dk_at dksX0_load_1 20 rfl rfl)
theorem dX0_load_45 : decode cX0_load 45 = .ok (.iaload, 1) := dk_46 (dk_at dksX0_load_1 21 rfl rfl)
theorem dX0_load_46 : decode cX0_load 46 = .ok (.if_icmp .gt 49, 3) := dk_163 0 49 (dk_at dksX0_load_2 0 rfl rfl)
theorem dX0_load_49 : decode cX0_load 49 = .ok (.aload_n 0, 1) := dk_42 (dk_at dksX0_load_2 3 rfl rfl)
theorem dX0_load_50 : decode cX0_load 50 = .ok (.iload_n 1, 1) := dk_27 (dk_at dksX0_load_2 4 rfl rfl)
theorem dX0_load_51 : decode cX0_load 51 = .ok (.iload 5, 2) := dk_21 5 (dk_at dksX0_load_2 5 rfl rfl)
theorem dX0_load_53 : decode cX0_load 53 = .ok (.invokevirtual 205, 3) := dk_182 0 205 (dk_at dksX0_load_2 7 rfl rfl)
theorem dX0_load_56 : decode cX0_load 56 = .ok (.iload 4, 2) := dk_21 4 (dk_at dksX0_load_2 10 rfl rfl)
theorem dX0_load_58 : decode cX0_load 58 = .ok (.iconst 2, 1) := dk_5 (dk_at dksX0_load_2 12 rfl rfl)
theorem dX0_load_59 : decode cX0_load 59 = .ok (.iload_n 2, 1) := dk_28 (dk_at dksX0_load_2 13 rfl rfl)
theorem dX0_load_60 : decode cX0_load 60 = .ok (.imul, 1) := dk_104 (dk_at dksX0_load_2 14 rfl rfl)
theorem dX0_load_61 : decode cX0_load 61 = .ok (.iadd, 1) := dk_96 (dk_at dksX0_load_2 15 rfl rfl)
theorem dX0_load_62 : decode cX0_load 62 = .ok (.imul, 1) := dk_104 (dk_at dksX0_load_2 16 rfl rfl)
theorem dX0_load_63 : decode cX0_load 63 = .ok (.aload_n 0, 1) := dk_42 (dk_at dksX0_load_2 17 rfl rfl)
theorem dX0_load_64 : decode cX0_load 64 = .ok (.iload_n 1, 1) := dk_27 (dk_at dksX0_load_2 18 rfl rfl)
theorem dX0_load_65 : decode cX0_load 65 = .ok (.iload 4, 2) := dk_21 4 (dk_at dksX0_load_2 19 rfl rfl)
theorem dX0_load_67 : decode cX0_load 67 = .ok (.invokevirtual 205, 3) := dk_182 0 205 (dk_at dksX0_load_2 21 rfl rfl)
theorem dX0_load_70 : decode cX0_load 70 = .ok (.iload 5, 2) := dk_21 5 (dk_at dksX0_load_3 0 rfl rfl)
theorem dX0_load_72 : decode cX0_load 72 = .ok (.iconst 2, 1) := dk_5 (dk_at dksX0_load_3 2 rfl rfl)
theorem dX0_load_73 : decode cX0_load 73 = .ok (.iload_n 2, 1) := dk_28 (dk_at dksX0_load_3 3 rfl rfl)
theorem dX0_load_74 : decode cX0_load 74 = .ok (.imul, 1) := dk_104 (dk_at dksX0_load_3 4 rfl rfl)
theorem dX0_load_75 : decode cX0_load 75 = .ok (.iadd, 1) := dk_96 (dk_at dksX0_load_3 5 rfl rfl)
theorem dX0_load_76 : decode cX0_load 76 = .ok (.imul, 1) := dk_104 (dk_at dksX0_load_3 6 rfl rfl)
theorem dX0_load_77 : decode cX0_load 77 = .ok (.if_icmp .le 8, 3) := dk_164 0 8 (dk_at dksX0_load_3 7 rfl rfl)
theorem dX0_load_80 : decode cX0_load 80 = .ok (.iload 5, 2) := dk_21 5 (dk_at dksX0_load_3 10 rfl rfl)
theorem dX0_load_82 : decode cX0_load 82 = .ok (.goto 5, 3) := dk_167 0 5 (dk_at dksX0_load_3 12 rfl rfl)
theorem dX0_load_85 : decode cX0_load 85 = .ok (.iload 4, 2) := dk_21 4 (dk_at dksX0_load_3 15 rfl rfl)
theorem dX0_load_87 : decode cX0_load 87 = .ok (.istore 4, 2) := dk_54 4 (dk_at dksX0_load_3 17 rfl rfl)
theorem dX0_load_89 : decode cX0_load 89 = .ok (.iinc 5 1, 3) := dk_132 5 1 (dk_at dksX0_load_3 19 rfl rfl)
theorem dX0_load_92 : decode cX0_load 92 = .ok (.goto (-57), 3) := dk_167 255 199 (dk_at dksX0_load_4 0 rfl rfl)
theorem dX0_load_95 : decode cX0_load 95 = .ok (.aload_n 0, 1) := dk_42 (dk_at dksX0_load_4 3 rfl rfl)
theorem dX0_load_96 : decode cX0_load 96 = .ok (.iload_n 1, 1) := dk_27 (dk_at dksX0_load_4 4 rfl rfl)
theorem dX0_load_97 : decode cX0_load 97 = .ok (.iload 4, 2) := dk_21 4 (dk_at dksX0_load_4 5 rfl rfl)
theorem dX0_load_99 : decode cX0_load 99 = .ok (.invokevirtual 205, 3) := dk_182 0 205 (dk_at dksX0_load_4 7 rfl rfl)
theorem dX0_load_102 : decode cX0_load 102 = .ok (.istore 5, 2) := dk_54 5 (dk_at dksX0_load_4 10 rfl rfl)
theorem dX0_load_104 : decode cX0_load 104 = .ok (.iload 4, 2) := dk_21 4 (dk_at dksX0_load_4 12 rfl rfl)
theorem dX0_load_106 : decode cX0_load 106 = .ok (.iconst 2, 1) := dk_5 (dk_at dksX0_load_4 14 rfl rfl)
theorem dX0_load_107 : decode cX0_load 107 = .ok (.iload_n 2, 1) := dk_28 (dk_at dksX0_load_4 15 rfl rfl)
theorem dX0_load_108 : decode cX0_load 108 = .ok (.imul, 1) := dk_104 (dk_at dksX0_load_4 16 rfl rfl)
theorem dX0_load_109 : decode cX0_load 109 = .ok (.iadd, 1) := dk_96 (dk_at dksX0_load_4 17 rfl rfl)
theorem dX0_load_110 : decode cX0_load 110 = .ok (.istore 6, 2) := dk_54 6 (dk_at dksX0_load_4 18 rfl rfl)
theorem dX0_load_112 : decode cX0_load 112 = .ok (.iload 5, 2) := dk_21 5 (dk_at dksX0_load_4 20 rfl rfl)
theorem dX0_load_114 : decode cX0_load 114 = .ok (.i2l, 1) := dk_133 (dk_at dksX0_load_4 22 rfl rfl)
theorem dX0_load_115 : decode cX0_load 115 = .ok (.iload 6, 2) := dk_21 6 (dk_at dksX0_load_5 0 rfl rfl)
theorem dX0_load_117 : decode cX0_load 117 = .ok (.i2l, 1) := dk_133 (dk_at dksX0_load_5 2 rfl rfl)
theorem dX0_load_118 : decode cX0_load 118 = .ok (.invokestatic 198, 3) := dk_184 0 198 (dk_at dksX0_load_5 3 rfl rfl)
theorem dX0_load_121 : decode cX0_load 121 = .ok (.l2i, 1) := dk_136 (dk_at dksX0_load_5 6 rfl rfl)
theorem dX0_load_122 : decode cX0_load 122 = .ok (.istore 7, 2) := dk_54 7 (dk_at dksX0_load_5 7 rfl rfl)
theorem dX0_load_124 : decode cX0_load 124 = .ok (.iload_n 3, 1) := dk_29 (dk_at dksX0_load_5 9 rfl rfl)
theorem dX0_load_125 : decode cX0_load 125 = .ok (.ifCond .ne 8, 3) := dk_154 0 8 (dk_at dksX0_load_5 10 rfl rfl)
theorem dX0_load_128 : decode cX0_load 128 = .ok (.iload 4, 2) := dk_21 4 (dk_at dksX0_load_5 13 rfl rfl)
theorem dX0_load_130 : decode cX0_load 130 = .ok (.goto 21, 3) := dk_167 0 21 (dk_at dksX0_load_5 15 rfl rfl)
theorem dX0_load_133 : decode cX0_load 133 = .ok (.iload_n 3, 1) := dk_29 (dk_at dksX0_load_5 18 rfl rfl)
theorem dX0_load_134 : decode cX0_load 134 = .ok (.iconst 1, 1) := dk_4 (dk_at dksX0_load_5 19 rfl rfl)
theorem dX0_load_135 : decode cX0_load 135 = .ok (.if_icmp .ne 11, 3) := dk_160 0 11 (dk_at dksX0_load_5 20 rfl rfl)
theorem dX0_load_138 : decode cX0_load 138 = .ok (.iload 5, 2) := dk_21 5 (dk_at dksX0_load_6 0 rfl rfl)
theorem dX0_load_140 : decode cX0_load 140 = .ok (.iload 7, 2) := dk_21 7 (dk_at dksX0_load_6 2 rfl rfl)
theorem dX0_load_142 : decode cX0_load 142 = .ok (.idiv, 1) := dk_108 (dk_at dksX0_load_6 4 rfl rfl)
theorem dX0_load_143 : decode cX0_load 143 = .ok (.goto 8, 3) := dk_167 0 8 (dk_at dksX0_load_6 5 rfl rfl)
theorem dX0_load_146 : decode cX0_load 146 = .ok (.iload 6, 2) := dk_21 6 (dk_at dksX0_load_6 8 rfl rfl)
theorem dX0_load_148 : decode cX0_load 148 = .ok (.iload 7, 2) := dk_21 7 (dk_at dksX0_load_6 10 rfl rfl)
theorem dX0_load_150 : decode cX0_load 150 = .ok (.idiv, 1) := dk_108 (dk_at dksX0_load_6 12 rfl rfl)
theorem dX0_load_151 : decode cX0_load 151 = .ok (.ireturn, 1) := dk_172 (dk_at dksX0_load_6 13 rfl rfl)
abbrev cX0_dare : ByteArray := prog_1_method_25_code
def yX0_dare : MethodName := ⟨RX0, "dare", "(II)J"⟩
def dkwX0_dare_1 : List UInt8 := [180, 0, 38, 180, 0, 217, 28, 50, 27, 47, 173]
abbrev dktX0_dare_1 : List UInt8 := dkwX0_dare_1 ++ []
def dkwX0_dare_0 : List UInt8 := [27, 28, 184, 0, 208, 154, 0, 7, 20, 0, 212, 173, 42, 180, 0, 38, 28, 2, 182, 0, 214, 42]
abbrev dktX0_dare_0 : List UInt8 := dkwX0_dare_0 ++ dktX0_dare_1
theorem dksX0_dare_0 : cX0_dare.data.toList.drop 0 = dktX0_dare_0 := by decide +kernel
theorem dksX0_dare_1 : cX0_dare.data.toList.drop 22 = dktX0_dare_1 := dk_seg dksX0_dare_0 22 rfl rfl
theorem dX0_dare_0 : decode cX0_dare 0 = .ok (.iload_n 1, 1) := dk_27 (dk_at dksX0_dare_0 0 rfl rfl)
theorem dX0_dare_1 : decode cX0_dare 1 = .ok (.iload_n 2, 1) := dk_28 (dk_at dksX0_dare_0 1 rfl rfl)
theorem dX0_dare_2 : decode cX0_dare 2 = .ok (.invokestatic 208, 3) := dk_184 0 208 (dk_at dksX0_dare_0 2 rfl rfl)
theorem dX0_dare_5 : decode cX0_dare 5 = .ok (.ifCond .ne 7, 3) := dk_154 0 7 (dk_at dksX0_dare_0 5 rfl rfl)
theorem dX0_dare_8 : decode cX0_dare 8 = .ok (.ldc2_w 212, 3) := dk_20 0 212 (dk_at dksX0_dare_0 8 rfl rfl)
theorem dX0_dare_11 : decode cX0_dare 11 = .ok (.lreturn, 1) := dk_173 (dk_at dksX0_dare_0 11 rfl rfl)
theorem dX0_dare_12 : decode cX0_dare 12 = .ok (.aload_n 0, 1) := dk_42 (dk_at dksX0_dare_0 12 rfl rfl)
theorem dX0_dare_13 : decode cX0_dare 13 = .ok (.getfield 38, 3) := dk_180 0 38 (dk_at dksX0_dare_0 13 rfl rfl)
theorem dX0_dare_16 : decode cX0_dare 16 = .ok (.iload_n 2, 1) := dk_28 (dk_at dksX0_dare_0 16 rfl rfl)
theorem dX0_dare_17 : decode cX0_dare 17 = .ok (.iconst (-1), 1) := dk_2 (dk_at dksX0_dare_0 17 rfl rfl)
theorem dX0_dare_18 : decode cX0_dare 18 = .ok (.invokevirtual 214, 3) := dk_182 0 214 (dk_at dksX0_dare_0 18 rfl rfl)
theorem dX0_dare_21 : decode cX0_dare 21 = .ok (.aload_n 0, 1) := dk_42 (dk_at dksX0_dare_0 21 rfl rfl)
theorem dX0_dare_22 : decode cX0_dare 22 = .ok (.getfield 38, 3) := dk_180 0 38 (dk_at dksX0_dare_1 0 rfl rfl)
theorem dX0_dare_25 : decode cX0_dare 25 = .ok (.getfield 217, 3) := dk_180 0 217 (dk_at dksX0_dare_1 3 rfl rfl)
theorem dX0_dare_28 : decode cX0_dare 28 = .ok (.iload_n 2, 1) := dk_28 (dk_at dksX0_dare_1 6 rfl rfl)
theorem dX0_dare_29 : decode cX0_dare 29 = .ok (.aaload, 1) := dk_50 (dk_at dksX0_dare_1 7 rfl rfl)
theorem dX0_dare_30 : decode cX0_dare 30 = .ok (.iload_n 1, 1) := dk_27 (dk_at dksX0_dare_1 8 rfl rfl)
theorem dX0_dare_31 : decode cX0_dare 31 = .ok (.laload, 1) := dk_47 (dk_at dksX0_dare_1 9 rfl rfl)
theorem dX0_dare_32 : decode cX0_dare 32 = .ok (.lreturn, 1) := dk_173 (dk_at dksX0_dare_1 10 rfl rfl)
abbrev cX0_isDare : ByteArray := prog_1_method_24_code
def yX0_isDare : MethodName := ⟨RX0, "isDare", "(II)Z"⟩
def dkwX0_isDare_1 : List UInt8 := [167, 0, 4, 3, 172]
abbrev dktX0_isDare_1 : List UInt8 := dkwX0_isDare_1 ++ []
def dkwX0_isDare_0 : List UInt8 := [26, 3, 17, 0, 240, 184, 0, 111, 153, 0, 17, 27, 3, 16, 12, 184, 0, 111, 153, 0, 7, 4]
abbrev dktX0_isDare_0 : List UInt8 := dkwX0_isDare_0 ++ dktX0_isDare_1
theorem dksX0_isDare_0 : cX0_isDare.data.toList.drop 0 = dktX0_isDare_0 := by decide +kernel
theorem dksX0_isDare_1 : cX0_isDare.data.toList.drop 22 = dktX0_isDare_1 := dk_seg dksX0_isDare_0 22 rfl rfl
theorem dX0_isDare_0 : decode cX0_isDare 0 = .ok (.iload_n 0, 1) := dk_26 (dk_at dksX0_isDare_0 0 rfl rfl)
theorem dX0_isDare_1 : decode cX0_isDare 1 = .ok (.iconst 0, 1) := dk_3 (dk_at dksX0_isDare_0 1 rfl rfl)
theorem dX0_isDare_2 : decode cX0_isDare 2 = .ok (.sipush 240, 3) := dk_17 0 240 (dk_at dksX0_isDare_0 2 rfl rfl)
theorem dX0_isDare_5 : decode cX0_isDare 5 = .ok (.invokestatic 111, 3) := dk_184 0 111 (dk_at dksX0_isDare_0 5 rfl rfl)
theorem dX0_isDare_8 : decode cX0_isDare 8 = .ok (.ifCond .eq 17, 3) := dk_153 0 17 (dk_at dksX0_isDare_0 8 rfl rfl)
theorem dX0_isDare_11 : decode cX0_isDare 11 = .ok (.iload_n 1, 1) := dk_27 (dk_at dksX0_isDare_0 11 rfl rfl)
theorem dX0_isDare_12 : decode cX0_isDare 12 = .ok (.iconst 0, 1) := dk_3 (dk_at dksX0_isDare_0 12 rfl rfl)
theorem dX0_isDare_13 : decode cX0_isDare 13 = .ok (.bipush 12, 2) := dk_16 12 (dk_at dksX0_isDare_0 13 rfl rfl)
theorem dX0_isDare_15 : decode cX0_isDare 15 = .ok (.invokestatic 111, 3) := dk_184 0 111 (dk_at dksX0_isDare_0 15 rfl rfl)
theorem dX0_isDare_18 : decode cX0_isDare 18 = .ok (.ifCond .eq 7, 3) := dk_153 0 7 (dk_at dksX0_isDare_0 18 rfl rfl)
theorem dX0_isDare_21 : decode cX0_isDare 21 = .ok (.iconst 1, 1) := dk_4 (dk_at dksX0_isDare_0 21 rfl rfl)
theorem dX0_isDare_22 : decode cX0_isDare 22 = .ok (.goto 4, 3) := dk_167 0 4 (dk_at dksX0_isDare_1 0 rfl rfl)
theorem dX0_isDare_25 : decode cX0_isDare 25 = .ok (.iconst 0, 1) := dk_3 (dk_at dksX0_isDare_1 3 rfl rfl)
theorem dX0_isDare_26 : decode cX0_isDare 26 = .ok (.ireturn, 1) := dk_172 (dk_at dksX0_isDare_1 4 rfl rfl)
abbrev cX0_bold : ByteArray := prog_1_method_26_code
def yX0_bold : MethodName := ⟨RX0, "bold", "(II)I"⟩
def dkwX0_bold_3 : List UInt8 := [154, 0, 5, 29, 172, 132, 3, 1, 167, 255, 207, 16, 253, 172]
abbrev dktX0_bold_3 : List UInt8 := dkwX0_bold_3 ++ []
def dkwX0_bold_2 : List UInt8 := [180, 0, 224, 29, 50, 28, 27, 182, 0, 228, 42, 180, 0, 38, 180, 0, 217, 28, 50, 27, 47, 148]
abbrev dktX0_bold_2 : List UInt8 := dkwX0_bold_2 ++ dktX0_bold_3
def dkwX0_bold_1 : List UInt8 := [182, 0, 214, 3, 62, 29, 42, 180, 0, 10, 180, 0, 221, 162, 0, 44, 42, 180, 0, 38, 42, 180, 0, 10]
abbrev dktX0_bold_1 : List UInt8 := dkwX0_bold_1 ++ dktX0_bold_2
def dkwX0_bold_0 : List UInt8 := [27, 28, 184, 0, 208, 154, 0, 5, 2, 172, 28, 154, 0, 6, 16, 253, 172, 42, 180, 0, 38, 28, 2]
abbrev dktX0_bold_0 : List UInt8 := dkwX0_bold_0 ++ dktX0_bold_1
theorem dksX0_bold_0 : cX0_bold.data.toList.drop 0 = dktX0_bold_0 := by decide +kernel
theorem dksX0_bold_1 : cX0_bold.data.toList.drop 23 = dktX0_bold_1 := dk_seg dksX0_bold_0 23 rfl rfl
theorem dksX0_bold_2 : cX0_bold.data.toList.drop 47 = dktX0_bold_2 := dk_seg dksX0_bold_1 24 rfl rfl
theorem dksX0_bold_3 : cX0_bold.data.toList.drop 69 = dktX0_bold_3 := dk_seg dksX0_bold_2 22 rfl rfl
theorem dX0_bold_0 : decode cX0_bold 0 = .ok (.iload_n 1, 1) := dk_27 (dk_at dksX0_bold_0 0 rfl rfl)
theorem dX0_bold_1 : decode cX0_bold 1 = .ok (.iload_n 2, 1) := dk_28 (dk_at dksX0_bold_0 1 rfl rfl)
theorem dX0_bold_2 : decode cX0_bold 2 = .ok (.invokestatic 208, 3) := dk_184 0 208 (dk_at dksX0_bold_0 2 rfl rfl)
theorem dX0_bold_5 : decode cX0_bold 5 = .ok (.ifCond .ne 5, 3) := dk_154 0 5 (dk_at dksX0_bold_0 5 rfl rfl)
theorem dX0_bold_8 : decode cX0_bold 8 = .ok (.iconst (-1), 1) := dk_2 (dk_at dksX0_bold_0 8 rfl rfl)
theorem dX0_bold_9 : decode cX0_bold 9 = .ok (.ireturn, 1) := dk_172 (dk_at dksX0_bold_0 9 rfl rfl)
theorem dX0_bold_10 : decode cX0_bold 10 = .ok (.iload_n 2, 1) := dk_28 (dk_at dksX0_bold_0 10 rfl rfl)
theorem dX0_bold_11 : decode cX0_bold 11 = .ok (.ifCond .ne 6, 3) := dk_154 0 6 (dk_at dksX0_bold_0 11 rfl rfl)
theorem dX0_bold_14 : decode cX0_bold 14 = .ok (.bipush (-3), 2) := dk_16 253 (dk_at dksX0_bold_0 14 rfl rfl)
theorem dX0_bold_16 : decode cX0_bold 16 = .ok (.ireturn, 1) := dk_172 (dk_at dksX0_bold_0 16 rfl rfl)
theorem dX0_bold_17 : decode cX0_bold 17 = .ok (.aload_n 0, 1) := dk_42 (dk_at dksX0_bold_0 17 rfl rfl)
theorem dX0_bold_18 : decode cX0_bold 18 = .ok (.getfield 38, 3) := dk_180 0 38 (dk_at dksX0_bold_0 18 rfl rfl)
theorem dX0_bold_21 : decode cX0_bold 21 = .ok (.iload_n 2, 1) := dk_28 (dk_at dksX0_bold_0 21 rfl rfl)
theorem dX0_bold_22 : decode cX0_bold 22 = .ok (.iconst (-1), 1) := dk_2 (dk_at dksX0_bold_0 22 rfl rfl)
theorem dX0_bold_23 : decode cX0_bold 23 = .ok (.invokevirtual 214, 3) := dk_182 0 214 (dk_at dksX0_bold_1 0 rfl rfl)
theorem dX0_bold_26 : decode cX0_bold 26 = .ok (.iconst 0, 1) := dk_3 (dk_at dksX0_bold_1 3 rfl rfl)
theorem dX0_bold_27 : decode cX0_bold 27 = .ok (.istore_n 3, 1) := dk_62 (dk_at dksX0_bold_1 4 rfl rfl)
theorem dX0_bold_28 : decode cX0_bold 28 = .ok (.iload_n 3, 1) := dk_29 (dk_at dksX0_bold_1 5 rfl rfl)
theorem dX0_bold_29 : decode cX0_bold 29 = .ok (.aload_n 0, 1) := dk_42 (dk_at dksX0_bold_1 6 rfl rfl)
theorem dX0_bold_30 : decode cX0_bold 30 = .ok (.getfield 10, 3) := dk_180 0 10 (dk_at dksX0_bold_1 7 rfl rfl)
theorem dX0_bold_33 : decode cX0_bold 33 = .ok (.getfield 221, 3) := dk_180 0 221 (dk_at dksX0_bold_1 10 rfl rfl)
theorem dX0_bold_36 : decode cX0_bold 36 = .ok (.if_icmp .ge 44, 3) := dk_162 0 44 (dk_at dksX0_bold_1 13 rfl rfl)
theorem dX0_bold_39 : decode cX0_bold 39 = .ok (.aload_n 0, 1) := dk_42 (dk_at dksX0_bold_1 16 rfl rfl)
theorem dX0_bold_40 : decode cX0_bold 40 = .ok (.getfield 38, 3) := dk_180 0 38 (dk_at dksX0_bold_1 17 rfl rfl)
theorem dX0_bold_43 : decode cX0_bold 43 = .ok (.aload_n 0, 1) := dk_42 (dk_at dksX0_bold_1 20 rfl rfl)
theorem dX0_bold_44 : decode cX0_bold 44 = .ok (.getfield 10, 3) := dk_180 0 10 (dk_at dksX0_bold_1 21 rfl rfl)
theorem dX0_bold_47 : decode cX0_bold 47 = .ok (.getfield 224, 3) := dk_180 0 224 (dk_at dksX0_bold_2 0 rfl rfl)
theorem dX0_bold_50 : decode cX0_bold 50 = .ok (.iload_n 3, 1) := dk_29 (dk_at dksX0_bold_2 3 rfl rfl)
theorem dX0_bold_51 : decode cX0_bold 51 = .ok (.aaload, 1) := dk_50 (dk_at dksX0_bold_2 4 rfl rfl)
theorem dX0_bold_52 : decode cX0_bold 52 = .ok (.iload_n 2, 1) := dk_28 (dk_at dksX0_bold_2 5 rfl rfl)
theorem dX0_bold_53 : decode cX0_bold 53 = .ok (.iload_n 1, 1) := dk_27 (dk_at dksX0_bold_2 6 rfl rfl)
theorem dX0_bold_54 : decode cX0_bold 54 = .ok (.invokevirtual 228, 3) := dk_182 0 228 (dk_at dksX0_bold_2 7 rfl rfl)
theorem dX0_bold_57 : decode cX0_bold 57 = .ok (.aload_n 0, 1) := dk_42 (dk_at dksX0_bold_2 10 rfl rfl)
theorem dX0_bold_58 : decode cX0_bold 58 = .ok (.getfield 38, 3) := dk_180 0 38 (dk_at dksX0_bold_2 11 rfl rfl)
theorem dX0_bold_61 : decode cX0_bold 61 = .ok (.getfield 217, 3) := dk_180 0 217 (dk_at dksX0_bold_2 14 rfl rfl)
theorem dX0_bold_64 : decode cX0_bold 64 = .ok (.iload_n 2, 1) := dk_28 (dk_at dksX0_bold_2 17 rfl rfl)
theorem dX0_bold_65 : decode cX0_bold 65 = .ok (.aaload, 1) := dk_50 (dk_at dksX0_bold_2 18 rfl rfl)
theorem dX0_bold_66 : decode cX0_bold 66 = .ok (.iload_n 1, 1) := dk_27 (dk_at dksX0_bold_2 19 rfl rfl)
theorem dX0_bold_67 : decode cX0_bold 67 = .ok (.laload, 1) := dk_47 (dk_at dksX0_bold_2 20 rfl rfl)
theorem dX0_bold_68 : decode cX0_bold 68 = .ok (.lcmp, 1) := dk_148 (dk_at dksX0_bold_2 21 rfl rfl)
theorem dX0_bold_69 : decode cX0_bold 69 = .ok (.ifCond .ne 5, 3) := dk_154 0 5 (dk_at dksX0_bold_3 0 rfl rfl)
theorem dX0_bold_72 : decode cX0_bold 72 = .ok (.iload_n 3, 1) := dk_29 (dk_at dksX0_bold_3 3 rfl rfl)
theorem dX0_bold_73 : decode cX0_bold 73 = .ok (.ireturn, 1) := dk_172 (dk_at dksX0_bold_3 4 rfl rfl)
theorem dX0_bold_74 : decode cX0_bold 74 = .ok (.iinc 3 1, 3) := dk_132 3 1 (dk_at dksX0_bold_3 5 rfl rfl)
theorem dX0_bold_77 : decode cX0_bold 77 = .ok (.goto (-49), 3) := dk_167 255 207 (dk_at dksX0_bold_3 8 rfl rfl)
theorem dX0_bold_80 : decode cX0_bold 80 = .ok (.bipush (-3), 2) := dk_16 253 (dk_at dksX0_bold_3 11 rfl rfl)
theorem dX0_bold_82 : decode cX0_bold 82 = .ok (.ireturn, 1) := dk_172 (dk_at dksX0_bold_3 13 rfl rfl)
abbrev cX0_alike : ByteArray := prog_1_method_27_code
def yX0_alike : MethodName := ⟨RX0, "alike", "(III)J"⟩
def dkwX0_alike_2 : List UInt8 := [50, 28, 47, 173]
abbrev dktX0_alike_2 : List UInt8 := dkwX0_alike_2 ++ []
def dkwX0_alike_1 : List UInt8 := [154, 0, 7, 20, 0, 212, 173, 42, 180, 0, 38, 29, 27, 182, 0, 214, 42, 180, 0, 38, 180, 0, 217, 29]
abbrev dktX0_alike_1 : List UInt8 := dkwX0_alike_1 ++ dktX0_alike_2
def dkwX0_alike_0 : List UInt8 := [27, 3, 42, 180, 0, 10, 180, 0, 221, 4, 100, 184, 0, 111, 153, 0, 11, 28, 29, 184, 0, 208]
abbrev dktX0_alike_0 : List UInt8 := dkwX0_alike_0 ++ dktX0_alike_1
theorem dksX0_alike_0 : cX0_alike.data.toList.drop 0 = dktX0_alike_0 := by decide +kernel
theorem dksX0_alike_1 : cX0_alike.data.toList.drop 22 = dktX0_alike_1 := dk_seg dksX0_alike_0 22 rfl rfl
theorem dksX0_alike_2 : cX0_alike.data.toList.drop 46 = dktX0_alike_2 := dk_seg dksX0_alike_1 24 rfl rfl
theorem dX0_alike_0 : decode cX0_alike 0 = .ok (.iload_n 1, 1) := dk_27 (dk_at dksX0_alike_0 0 rfl rfl)
theorem dX0_alike_1 : decode cX0_alike 1 = .ok (.iconst 0, 1) := dk_3 (dk_at dksX0_alike_0 1 rfl rfl)
theorem dX0_alike_2 : decode cX0_alike 2 = .ok (.aload_n 0, 1) := dk_42 (dk_at dksX0_alike_0 2 rfl rfl)
theorem dX0_alike_3 : decode cX0_alike 3 = .ok (.getfield 10, 3) := dk_180 0 10 (dk_at dksX0_alike_0 3 rfl rfl)
theorem dX0_alike_6 : decode cX0_alike 6 = .ok (.getfield 221, 3) := dk_180 0 221 (dk_at dksX0_alike_0 6 rfl rfl)
theorem dX0_alike_9 : decode cX0_alike 9 = .ok (.iconst 1, 1) := dk_4 (dk_at dksX0_alike_0 9 rfl rfl)
theorem dX0_alike_10 : decode cX0_alike 10 = .ok (.isub, 1) := dk_100 (dk_at dksX0_alike_0 10 rfl rfl)
theorem dX0_alike_11 : decode cX0_alike 11 = .ok (.invokestatic 111, 3) := dk_184 0 111 (dk_at dksX0_alike_0 11 rfl rfl)
theorem dX0_alike_14 : decode cX0_alike 14 = .ok (.ifCond .eq 11, 3) := dk_153 0 11 (dk_at dksX0_alike_0 14 rfl rfl)
theorem dX0_alike_17 : decode cX0_alike 17 = .ok (.iload_n 2, 1) := dk_28 (dk_at dksX0_alike_0 17 rfl rfl)
theorem dX0_alike_18 : decode cX0_alike 18 = .ok (.iload_n 3, 1) := dk_29 (dk_at dksX0_alike_0 18 rfl rfl)
theorem dX0_alike_19 : decode cX0_alike 19 = .ok (.invokestatic 208, 3) := dk_184 0 208 (dk_at dksX0_alike_0 19 rfl rfl)
theorem dX0_alike_22 : decode cX0_alike 22 = .ok (.ifCond .ne 7, 3) := dk_154 0 7 (dk_at dksX0_alike_1 0 rfl rfl)
theorem dX0_alike_25 : decode cX0_alike 25 = .ok (.ldc2_w 212, 3) := dk_20 0 212 (dk_at dksX0_alike_1 3 rfl rfl)
theorem dX0_alike_28 : decode cX0_alike 28 = .ok (.lreturn, 1) := dk_173 (dk_at dksX0_alike_1 6 rfl rfl)
theorem dX0_alike_29 : decode cX0_alike 29 = .ok (.aload_n 0, 1) := dk_42 (dk_at dksX0_alike_1 7 rfl rfl)
theorem dX0_alike_30 : decode cX0_alike 30 = .ok (.getfield 38, 3) := dk_180 0 38 (dk_at dksX0_alike_1 8 rfl rfl)
theorem dX0_alike_33 : decode cX0_alike 33 = .ok (.iload_n 3, 1) := dk_29 (dk_at dksX0_alike_1 11 rfl rfl)
theorem dX0_alike_34 : decode cX0_alike 34 = .ok (.iload_n 1, 1) := dk_27 (dk_at dksX0_alike_1 12 rfl rfl)
theorem dX0_alike_35 : decode cX0_alike 35 = .ok (.invokevirtual 214, 3) := dk_182 0 214 (dk_at dksX0_alike_1 13 rfl rfl)
theorem dX0_alike_38 : decode cX0_alike 38 = .ok (.aload_n 0, 1) := dk_42 (dk_at dksX0_alike_1 16 rfl rfl)
theorem dX0_alike_39 : decode cX0_alike 39 = .ok (.getfield 38, 3) := dk_180 0 38 (dk_at dksX0_alike_1 17 rfl rfl)
theorem dX0_alike_42 : decode cX0_alike 42 = .ok (.getfield 217, 3) := dk_180 0 217 (dk_at dksX0_alike_1 20 rfl rfl)
theorem dX0_alike_45 : decode cX0_alike 45 = .ok (.iload_n 3, 1) := dk_29 (dk_at dksX0_alike_1 23 rfl rfl)
theorem dX0_alike_46 : decode cX0_alike 46 = .ok (.aaload, 1) := dk_50 (dk_at dksX0_alike_2 0 rfl rfl)
theorem dX0_alike_47 : decode cX0_alike 47 = .ok (.iload_n 2, 1) := dk_28 (dk_at dksX0_alike_2 1 rfl rfl)
theorem dX0_alike_48 : decode cX0_alike 48 = .ok (.laload, 1) := dk_47 (dk_at dksX0_alike_2 2 rfl rfl)
theorem dX0_alike_49 : decode cX0_alike 49 = .ok (.lreturn, 1) := dk_173 (dk_at dksX0_alike_2 3 rfl rfl)
abbrev cX0_risk : ByteArray := prog_1_method_29_code
def yX0_risk : MethodName := ⟨RX0, "risk", "(I)I"⟩
def dkwX0_risk_1 : List UInt8 := [192, 0, 248, 182, 0, 250, 172, 77, 16, 245, 172, 77, 16, 243, 172]
abbrev dktX0_risk_1 : List UInt8 := dkwX0_risk_1 ++ []
def dkwX0_risk_0 : List UInt8 := [27, 184, 0, 237, 154, 0, 5, 2, 172, 42, 42, 42, 180, 0, 78, 27, 50, 182, 0, 240, 182, 0, 244]
abbrev dktX0_risk_0 : List UInt8 := dkwX0_risk_0 ++ dktX0_risk_1
theorem dksX0_risk_0 : cX0_risk.data.toList.drop 0 = dktX0_risk_0 := by decide +kernel
theorem dksX0_risk_1 : cX0_risk.data.toList.drop 23 = dktX0_risk_1 := dk_seg dksX0_risk_0 23 rfl rfl
theorem dX0_risk_0 : decode cX0_risk 0 = .ok (.iload_n 1, 1) := dk_27 (dk_at dksX0_risk_0 0 rfl rfl)
theorem dX0_risk_1 : decode cX0_risk 1 = .ok (.invokestatic 237, 3) := dk_184 0 237 (dk_at dksX0_risk_0 1 rfl rfl)
theorem dX0_risk_4 : decode cX0_risk 4 = .ok (.ifCond .ne 5, 3) := dk_154 0 5 (dk_at dksX0_risk_0 4 rfl rfl)
theorem dX0_risk_7 : decode cX0_risk 7 = .ok (.iconst (-1), 1) := dk_2 (dk_at dksX0_risk_0 7 rfl rfl)
theorem dX0_risk_8 : decode cX0_risk 8 = .ok (.ireturn, 1) := dk_172 (dk_at dksX0_risk_0 8 rfl rfl)
theorem dX0_risk_9 : decode cX0_risk 9 = .ok (.aload_n 0, 1) := dk_42 (dk_at dksX0_risk_0 9 rfl rfl)
theorem dX0_risk_10 : decode cX0_risk 10 = .ok (.aload_n 0, 1) := dk_42 (dk_at dksX0_risk_0 10 rfl rfl)
theorem dX0_risk_11 : decode cX0_risk 11 = .ok (.aload_n 0, 1) := dk_42 (dk_at dksX0_risk_0 11 rfl rfl)
theorem dX0_risk_12 : decode cX0_risk 12 = .ok (.getfield 78, 3) := dk_180 0 78 (dk_at dksX0_risk_0 12 rfl rfl)
theorem dX0_risk_15 : decode cX0_risk 15 = .ok (.iload_n 1, 1) := dk_27 (dk_at dksX0_risk_0 15 rfl rfl)
theorem dX0_risk_16 : decode cX0_risk 16 = .ok (.aaload, 1) := dk_50 (dk_at dksX0_risk_0 16 rfl rfl)
theorem dX0_risk_17 : decode cX0_risk 17 = .ok (.invokevirtual 240, 3) := dk_182 0 240 (dk_at dksX0_risk_0 17 rfl rfl)
theorem dX0_risk_20 : decode cX0_risk 20 = .ok (.invokevirtual 244, 3) := dk_182 0 244 (dk_at dksX0_risk_0 20 rfl rfl)
theorem dX0_risk_23 : decode cX0_risk 23 = .ok (.checkcast 248, 3) := dk_192 0 248 (dk_at dksX0_risk_1 0 rfl rfl)
theorem dX0_risk_26 : decode cX0_risk 26 = .ok (.invokevirtual 250, 3) := dk_182 0 250 (dk_at dksX0_risk_1 3 rfl rfl)
theorem dX0_risk_29 : decode cX0_risk 29 = .ok (.ireturn, 1) := dk_172 (dk_at dksX0_risk_1 6 rfl rfl)
theorem dX0_risk_30 : decode cX0_risk 30 = .ok (.astore_n 2, 1) := dk_77 (dk_at dksX0_risk_1 7 rfl rfl)
theorem dX0_risk_31 : decode cX0_risk 31 = .ok (.bipush (-11), 2) := dk_16 245 (dk_at dksX0_risk_1 8 rfl rfl)
theorem dX0_risk_33 : decode cX0_risk 33 = .ok (.ireturn, 1) := dk_172 (dk_at dksX0_risk_1 10 rfl rfl)
theorem dX0_risk_34 : decode cX0_risk 34 = .ok (.astore_n 2, 1) := dk_77 (dk_at dksX0_risk_1 11 rfl rfl)
theorem dX0_risk_35 : decode cX0_risk 35 = .ok (.bipush (-13), 2) := dk_16 243 (dk_at dksX0_risk_1 12 rfl rfl)
theorem dX0_risk_37 : decode cX0_risk 37 = .ok (.ireturn, 1) := dk_172 (dk_at dksX0_risk_1 14 rfl rfl)
abbrev cX0_isSheet : ByteArray := prog_1_method_53_code
def yX0_isSheet : MethodName := ⟨RX0, "isSheet", "(I)Z"⟩
def dkwX0_isSheet_0 : List UInt8 := [26, 3, 6, 184, 0, 111, 172]
abbrev dktX0_isSheet_0 : List UInt8 := dkwX0_isSheet_0 ++ []
theorem dksX0_isSheet_0 : cX0_isSheet.data.toList.drop 0 = dktX0_isSheet_0 := by decide +kernel
theorem dX0_isSheet_0 : decode cX0_isSheet 0 = .ok (.iload_n 0, 1) := dk_26 (dk_at dksX0_isSheet_0 0 rfl rfl)
theorem dX0_isSheet_1 : decode cX0_isSheet 1 = .ok (.iconst 0, 1) := dk_3 (dk_at dksX0_isSheet_0 1 rfl rfl)
theorem dX0_isSheet_2 : decode cX0_isSheet 2 = .ok (.iconst 3, 1) := dk_6 (dk_at dksX0_isSheet_0 2 rfl rfl)
theorem dX0_isSheet_3 : decode cX0_isSheet 3 = .ok (.invokestatic 111, 3) := dk_184 0 111 (dk_at dksX0_isSheet_0 3 rfl rfl)
theorem dX0_isSheet_6 : decode cX0_isSheet 6 = .ok (.ireturn, 1) := dk_172 (dk_at dksX0_isSheet_0 6 rfl rfl)
abbrev cX0_there : ByteArray := prog_1_method_56_code
def yX0_there : MethodName := ⟨RX0, "there", "(Ljava/lang/Object;)Ljava/lang/Object;"⟩
def dkwX0_there_0 : List UInt8 := [43, 199, 0, 8, 42, 180, 0, 92, 191, 43, 176]
abbrev dktX0_there_0 : List UInt8 := dkwX0_there_0 ++ []
theorem dksX0_there_0 : cX0_there.data.toList.drop 0 = dktX0_there_0 := by decide +kernel
theorem dX0_there_0 : decode cX0_there 0 = .ok (.aload_n 1, 1) := dk_43 (dk_at dksX0_there_0 0 rfl rfl)
theorem dX0_there_1 : decode cX0_there 1 = .ok (.ifnonnull 8, 3) := dk_199 0 8 (dk_at dksX0_there_0 1 rfl rfl)
theorem dX0_there_4 : decode cX0_there 4 = .ok (.aload_n 0, 1) := dk_42 (dk_at dksX0_there_0 4 rfl rfl)
theorem dX0_there_5 : decode cX0_there 5 = .ok (.getfield 92, 3) := dk_180 0 92 (dk_at dksX0_there_0 5 rfl rfl)
theorem dX0_there_8 : decode cX0_there 8 = .ok (.athrow, 1) := dk_191 (dk_at dksX0_there_0 8 rfl rfl)
theorem dX0_there_9 : decode cX0_there 9 = .ok (.aload_n 1, 1) := dk_43 (dk_at dksX0_there_0 9 rfl rfl)
theorem dX0_there_10 : decode cX0_there 10 = .ok (.areturn, 1) := dk_176 (dk_at dksX0_there_0 10 rfl rfl)
abbrev cX0_tenOf : ByteArray := prog_1_method_28_code
def yX0_tenOf : MethodName := ⟨RX0, "tenOf", "([S)I"⟩
def dkwX0_tenOf_5 : List UInt8 := [180, 0, 10, 89, 180, 0, 221, 4, 96, 181, 0, 221, 42, 180, 0, 10, 180, 0, 221, 4, 100, 172]
abbrev dktX0_tenOf_5 : List UInt8 := dkwX0_tenOf_5 ++ []
def dkwX0_tenOf_4 : List UInt8 := [132, 4, 1, 167, 255, 235, 42, 180, 0, 10, 180, 0, 224, 42, 180, 0, 10, 180, 0, 221, 45, 83, 42]
abbrev dktX0_tenOf_4 : List UInt8 := dkwX0_tenOf_4 ++ dktX0_tenOf_5
def dkwX0_tenOf_3 : List UInt8 := [78, 3, 54, 4, 21, 4, 16, 10, 162, 0, 20, 45, 180, 0, 235, 21, 4, 43, 21, 4, 53, 79]
abbrev dktX0_tenOf_3 : List UInt8 := dkwX0_tenOf_3 ++ dktX0_tenOf_4
def dkwX0_tenOf_2 : List UInt8 := [16, 252, 172, 42, 180, 0, 10, 180, 0, 221, 7, 160, 0, 6, 16, 254, 172, 187, 0, 232, 89, 183, 0, 234]
abbrev dktX0_tenOf_2 : List UInt8 := dkwX0_tenOf_2 ++ dktX0_tenOf_3
def dkwX0_tenOf_1 : List UInt8 := [153, 0, 19, 43, 29, 53, 3, 16, 20, 184, 0, 111, 61, 132, 3, 1, 167, 255, 233, 28, 154, 0, 6]
abbrev dktX0_tenOf_1 : List UInt8 := dkwX0_tenOf_1 ++ dktX0_tenOf_2
def dkwX0_tenOf_0 : List UInt8 := [43, 190, 16, 10, 160, 0, 7, 4, 167, 0, 4, 3, 61, 3, 62, 29, 43, 190, 162, 0, 23, 28]
abbrev dktX0_tenOf_0 : List UInt8 := dkwX0_tenOf_0 ++ dktX0_tenOf_1
theorem dksX0_tenOf_0 : cX0_tenOf.data.toList.drop 0 = dktX0_tenOf_0 := by decide +kernel
theorem dksX0_tenOf_1 : cX0_tenOf.data.toList.drop 22 = dktX0_tenOf_1 := dk_seg dksX0_tenOf_0 22 rfl rfl
theorem dksX0_tenOf_2 : cX0_tenOf.data.toList.drop 45 = dktX0_tenOf_2 := dk_seg dksX0_tenOf_1 23 rfl rfl
theorem dksX0_tenOf_3 : cX0_tenOf.data.toList.drop 69 = dktX0_tenOf_3 := dk_seg dksX0_tenOf_2 24 rfl rfl
theorem dksX0_tenOf_4 : cX0_tenOf.data.toList.drop 91 = dktX0_tenOf_4 := dk_seg dksX0_tenOf_3 22 rfl rfl
theorem dksX0_tenOf_5 : cX0_tenOf.data.toList.drop 114 = dktX0_tenOf_5 := dk_seg dksX0_tenOf_4 23 rfl rfl
theorem dX0_tenOf_0 : decode cX0_tenOf 0 = .ok (.aload_n 1, 1) := dk_43 (dk_at dksX0_tenOf_0 0 rfl rfl)
theorem dX0_tenOf_1 : decode cX0_tenOf 1 = .ok (.arraylength, 1) := dk_190 (dk_at dksX0_tenOf_0 1 rfl rfl)
theorem dX0_tenOf_2 : decode cX0_tenOf 2 = .ok (.bipush 10, 2) := dk_16 10 (dk_at dksX0_tenOf_0 2 rfl rfl)
theorem dX0_tenOf_4 : decode cX0_tenOf 4 = .ok (.if_icmp .ne 7, 3) := dk_160 0 7 (dk_at dksX0_tenOf_0 4 rfl rfl)
theorem dX0_tenOf_7 : decode cX0_tenOf 7 = .ok (.iconst 1, 1) := dk_4 (dk_at dksX0_tenOf_0 7 rfl rfl)
theorem dX0_tenOf_8 : decode cX0_tenOf 8 = .ok (.goto 4, 3) := dk_167 0 4 (dk_at dksX0_tenOf_0 8 rfl rfl)
theorem dX0_tenOf_11 : decode cX0_tenOf 11 = .ok (.iconst 0, 1) := dk_3 (dk_at dksX0_tenOf_0 11 rfl rfl)
theorem dX0_tenOf_12 : decode cX0_tenOf 12 = .ok (.istore_n 2, 1) := dk_61 (dk_at dksX0_tenOf_0 12 rfl rfl)
theorem dX0_tenOf_13 : decode cX0_tenOf 13 = .ok (.iconst 0, 1) := dk_3 (dk_at dksX0_tenOf_0 13 rfl rfl)
theorem dX0_tenOf_14 : decode cX0_tenOf 14 = .ok (.istore_n 3, 1) := dk_62 (dk_at dksX0_tenOf_0 14 rfl rfl)
theorem dX0_tenOf_15 : decode cX0_tenOf 15 = .ok (.iload_n 3, 1) := dk_29 (dk_at dksX0_tenOf_0 15 rfl rfl)
theorem dX0_tenOf_16 : decode cX0_tenOf 16 = .ok (.aload_n 1, 1) := dk_43 (dk_at dksX0_tenOf_0 16 rfl rfl)
theorem dX0_tenOf_17 : decode cX0_tenOf 17 = .ok (.arraylength, 1) := dk_190 (dk_at dksX0_tenOf_0 17 rfl rfl)
theorem dX0_tenOf_18 : decode cX0_tenOf 18 = .ok (.if_icmp .ge 23, 3) := dk_162 0 23 (dk_at dksX0_tenOf_0 18 rfl rfl)
theorem dX0_tenOf_21 : decode cX0_tenOf 21 = .ok (.iload_n 2, 1) := dk_28 (dk_at dksX0_tenOf_0 21 rfl rfl)
theorem dX0_tenOf_22 : decode cX0_tenOf 22 = .ok (.ifCond .eq 19, 3) := dk_153 0 19 (dk_at dksX0_tenOf_1 0 rfl rfl)
theorem dX0_tenOf_25 : decode cX0_tenOf 25 = .ok (.aload_n 1, 1) := dk_43 (dk_at dksX0_tenOf_1 3 rfl rfl)
theorem dX0_tenOf_26 : decode cX0_tenOf 26 = .ok (.iload_n 3, 1) := dk_29 (dk_at dksX0_tenOf_1 4 rfl rfl)
theorem dX0_tenOf_27 : decode cX0_tenOf 27 = .ok (.saload, 1) := dk_53 (dk_at dksX0_tenOf_1 5 rfl rfl)
theorem dX0_tenOf_28 : decode cX0_tenOf 28 = .ok (.iconst 0, 1) := dk_3 (dk_at dksX0_tenOf_1 6 rfl rfl)
theorem dX0_tenOf_29 : decode cX0_tenOf 29 = .ok (.bipush 20, 2) := dk_16 20 (dk_at dksX0_tenOf_1 7 rfl rfl)
theorem dX0_tenOf_31 : decode cX0_tenOf 31 = .ok (.invokestatic 111, 3) := dk_184 0 111 (dk_at dksX0_tenOf_1 9 rfl rfl)
theorem dX0_tenOf_34 : decode cX0_tenOf 34 = .ok (.istore_n 2, 1) := dk_61 (dk_at dksX0_tenOf_1 12 rfl rfl)
theorem dX0_tenOf_35 : decode cX0_tenOf 35 = .ok (.iinc 3 1, 3) := dk_132 3 1 (dk_at dksX0_tenOf_1 13 rfl rfl)
theorem dX0_tenOf_38 : decode cX0_tenOf 38 = .ok (.goto (-23), 3) := dk_167 255 233 (dk_at dksX0_tenOf_1 16 rfl rfl)
theorem dX0_tenOf_41 : decode cX0_tenOf 41 = .ok (.iload_n 2, 1) := dk_28 (dk_at dksX0_tenOf_1 19 rfl rfl)
theorem dX0_tenOf_42 : decode cX0_tenOf 42 = .ok (.ifCond .ne 6, 3) := dk_154 0 6 (dk_at dksX0_tenOf_1 20 rfl rfl)
theorem dX0_tenOf_45 : decode cX0_tenOf 45 = .ok (.bipush (-4), 2) := dk_16 252 (dk_at dksX0_tenOf_2 0 rfl rfl)
theorem dX0_tenOf_47 : decode cX0_tenOf 47 = .ok (.ireturn, 1) := dk_172 (dk_at dksX0_tenOf_2 2 rfl rfl)
theorem dX0_tenOf_48 : decode cX0_tenOf 48 = .ok (.aload_n 0, 1) := dk_42 (dk_at dksX0_tenOf_2 3 rfl rfl)
theorem dX0_tenOf_49 : decode cX0_tenOf 49 = .ok (.getfield 10, 3) := dk_180 0 10 (dk_at dksX0_tenOf_2 4 rfl rfl)
theorem dX0_tenOf_52 : decode cX0_tenOf 52 = .ok (.getfield 221, 3) := dk_180 0 221 (dk_at dksX0_tenOf_2 7 rfl rfl)
theorem dX0_tenOf_55 : decode cX0_tenOf 55 = .ok (.iconst 4, 1) := dk_7 (dk_at dksX0_tenOf_2 10 rfl rfl)
theorem dX0_tenOf_56 : decode cX0_tenOf 56 = .ok (.if_icmp .ne 6, 3) := dk_160 0 6 (dk_at dksX0_tenOf_2 11 rfl rfl)
theorem dX0_tenOf_59 : decode cX0_tenOf 59 = .ok (.bipush (-2), 2) := dk_16 254 (dk_at dksX0_tenOf_2 14 rfl rfl)
theorem dX0_tenOf_61 : decode cX0_tenOf 61 = .ok (.ireturn, 1) := dk_172 (dk_at dksX0_tenOf_2 16 rfl rfl)
theorem dX0_tenOf_62 : decode cX0_tenOf 62 = .ok (.new 232, 3) := dk_187 0 232 (dk_at dksX0_tenOf_2 17 rfl rfl)
theorem dX0_tenOf_65 : decode cX0_tenOf 65 = .ok (.dup, 1) := dk_89 (dk_at dksX0_tenOf_2 20 rfl rfl)
theorem dX0_tenOf_66 : decode cX0_tenOf 66 = .ok (.invokespecial 234, 3) := dk_183 0 234 (dk_at dksX0_tenOf_2 21 rfl rfl)
theorem dX0_tenOf_69 : decode cX0_tenOf 69 = .ok (.astore_n 3, 1) := dk_78 (dk_at dksX0_tenOf_3 0 rfl rfl)
theorem dX0_tenOf_70 : decode cX0_tenOf 70 = .ok (.iconst 0, 1) := dk_3 (dk_at dksX0_tenOf_3 1 rfl rfl)
theorem dX0_tenOf_71 : decode cX0_tenOf 71 = .ok (.istore 4, 2) := dk_54 4 (dk_at dksX0_tenOf_3 2 rfl rfl)
theorem dX0_tenOf_73 : decode cX0_tenOf 73 = .ok (.iload 4, 2) := dk_21 4 (dk_at dksX0_tenOf_3 4 rfl rfl)
theorem dX0_tenOf_75 : decode cX0_tenOf 75 = .ok (.bipush 10, 2) := dk_16 10 (dk_at dksX0_tenOf_3 6 rfl rfl)
theorem dX0_tenOf_77 : decode cX0_tenOf 77 = .ok (.if_icmp .ge 20, 3) := dk_162 0 20 (dk_at dksX0_tenOf_3 8 rfl rfl)
theorem dX0_tenOf_80 : decode cX0_tenOf 80 = .ok (.aload_n 3, 1) := dk_45 (dk_at dksX0_tenOf_3 11 rfl rfl)
theorem dX0_tenOf_81 : decode cX0_tenOf 81 = .ok (.getfield 235, 3) := dk_180 0 235 (dk_at dksX0_tenOf_3 12 rfl rfl)
theorem dX0_tenOf_84 : decode cX0_tenOf 84 = .ok (.iload 4, 2) := dk_21 4 (dk_at dksX0_tenOf_3 15 rfl rfl)
theorem dX0_tenOf_86 : decode cX0_tenOf 86 = .ok (.aload_n 1, 1) := dk_43 (dk_at dksX0_tenOf_3 17 rfl rfl)
theorem dX0_tenOf_87 : decode cX0_tenOf 87 = .ok (.iload 4, 2) := dk_21 4 (dk_at dksX0_tenOf_3 18 rfl rfl)
theorem dX0_tenOf_89 : decode cX0_tenOf 89 = .ok (.saload, 1) := dk_53 (dk_at dksX0_tenOf_3 20 rfl rfl)
theorem dX0_tenOf_90 : decode cX0_tenOf 90 = .ok (.iastore, 1) := dk_79 (dk_at dksX0_tenOf_3 21 rfl rfl)
theorem dX0_tenOf_91 : decode cX0_tenOf 91 = .ok (.iinc 4 1, 3) := dk_132 4 1 (dk_at dksX0_tenOf_4 0 rfl rfl)
theorem dX0_tenOf_94 : decode cX0_tenOf 94 = .ok (.goto (-21), 3) := dk_167 255 235 (dk_at dksX0_tenOf_4 3 rfl rfl)
theorem dX0_tenOf_97 : decode cX0_tenOf 97 = .ok (.aload_n 0, 1) := dk_42 (dk_at dksX0_tenOf_4 6 rfl rfl)
theorem dX0_tenOf_98 : decode cX0_tenOf 98 = .ok (.getfield 10, 3) := dk_180 0 10 (dk_at dksX0_tenOf_4 7 rfl rfl)
theorem dX0_tenOf_101 : decode cX0_tenOf 101 = .ok (.getfield 224, 3) := dk_180 0 224 (dk_at dksX0_tenOf_4 10 rfl rfl)
theorem dX0_tenOf_104 : decode cX0_tenOf 104 = .ok (.aload_n 0, 1) := dk_42 (dk_at dksX0_tenOf_4 13 rfl rfl)
theorem dX0_tenOf_105 : decode cX0_tenOf 105 = .ok (.getfield 10, 3) := dk_180 0 10 (dk_at dksX0_tenOf_4 14 rfl rfl)
theorem dX0_tenOf_108 : decode cX0_tenOf 108 = .ok (.getfield 221, 3) := dk_180 0 221 (dk_at dksX0_tenOf_4 17 rfl rfl)
theorem dX0_tenOf_111 : decode cX0_tenOf 111 = .ok (.aload_n 3, 1) := dk_45 (dk_at dksX0_tenOf_4 20 rfl rfl)
theorem dX0_tenOf_112 : decode cX0_tenOf 112 = .ok (.aastore, 1) := dk_83 (dk_at dksX0_tenOf_4 21 rfl rfl)
theorem dX0_tenOf_113 : decode cX0_tenOf 113 = .ok (.aload_n 0, 1) := dk_42 (dk_at dksX0_tenOf_4 22 rfl rfl)
theorem dX0_tenOf_114 : decode cX0_tenOf 114 = .ok (.getfield 10, 3) := dk_180 0 10 (dk_at dksX0_tenOf_5 0 rfl rfl)
theorem dX0_tenOf_117 : decode cX0_tenOf 117 = .ok (.dup, 1) := dk_89 (dk_at dksX0_tenOf_5 3 rfl rfl)
theorem dX0_tenOf_118 : decode cX0_tenOf 118 = .ok (.getfield 221, 3) := dk_180 0 221 (dk_at dksX0_tenOf_5 4 rfl rfl)
theorem dX0_tenOf_121 : decode cX0_tenOf 121 = .ok (.iconst 1, 1) := dk_4 (dk_at dksX0_tenOf_5 7 rfl rfl)
theorem dX0_tenOf_122 : decode cX0_tenOf 122 = .ok (.iadd, 1) := dk_96 (dk_at dksX0_tenOf_5 8 rfl rfl)
theorem dX0_tenOf_123 : decode cX0_tenOf 123 = .ok (.putfield 221, 3) := dk_181 0 221 (dk_at dksX0_tenOf_5 9 rfl rfl)
theorem dX0_tenOf_126 : decode cX0_tenOf 126 = .ok (.aload_n 0, 1) := dk_42 (dk_at dksX0_tenOf_5 12 rfl rfl)
theorem dX0_tenOf_127 : decode cX0_tenOf 127 = .ok (.getfield 10, 3) := dk_180 0 10 (dk_at dksX0_tenOf_5 13 rfl rfl)
theorem dX0_tenOf_130 : decode cX0_tenOf 130 = .ok (.getfield 221, 3) := dk_180 0 221 (dk_at dksX0_tenOf_5 16 rfl rfl)
theorem dX0_tenOf_133 : decode cX0_tenOf 133 = .ok (.iconst 1, 1) := dk_4 (dk_at dksX0_tenOf_5 19 rfl rfl)
theorem dX0_tenOf_134 : decode cX0_tenOf 134 = .ok (.isub, 1) := dk_100 (dk_at dksX0_tenOf_5 20 rfl rfl)
theorem dX0_tenOf_135 : decode cX0_tenOf 135 = .ok (.ireturn, 1) := dk_172 (dk_at dksX0_tenOf_5 21 rfl rfl)
abbrev cX0_yields : ByteArray := prog_1_method_31_code
def yX0_yields : MethodName := ⟨RX0, "yields", "(II)I"⟩
def dkwX0_yields_1 : List UInt8 := [28, 50, 182, 0, 240, 182, 0, 244, 192, 1, 0, 182, 1, 1, 172, 78, 16, 245, 172, 78, 16, 243, 172]
abbrev dktX0_yields_1 : List UInt8 := dkwX0_yields_1 ++ []
def dkwX0_yields_0 : List UInt8 := [42, 27, 182, 0, 136, 153, 0, 10, 28, 184, 0, 237, 154, 0, 5, 2, 172, 42, 27, 42, 42, 180, 0, 78]
abbrev dktX0_yields_0 : List UInt8 := dkwX0_yields_0 ++ dktX0_yields_1
theorem dksX0_yields_0 : cX0_yields.data.toList.drop 0 = dktX0_yields_0 := by decide +kernel
theorem dksX0_yields_1 : cX0_yields.data.toList.drop 24 = dktX0_yields_1 := dk_seg dksX0_yields_0 24 rfl rfl
theorem dX0_yields_0 : decode cX0_yields 0 = .ok (.aload_n 0, 1) := dk_42 (dk_at dksX0_yields_0 0 rfl rfl)
theorem dX0_yields_1 : decode cX0_yields 1 = .ok (.iload_n 1, 1) := dk_27 (dk_at dksX0_yields_0 1 rfl rfl)
theorem dX0_yields_2 : decode cX0_yields 2 = .ok (.invokevirtual 136, 3) := dk_182 0 136 (dk_at dksX0_yields_0 2 rfl rfl)
theorem dX0_yields_5 : decode cX0_yields 5 = .ok (.ifCond .eq 10, 3) := dk_153 0 10 (dk_at dksX0_yields_0 5 rfl rfl)
theorem dX0_yields_8 : decode cX0_yields 8 = .ok (.iload_n 2, 1) := dk_28 (dk_at dksX0_yields_0 8 rfl rfl)
theorem dX0_yields_9 : decode cX0_yields 9 = .ok (.invokestatic 237, 3) := dk_184 0 237 (dk_at dksX0_yields_0 9 rfl rfl)
theorem dX0_yields_12 : decode cX0_yields 12 = .ok (.ifCond .ne 5, 3) := dk_154 0 5 (dk_at dksX0_yields_0 12 rfl rfl)
theorem dX0_yields_15 : decode cX0_yields 15 = .ok (.iconst (-1), 1) := dk_2 (dk_at dksX0_yields_0 15 rfl rfl)
theorem dX0_yields_16 : decode cX0_yields 16 = .ok (.ireturn, 1) := dk_172 (dk_at dksX0_yields_0 16 rfl rfl)
theorem dX0_yields_17 : decode cX0_yields 17 = .ok (.aload_n 0, 1) := dk_42 (dk_at dksX0_yields_0 17 rfl rfl)
theorem dX0_yields_18 : decode cX0_yields 18 = .ok (.iload_n 1, 1) := dk_27 (dk_at dksX0_yields_0 18 rfl rfl)
theorem dX0_yields_19 : decode cX0_yields 19 = .ok (.aload_n 0, 1) := dk_42 (dk_at dksX0_yields_0 19 rfl rfl)
theorem dX0_yields_20 : decode cX0_yields 20 = .ok (.aload_n 0, 1) := dk_42 (dk_at dksX0_yields_0 20 rfl rfl)
theorem dX0_yields_21 : decode cX0_yields 21 = .ok (.getfield 78, 3) := dk_180 0 78 (dk_at dksX0_yields_0 21 rfl rfl)
theorem dX0_yields_24 : decode cX0_yields 24 = .ok (.iload_n 2, 1) := dk_28 (dk_at dksX0_yields_1 0 rfl rfl)
theorem dX0_yields_25 : decode cX0_yields 25 = .ok (.aaload, 1) := dk_50 (dk_at dksX0_yields_1 1 rfl rfl)
theorem dX0_yields_26 : decode cX0_yields 26 = .ok (.invokevirtual 240, 3) := dk_182 0 240 (dk_at dksX0_yields_1 2 rfl rfl)
theorem dX0_yields_29 : decode cX0_yields 29 = .ok (.invokevirtual 244, 3) := dk_182 0 244 (dk_at dksX0_yields_1 5 rfl rfl)
theorem dX0_yields_32 : decode cX0_yields 32 = .ok (.checkcast 256, 3) := dk_192 1 0 (dk_at dksX0_yields_1 8 rfl rfl)
theorem dX0_yields_35 : decode cX0_yields 35 = .ok (.invokevirtual 257, 3) := dk_182 1 1 (dk_at dksX0_yields_1 11 rfl rfl)
theorem dX0_yields_38 : decode cX0_yields 38 = .ok (.ireturn, 1) := dk_172 (dk_at dksX0_yields_1 14 rfl rfl)
theorem dX0_yields_39 : decode cX0_yields 39 = .ok (.astore_n 3, 1) := dk_78 (dk_at dksX0_yields_1 15 rfl rfl)
theorem dX0_yields_40 : decode cX0_yields 40 = .ok (.bipush (-11), 2) := dk_16 245 (dk_at dksX0_yields_1 16 rfl rfl)
theorem dX0_yields_42 : decode cX0_yields 42 = .ok (.ireturn, 1) := dk_172 (dk_at dksX0_yields_1 18 rfl rfl)
theorem dX0_yields_43 : decode cX0_yields 43 = .ok (.astore_n 3, 1) := dk_78 (dk_at dksX0_yields_1 19 rfl rfl)
theorem dX0_yields_44 : decode cX0_yields 44 = .ok (.bipush (-13), 2) := dk_16 243 (dk_at dksX0_yields_1 20 rfl rfl)
theorem dX0_yields_46 : decode cX0_yields 46 = .ok (.ireturn, 1) := dk_172 (dk_at dksX0_yields_1 22 rfl rfl)
abbrev cX0_yieldsBy : ByteArray := prog_1_method_30_code
def yX0_yieldsBy : MethodName := ⟨RX0, "yieldsBy", "(I[B)I"⟩
def dkwX0_yieldsBy_3 : List UInt8 := [21, 4, 96, 44, 21, 4, 51, 79, 132, 4, 1, 167, 255, 227, 4, 172]
abbrev dktX0_yieldsBy_3 : List UInt8 := dkwX0_yieldsBy_3 ++ []
def dkwX0_yieldsBy_2 : List UInt8 := [16, 252, 172, 3, 54, 4, 21, 4, 16, 7, 162, 0, 28, 42, 180, 0, 10, 180, 0, 133, 16, 7, 27, 104]
abbrev dktX0_yieldsBy_2 : List UInt8 := dkwX0_yieldsBy_2 ++ dktX0_yieldsBy_3
def dkwX0_yieldsBy_1 : List UInt8 := [153, 0, 20, 44, 21, 4, 51, 3, 16, 30, 184, 0, 111, 62, 132, 4, 1, 167, 255, 231, 29, 154, 0, 6]
abbrev dktX0_yieldsBy_1 : List UInt8 := dkwX0_yieldsBy_1 ++ dktX0_yieldsBy_2
def dkwX0_yieldsBy_0 : List UInt8 := [44, 190, 16, 7, 160, 0, 7, 4, 167, 0, 4, 3, 62, 3, 54, 4, 21, 4, 44, 190, 162, 0, 24, 29]
abbrev dktX0_yieldsBy_0 : List UInt8 := dkwX0_yieldsBy_0 ++ dktX0_yieldsBy_1
theorem dksX0_yieldsBy_0 : cX0_yieldsBy.data.toList.drop 0 = dktX0_yieldsBy_0 := by decide +kernel
theorem dksX0_yieldsBy_1 : cX0_yieldsBy.data.toList.drop 24 = dktX0_yieldsBy_1 := dk_seg dksX0_yieldsBy_0 24 rfl rfl
theorem dksX0_yieldsBy_2 : cX0_yieldsBy.data.toList.drop 48 = dktX0_yieldsBy_2 := dk_seg dksX0_yieldsBy_1 24 rfl rfl
theorem dksX0_yieldsBy_3 : cX0_yieldsBy.data.toList.drop 72 = dktX0_yieldsBy_3 := dk_seg dksX0_yieldsBy_2 24 rfl rfl
theorem dX0_yieldsBy_0 : decode cX0_yieldsBy 0 = .ok (.aload_n 2, 1) := dk_44 (dk_at dksX0_yieldsBy_0 0 rfl rfl)
theorem dX0_yieldsBy_1 : decode cX0_yieldsBy 1 = .ok (.arraylength, 1) := dk_190 (dk_at dksX0_yieldsBy_0 1 rfl rfl)
theorem dX0_yieldsBy_2 : decode cX0_yieldsBy 2 = .ok (.bipush 7, 2) := dk_16 7 (dk_at dksX0_yieldsBy_0 2 rfl rfl)
theorem dX0_yieldsBy_4 : decode cX0_yieldsBy 4 = .ok (.if_icmp .ne 7, 3) := dk_160 0 7 (dk_at dksX0_yieldsBy_0 4 rfl rfl)
theorem dX0_yieldsBy_7 : decode cX0_yieldsBy 7 = .ok (.iconst 1, 1) := dk_4 (dk_at dksX0_yieldsBy_0 7 rfl rfl)
theorem dX0_yieldsBy_8 : decode cX0_yieldsBy 8 = .ok (.goto 4, 3) := dk_167 0 4 (dk_at dksX0_yieldsBy_0 8 rfl rfl)
theorem dX0_yieldsBy_11 : decode cX0_yieldsBy 11 = .ok (.iconst 0, 1) := dk_3 (dk_at dksX0_yieldsBy_0 11 rfl rfl)
theorem dX0_yieldsBy_12 : decode cX0_yieldsBy 12 = .ok (.istore_n 3, 1) := dk_62 (dk_at dksX0_yieldsBy_0 12 rfl rfl)
theorem dX0_yieldsBy_13 : decode cX0_yieldsBy 13 = .ok (.iconst 0, 1) := dk_3 (dk_at dksX0_yieldsBy_0 13 rfl rfl)
theorem dX0_yieldsBy_14 : decode cX0_yieldsBy 14 = .ok (.istore 4, 2) := dk_54 4 (dk_at dksX0_yieldsBy_0 14 rfl rfl)
theorem dX0_yieldsBy_16 : decode cX0_yieldsBy 16 = .ok (.iload 4, 2) := dk_21 4 (dk_at dksX0_yieldsBy_0 16 rfl rfl)
theorem dX0_yieldsBy_18 : decode cX0_yieldsBy 18 = .ok (.aload_n 2, 1) := dk_44 (dk_at dksX0_yieldsBy_0 18 rfl rfl)
theorem dX0_yieldsBy_19 : decode cX0_yieldsBy 19 = .ok (.arraylength, 1) := dk_190 (dk_at dksX0_yieldsBy_0 19 rfl rfl)
theorem dX0_yieldsBy_20 : decode cX0_yieldsBy 20 = .ok (.if_icmp .ge 24, 3) := dk_162 0 24 (dk_at dksX0_yieldsBy_0 20 rfl rfl)
theorem dX0_yieldsBy_23 : decode cX0_yieldsBy 23 = .ok (.iload_n 3, 1) := dk_29 (dk_at dksX0_yieldsBy_0 23 rfl rfl)
theorem dX0_yieldsBy_24 : decode cX0_yieldsBy 24 = .ok (.ifCond .eq 20, 3) := dk_153 0 20 (dk_at dksX0_yieldsBy_1 0 rfl rfl)
theorem dX0_yieldsBy_27 : decode cX0_yieldsBy 27 = .ok (.aload_n 2, 1) := dk_44 (dk_at dksX0_yieldsBy_1 3 rfl rfl)
theorem dX0_yieldsBy_28 : decode cX0_yieldsBy 28 = .ok (.iload 4, 2) := dk_21 4 (dk_at dksX0_yieldsBy_1 4 rfl rfl)
theorem dX0_yieldsBy_30 : decode cX0_yieldsBy 30 = .ok (.baload, 1) := dk_51 (dk_at dksX0_yieldsBy_1 6 rfl rfl)
theorem dX0_yieldsBy_31 : decode cX0_yieldsBy 31 = .ok (.iconst 0, 1) := dk_3 (dk_at dksX0_yieldsBy_1 7 rfl rfl)
theorem dX0_yieldsBy_32 : decode cX0_yieldsBy 32 = .ok (.bipush 30, 2) := dk_16 30 (dk_at dksX0_yieldsBy_1 8 rfl rfl)
theorem dX0_yieldsBy_34 : decode cX0_yieldsBy 34 = .ok (.invokestatic 111, 3) := dk_184 0 111 (dk_at dksX0_yieldsBy_1 10 rfl rfl)
theorem dX0_yieldsBy_37 : decode cX0_yieldsBy 37 = .ok (.istore_n 3, 1) := dk_62 (dk_at dksX0_yieldsBy_1 13 rfl rfl)
theorem dX0_yieldsBy_38 : decode cX0_yieldsBy 38 = .ok (.iinc 4 1, 3) := dk_132 4 1 (dk_at dksX0_yieldsBy_1 14 rfl rfl)
theorem dX0_yieldsBy_41 : decode cX0_yieldsBy 41 = .ok (.goto (-25), 3) := dk_167 255 231 (dk_at dksX0_yieldsBy_1 17 rfl rfl)
theorem dX0_yieldsBy_44 : decode cX0_yieldsBy 44 = .ok (.iload_n 3, 1) := dk_29 (dk_at dksX0_yieldsBy_1 20 rfl rfl)
theorem dX0_yieldsBy_45 : decode cX0_yieldsBy 45 = .ok (.ifCond .ne 6, 3) := dk_154 0 6 (dk_at dksX0_yieldsBy_1 21 rfl rfl)
theorem dX0_yieldsBy_48 : decode cX0_yieldsBy 48 = .ok (.bipush (-4), 2) := dk_16 252 (dk_at dksX0_yieldsBy_2 0 rfl rfl)
theorem dX0_yieldsBy_50 : decode cX0_yieldsBy 50 = .ok (.ireturn, 1) := dk_172 (dk_at dksX0_yieldsBy_2 2 rfl rfl)
theorem dX0_yieldsBy_51 : decode cX0_yieldsBy 51 = .ok (.iconst 0, 1) := dk_3 (dk_at dksX0_yieldsBy_2 3 rfl rfl)
theorem dX0_yieldsBy_52 : decode cX0_yieldsBy 52 = .ok (.istore 4, 2) := dk_54 4 (dk_at dksX0_yieldsBy_2 4 rfl rfl)
theorem dX0_yieldsBy_54 : decode cX0_yieldsBy 54 = .ok (.iload 4, 2) := dk_21 4 (dk_at dksX0_yieldsBy_2 6 rfl rfl)
theorem dX0_yieldsBy_56 : decode cX0_yieldsBy 56 = .ok (.bipush 7, 2) := dk_16 7 (dk_at dksX0_yieldsBy_2 8 rfl rfl)
theorem dX0_yieldsBy_58 : decode cX0_yieldsBy 58 = .ok (.if_icmp .ge 28, 3) := dk_162 0 28 (dk_at dksX0_yieldsBy_2 10 rfl rfl)
theorem dX0_yieldsBy_61 : decode cX0_yieldsBy 61 = .ok (.aload_n 0, 1) := dk_42 (dk_at dksX0_yieldsBy_2 13 rfl rfl)
theorem dX0_yieldsBy_62 : decode cX0_yieldsBy 62 = .ok (.getfield 10, 3) := dk_180 0 10 (dk_at dksX0_yieldsBy_2 14 rfl rfl)
theorem dX0_yieldsBy_65 : decode cX0_yieldsBy 65 = .ok (.getfield 133, 3) := dk_180 0 133 (dk_at dksX0_yieldsBy_2 17 rfl rfl)
theorem dX0_yieldsBy_68 : decode cX0_yieldsBy 68 = .ok (.bipush 7, 2) := dk_16 7 (dk_at dksX0_yieldsBy_2 20 rfl rfl)
theorem dX0_yieldsBy_70 : decode cX0_yieldsBy 70 = .ok (.iload_n 1, 1) := dk_27 (dk_at dksX0_yieldsBy_2 22 rfl rfl)
theorem dX0_yieldsBy_71 : decode cX0_yieldsBy 71 = .ok (.imul, 1) := dk_104 (dk_at dksX0_yieldsBy_2 23 rfl rfl)
theorem dX0_yieldsBy_72 : decode cX0_yieldsBy 72 = .ok (.iload 4, 2) := dk_21 4 (dk_at dksX0_yieldsBy_3 0 rfl rfl)
theorem dX0_yieldsBy_74 : decode cX0_yieldsBy 74 = .ok (.iadd, 1) := dk_96 (dk_at dksX0_yieldsBy_3 2 rfl rfl)
theorem dX0_yieldsBy_75 : decode cX0_yieldsBy 75 = .ok (.aload_n 2, 1) := dk_44 (dk_at dksX0_yieldsBy_3 3 rfl rfl)
theorem dX0_yieldsBy_76 : decode cX0_yieldsBy 76 = .ok (.iload 4, 2) := dk_21 4 (dk_at dksX0_yieldsBy_3 4 rfl rfl)
theorem dX0_yieldsBy_78 : decode cX0_yieldsBy 78 = .ok (.baload, 1) := dk_51 (dk_at dksX0_yieldsBy_3 6 rfl rfl)
theorem dX0_yieldsBy_79 : decode cX0_yieldsBy 79 = .ok (.iastore, 1) := dk_79 (dk_at dksX0_yieldsBy_3 7 rfl rfl)
theorem dX0_yieldsBy_80 : decode cX0_yieldsBy 80 = .ok (.iinc 4 1, 3) := dk_132 4 1 (dk_at dksX0_yieldsBy_3 8 rfl rfl)
theorem dX0_yieldsBy_83 : decode cX0_yieldsBy 83 = .ok (.goto (-29), 3) := dk_167 255 227 (dk_at dksX0_yieldsBy_3 11 rfl rfl)
theorem dX0_yieldsBy_86 : decode cX0_yieldsBy 86 = .ok (.iconst 1, 1) := dk_4 (dk_at dksX0_yieldsBy_3 14 rfl rfl)
theorem dX0_yieldsBy_87 : decode cX0_yieldsBy 87 = .ok (.ireturn, 1) := dk_172 (dk_at dksX0_yieldsBy_3 15 rfl rfl)
abbrev cX0_flock : ByteArray := prog_1_method_32_code
def yX0_flock : MethodName := ⟨RX0, "flock", "(II)I"⟩
def dkwX0_flock_6 : List UInt8 := [180, 1, 11, 181, 1, 11, 29, 172]
abbrev dktX0_flock_6 : List UInt8 := dkwX0_flock_6 ++ []
def dkwX0_flock_5 : List UInt8 := [180, 1, 8, 181, 1, 8, 42, 180, 0, 10, 27, 5, 160, 0, 7, 28, 167, 0, 10, 42, 180, 0, 10]
abbrev dktX0_flock_5 : List UInt8 := dkwX0_flock_5 ++ dktX0_flock_6
def dkwX0_flock_4 : List UInt8 := [180, 1, 5, 181, 1, 5, 42, 180, 0, 10, 27, 4, 160, 0, 7, 28, 167, 0, 10, 42, 180, 0, 10]
abbrev dktX0_flock_4 : List UInt8 := dkwX0_flock_4 ++ dktX0_flock_5
def dkwX0_flock_3 : List UInt8 := [180, 0, 10, 180, 1, 11, 62, 42, 180, 0, 10, 27, 154, 0, 7, 28, 167, 0, 10, 42, 180, 0, 10]
abbrev dktX0_flock_3 : List UInt8 := dkwX0_flock_3 ++ dktX0_flock_4
def dkwX0_flock_2 : List UInt8 := [180, 1, 5, 167, 0, 25, 27, 4, 160, 0, 13, 42, 180, 0, 10, 180, 1, 8, 167, 0, 10, 42]
abbrev dktX0_flock_2 : List UInt8 := dkwX0_flock_2 ++ dktX0_flock_3
def dkwX0_flock_1 : List UInt8 := [167, 0, 13, 28, 3, 16, 6, 184, 0, 111, 154, 0, 5, 2, 172, 27, 154, 0, 13, 42, 180, 0, 10]
abbrev dktX0_flock_1 : List UInt8 := dkwX0_flock_1 ++ dktX0_flock_2
def dkwX0_flock_0 : List UInt8 := [27, 3, 5, 184, 0, 111, 153, 0, 30, 27, 5, 160, 0, 15, 28, 4, 8, 184, 0, 111, 154, 0, 18]
abbrev dktX0_flock_0 : List UInt8 := dkwX0_flock_0 ++ dktX0_flock_1
theorem dksX0_flock_0 : cX0_flock.data.toList.drop 0 = dktX0_flock_0 := by decide +kernel
theorem dksX0_flock_1 : cX0_flock.data.toList.drop 23 = dktX0_flock_1 := dk_seg dksX0_flock_0 23 rfl rfl
theorem dksX0_flock_2 : cX0_flock.data.toList.drop 46 = dktX0_flock_2 := dk_seg dksX0_flock_1 23 rfl rfl
theorem dksX0_flock_3 : cX0_flock.data.toList.drop 68 = dktX0_flock_3 := dk_seg dksX0_flock_2 22 rfl rfl
theorem dksX0_flock_4 : cX0_flock.data.toList.drop 91 = dktX0_flock_4 := dk_seg dksX0_flock_3 23 rfl rfl
theorem dksX0_flock_5 : cX0_flock.data.toList.drop 114 = dktX0_flock_5 := dk_seg dksX0_flock_4 23 rfl rfl
theorem dksX0_flock_6 : cX0_flock.data.toList.drop 137 = dktX0_flock_6 := dk_seg dksX0_flock_5 23 rfl rfl
theorem dX0_flock_0 : decode cX0_flock 0 = .ok (.iload_n 1, 1) := dk_27 (dk_at dksX0_flock_0 0 rfl rfl)
theorem dX0_flock_1 : decode cX0_flock 1 = .ok (.iconst 0, 1) := dk_3 (dk_at dksX0_flock_0 1 rfl rfl)
theorem dX0_flock_2 : decode cX0_flock 2 = .ok (.iconst 2, 1) := dk_5 (dk_at dksX0_flock_0 2 rfl rfl)
theorem dX0_flock_3 : decode cX0_flock 3 = .ok (.invokestatic 111, 3) := dk_184 0 111 (dk_at dksX0_flock_0 3 rfl rfl)
theorem dX0_flock_6 : decode cX0_flock 6 = .ok (.ifCond .eq 30, 3) := dk_153 0 30 (dk_at dksX0_flock_0 6 rfl rfl)
theorem dX0_flock_9 : decode cX0_flock 9 = .ok (.iload_n 1, 1) := dk_27 (dk_at dksX0_flock_0 9 rfl rfl)
theorem dX0_flock_10 : decode cX0_flock 10 = .ok (.iconst 2, 1) := dk_5 (dk_at dksX0_flock_0 10 rfl rfl)
theorem dX0_flock_11 : decode cX0_flock 11 = .ok (.if_icmp .ne 15, 3) := dk_160 0 15 (dk_at dksX0_flock_0 11 rfl rfl)
theorem dX0_flock_14 : decode cX0_flock 14 = .ok (.iload_n 2, 1) := dk_28 (dk_at dksX0_flock_0 14 rfl rfl)
theorem dX0_flock_15 : decode cX0_flock 15 = .ok (.iconst 1, 1) := dk_4 (dk_at dksX0_flock_0 15 rfl rfl)
theorem dX0_flock_16 : decode cX0_flock 16 = .ok (.iconst 5, 1) := dk_8 (dk_at dksX0_flock_0 16 rfl rfl)
theorem dX0_flock_17 : decode cX0_flock 17 = .ok (.invokestatic 111, 3) := dk_184 0 111 (dk_at dksX0_flock_0 17 rfl rfl)
theorem dX0_flock_20 : decode cX0_flock 20 = .ok (.ifCond .ne 18, 3) := dk_154 0 18 (dk_at dksX0_flock_0 20 rfl rfl)
theorem dX0_flock_23 : decode cX0_flock 23 = .ok (.goto 13, 3) := dk_167 0 13 (dk_at dksX0_flock_1 0 rfl rfl)
theorem dX0_flock_26 : decode cX0_flock 26 = .ok (.iload_n 2, 1) := dk_28 (dk_at dksX0_flock_1 3 rfl rfl)
theorem dX0_flock_27 : decode cX0_flock 27 = .ok (.iconst 0, 1) := dk_3 (dk_at dksX0_flock_1 4 rfl rfl)
theorem dX0_flock_28 : decode cX0_flock 28 = .ok (.bipush 6, 2) := dk_16 6 (dk_at dksX0_flock_1 5 rfl rfl)
theorem dX0_flock_30 : decode cX0_flock 30 = .ok (.invokestatic 111, 3) := dk_184 0 111 (dk_at dksX0_flock_1 7 rfl rfl)
theorem dX0_flock_33 : decode cX0_flock 33 = .ok (.ifCond .ne 5, 3) := dk_154 0 5 (dk_at dksX0_flock_1 10 rfl rfl)
theorem dX0_flock_36 : decode cX0_flock 36 = .ok (.iconst (-1), 1) := dk_2 (dk_at dksX0_flock_1 13 rfl rfl)
theorem dX0_flock_37 : decode cX0_flock 37 = .ok (.ireturn, 1) := dk_172 (dk_at dksX0_flock_1 14 rfl rfl)
theorem dX0_flock_38 : decode cX0_flock 38 = .ok (.iload_n 1, 1) := dk_27 (dk_at dksX0_flock_1 15 rfl rfl)
theorem dX0_flock_39 : decode cX0_flock 39 = .ok (.ifCond .ne 13, 3) := dk_154 0 13 (dk_at dksX0_flock_1 16 rfl rfl)
theorem dX0_flock_42 : decode cX0_flock 42 = .ok (.aload_n 0, 1) := dk_42 (dk_at dksX0_flock_1 19 rfl rfl)
theorem dX0_flock_43 : decode cX0_flock 43 = .ok (.getfield 10, 3) := dk_180 0 10 (dk_at dksX0_flock_1 20 rfl rfl)
theorem dX0_flock_46 : decode cX0_flock 46 = .ok (.getfield 261, 3) := dk_180 1 5 (dk_at dksX0_flock_2 0 rfl rfl)
theorem dX0_flock_49 : decode cX0_flock 49 = .ok (.goto 25, 3) := dk_167 0 25 (dk_at dksX0_flock_2 3 rfl rfl)
theorem dX0_flock_52 : decode cX0_flock 52 = .ok (.iload_n 1, 1) := dk_27 (dk_at dksX0_flock_2 6 rfl rfl)
theorem dX0_flock_53 : decode cX0_flock 53 = .ok (.iconst 1, 1) := dk_4 (dk_at dksX0_flock_2 7 rfl rfl)
theorem dX0_flock_54 : decode cX0_flock 54 = .ok (.if_icmp .ne 13, 3) := dk_160 0 13 (dk_at dksX0_flock_2 8 rfl rfl)
theorem dX0_flock_57 : decode cX0_flock 57 = .ok (.aload_n 0, 1) := dk_42 (dk_at dksX0_flock_2 11 rfl rfl)
theorem dX0_flock_58 : decode cX0_flock 58 = .ok (.getfield 10, 3) := dk_180 0 10 (dk_at dksX0_flock_2 12 rfl rfl)
theorem dX0_flock_61 : decode cX0_flock 61 = .ok (.getfield 264, 3) := dk_180 1 8 (dk_at dksX0_flock_2 15 rfl rfl)
theorem dX0_flock_64 : decode cX0_flock 64 = .ok (.goto 10, 3) := dk_167 0 10 (dk_at dksX0_flock_2 18 rfl rfl)
theorem dX0_flock_67 : decode cX0_flock 67 = .ok (.aload_n 0, 1) := dk_42 (dk_at dksX0_flock_2 21 rfl rfl)
theorem dX0_flock_68 : decode cX0_flock 68 = .ok (.getfield 10, 3) := dk_180 0 10 (dk_at dksX0_flock_3 0 rfl rfl)
theorem dX0_flock_71 : decode cX0_flock 71 = .ok (.getfield 267, 3) := dk_180 1 11 (dk_at dksX0_flock_3 3 rfl rfl)
theorem dX0_flock_74 : decode cX0_flock 74 = .ok (.istore_n 3, 1) := dk_62 (dk_at dksX0_flock_3 6 rfl rfl)
theorem dX0_flock_75 : decode cX0_flock 75 = .ok (.aload_n 0, 1) := dk_42 (dk_at dksX0_flock_3 7 rfl rfl)
theorem dX0_flock_76 : decode cX0_flock 76 = .ok (.getfield 10, 3) := dk_180 0 10 (dk_at dksX0_flock_3 8 rfl rfl)
theorem dX0_flock_79 : decode cX0_flock 79 = .ok (.iload_n 1, 1) := dk_27 (dk_at dksX0_flock_3 11 rfl rfl)
theorem dX0_flock_80 : decode cX0_flock 80 = .ok (.ifCond .ne 7, 3) := dk_154 0 7 (dk_at dksX0_flock_3 12 rfl rfl)
theorem dX0_flock_83 : decode cX0_flock 83 = .ok (.iload_n 2, 1) := dk_28 (dk_at dksX0_flock_3 15 rfl rfl)
theorem dX0_flock_84 : decode cX0_flock 84 = .ok (.goto 10, 3) := dk_167 0 10 (dk_at dksX0_flock_3 16 rfl rfl)
theorem dX0_flock_87 : decode cX0_flock 87 = .ok (.aload_n 0, 1) := dk_42 (dk_at dksX0_flock_3 19 rfl rfl)
theorem dX0_flock_88 : decode cX0_flock 88 = .ok (.getfield 10, 3) := dk_180 0 10 (dk_at dksX0_flock_3 20 rfl rfl)
theorem dX0_flock_91 : decode cX0_flock 91 = .ok (.getfield 261, 3) := dk_180 1 5 (dk_at dksX0_flock_4 0 rfl rfl)
theorem dX0_flock_94 : decode cX0_flock 94 = .ok (.putfield 261, 3) := dk_181 1 5 (dk_at dksX0_flock_4 3 rfl rfl)
theorem dX0_flock_97 : decode cX0_flock 97 = .ok (.aload_n 0, 1) := dk_42 (dk_at dksX0_flock_4 6 rfl rfl)
theorem dX0_flock_98 : decode cX0_flock 98 = .ok (.getfield 10, 3) := dk_180 0 10 (dk_at dksX0_flock_4 7 rfl rfl)
theorem dX0_flock_101 : decode cX0_flock 101 = .ok (.iload_n 1, 1) := dk_27 (dk_at dksX0_flock_4 10 rfl rfl)
theorem dX0_flock_102 : decode cX0_flock 102 = .ok (.iconst 1, 1) := dk_4 (dk_at dksX0_flock_4 11 rfl rfl)
theorem dX0_flock_103 : decode cX0_flock 103 = .ok (.if_icmp .ne 7, 3) := dk_160 0 7 (dk_at dksX0_flock_4 12 rfl rfl)
theorem dX0_flock_106 : decode cX0_flock 106 = .ok (.iload_n 2, 1) := dk_28 (dk_at dksX0_flock_4 15 rfl rfl)
theorem dX0_flock_107 : decode cX0_flock 107 = .ok (.goto 10, 3) := dk_167 0 10 (dk_at dksX0_flock_4 16 rfl rfl)
theorem dX0_flock_110 : decode cX0_flock 110 = .ok (.aload_n 0, 1) := dk_42 (dk_at dksX0_flock_4 19 rfl rfl)
theorem dX0_flock_111 : decode cX0_flock 111 = .ok (.getfield 10, 3) := dk_180 0 10 (dk_at dksX0_flock_4 20 rfl rfl)
theorem dX0_flock_114 : decode cX0_flock 114 = .ok (.getfield 264, 3) := dk_180 1 8 (dk_at dksX0_flock_5 0 rfl rfl)
theorem dX0_flock_117 : decode cX0_flock 117 = .ok (.putfield 264, 3) := dk_181 1 8 (dk_at dksX0_flock_5 3 rfl rfl)
theorem dX0_flock_120 : decode cX0_flock 120 = .ok (.aload_n 0, 1) := dk_42 (dk_at dksX0_flock_5 6 rfl rfl)
theorem dX0_flock_121 : decode cX0_flock 121 = .ok (.getfield 10, 3) := dk_180 0 10 (dk_at dksX0_flock_5 7 rfl rfl)
theorem dX0_flock_124 : decode cX0_flock 124 = .ok (.iload_n 1, 1) := dk_27 (dk_at dksX0_flock_5 10 rfl rfl)
theorem dX0_flock_125 : decode cX0_flock 125 = .ok (.iconst 2, 1) := dk_5 (dk_at dksX0_flock_5 11 rfl rfl)
theorem dX0_flock_126 : decode cX0_flock 126 = .ok (.if_icmp .ne 7, 3) := dk_160 0 7 (dk_at dksX0_flock_5 12 rfl rfl)
theorem dX0_flock_129 : decode cX0_flock 129 = .ok (.iload_n 2, 1) := dk_28 (dk_at dksX0_flock_5 15 rfl rfl)
theorem dX0_flock_130 : decode cX0_flock 130 = .ok (.goto 10, 3) := dk_167 0 10 (dk_at dksX0_flock_5 16 rfl rfl)
theorem dX0_flock_133 : decode cX0_flock 133 = .ok (.aload_n 0, 1) := dk_42 (dk_at dksX0_flock_5 19 rfl rfl)
theorem dX0_flock_134 : decode cX0_flock 134 = .ok (.getfield 10, 3) := dk_180 0 10 (dk_at dksX0_flock_5 20 rfl rfl)
theorem dX0_flock_137 : decode cX0_flock 137 = .ok (.getfield 267, 3) := dk_180 1 11 (dk_at dksX0_flock_6 0 rfl rfl)
theorem dX0_flock_140 : decode cX0_flock 140 = .ok (.putfield 267, 3) := dk_181 1 11 (dk_at dksX0_flock_6 3 rfl rfl)
theorem dX0_flock_143 : decode cX0_flock 143 = .ok (.iload_n 3, 1) := dk_29 (dk_at dksX0_flock_6 6 rfl rfl)
theorem dX0_flock_144 : decode cX0_flock 144 = .ok (.ireturn, 1) := dk_172 (dk_at dksX0_flock_6 7 rfl rfl)
abbrev cX0_rests : ByteArray := prog_1_method_33_code
def yX0_rests : MethodName := ⟨RX0, "rests", "()I"⟩
def dkwX0_rests_0 : List UInt8 := [42, 180, 0, 45, 2, 182, 1, 14, 172]
abbrev dktX0_rests_0 : List UInt8 := dkwX0_rests_0 ++ []
theorem dksX0_rests_0 : cX0_rests.data.toList.drop 0 = dktX0_rests_0 := by decide +kernel
theorem dX0_rests_0 : decode cX0_rests 0 = .ok (.aload_n 0, 1) := dk_42 (dk_at dksX0_rests_0 0 rfl rfl)
theorem dX0_rests_1 : decode cX0_rests 1 = .ok (.getfield 45, 3) := dk_180 0 45 (dk_at dksX0_rests_0 1 rfl rfl)
theorem dX0_rests_4 : decode cX0_rests 4 = .ok (.iconst (-1), 1) := dk_2 (dk_at dksX0_rests_0 4 rfl rfl)
theorem dX0_rests_5 : decode cX0_rests 5 = .ok (.invokevirtual 270, 3) := dk_182 1 14 (dk_at dksX0_rests_0 5 rfl rfl)
theorem dX0_rests_8 : decode cX0_rests 8 = .ok (.ireturn, 1) := dk_172 (dk_at dksX0_rests_0 8 rfl rfl)
abbrev cX0_restOf : ByteArray := prog_1_method_34_code
def yX0_restOf : MethodName := ⟨RX0, "restOf", "(II)I"⟩
def dkwX0_restOf_2 : List UInt8 := [167, 0, 5, 16, 253, 172]
abbrev dktX0_restOf_2 : List UInt8 := dkwX0_restOf_2 ++ []
def dkwX0_restOf_1 : List UInt8 := [155, 0, 27, 27, 42, 180, 0, 45, 27, 182, 1, 14, 162, 0, 15, 42, 180, 0, 45, 180, 1, 17, 28, 46]
abbrev dktX0_restOf_1 : List UInt8 := dkwX0_restOf_1 ++ dktX0_restOf_2
def dkwX0_restOf_0 : List UInt8 := [28, 3, 16, 7, 184, 0, 111, 153, 0, 13, 42, 28, 7, 112, 182, 0, 136, 154, 0, 5, 2, 172, 27]
abbrev dktX0_restOf_0 : List UInt8 := dkwX0_restOf_0 ++ dktX0_restOf_1
theorem dksX0_restOf_0 : cX0_restOf.data.toList.drop 0 = dktX0_restOf_0 := by decide +kernel
theorem dksX0_restOf_1 : cX0_restOf.data.toList.drop 23 = dktX0_restOf_1 := dk_seg dksX0_restOf_0 23 rfl rfl
theorem dksX0_restOf_2 : cX0_restOf.data.toList.drop 47 = dktX0_restOf_2 := dk_seg dksX0_restOf_1 24 rfl rfl
theorem dX0_restOf_0 : decode cX0_restOf 0 = .ok (.iload_n 2, 1) := dk_28 (dk_at dksX0_restOf_0 0 rfl rfl)
theorem dX0_restOf_1 : decode cX0_restOf 1 = .ok (.iconst 0, 1) := dk_3 (dk_at dksX0_restOf_0 1 rfl rfl)
theorem dX0_restOf_2 : decode cX0_restOf 2 = .ok (.bipush 7, 2) := dk_16 7 (dk_at dksX0_restOf_0 2 rfl rfl)
theorem dX0_restOf_4 : decode cX0_restOf 4 = .ok (.invokestatic 111, 3) := dk_184 0 111 (dk_at dksX0_restOf_0 4 rfl rfl)
theorem dX0_restOf_7 : decode cX0_restOf 7 = .ok (.ifCond .eq 13, 3) := dk_153 0 13 (dk_at dksX0_restOf_0 7 rfl rfl)
theorem dX0_restOf_10 : decode cX0_restOf 10 = .ok (.aload_n 0, 1) := dk_42 (dk_at dksX0_restOf_0 10 rfl rfl)
theorem dX0_restOf_11 : decode cX0_restOf 11 = .ok (.iload_n 2, 1) := dk_28 (dk_at dksX0_restOf_0 11 rfl rfl)
theorem dX0_restOf_12 : decode cX0_restOf 12 = .ok (.iconst 4, 1) := dk_7 (dk_at dksX0_restOf_0 12 rfl rfl)
theorem dX0_restOf_13 : decode cX0_restOf 13 = .ok (.irem, 1) := dk_112 (dk_at dksX0_restOf_0 13 rfl rfl)
theorem dX0_restOf_14 : decode cX0_restOf 14 = .ok (.invokevirtual 136, 3) := dk_182 0 136 (dk_at dksX0_restOf_0 14 rfl rfl)
theorem dX0_restOf_17 : decode cX0_restOf 17 = .ok (.ifCond .ne 5, 3) := dk_154 0 5 (dk_at dksX0_restOf_0 17 rfl rfl)
theorem dX0_restOf_20 : decode cX0_restOf 20 = .ok (.iconst (-1), 1) := dk_2 (dk_at dksX0_restOf_0 20 rfl rfl)
theorem dX0_restOf_21 : decode cX0_restOf 21 = .ok (.ireturn, 1) := dk_172 (dk_at dksX0_restOf_0 21 rfl rfl)
theorem dX0_restOf_22 : decode cX0_restOf 22 = .ok (.iload_n 1, 1) := dk_27 (dk_at dksX0_restOf_0 22 rfl rfl)
theorem dX0_restOf_23 : decode cX0_restOf 23 = .ok (.ifCond .lt 27, 3) := dk_155 0 27 (dk_at dksX0_restOf_1 0 rfl rfl)
theorem dX0_restOf_26 : decode cX0_restOf 26 = .ok (.iload_n 1, 1) := dk_27 (dk_at dksX0_restOf_1 3 rfl rfl)
theorem dX0_restOf_27 : decode cX0_restOf 27 = .ok (.aload_n 0, 1) := dk_42 (dk_at dksX0_restOf_1 4 rfl rfl)
theorem dX0_restOf_28 : decode cX0_restOf 28 = .ok (.getfield 45, 3) := dk_180 0 45 (dk_at dksX0_restOf_1 5 rfl rfl)
theorem dX0_restOf_31 : decode cX0_restOf 31 = .ok (.iload_n 1, 1) := dk_27 (dk_at dksX0_restOf_1 8 rfl rfl)
theorem dX0_restOf_32 : decode cX0_restOf 32 = .ok (.invokevirtual 270, 3) := dk_182 1 14 (dk_at dksX0_restOf_1 9 rfl rfl)
theorem dX0_restOf_35 : decode cX0_restOf 35 = .ok (.if_icmp .ge 15, 3) := dk_162 0 15 (dk_at dksX0_restOf_1 12 rfl rfl)
theorem dX0_restOf_38 : decode cX0_restOf 38 = .ok (.aload_n 0, 1) := dk_42 (dk_at dksX0_restOf_1 15 rfl rfl)
theorem dX0_restOf_39 : decode cX0_restOf 39 = .ok (.getfield 45, 3) := dk_180 0 45 (dk_at dksX0_restOf_1 16 rfl rfl)
theorem dX0_restOf_42 : decode cX0_restOf 42 = .ok (.getfield 273, 3) := dk_180 1 17 (dk_at dksX0_restOf_1 19 rfl rfl)
theorem dX0_restOf_45 : decode cX0_restOf 45 = .ok (.iload_n 2, 1) := dk_28 (dk_at dksX0_restOf_1 22 rfl rfl)
theorem dX0_restOf_46 : decode cX0_restOf 46 = .ok (.iaload, 1) := dk_46 (dk_at dksX0_restOf_1 23 rfl rfl)
theorem dX0_restOf_47 : decode cX0_restOf 47 = .ok (.goto 5, 3) := dk_167 0 5 (dk_at dksX0_restOf_2 0 rfl rfl)
theorem dX0_restOf_50 : decode cX0_restOf 50 = .ok (.bipush (-3), 2) := dk_16 253 (dk_at dksX0_restOf_2 3 rfl rfl)
theorem dX0_restOf_52 : decode cX0_restOf 52 = .ok (.ireturn, 1) := dk_172 (dk_at dksX0_restOf_2 5 rfl rfl)
abbrev cX0_finders : ByteArray := prog_1_method_35_code
def yX0_finders : MethodName := ⟨RX0, "finders", "(III)I"⟩
def dkwX0_finders_6 : List UInt8 := [153, 0, 7, 3, 167, 0, 7, 4, 21, 6, 120, 128, 54, 5, 132, 6, 1, 167, 255, 142, 21, 5, 172]
abbrev dktX0_finders_6 : List UInt8 := dkwX0_finders_6 ++ []
def dkwX0_finders_5 : List UInt8 := [21, 7, 104, 164, 0, 7, 4, 167, 0, 4, 3, 54, 9, 21, 5, 21, 8, 154, 0, 8, 21, 9]
abbrev dktX0_finders_5 : List UInt8 := dkwX0_finders_5 ++ dktX0_finders_6
def dkwX0_finders_4 : List UInt8 := [54, 8, 21, 7, 158, 0, 30, 29, 21, 7, 104, 21, 4, 96, 21, 7, 4, 96, 104, 21, 6, 21, 4, 104]
abbrev dktX0_finders_4 : List UInt8 := dkwX0_finders_4 ++ dktX0_finders_5
def dkwX0_finders_3 : List UInt8 := [96, 104, 29, 21, 7, 4, 96, 104, 21, 4, 96, 21, 7, 5, 96, 104, 164, 0, 7, 4, 167, 0, 4, 3]
abbrev dktX0_finders_3 : List UInt8 := dkwX0_finders_3 ++ dktX0_finders_4
def dkwX0_finders_2 : List UInt8 := [163, 0, 114, 27, 21, 6, 100, 54, 7, 21, 6, 158, 0, 36, 21, 6, 4, 100, 21, 4, 104, 21, 7, 4]
abbrev dktX0_finders_2 : List UInt8 := dkwX0_finders_2 ++ dktX0_finders_3
def dkwX0_finders_1 : List UInt8 := [184, 0, 111, 154, 0, 5, 2, 172, 28, 29, 100, 54, 4, 3, 54, 5, 3, 54, 6, 21, 6, 27]
abbrev dktX0_finders_1 : List UInt8 := dkwX0_finders_1 ++ dktX0_finders_2
def dkwX0_finders_0 : List UInt8 := [27, 5, 16, 20, 184, 0, 111, 153, 0, 22, 28, 4, 16, 60, 184, 0, 111, 153, 0, 12, 29, 3, 28]
abbrev dktX0_finders_0 : List UInt8 := dkwX0_finders_0 ++ dktX0_finders_1
theorem dksX0_finders_0 : cX0_finders.data.toList.drop 0 = dktX0_finders_0 := by decide +kernel
theorem dksX0_finders_1 : cX0_finders.data.toList.drop 23 = dktX0_finders_1 := dk_seg dksX0_finders_0 23 rfl rfl
theorem dksX0_finders_2 : cX0_finders.data.toList.drop 45 = dktX0_finders_2 := dk_seg dksX0_finders_1 22 rfl rfl
theorem dksX0_finders_3 : cX0_finders.data.toList.drop 69 = dktX0_finders_3 := dk_seg dksX0_finders_2 24 rfl rfl
theorem dksX0_finders_4 : cX0_finders.data.toList.drop 93 = dktX0_finders_4 := dk_seg dksX0_finders_3 24 rfl rfl
theorem dksX0_finders_5 : cX0_finders.data.toList.drop 117 = dktX0_finders_5 := dk_seg dksX0_finders_4 24 rfl rfl
theorem dksX0_finders_6 : cX0_finders.data.toList.drop 139 = dktX0_finders_6 := dk_seg dksX0_finders_5 22 rfl rfl
theorem dX0_finders_0 : decode cX0_finders 0 = .ok (.iload_n 1, 1) := dk_27 (dk_at dksX0_finders_0 0 rfl rfl)
theorem dX0_finders_1 : decode cX0_finders 1 = .ok (.iconst 2, 1) := dk_5 (dk_at dksX0_finders_0 1 rfl rfl)
theorem dX0_finders_2 : decode cX0_finders 2 = .ok (.bipush 20, 2) := dk_16 20 (dk_at dksX0_finders_0 2 rfl rfl)
theorem dX0_finders_4 : decode cX0_finders 4 = .ok (.invokestatic 111, 3) := dk_184 0 111 (dk_at dksX0_finders_0 4 rfl rfl)
theorem dX0_finders_7 : decode cX0_finders 7 = .ok (.ifCond .eq 22, 3) := dk_153 0 22 (dk_at dksX0_finders_0 7 rfl rfl)
theorem dX0_finders_10 : decode cX0_finders 10 = .ok (.iload_n 2, 1) := dk_28 (dk_at dksX0_finders_0 10 rfl rfl)
theorem dX0_finders_11 : decode cX0_finders 11 = .ok (.iconst 1, 1) := dk_4 (dk_at dksX0_finders_0 11 rfl rfl)
theorem dX0_finders_12 : decode cX0_finders 12 = .ok (.bipush 60, 2) := dk_16 60 (dk_at dksX0_finders_0 12 rfl rfl)
theorem dX0_finders_14 : decode cX0_finders 14 = .ok (.invokestatic 111, 3) := dk_184 0 111 (dk_at dksX0_finders_0 14 rfl rfl)
theorem dX0_finders_17 : decode cX0_finders 17 = .ok (.ifCond .eq 12, 3) := dk_153 0 12 (dk_at dksX0_finders_0 17 rfl rfl)
theorem dX0_finders_20 : decode cX0_finders 20 = .ok (.iload_n 3, 1) := dk_29 (dk_at dksX0_finders_0 20 rfl rfl)
theorem dX0_finders_21 : decode cX0_finders 21 = .ok (.iconst 0, 1) := dk_3 (dk_at dksX0_finders_0 21 rfl rfl)
theorem dX0_finders_22 : decode cX0_finders 22 = .ok (.iload_n 2, 1) := dk_28 (dk_at dksX0_finders_0 22 rfl rfl)
theorem dX0_finders_23 : decode cX0_finders 23 = .ok (.invokestatic 111, 3) := dk_184 0 111 (dk_at dksX0_finders_1 0 rfl rfl)
theorem dX0_finders_26 : decode cX0_finders 26 = .ok (.ifCond .ne 5, 3) := dk_154 0 5 (dk_at dksX0_finders_1 3 rfl rfl)
theorem dX0_finders_29 : decode cX0_finders 29 = .ok (.iconst (-1), 1) := dk_2 (dk_at dksX0_finders_1 6 rfl rfl)
theorem dX0_finders_30 : decode cX0_finders 30 = .ok (.ireturn, 1) := dk_172 (dk_at dksX0_finders_1 7 rfl rfl)
theorem dX0_finders_31 : decode cX0_finders 31 = .ok (.iload_n 2, 1) := dk_28 (dk_at dksX0_finders_1 8 rfl rfl)
theorem dX0_finders_32 : decode cX0_finders 32 = .ok (.iload_n 3, 1) := dk_29 (dk_at dksX0_finders_1 9 rfl rfl)
theorem dX0_finders_33 : decode cX0_finders 33 = .ok (.isub, 1) := dk_100 (dk_at dksX0_finders_1 10 rfl rfl)
theorem dX0_finders_34 : decode cX0_finders 34 = .ok (.istore 4, 2) := dk_54 4 (dk_at dksX0_finders_1 11 rfl rfl)
theorem dX0_finders_36 : decode cX0_finders 36 = .ok (.iconst 0, 1) := dk_3 (dk_at dksX0_finders_1 13 rfl rfl)
theorem dX0_finders_37 : decode cX0_finders 37 = .ok (.istore 5, 2) := dk_54 5 (dk_at dksX0_finders_1 14 rfl rfl)
theorem dX0_finders_39 : decode cX0_finders 39 = .ok (.iconst 0, 1) := dk_3 (dk_at dksX0_finders_1 16 rfl rfl)
theorem dX0_finders_40 : decode cX0_finders 40 = .ok (.istore 6, 2) := dk_54 6 (dk_at dksX0_finders_1 17 rfl rfl)
theorem dX0_finders_42 : decode cX0_finders 42 = .ok (.iload 6, 2) := dk_21 6 (dk_at dksX0_finders_1 19 rfl rfl)
theorem dX0_finders_44 : decode cX0_finders 44 = .ok (.iload_n 1, 1) := dk_27 (dk_at dksX0_finders_1 21 rfl rfl)
theorem dX0_finders_45 : decode cX0_finders 45 = .ok (.if_icmp .gt 114, 3) := dk_163 0 114 (dk_at dksX0_finders_2 0 rfl rfl)
theorem dX0_finders_48 : decode cX0_finders 48 = .ok (.iload_n 1, 1) := dk_27 (dk_at dksX0_finders_2 3 rfl rfl)
theorem dX0_finders_49 : decode cX0_finders 49 = .ok (.iload 6, 2) := dk_21 6 (dk_at dksX0_finders_2 4 rfl rfl)
theorem dX0_finders_51 : decode cX0_finders 51 = .ok (.isub, 1) := dk_100 (dk_at dksX0_finders_2 6 rfl rfl)
theorem dX0_finders_52 : decode cX0_finders 52 = .ok (.istore 7, 2) := dk_54 7 (dk_at dksX0_finders_2 7 rfl rfl)
theorem dX0_finders_54 : decode cX0_finders 54 = .ok (.iload 6, 2) := dk_21 6 (dk_at dksX0_finders_2 9 rfl rfl)
theorem dX0_finders_56 : decode cX0_finders 56 = .ok (.ifCond .le 36, 3) := dk_158 0 36 (dk_at dksX0_finders_2 11 rfl rfl)
theorem dX0_finders_59 : decode cX0_finders 59 = .ok (.iload 6, 2) := dk_21 6 (dk_at dksX0_finders_2 14 rfl rfl)
theorem dX0_finders_61 : decode cX0_finders 61 = .ok (.iconst 1, 1) := dk_4 (dk_at dksX0_finders_2 16 rfl rfl)
theorem dX0_finders_62 : decode cX0_finders 62 = .ok (.isub, 1) := dk_100 (dk_at dksX0_finders_2 17 rfl rfl)
theorem dX0_finders_63 : decode cX0_finders 63 = .ok (.iload 4, 2) := dk_21 4 (dk_at dksX0_finders_2 18 rfl rfl)
theorem dX0_finders_65 : decode cX0_finders 65 = .ok (.imul, 1) := dk_104 (dk_at dksX0_finders_2 20 rfl rfl)
theorem dX0_finders_66 : decode cX0_finders 66 = .ok (.iload 7, 2) := dk_21 7 (dk_at dksX0_finders_2 21 rfl rfl)
theorem dX0_finders_68 : decode cX0_finders 68 = .ok (.iconst 1, 1) := dk_4 (dk_at dksX0_finders_2 23 rfl rfl)
theorem dX0_finders_69 : decode cX0_finders 69 = .ok (.iadd, 1) := dk_96 (dk_at dksX0_finders_3 0 rfl rfl)
theorem dX0_finders_70 : decode cX0_finders 70 = .ok (.imul, 1) := dk_104 (dk_at dksX0_finders_3 1 rfl rfl)
theorem dX0_finders_71 : decode cX0_finders 71 = .ok (.iload_n 3, 1) := dk_29 (dk_at dksX0_finders_3 2 rfl rfl)
theorem dX0_finders_72 : decode cX0_finders 72 = .ok (.iload 7, 2) := dk_21 7 (dk_at dksX0_finders_3 3 rfl rfl)
theorem dX0_finders_74 : decode cX0_finders 74 = .ok (.iconst 1, 1) := dk_4 (dk_at dksX0_finders_3 5 rfl rfl)
theorem dX0_finders_75 : decode cX0_finders 75 = .ok (.iadd, 1) := dk_96 (dk_at dksX0_finders_3 6 rfl rfl)
theorem dX0_finders_76 : decode cX0_finders 76 = .ok (.imul, 1) := dk_104 (dk_at dksX0_finders_3 7 rfl rfl)
theorem dX0_finders_77 : decode cX0_finders 77 = .ok (.iload 4, 2) := dk_21 4 (dk_at dksX0_finders_3 8 rfl rfl)
theorem dX0_finders_79 : decode cX0_finders 79 = .ok (.iadd, 1) := dk_96 (dk_at dksX0_finders_3 10 rfl rfl)
theorem dX0_finders_80 : decode cX0_finders 80 = .ok (.iload 7, 2) := dk_21 7 (dk_at dksX0_finders_3 11 rfl rfl)
theorem dX0_finders_82 : decode cX0_finders 82 = .ok (.iconst 2, 1) := dk_5 (dk_at dksX0_finders_3 13 rfl rfl)
theorem dX0_finders_83 : decode cX0_finders 83 = .ok (.iadd, 1) := dk_96 (dk_at dksX0_finders_3 14 rfl rfl)
theorem dX0_finders_84 : decode cX0_finders 84 = .ok (.imul, 1) := dk_104 (dk_at dksX0_finders_3 15 rfl rfl)
theorem dX0_finders_85 : decode cX0_finders 85 = .ok (.if_icmp .le 7, 3) := dk_164 0 7 (dk_at dksX0_finders_3 16 rfl rfl)
theorem dX0_finders_88 : decode cX0_finders 88 = .ok (.iconst 1, 1) := dk_4 (dk_at dksX0_finders_3 19 rfl rfl)
theorem dX0_finders_89 : decode cX0_finders 89 = .ok (.goto 4, 3) := dk_167 0 4 (dk_at dksX0_finders_3 20 rfl rfl)
theorem dX0_finders_92 : decode cX0_finders 92 = .ok (.iconst 0, 1) := dk_3 (dk_at dksX0_finders_3 23 rfl rfl)
theorem dX0_finders_93 : decode cX0_finders 93 = .ok (.istore 8, 2) := dk_54 8 (dk_at dksX0_finders_4 0 rfl rfl)
theorem dX0_finders_95 : decode cX0_finders 95 = .ok (.iload 7, 2) := dk_21 7 (dk_at dksX0_finders_4 2 rfl rfl)
theorem dX0_finders_97 : decode cX0_finders 97 = .ok (.ifCond .le 30, 3) := dk_158 0 30 (dk_at dksX0_finders_4 4 rfl rfl)
theorem dX0_finders_100 : decode cX0_finders 100 = .ok (.iload_n 3, 1) := dk_29 (dk_at dksX0_finders_4 7 rfl rfl)
theorem dX0_finders_101 : decode cX0_finders 101 = .ok (.iload 7, 2) := dk_21 7 (dk_at dksX0_finders_4 8 rfl rfl)
theorem dX0_finders_103 : decode cX0_finders 103 = .ok (.imul, 1) := dk_104 (dk_at dksX0_finders_4 10 rfl rfl)
theorem dX0_finders_104 : decode cX0_finders 104 = .ok (.iload 4, 2) := dk_21 4 (dk_at dksX0_finders_4 11 rfl rfl)
theorem dX0_finders_106 : decode cX0_finders 106 = .ok (.iadd, 1) := dk_96 (dk_at dksX0_finders_4 13 rfl rfl)
theorem dX0_finders_107 : decode cX0_finders 107 = .ok (.iload 7, 2) := dk_21 7 (dk_at dksX0_finders_4 14 rfl rfl)
theorem dX0_finders_109 : decode cX0_finders 109 = .ok (.iconst 1, 1) := dk_4 (dk_at dksX0_finders_4 16 rfl rfl)
theorem dX0_finders_110 : decode cX0_finders 110 = .ok (.iadd, 1) := dk_96 (dk_at dksX0_finders_4 17 rfl rfl)
theorem dX0_finders_111 : decode cX0_finders 111 = .ok (.imul, 1) := dk_104 (dk_at dksX0_finders_4 18 rfl rfl)
theorem dX0_finders_112 : decode cX0_finders 112 = .ok (.iload 6, 2) := dk_21 6 (dk_at dksX0_finders_4 19 rfl rfl)
theorem dX0_finders_114 : decode cX0_finders 114 = .ok (.iload 4, 2) := dk_21 4 (dk_at dksX0_finders_4 21 rfl rfl)
theorem dX0_finders_116 : decode cX0_finders 116 = .ok (.imul, 1) := dk_104 (dk_at dksX0_finders_4 23 rfl rfl)
theorem dX0_finders_117 : decode cX0_finders 117 = .ok (.iload 7, 2) := dk_21 7 (dk_at dksX0_finders_5 0 rfl rfl)
theorem dX0_finders_119 : decode cX0_finders 119 = .ok (.imul, 1) := dk_104 (dk_at dksX0_finders_5 2 rfl rfl)
theorem dX0_finders_120 : decode cX0_finders 120 = .ok (.if_icmp .le 7, 3) := dk_164 0 7 (dk_at dksX0_finders_5 3 rfl rfl)
theorem dX0_finders_123 : decode cX0_finders 123 = .ok (.iconst 1, 1) := dk_4 (dk_at dksX0_finders_5 6 rfl rfl)
theorem dX0_finders_124 : decode cX0_finders 124 = .ok (.goto 4, 3) := dk_167 0 4 (dk_at dksX0_finders_5 7 rfl rfl)
theorem dX0_finders_127 : decode cX0_finders 127 = .ok (.iconst 0, 1) := dk_3 (dk_at dksX0_finders_5 10 rfl rfl)
theorem dX0_finders_128 : decode cX0_finders 128 = .ok (.istore 9, 2) := dk_54 9 (dk_at dksX0_finders_5 11 rfl rfl)
theorem dX0_finders_130 : decode cX0_finders 130 = .ok (.iload 5, 2) := dk_21 5 (dk_at dksX0_finders_5 13 rfl rfl)
theorem dX0_finders_132 : decode cX0_finders 132 = .ok (.iload 8, 2) := dk_21 8 (dk_at dksX0_finders_5 15 rfl rfl)
theorem dX0_finders_134 : decode cX0_finders 134 = .ok (.ifCond .ne 8, 3) := dk_154 0 8 (dk_at dksX0_finders_5 17 rfl rfl)
theorem dX0_finders_137 : decode cX0_finders 137 = .ok (.iload 9, 2) := dk_21 9 (dk_at dksX0_finders_5 20 rfl rfl)
theorem dX0_finders_139 : decode cX0_finders 139 = .ok (.ifCond .eq 7, 3) := dk_153 0 7 (dk_at dksX0_finders_6 0 rfl rfl)
theorem dX0_finders_142 : decode cX0_finders 142 = .ok (.iconst 0, 1) := dk_3 (dk_at dksX0_finders_6 3 rfl rfl)
theorem dX0_finders_143 : decode cX0_finders 143 = .ok (.goto 7, 3) := dk_167 0 7 (dk_at dksX0_finders_6 4 rfl rfl)
theorem dX0_finders_146 : decode cX0_finders 146 = .ok (.iconst 1, 1) := dk_4 (dk_at dksX0_finders_6 7 rfl rfl)
theorem dX0_finders_147 : decode cX0_finders 147 = .ok (.iload 6, 2) := dk_21 6 (dk_at dksX0_finders_6 8 rfl rfl)
theorem dX0_finders_149 : decode cX0_finders 149 = .ok (.ishl, 1) := dk_120 (dk_at dksX0_finders_6 10 rfl rfl)
theorem dX0_finders_150 : decode cX0_finders 150 = .ok (.ior, 1) := dk_128 (dk_at dksX0_finders_6 11 rfl rfl)
theorem dX0_finders_151 : decode cX0_finders 151 = .ok (.istore 5, 2) := dk_54 5 (dk_at dksX0_finders_6 12 rfl rfl)
theorem dX0_finders_153 : decode cX0_finders 153 = .ok (.iinc 6 1, 3) := dk_132 6 1 (dk_at dksX0_finders_6 14 rfl rfl)
theorem dX0_finders_156 : decode cX0_finders 156 = .ok (.goto (-114), 3) := dk_167 255 142 (dk_at dksX0_finders_6 17 rfl rfl)
theorem dX0_finders_159 : decode cX0_finders 159 = .ok (.iload 5, 2) := dk_21 5 (dk_at dksX0_finders_6 20 rfl rfl)
theorem dX0_finders_161 : decode cX0_finders 161 = .ok (.ireturn, 1) := dk_172 (dk_at dksX0_finders_6 22 rfl rfl)
abbrev cX0_feed : ByteArray := prog_1_method_37_code
def yX0_feed : MethodName := ⟨RX0, "feed", "(JI)I"⟩
def dkwX0_feed_3 : List UInt8 := [180, 1, 25, 172]
abbrev dktX0_feed_3 : List UInt8 := dkwX0_feed_3 ++ []
def dkwX0_feed_2 : List UInt8 := [21, 4, 104, 123, 136, 145, 84, 42, 89, 180, 1, 25, 4, 96, 181, 1, 25, 132, 4, 1, 167, 255, 219, 42]
abbrev dktX0_feed_2 : List UInt8 := dkwX0_feed_2 ++ dktX0_feed_3
def dkwX0_feed_1 : List UInt8 := [16, 254, 172, 3, 54, 4, 21, 4, 29, 162, 0, 37, 42, 180, 0, 49, 42, 180, 1, 25, 31, 16, 8]
abbrev dktX0_feed_1 : List UInt8 := dkwX0_feed_1 ++ dktX0_feed_2
def dkwX0_feed_0 : List UInt8 := [29, 4, 16, 8, 184, 0, 111, 154, 0, 5, 2, 172, 42, 180, 1, 25, 29, 96, 17, 0, 200, 164, 0, 6]
abbrev dktX0_feed_0 : List UInt8 := dkwX0_feed_0 ++ dktX0_feed_1
theorem dksX0_feed_0 : cX0_feed.data.toList.drop 0 = dktX0_feed_0 := by decide +kernel
theorem dksX0_feed_1 : cX0_feed.data.toList.drop 24 = dktX0_feed_1 := dk_seg dksX0_feed_0 24 rfl rfl
theorem dksX0_feed_2 : cX0_feed.data.toList.drop 47 = dktX0_feed_2 := dk_seg dksX0_feed_1 23 rfl rfl
theorem dksX0_feed_3 : cX0_feed.data.toList.drop 71 = dktX0_feed_3 := dk_seg dksX0_feed_2 24 rfl rfl
theorem dX0_feed_0 : decode cX0_feed 0 = .ok (.iload_n 3, 1) := dk_29 (dk_at dksX0_feed_0 0 rfl rfl)
theorem dX0_feed_1 : decode cX0_feed 1 = .ok (.iconst 1, 1) := dk_4 (dk_at dksX0_feed_0 1 rfl rfl)
theorem dX0_feed_2 : decode cX0_feed 2 = .ok (.bipush 8, 2) := dk_16 8 (dk_at dksX0_feed_0 2 rfl rfl)
theorem dX0_feed_4 : decode cX0_feed 4 = .ok (.invokestatic 111, 3) := dk_184 0 111 (dk_at dksX0_feed_0 4 rfl rfl)
theorem dX0_feed_7 : decode cX0_feed 7 = .ok (.ifCond .ne 5, 3) := dk_154 0 5 (dk_at dksX0_feed_0 7 rfl rfl)
theorem dX0_feed_10 : decode cX0_feed 10 = .ok (.iconst (-1), 1) := dk_2 (dk_at dksX0_feed_0 10 rfl rfl)
theorem dX0_feed_11 : decode cX0_feed 11 = .ok (.ireturn, 1) := dk_172 (dk_at dksX0_feed_0 11 rfl rfl)
theorem dX0_feed_12 : decode cX0_feed 12 = .ok (.aload_n 0, 1) := dk_42 (dk_at dksX0_feed_0 12 rfl rfl)
theorem dX0_feed_13 : decode cX0_feed 13 = .ok (.getfield 281, 3) := dk_180 1 25 (dk_at dksX0_feed_0 13 rfl rfl)
theorem dX0_feed_16 : decode cX0_feed 16 = .ok (.iload_n 3, 1) := dk_29 (dk_at dksX0_feed_0 16 rfl rfl)
theorem dX0_feed_17 : decode cX0_feed 17 = .ok (.iadd, 1) := dk_96 (dk_at dksX0_feed_0 17 rfl rfl)
theorem dX0_feed_18 : decode cX0_feed 18 = .ok (.sipush 200, 3) := dk_17 0 200 (dk_at dksX0_feed_0 18 rfl rfl)
theorem dX0_feed_21 : decode cX0_feed 21 = .ok (.if_icmp .le 6, 3) := dk_164 0 6 (dk_at dksX0_feed_0 21 rfl rfl)
theorem dX0_feed_24 : decode cX0_feed 24 = .ok (.bipush (-2), 2) := dk_16 254 (dk_at dksX0_feed_1 0 rfl rfl)
theorem dX0_feed_26 : decode cX0_feed 26 = .ok (.ireturn, 1) := dk_172 (dk_at dksX0_feed_1 2 rfl rfl)
theorem dX0_feed_27 : decode cX0_feed 27 = .ok (.iconst 0, 1) := dk_3 (dk_at dksX0_feed_1 3 rfl rfl)
theorem dX0_feed_28 : decode cX0_feed 28 = .ok (.istore 4, 2) := dk_54 4 (dk_at dksX0_feed_1 4 rfl rfl)
theorem dX0_feed_30 : decode cX0_feed 30 = .ok (.iload 4, 2) := dk_21 4 (dk_at dksX0_feed_1 6 rfl rfl)
theorem dX0_feed_32 : decode cX0_feed 32 = .ok (.iload_n 3, 1) := dk_29 (dk_at dksX0_feed_1 8 rfl rfl)
theorem dX0_feed_33 : decode cX0_feed 33 = .ok (.if_icmp .ge 37, 3) := dk_162 0 37 (dk_at dksX0_feed_1 9 rfl rfl)
theorem dX0_feed_36 : decode cX0_feed 36 = .ok (.aload_n 0, 1) := dk_42 (dk_at dksX0_feed_1 12 rfl rfl)
theorem dX0_feed_37 : decode cX0_feed 37 = .ok (.getfield 49, 3) := dk_180 0 49 (dk_at dksX0_feed_1 13 rfl rfl)
theorem dX0_feed_40 : decode cX0_feed 40 = .ok (.aload_n 0, 1) := dk_42 (dk_at dksX0_feed_1 16 rfl rfl)
theorem dX0_feed_41 : decode cX0_feed 41 = .ok (.getfield 281, 3) := dk_180 1 25 (dk_at dksX0_feed_1 17 rfl rfl)
theorem dX0_feed_44 : decode cX0_feed 44 = .ok (.lload_n 1, 1) := dk_31 (dk_at dksX0_feed_1 20 rfl rfl)
theorem dX0_feed_45 : decode cX0_feed 45 = .ok (.bipush 8, 2) := dk_16 8 (dk_at dksX0_feed_1 21 rfl rfl)
theorem dX0_feed_47 : decode cX0_feed 47 = .ok (.iload 4, 2) := dk_21 4 (dk_at dksX0_feed_2 0 rfl rfl)
theorem dX0_feed_49 : decode cX0_feed 49 = .ok (.imul, 1) := dk_104 (dk_at dksX0_feed_2 2 rfl rfl)
theorem dX0_feed_50 : decode cX0_feed 50 = .ok (.lshr, 1) := dk_123 (dk_at dksX0_feed_2 3 rfl rfl)
theorem dX0_feed_51 : decode cX0_feed 51 = .ok (.l2i, 1) := dk_136 (dk_at dksX0_feed_2 4 rfl rfl)
theorem dX0_feed_52 : decode cX0_feed 52 = .ok (.i2b, 1) := dk_145 (dk_at dksX0_feed_2 5 rfl rfl)
theorem dX0_feed_53 : decode cX0_feed 53 = .ok (.bastore, 1) := dk_84 (dk_at dksX0_feed_2 6 rfl rfl)
theorem dX0_feed_54 : decode cX0_feed 54 = .ok (.aload_n 0, 1) := dk_42 (dk_at dksX0_feed_2 7 rfl rfl)
theorem dX0_feed_55 : decode cX0_feed 55 = .ok (.dup, 1) := dk_89 (dk_at dksX0_feed_2 8 rfl rfl)
theorem dX0_feed_56 : decode cX0_feed 56 = .ok (.getfield 281, 3) := dk_180 1 25 (dk_at dksX0_feed_2 9 rfl rfl)
theorem dX0_feed_59 : decode cX0_feed 59 = .ok (.iconst 1, 1) := dk_4 (dk_at dksX0_feed_2 12 rfl rfl)
theorem dX0_feed_60 : decode cX0_feed 60 = .ok (.iadd, 1) := dk_96 (dk_at dksX0_feed_2 13 rfl rfl)
theorem dX0_feed_61 : decode cX0_feed 61 = .ok (.putfield 281, 3) := dk_181 1 25 (dk_at dksX0_feed_2 14 rfl rfl)
theorem dX0_feed_64 : decode cX0_feed 64 = .ok (.iinc 4 1, 3) := dk_132 4 1 (dk_at dksX0_feed_2 17 rfl rfl)
theorem dX0_feed_67 : decode cX0_feed 67 = .ok (.goto (-37), 3) := dk_167 255 219 (dk_at dksX0_feed_2 20 rfl rfl)
theorem dX0_feed_70 : decode cX0_feed 70 = .ok (.aload_n 0, 1) := dk_42 (dk_at dksX0_feed_2 23 rfl rfl)
theorem dX0_feed_71 : decode cX0_feed 71 = .ok (.getfield 281, 3) := dk_180 1 25 (dk_at dksX0_feed_3 0 rfl rfl)
theorem dX0_feed_74 : decode cX0_feed 74 = .ok (.ireturn, 1) := dk_172 (dk_at dksX0_feed_3 3 rfl rfl)
abbrev cX0_read : ByteArray := prog_1_method_38_code
def yX0_read : MethodName := ⟨RX0, "read", "()I"⟩
def dkwX0_read_3 : List UInt8 := [180, 0, 10, 180, 1, 45, 172]
abbrev dktX0_read_3 : List UInt8 := dkwX0_read_3 ++ []
def dkwX0_read_2 : List UInt8 := [180, 1, 41, 3, 16, 6, 184, 0, 159, 42, 180, 0, 10, 42, 180, 0, 56, 180, 1, 42, 181, 1, 45, 42]
abbrev dktX0_read_2 : List UInt8 := dkwX0_read_2 ++ dktX0_read_3
def dkwX0_read_1 : List UInt8 := [167, 0, 12, 77, 16, 156, 44, 180, 1, 34, 100, 172, 42, 180, 0, 56, 180, 1, 37, 3, 42, 180, 0, 10]
abbrev dktX0_read_1 : List UInt8 := dkwX0_read_1 ++ dktX0_read_2
def dkwX0_read_0 : List UInt8 := [42, 180, 1, 25, 60, 42, 3, 181, 1, 25, 42, 180, 0, 56, 42, 180, 0, 49, 27, 182, 1, 28]
abbrev dktX0_read_0 : List UInt8 := dkwX0_read_0 ++ dktX0_read_1
theorem dksX0_read_0 : cX0_read.data.toList.drop 0 = dktX0_read_0 := by decide +kernel
theorem dksX0_read_1 : cX0_read.data.toList.drop 22 = dktX0_read_1 := dk_seg dksX0_read_0 22 rfl rfl
theorem dksX0_read_2 : cX0_read.data.toList.drop 46 = dktX0_read_2 := dk_seg dksX0_read_1 24 rfl rfl
theorem dksX0_read_3 : cX0_read.data.toList.drop 70 = dktX0_read_3 := dk_seg dksX0_read_2 24 rfl rfl
theorem dX0_read_0 : decode cX0_read 0 = .ok (.aload_n 0, 1) := dk_42 (dk_at dksX0_read_0 0 rfl rfl)
theorem dX0_read_1 : decode cX0_read 1 = .ok (.getfield 281, 3) := dk_180 1 25 (dk_at dksX0_read_0 1 rfl rfl)
theorem dX0_read_4 : decode cX0_read 4 = .ok (.istore_n 1, 1) := dk_60 (dk_at dksX0_read_0 4 rfl rfl)
theorem dX0_read_5 : decode cX0_read 5 = .ok (.aload_n 0, 1) := dk_42 (dk_at dksX0_read_0 5 rfl rfl)
theorem dX0_read_6 : decode cX0_read 6 = .ok (.iconst 0, 1) := dk_3 (dk_at dksX0_read_0 6 rfl rfl)
theorem dX0_read_7 : decode cX0_read 7 = .ok (.putfield 281, 3) := dk_181 1 25 (dk_at dksX0_read_0 7 rfl rfl)
theorem dX0_read_10 : decode cX0_read 10 = .ok (.aload_n 0, 1) := dk_42 (dk_at dksX0_read_0 10 rfl rfl)
theorem dX0_read_11 : decode cX0_read 11 = .ok (.getfield 56, 3) := dk_180 0 56 (dk_at dksX0_read_0 11 rfl rfl)
theorem dX0_read_14 : decode cX0_read 14 = .ok (.aload_n 0, 1) := dk_42 (dk_at dksX0_read_0 14 rfl rfl)
theorem dX0_read_15 : decode cX0_read 15 = .ok (.getfield 49, 3) := dk_180 0 49 (dk_at dksX0_read_0 15 rfl rfl)
theorem dX0_read_18 : decode cX0_read 18 = .ok (.iload_n 1, 1) := dk_27 (dk_at dksX0_read_0 18 rfl rfl)
theorem dX0_read_19 : decode cX0_read 19 = .ok (.invokevirtual 284, 3) := dk_182 1 28 (dk_at dksX0_read_0 19 rfl rfl)
theorem dX0_read_22 : decode cX0_read 22 = .ok (.goto 12, 3) := dk_167 0 12 (dk_at dksX0_read_1 0 rfl rfl)
theorem dX0_read_25 : decode cX0_read 25 = .ok (.astore_n 2, 1) := dk_77 (dk_at dksX0_read_1 3 rfl rfl)
theorem dX0_read_26 : decode cX0_read 26 = .ok (.bipush (-100), 2) := dk_16 156 (dk_at dksX0_read_1 4 rfl rfl)
theorem dX0_read_28 : decode cX0_read 28 = .ok (.aload_n 2, 1) := dk_44 (dk_at dksX0_read_1 6 rfl rfl)
theorem dX0_read_29 : decode cX0_read 29 = .ok (.getfield 290, 3) := dk_180 1 34 (dk_at dksX0_read_1 7 rfl rfl)
theorem dX0_read_32 : decode cX0_read 32 = .ok (.isub, 1) := dk_100 (dk_at dksX0_read_1 10 rfl rfl)
theorem dX0_read_33 : decode cX0_read 33 = .ok (.ireturn, 1) := dk_172 (dk_at dksX0_read_1 11 rfl rfl)
theorem dX0_read_34 : decode cX0_read 34 = .ok (.aload_n 0, 1) := dk_42 (dk_at dksX0_read_1 12 rfl rfl)
theorem dX0_read_35 : decode cX0_read 35 = .ok (.getfield 56, 3) := dk_180 0 56 (dk_at dksX0_read_1 13 rfl rfl)
theorem dX0_read_38 : decode cX0_read 38 = .ok (.getfield 293, 3) := dk_180 1 37 (dk_at dksX0_read_1 16 rfl rfl)
theorem dX0_read_41 : decode cX0_read 41 = .ok (.iconst 0, 1) := dk_3 (dk_at dksX0_read_1 19 rfl rfl)
theorem dX0_read_42 : decode cX0_read 42 = .ok (.aload_n 0, 1) := dk_42 (dk_at dksX0_read_1 20 rfl rfl)
theorem dX0_read_43 : decode cX0_read 43 = .ok (.getfield 10, 3) := dk_180 0 10 (dk_at dksX0_read_1 21 rfl rfl)
theorem dX0_read_46 : decode cX0_read 46 = .ok (.getfield 297, 3) := dk_180 1 41 (dk_at dksX0_read_2 0 rfl rfl)
theorem dX0_read_49 : decode cX0_read 49 = .ok (.iconst 0, 1) := dk_3 (dk_at dksX0_read_2 3 rfl rfl)
theorem dX0_read_50 : decode cX0_read 50 = .ok (.bipush 6, 2) := dk_16 6 (dk_at dksX0_read_2 4 rfl rfl)
theorem dX0_read_52 : decode cX0_read 52 = .ok (.invokestatic 159, 3) := dk_184 0 159 (dk_at dksX0_read_2 6 rfl rfl)
theorem dX0_read_55 : decode cX0_read 55 = .ok (.aload_n 0, 1) := dk_42 (dk_at dksX0_read_2 9 rfl rfl)
theorem dX0_read_56 : decode cX0_read 56 = .ok (.getfield 10, 3) := dk_180 0 10 (dk_at dksX0_read_2 10 rfl rfl)
theorem dX0_read_59 : decode cX0_read 59 = .ok (.aload_n 0, 1) := dk_42 (dk_at dksX0_read_2 13 rfl rfl)
theorem dX0_read_60 : decode cX0_read 60 = .ok (.getfield 56, 3) := dk_180 0 56 (dk_at dksX0_read_2 14 rfl rfl)
theorem dX0_read_63 : decode cX0_read 63 = .ok (.getfield 298, 3) := dk_180 1 42 (dk_at dksX0_read_2 17 rfl rfl)
theorem dX0_read_66 : decode cX0_read 66 = .ok (.putfield 301, 3) := dk_181 1 45 (dk_at dksX0_read_2 20 rfl rfl)
theorem dX0_read_69 : decode cX0_read 69 = .ok (.aload_n 0, 1) := dk_42 (dk_at dksX0_read_2 23 rfl rfl)
theorem dX0_read_70 : decode cX0_read 70 = .ok (.getfield 10, 3) := dk_180 0 10 (dk_at dksX0_read_3 0 rfl rfl)
theorem dX0_read_73 : decode cX0_read 73 = .ok (.getfield 301, 3) := dk_180 1 45 (dk_at dksX0_read_3 3 rfl rfl)
theorem dX0_read_76 : decode cX0_read 76 = .ok (.ireturn, 1) := dk_172 (dk_at dksX0_read_3 6 rfl rfl)
abbrev cX0_ruled : ByteArray := prog_1_method_41_code
def yX0_ruled : MethodName := ⟨RX0, "ruled", "()I"⟩
def dkwX0_ruled_0 : List UInt8 := [42, 42, 180, 0, 10, 180, 0, 127, 182, 1, 64, 172]
abbrev dktX0_ruled_0 : List UInt8 := dkwX0_ruled_0 ++ []
theorem dksX0_ruled_0 : cX0_ruled.data.toList.drop 0 = dktX0_ruled_0 := by decide +kernel
theorem dX0_ruled_0 : decode cX0_ruled 0 = .ok (.aload_n 0, 1) := dk_42 (dk_at dksX0_ruled_0 0 rfl rfl)
theorem dX0_ruled_1 : decode cX0_ruled 1 = .ok (.aload_n 0, 1) := dk_42 (dk_at dksX0_ruled_0 1 rfl rfl)
theorem dX0_ruled_2 : decode cX0_ruled 2 = .ok (.getfield 10, 3) := dk_180 0 10 (dk_at dksX0_ruled_0 2 rfl rfl)
theorem dX0_ruled_5 : decode cX0_ruled 5 = .ok (.getfield 127, 3) := dk_180 0 127 (dk_at dksX0_ruled_0 5 rfl rfl)
theorem dX0_ruled_8 : decode cX0_ruled 8 = .ok (.invokevirtual 320, 3) := dk_182 1 64 (dk_at dksX0_ruled_0 8 rfl rfl)
theorem dX0_ruled_11 : decode cX0_ruled 11 = .ok (.ireturn, 1) := dk_172 (dk_at dksX0_ruled_0 11 rfl rfl)
abbrev cX0_ruledFor : ByteArray := prog_1_method_40_code
def yX0_ruledFor : MethodName := ⟨RX0, "ruledFor", "(LHungryHedge$Trip;)I"⟩
def dkwX0_ruledFor_1 : List UInt8 := [172, 42, 180, 0, 10, 43, 2, 182, 0, 168, 158, 0, 7, 2, 167, 0, 5, 16, 247, 172]
abbrev dktX0_ruledFor_1 : List UInt8 := dkwX0_ruledFor_1 ++ []
def dkwX0_ruledFor_0 : List UInt8 := [42, 43, 182, 1, 61, 61, 28, 16, 253, 159, 0, 16, 42, 180, 0, 10, 180, 1, 41, 28, 50, 180, 1, 46]
abbrev dktX0_ruledFor_0 : List UInt8 := dkwX0_ruledFor_0 ++ dktX0_ruledFor_1
theorem dksX0_ruledFor_0 : cX0_ruledFor.data.toList.drop 0 = dktX0_ruledFor_0 := by decide +kernel
theorem dksX0_ruledFor_1 : cX0_ruledFor.data.toList.drop 24 = dktX0_ruledFor_1 := dk_seg dksX0_ruledFor_0 24 rfl rfl
theorem dX0_ruledFor_0 : decode cX0_ruledFor 0 = .ok (.aload_n 0, 1) := dk_42 (dk_at dksX0_ruledFor_0 0 rfl rfl)
theorem dX0_ruledFor_1 : decode cX0_ruledFor 1 = .ok (.aload_n 1, 1) := dk_43 (dk_at dksX0_ruledFor_0 1 rfl rfl)
theorem dX0_ruledFor_2 : decode cX0_ruledFor 2 = .ok (.invokevirtual 317, 3) := dk_182 1 61 (dk_at dksX0_ruledFor_0 2 rfl rfl)
theorem dX0_ruledFor_5 : decode cX0_ruledFor 5 = .ok (.istore_n 2, 1) := dk_61 (dk_at dksX0_ruledFor_0 5 rfl rfl)
theorem dX0_ruledFor_6 : decode cX0_ruledFor 6 = .ok (.iload_n 2, 1) := dk_28 (dk_at dksX0_ruledFor_0 6 rfl rfl)
theorem dX0_ruledFor_7 : decode cX0_ruledFor 7 = .ok (.bipush (-3), 2) := dk_16 253 (dk_at dksX0_ruledFor_0 7 rfl rfl)
theorem dX0_ruledFor_9 : decode cX0_ruledFor 9 = .ok (.if_icmp .eq 16, 3) := dk_159 0 16 (dk_at dksX0_ruledFor_0 9 rfl rfl)
theorem dX0_ruledFor_12 : decode cX0_ruledFor 12 = .ok (.aload_n 0, 1) := dk_42 (dk_at dksX0_ruledFor_0 12 rfl rfl)
theorem dX0_ruledFor_13 : decode cX0_ruledFor 13 = .ok (.getfield 10, 3) := dk_180 0 10 (dk_at dksX0_ruledFor_0 13 rfl rfl)
theorem dX0_ruledFor_16 : decode cX0_ruledFor 16 = .ok (.getfield 297, 3) := dk_180 1 41 (dk_at dksX0_ruledFor_0 16 rfl rfl)
theorem dX0_ruledFor_19 : decode cX0_ruledFor 19 = .ok (.iload_n 2, 1) := dk_28 (dk_at dksX0_ruledFor_0 19 rfl rfl)
theorem dX0_ruledFor_20 : decode cX0_ruledFor 20 = .ok (.aaload, 1) := dk_50 (dk_at dksX0_ruledFor_0 20 rfl rfl)
theorem dX0_ruledFor_21 : decode cX0_ruledFor 21 = .ok (.getfield 302, 3) := dk_180 1 46 (dk_at dksX0_ruledFor_0 21 rfl rfl)
theorem dX0_ruledFor_24 : decode cX0_ruledFor 24 = .ok (.ireturn, 1) := dk_172 (dk_at dksX0_ruledFor_1 0 rfl rfl)
theorem dX0_ruledFor_25 : decode cX0_ruledFor 25 = .ok (.aload_n 0, 1) := dk_42 (dk_at dksX0_ruledFor_1 1 rfl rfl)
theorem dX0_ruledFor_26 : decode cX0_ruledFor 26 = .ok (.getfield 10, 3) := dk_180 0 10 (dk_at dksX0_ruledFor_1 2 rfl rfl)
theorem dX0_ruledFor_29 : decode cX0_ruledFor 29 = .ok (.aload_n 1, 1) := dk_43 (dk_at dksX0_ruledFor_1 5 rfl rfl)
theorem dX0_ruledFor_30 : decode cX0_ruledFor 30 = .ok (.iconst (-1), 1) := dk_2 (dk_at dksX0_ruledFor_1 6 rfl rfl)
theorem dX0_ruledFor_31 : decode cX0_ruledFor 31 = .ok (.invokevirtual 168, 3) := dk_182 0 168 (dk_at dksX0_ruledFor_1 7 rfl rfl)
theorem dX0_ruledFor_34 : decode cX0_ruledFor 34 = .ok (.ifCond .le 7, 3) := dk_158 0 7 (dk_at dksX0_ruledFor_1 10 rfl rfl)
theorem dX0_ruledFor_37 : decode cX0_ruledFor 37 = .ok (.iconst (-1), 1) := dk_2 (dk_at dksX0_ruledFor_1 13 rfl rfl)
theorem dX0_ruledFor_38 : decode cX0_ruledFor 38 = .ok (.goto 5, 3) := dk_167 0 5 (dk_at dksX0_ruledFor_1 14 rfl rfl)
theorem dX0_ruledFor_41 : decode cX0_ruledFor 41 = .ok (.bipush (-9), 2) := dk_16 247 (dk_at dksX0_ruledFor_1 17 rfl rfl)
theorem dX0_ruledFor_43 : decode cX0_ruledFor 43 = .ok (.ireturn, 1) := dk_172 (dk_at dksX0_ruledFor_1 19 rfl rfl)
abbrev cX0_clauseFor : ByteArray := prog_1_method_39_code
def yX0_clauseFor : MethodName := ⟨RX0, "clauseFor", "(LHungryHedge$Trip;)I"⟩
def dkwX0_clauseFor_2 : List UInt8 := [180, 1, 51, 42, 43, 185, 1, 55, 3, 0, 153, 0, 5, 28, 172, 132, 2, 1, 167, 255, 195, 16, 253, 172]
abbrev dktX0_clauseFor_2 : List UInt8 := dkwX0_clauseFor_2 ++ []
def dkwX0_clauseFor_1 : List UInt8 := [180, 1, 41, 28, 50, 180, 1, 46, 182, 0, 168, 158, 0, 27, 42, 180, 0, 10, 180, 1, 41, 28, 50]
abbrev dktX0_clauseFor_1 : List UInt8 := dkwX0_clauseFor_1 ++ dktX0_clauseFor_2
def dkwX0_clauseFor_0 : List UInt8 := [3, 61, 28, 42, 180, 0, 10, 180, 1, 45, 162, 0, 56, 42, 180, 0, 10, 43, 42, 180, 0, 10]
abbrev dktX0_clauseFor_0 : List UInt8 := dkwX0_clauseFor_0 ++ dktX0_clauseFor_1
theorem dksX0_clauseFor_0 : cX0_clauseFor.data.toList.drop 0 = dktX0_clauseFor_0 := by decide +kernel
theorem dksX0_clauseFor_1 : cX0_clauseFor.data.toList.drop 22 = dktX0_clauseFor_1 := dk_seg dksX0_clauseFor_0 22 rfl rfl
theorem dksX0_clauseFor_2 : cX0_clauseFor.data.toList.drop 45 = dktX0_clauseFor_2 := dk_seg dksX0_clauseFor_1 23 rfl rfl
theorem dX0_clauseFor_0 : decode cX0_clauseFor 0 = .ok (.iconst 0, 1) := dk_3 (dk_at dksX0_clauseFor_0 0 rfl rfl)
theorem dX0_clauseFor_1 : decode cX0_clauseFor 1 = .ok (.istore_n 2, 1) := dk_61 (dk_at dksX0_clauseFor_0 1 rfl rfl)
theorem dX0_clauseFor_2 : decode cX0_clauseFor 2 = .ok (.iload_n 2, 1) := dk_28 (dk_at dksX0_clauseFor_0 2 rfl rfl)
theorem dX0_clauseFor_3 : decode cX0_clauseFor 3 = .ok (.aload_n 0, 1) := dk_42 (dk_at dksX0_clauseFor_0 3 rfl rfl)
theorem dX0_clauseFor_4 : decode cX0_clauseFor 4 = .ok (.getfield 10, 3) := dk_180 0 10 (dk_at dksX0_clauseFor_0 4 rfl rfl)
theorem dX0_clauseFor_7 : decode cX0_clauseFor 7 = .ok (.getfield 301, 3) := dk_180 1 45 (dk_at dksX0_clauseFor_0 7 rfl rfl)
theorem dX0_clauseFor_10 : decode cX0_clauseFor 10 = .ok (.if_icmp .ge 56, 3) := dk_162 0 56 (dk_at dksX0_clauseFor_0 10 rfl rfl)
theorem dX0_clauseFor_13 : decode cX0_clauseFor 13 = .ok (.aload_n 0, 1) := dk_42 (dk_at dksX0_clauseFor_0 13 rfl rfl)
theorem dX0_clauseFor_14 : decode cX0_clauseFor 14 = .ok (.getfield 10, 3) := dk_180 0 10 (dk_at dksX0_clauseFor_0 14 rfl rfl)
theorem dX0_clauseFor_17 : decode cX0_clauseFor 17 = .ok (.aload_n 1, 1) := dk_43 (dk_at dksX0_clauseFor_0 17 rfl rfl)
theorem dX0_clauseFor_18 : decode cX0_clauseFor 18 = .ok (.aload_n 0, 1) := dk_42 (dk_at dksX0_clauseFor_0 18 rfl rfl)
theorem dX0_clauseFor_19 : decode cX0_clauseFor 19 = .ok (.getfield 10, 3) := dk_180 0 10 (dk_at dksX0_clauseFor_0 19 rfl rfl)
theorem dX0_clauseFor_22 : decode cX0_clauseFor 22 = .ok (.getfield 297, 3) := dk_180 1 41 (dk_at dksX0_clauseFor_1 0 rfl rfl)
theorem dX0_clauseFor_25 : decode cX0_clauseFor 25 = .ok (.iload_n 2, 1) := dk_28 (dk_at dksX0_clauseFor_1 3 rfl rfl)
theorem dX0_clauseFor_26 : decode cX0_clauseFor 26 = .ok (.aaload, 1) := dk_50 (dk_at dksX0_clauseFor_1 4 rfl rfl)
theorem dX0_clauseFor_27 : decode cX0_clauseFor 27 = .ok (.getfield 302, 3) := dk_180 1 46 (dk_at dksX0_clauseFor_1 5 rfl rfl)
theorem dX0_clauseFor_30 : decode cX0_clauseFor 30 = .ok (.invokevirtual 168, 3) := dk_182 0 168 (dk_at dksX0_clauseFor_1 8 rfl rfl)
theorem dX0_clauseFor_33 : decode cX0_clauseFor 33 = .ok (.ifCond .le 27, 3) := dk_158 0 27 (dk_at dksX0_clauseFor_1 11 rfl rfl)
theorem dX0_clauseFor_36 : decode cX0_clauseFor 36 = .ok (.aload_n 0, 1) := dk_42 (dk_at dksX0_clauseFor_1 14 rfl rfl)
theorem dX0_clauseFor_37 : decode cX0_clauseFor 37 = .ok (.getfield 10, 3) := dk_180 0 10 (dk_at dksX0_clauseFor_1 15 rfl rfl)
theorem dX0_clauseFor_40 : decode cX0_clauseFor 40 = .ok (.getfield 297, 3) := dk_180 1 41 (dk_at dksX0_clauseFor_1 18 rfl rfl)
theorem dX0_clauseFor_43 : decode cX0_clauseFor 43 = .ok (.iload_n 2, 1) := dk_28 (dk_at dksX0_clauseFor_1 21 rfl rfl)
theorem dX0_clauseFor_44 : decode cX0_clauseFor 44 = .ok (.aaload, 1) := dk_50 (dk_at dksX0_clauseFor_1 22 rfl rfl)
theorem dX0_clauseFor_45 : decode cX0_clauseFor 45 = .ok (.getfield 307, 3) := dk_180 1 51 (dk_at dksX0_clauseFor_2 0 rfl rfl)
theorem dX0_clauseFor_48 : decode cX0_clauseFor 48 = .ok (.aload_n 0, 1) := dk_42 (dk_at dksX0_clauseFor_2 3 rfl rfl)
theorem dX0_clauseFor_49 : decode cX0_clauseFor 49 = .ok (.aload_n 1, 1) := dk_43 (dk_at dksX0_clauseFor_2 4 rfl rfl)
theorem dX0_clauseFor_50 : decode cX0_clauseFor 50 = .ok (.invokeinterface 311 3, 5) := by decide +kernel
theorem dX0_clauseFor_55 : decode cX0_clauseFor 55 = .ok (.ifCond .eq 5, 3) := dk_153 0 5 (dk_at dksX0_clauseFor_2 10 rfl rfl)
theorem dX0_clauseFor_58 : decode cX0_clauseFor 58 = .ok (.iload_n 2, 1) := dk_28 (dk_at dksX0_clauseFor_2 13 rfl rfl)
theorem dX0_clauseFor_59 : decode cX0_clauseFor 59 = .ok (.ireturn, 1) := dk_172 (dk_at dksX0_clauseFor_2 14 rfl rfl)
theorem dX0_clauseFor_60 : decode cX0_clauseFor 60 = .ok (.iinc 2 1, 3) := dk_132 2 1 (dk_at dksX0_clauseFor_2 15 rfl rfl)
theorem dX0_clauseFor_63 : decode cX0_clauseFor 63 = .ok (.goto (-61), 3) := dk_167 255 195 (dk_at dksX0_clauseFor_2 18 rfl rfl)
theorem dX0_clauseFor_66 : decode cX0_clauseFor 66 = .ok (.bipush (-3), 2) := dk_16 253 (dk_at dksX0_clauseFor_2 21 rfl rfl)
theorem dX0_clauseFor_68 : decode cX0_clauseFor 68 = .ok (.ireturn, 1) := dk_172 (dk_at dksX0_clauseFor_2 23 rfl rfl)
abbrev cX0_value : ByteArray := prog_1_method_36_code
def yX0_value : MethodName := ⟨RX0, "value", "(LHungryHedge$Trip;II)I"⟩
def dkwX0_value_7 : List UInt8 := [180, 0, 156, 172, 43, 180, 0, 153, 172]
abbrev dktX0_value_7 : List UInt8 := dkwX0_value_7 ++ []
def dkwX0_value_6 : List UInt8 := [167, 0, 4, 3, 172, 3, 42, 180, 0, 10, 180, 0, 150, 43, 180, 0, 147, 100, 184, 1, 20, 172, 43]
abbrev dktX0_value_6 : List UInt8 := dkwX0_value_6 ++ dktX0_value_7
def dkwX0_value_5 : List UInt8 := [153, 0, 26, 42, 180, 0, 10, 43, 180, 0, 153, 43, 180, 0, 130, 43, 180, 0, 153, 46, 182, 0, 140]
abbrev dktX0_value_5 : List UInt8 := dkwX0_value_5 ++ dktX0_value_6
def dkwX0_value_4 : List UInt8 := [7, 43, 180, 0, 153, 104, 29, 96, 46, 167, 0, 4, 3, 172, 42, 43, 180, 0, 153, 182, 0, 136]
abbrev dktX0_value_4 : List UInt8 := dkwX0_value_4 ++ dktX0_value_5
def dkwX0_value_3 : List UInt8 := [182, 0, 136, 153, 0, 33, 42, 43, 180, 0, 153, 182, 0, 136, 153, 0, 22, 42, 180, 0, 10, 180, 0, 144]
abbrev dktX0_value_3 : List UInt8 := dkwX0_value_3 ++ dktX0_value_4
def dkwX0_value_2 : List UInt8 := [29, 172, 42, 29, 182, 0, 136, 153, 0, 12, 43, 180, 0, 130, 29, 46, 167, 0, 4, 3, 172, 42, 29]
abbrev dktX0_value_2 : List UInt8 := dkwX0_value_2 ++ dktX0_value_3
def dkwX0_value_1 : List UInt8 := [170, 0, 0, 0, 0, 0, 158, 0, 0, 0, 0, 0, 0, 0, 5, 0, 0, 0, 39, 0, 0, 0, 41, 0, 0, 0, 60, 0, 0, 0, 100, 0, 0, 0, 136, 0, 0, 0, 153]
abbrev dktX0_value_1 : List UInt8 := dkwX0_value_1 ++ dktX0_value_2
def dkwX0_value_0 : List UInt8 := [28]
abbrev dktX0_value_0 : List UInt8 := dkwX0_value_0 ++ dktX0_value_1
theorem dksX0_value_0 : cX0_value.data.toList.drop 0 = dktX0_value_0 := by decide +kernel
theorem dksX0_value_1 : cX0_value.data.toList.drop 1 = dktX0_value_1 := dk_seg dksX0_value_0 1 rfl rfl
theorem dksX0_value_2 : cX0_value.data.toList.drop 40 = dktX0_value_2 := dk_seg dksX0_value_1 39 rfl rfl
theorem dksX0_value_3 : cX0_value.data.toList.drop 63 = dktX0_value_3 := dk_seg dksX0_value_2 23 rfl rfl
theorem dksX0_value_4 : cX0_value.data.toList.drop 87 = dktX0_value_4 := dk_seg dksX0_value_3 24 rfl rfl
theorem dksX0_value_5 : cX0_value.data.toList.drop 109 = dktX0_value_5 := dk_seg dksX0_value_4 22 rfl rfl
theorem dksX0_value_6 : cX0_value.data.toList.drop 132 = dktX0_value_6 := dk_seg dksX0_value_5 23 rfl rfl
theorem dksX0_value_7 : cX0_value.data.toList.drop 155 = dktX0_value_7 := dk_seg dksX0_value_6 23 rfl rfl
theorem dX0_value_0 : decode cX0_value 0 = .ok (.iload_n 2, 1) := dk_28 (dk_at dksX0_value_0 0 rfl rfl)
theorem dX0_value_1 : decode cX0_value 1 = .ok (.tableswitch 158 0 5 #[39, 41, 60, 100, 136, 153], 39) := by decide +kernel
theorem dX0_value_40 : decode cX0_value 40 = .ok (.iload_n 3, 1) := dk_29 (dk_at dksX0_value_2 0 rfl rfl)
theorem dX0_value_41 : decode cX0_value 41 = .ok (.ireturn, 1) := dk_172 (dk_at dksX0_value_2 1 rfl rfl)
theorem dX0_value_42 : decode cX0_value 42 = .ok (.aload_n 0, 1) := dk_42 (dk_at dksX0_value_2 2 rfl rfl)
theorem dX0_value_43 : decode cX0_value 43 = .ok (.iload_n 3, 1) := dk_29 (dk_at dksX0_value_2 3 rfl rfl)
theorem dX0_value_44 : decode cX0_value 44 = .ok (.invokevirtual 136, 3) := dk_182 0 136 (dk_at dksX0_value_2 4 rfl rfl)
theorem dX0_value_47 : decode cX0_value 47 = .ok (.ifCond .eq 12, 3) := dk_153 0 12 (dk_at dksX0_value_2 7 rfl rfl)
theorem dX0_value_50 : decode cX0_value 50 = .ok (.aload_n 1, 1) := dk_43 (dk_at dksX0_value_2 10 rfl rfl)
theorem dX0_value_51 : decode cX0_value 51 = .ok (.getfield 130, 3) := dk_180 0 130 (dk_at dksX0_value_2 11 rfl rfl)
theorem dX0_value_54 : decode cX0_value 54 = .ok (.iload_n 3, 1) := dk_29 (dk_at dksX0_value_2 14 rfl rfl)
theorem dX0_value_55 : decode cX0_value 55 = .ok (.iaload, 1) := dk_46 (dk_at dksX0_value_2 15 rfl rfl)
theorem dX0_value_56 : decode cX0_value 56 = .ok (.goto 4, 3) := dk_167 0 4 (dk_at dksX0_value_2 16 rfl rfl)
theorem dX0_value_59 : decode cX0_value 59 = .ok (.iconst 0, 1) := dk_3 (dk_at dksX0_value_2 19 rfl rfl)
theorem dX0_value_60 : decode cX0_value 60 = .ok (.ireturn, 1) := dk_172 (dk_at dksX0_value_2 20 rfl rfl)
theorem dX0_value_61 : decode cX0_value 61 = .ok (.aload_n 0, 1) := dk_42 (dk_at dksX0_value_2 21 rfl rfl)
theorem dX0_value_62 : decode cX0_value 62 = .ok (.iload_n 3, 1) := dk_29 (dk_at dksX0_value_2 22 rfl rfl)
theorem dX0_value_63 : decode cX0_value 63 = .ok (.invokevirtual 136, 3) := dk_182 0 136 (dk_at dksX0_value_3 0 rfl rfl)
theorem dX0_value_66 : decode cX0_value 66 = .ok (.ifCond .eq 33, 3) := dk_153 0 33 (dk_at dksX0_value_3 3 rfl rfl)
theorem dX0_value_69 : decode cX0_value 69 = .ok (.aload_n 0, 1) := dk_42 (dk_at dksX0_value_3 6 rfl rfl)
theorem dX0_value_70 : decode cX0_value 70 = .ok (.aload_n 1, 1) := dk_43 (dk_at dksX0_value_3 7 rfl rfl)
theorem dX0_value_71 : decode cX0_value 71 = .ok (.getfield 153, 3) := dk_180 0 153 (dk_at dksX0_value_3 8 rfl rfl)
theorem dX0_value_74 : decode cX0_value 74 = .ok (.invokevirtual 136, 3) := dk_182 0 136 (dk_at dksX0_value_3 11 rfl rfl)
theorem dX0_value_77 : decode cX0_value 77 = .ok (.ifCond .eq 22, 3) := dk_153 0 22 (dk_at dksX0_value_3 14 rfl rfl)
theorem dX0_value_80 : decode cX0_value 80 = .ok (.aload_n 0, 1) := dk_42 (dk_at dksX0_value_3 17 rfl rfl)
theorem dX0_value_81 : decode cX0_value 81 = .ok (.getfield 10, 3) := dk_180 0 10 (dk_at dksX0_value_3 18 rfl rfl)
theorem dX0_value_84 : decode cX0_value 84 = .ok (.getfield 144, 3) := dk_180 0 144 (dk_at dksX0_value_3 21 rfl rfl)
theorem dX0_value_87 : decode cX0_value 87 = .ok (.iconst 4, 1) := dk_7 (dk_at dksX0_value_4 0 rfl rfl)
theorem dX0_value_88 : decode cX0_value 88 = .ok (.aload_n 1, 1) := dk_43 (dk_at dksX0_value_4 1 rfl rfl)
theorem dX0_value_89 : decode cX0_value 89 = .ok (.getfield 153, 3) := dk_180 0 153 (dk_at dksX0_value_4 2 rfl rfl)
theorem dX0_value_92 : decode cX0_value 92 = .ok (.imul, 1) := dk_104 (dk_at dksX0_value_4 5 rfl rfl)
theorem dX0_value_93 : decode cX0_value 93 = .ok (.iload_n 3, 1) := dk_29 (dk_at dksX0_value_4 6 rfl rfl)
theorem dX0_value_94 : decode cX0_value 94 = .ok (.iadd, 1) := dk_96 (dk_at dksX0_value_4 7 rfl rfl)
theorem dX0_value_95 : decode cX0_value 95 = .ok (.iaload, 1) := dk_46 (dk_at dksX0_value_4 8 rfl rfl)
theorem dX0_value_96 : decode cX0_value 96 = .ok (.goto 4, 3) := dk_167 0 4 (dk_at dksX0_value_4 9 rfl rfl)
theorem dX0_value_99 : decode cX0_value 99 = .ok (.iconst 0, 1) := dk_3 (dk_at dksX0_value_4 12 rfl rfl)
theorem dX0_value_100 : decode cX0_value 100 = .ok (.ireturn, 1) := dk_172 (dk_at dksX0_value_4 13 rfl rfl)
theorem dX0_value_101 : decode cX0_value 101 = .ok (.aload_n 0, 1) := dk_42 (dk_at dksX0_value_4 14 rfl rfl)
theorem dX0_value_102 : decode cX0_value 102 = .ok (.aload_n 1, 1) := dk_43 (dk_at dksX0_value_4 15 rfl rfl)
theorem dX0_value_103 : decode cX0_value 103 = .ok (.getfield 153, 3) := dk_180 0 153 (dk_at dksX0_value_4 16 rfl rfl)
theorem dX0_value_106 : decode cX0_value 106 = .ok (.invokevirtual 136, 3) := dk_182 0 136 (dk_at dksX0_value_4 19 rfl rfl)
theorem dX0_value_109 : decode cX0_value 109 = .ok (.ifCond .eq 26, 3) := dk_153 0 26 (dk_at dksX0_value_5 0 rfl rfl)
theorem dX0_value_112 : decode cX0_value 112 = .ok (.aload_n 0, 1) := dk_42 (dk_at dksX0_value_5 3 rfl rfl)
theorem dX0_value_113 : decode cX0_value 113 = .ok (.getfield 10, 3) := dk_180 0 10 (dk_at dksX0_value_5 4 rfl rfl)
theorem dX0_value_116 : decode cX0_value 116 = .ok (.aload_n 1, 1) := dk_43 (dk_at dksX0_value_5 7 rfl rfl)
theorem dX0_value_117 : decode cX0_value 117 = .ok (.getfield 153, 3) := dk_180 0 153 (dk_at dksX0_value_5 8 rfl rfl)
theorem dX0_value_120 : decode cX0_value 120 = .ok (.aload_n 1, 1) := dk_43 (dk_at dksX0_value_5 11 rfl rfl)
theorem dX0_value_121 : decode cX0_value 121 = .ok (.getfield 130, 3) := dk_180 0 130 (dk_at dksX0_value_5 12 rfl rfl)
theorem dX0_value_124 : decode cX0_value 124 = .ok (.aload_n 1, 1) := dk_43 (dk_at dksX0_value_5 15 rfl rfl)
theorem dX0_value_125 : decode cX0_value 125 = .ok (.getfield 153, 3) := dk_180 0 153 (dk_at dksX0_value_5 16 rfl rfl)
theorem dX0_value_128 : decode cX0_value 128 = .ok (.iaload, 1) := dk_46 (dk_at dksX0_value_5 19 rfl rfl)
theorem dX0_value_129 : decode cX0_value 129 = .ok (.invokevirtual 140, 3) := dk_182 0 140 (dk_at dksX0_value_5 20 rfl rfl)
theorem dX0_value_132 : decode cX0_value 132 = .ok (.goto 4, 3) := dk_167 0 4 (dk_at dksX0_value_6 0 rfl rfl)
theorem dX0_value_135 : decode cX0_value 135 = .ok (.iconst 0, 1) := dk_3 (dk_at dksX0_value_6 3 rfl rfl)
theorem dX0_value_136 : decode cX0_value 136 = .ok (.ireturn, 1) := dk_172 (dk_at dksX0_value_6 4 rfl rfl)
theorem dX0_value_137 : decode cX0_value 137 = .ok (.iconst 0, 1) := dk_3 (dk_at dksX0_value_6 5 rfl rfl)
theorem dX0_value_138 : decode cX0_value 138 = .ok (.aload_n 0, 1) := dk_42 (dk_at dksX0_value_6 6 rfl rfl)
theorem dX0_value_139 : decode cX0_value 139 = .ok (.getfield 10, 3) := dk_180 0 10 (dk_at dksX0_value_6 7 rfl rfl)
theorem dX0_value_142 : decode cX0_value 142 = .ok (.getfield 150, 3) := dk_180 0 150 (dk_at dksX0_value_6 10 rfl rfl)
theorem dX0_value_145 : decode cX0_value 145 = .ok (.aload_n 1, 1) := dk_43 (dk_at dksX0_value_6 13 rfl rfl)
theorem dX0_value_146 : decode cX0_value 146 = .ok (.getfield 147, 3) := dk_180 0 147 (dk_at dksX0_value_6 14 rfl rfl)
theorem dX0_value_149 : decode cX0_value 149 = .ok (.isub, 1) := dk_100 (dk_at dksX0_value_6 17 rfl rfl)
theorem dX0_value_150 : decode cX0_value 150 = .ok (.invokestatic 276, 3) := dk_184 1 20 (dk_at dksX0_value_6 18 rfl rfl)
theorem dX0_value_153 : decode cX0_value 153 = .ok (.ireturn, 1) := dk_172 (dk_at dksX0_value_6 21 rfl rfl)
theorem dX0_value_154 : decode cX0_value 154 = .ok (.aload_n 1, 1) := dk_43 (dk_at dksX0_value_6 22 rfl rfl)
theorem dX0_value_155 : decode cX0_value 155 = .ok (.getfield 156, 3) := dk_180 0 156 (dk_at dksX0_value_7 0 rfl rfl)
theorem dX0_value_158 : decode cX0_value 158 = .ok (.ireturn, 1) := dk_172 (dk_at dksX0_value_7 3 rfl rfl)
theorem dX0_value_159 : decode cX0_value 159 = .ok (.aload_n 1, 1) := dk_43 (dk_at dksX0_value_7 4 rfl rfl)
theorem dX0_value_160 : decode cX0_value 160 = .ok (.getfield 153, 3) := dk_180 0 153 (dk_at dksX0_value_7 5 rfl rfl)
theorem dX0_value_163 : decode cX0_value 163 = .ok (.ireturn, 1) := dk_172 (dk_at dksX0_value_7 8 rfl rfl)
abbrev cX0_clause : ByteArray := prog_1_method_42_code
def yX0_clause : MethodName := ⟨RX0, "clause", "()I"⟩
def dkwX0_clause_0 : List UInt8 := [42, 42, 180, 0, 10, 180, 0, 127, 182, 1, 61, 172]
abbrev dktX0_clause_0 : List UInt8 := dkwX0_clause_0 ++ []
theorem dksX0_clause_0 : cX0_clause.data.toList.drop 0 = dktX0_clause_0 := by decide +kernel
theorem dX0_clause_0 : decode cX0_clause 0 = .ok (.aload_n 0, 1) := dk_42 (dk_at dksX0_clause_0 0 rfl rfl)
theorem dX0_clause_1 : decode cX0_clause 1 = .ok (.aload_n 0, 1) := dk_42 (dk_at dksX0_clause_0 1 rfl rfl)
theorem dX0_clause_2 : decode cX0_clause 2 = .ok (.getfield 10, 3) := dk_180 0 10 (dk_at dksX0_clause_0 2 rfl rfl)
theorem dX0_clause_5 : decode cX0_clause 5 = .ok (.getfield 127, 3) := dk_180 0 127 (dk_at dksX0_clause_0 5 rfl rfl)
theorem dX0_clause_8 : decode cX0_clause 8 = .ok (.invokevirtual 317, 3) := dk_182 1 61 (dk_at dksX0_clause_0 8 rfl rfl)
theorem dX0_clause_11 : decode cX0_clause 11 = .ok (.ireturn, 1) := dk_172 (dk_at dksX0_clause_0 11 rfl rfl)
abbrev cX0_run : ByteArray := prog_1_method_44_code
def yX0_run : MethodName := ⟨RX0, "run", "()I"⟩
theorem dX0_run_0 : decode cX0_run 0 = .ok (.aload_n 0, 1) := by decide +kernel
theorem dX0_run_1 : decode cX0_run 1 = .ok (.invokevirtual 327, 3) := by decide +kernel
theorem dX0_run_4 : decode cX0_run 4 = .ok (.ireturn, 1) := by decide +kernel
abbrev cX0_runs : ByteArray := prog_1_method_43_code
def yX0_runs : MethodName := ⟨RX0, "runs", "()I"⟩
def dkwX0_runs_3 : List UInt8 := [100, 172]
abbrev dktX0_runs_3 : List UInt8 := dkwX0_runs_3 ++ []
def dkwX0_runs_2 : List UInt8 := [182, 1, 64, 60, 167, 255, 229, 42, 180, 0, 63, 180, 0, 156, 42, 180, 0, 10, 180, 0, 127, 180, 0, 156]
abbrev dktX0_runs_2 : List UInt8 := dkwX0_runs_2 ++ dktX0_runs_3
def dkwX0_runs_1 : List UInt8 := [16, 247, 159, 0, 27, 42, 180, 0, 10, 42, 180, 0, 63, 27, 182, 0, 172, 42, 42, 180, 0, 63]
abbrev dktX0_runs_1 : List UInt8 := dkwX0_runs_1 ++ dktX0_runs_2
def dkwX0_runs_0 : List UInt8 := [42, 180, 0, 63, 42, 180, 0, 10, 180, 0, 127, 182, 1, 67, 42, 42, 180, 0, 63, 182, 1, 64, 60, 27]
abbrev dktX0_runs_0 : List UInt8 := dkwX0_runs_0 ++ dktX0_runs_1
theorem dksX0_runs_0 : cX0_runs.data.toList.drop 0 = dktX0_runs_0 := by decide +kernel
theorem dksX0_runs_1 : cX0_runs.data.toList.drop 24 = dktX0_runs_1 := dk_seg dksX0_runs_0 24 rfl rfl
theorem dksX0_runs_2 : cX0_runs.data.toList.drop 46 = dktX0_runs_2 := dk_seg dksX0_runs_1 22 rfl rfl
theorem dksX0_runs_3 : cX0_runs.data.toList.drop 70 = dktX0_runs_3 := dk_seg dksX0_runs_2 24 rfl rfl
theorem dX0_runs_0 : decode cX0_runs 0 = .ok (.aload_n 0, 1) := dk_42 (dk_at dksX0_runs_0 0 rfl rfl)
theorem dX0_runs_1 : decode cX0_runs 1 = .ok (.getfield 63, 3) := dk_180 0 63 (dk_at dksX0_runs_0 1 rfl rfl)
theorem dX0_runs_4 : decode cX0_runs 4 = .ok (.aload_n 0, 1) := dk_42 (dk_at dksX0_runs_0 4 rfl rfl)
theorem dX0_runs_5 : decode cX0_runs 5 = .ok (.getfield 10, 3) := dk_180 0 10 (dk_at dksX0_runs_0 5 rfl rfl)
theorem dX0_runs_8 : decode cX0_runs 8 = .ok (.getfield 127, 3) := dk_180 0 127 (dk_at dksX0_runs_0 8 rfl rfl)
theorem dX0_runs_11 : decode cX0_runs 11 = .ok (.invokevirtual 323, 3) := dk_182 1 67 (dk_at dksX0_runs_0 11 rfl rfl)
theorem dX0_runs_14 : decode cX0_runs 14 = .ok (.aload_n 0, 1) := dk_42 (dk_at dksX0_runs_0 14 rfl rfl)
theorem dX0_runs_15 : decode cX0_runs 15 = .ok (.aload_n 0, 1) := dk_42 (dk_at dksX0_runs_0 15 rfl rfl)
theorem dX0_runs_16 : decode cX0_runs 16 = .ok (.getfield 63, 3) := dk_180 0 63 (dk_at dksX0_runs_0 16 rfl rfl)
theorem dX0_runs_19 : decode cX0_runs 19 = .ok (.invokevirtual 320, 3) := dk_182 1 64 (dk_at dksX0_runs_0 19 rfl rfl)
theorem dX0_runs_22 : decode cX0_runs 22 = .ok (.istore_n 1, 1) := dk_60 (dk_at dksX0_runs_0 22 rfl rfl)
theorem dX0_runs_23 : decode cX0_runs 23 = .ok (.iload_n 1, 1) := dk_27 (dk_at dksX0_runs_0 23 rfl rfl)
theorem dX0_runs_24 : decode cX0_runs 24 = .ok (.bipush (-9), 2) := dk_16 247 (dk_at dksX0_runs_1 0 rfl rfl)
theorem dX0_runs_26 : decode cX0_runs 26 = .ok (.if_icmp .eq 27, 3) := dk_159 0 27 (dk_at dksX0_runs_1 2 rfl rfl)
theorem dX0_runs_29 : decode cX0_runs 29 = .ok (.aload_n 0, 1) := dk_42 (dk_at dksX0_runs_1 5 rfl rfl)
theorem dX0_runs_30 : decode cX0_runs 30 = .ok (.getfield 10, 3) := dk_180 0 10 (dk_at dksX0_runs_1 6 rfl rfl)
theorem dX0_runs_33 : decode cX0_runs 33 = .ok (.aload_n 0, 1) := dk_42 (dk_at dksX0_runs_1 9 rfl rfl)
theorem dX0_runs_34 : decode cX0_runs 34 = .ok (.getfield 63, 3) := dk_180 0 63 (dk_at dksX0_runs_1 10 rfl rfl)
theorem dX0_runs_37 : decode cX0_runs 37 = .ok (.iload_n 1, 1) := dk_27 (dk_at dksX0_runs_1 13 rfl rfl)
theorem dX0_runs_38 : decode cX0_runs 38 = .ok (.invokevirtual 172, 3) := dk_182 0 172 (dk_at dksX0_runs_1 14 rfl rfl)
theorem dX0_runs_41 : decode cX0_runs 41 = .ok (.aload_n 0, 1) := dk_42 (dk_at dksX0_runs_1 17 rfl rfl)
theorem dX0_runs_42 : decode cX0_runs 42 = .ok (.aload_n 0, 1) := dk_42 (dk_at dksX0_runs_1 18 rfl rfl)
theorem dX0_runs_43 : decode cX0_runs 43 = .ok (.getfield 63, 3) := dk_180 0 63 (dk_at dksX0_runs_1 19 rfl rfl)
theorem dX0_runs_46 : decode cX0_runs 46 = .ok (.invokevirtual 320, 3) := dk_182 1 64 (dk_at dksX0_runs_2 0 rfl rfl)
theorem dX0_runs_49 : decode cX0_runs 49 = .ok (.istore_n 1, 1) := dk_60 (dk_at dksX0_runs_2 3 rfl rfl)
theorem dX0_runs_50 : decode cX0_runs 50 = .ok (.goto (-27), 3) := dk_167 255 229 (dk_at dksX0_runs_2 4 rfl rfl)
theorem dX0_runs_53 : decode cX0_runs 53 = .ok (.aload_n 0, 1) := dk_42 (dk_at dksX0_runs_2 7 rfl rfl)
theorem dX0_runs_54 : decode cX0_runs 54 = .ok (.getfield 63, 3) := dk_180 0 63 (dk_at dksX0_runs_2 8 rfl rfl)
theorem dX0_runs_57 : decode cX0_runs 57 = .ok (.getfield 156, 3) := dk_180 0 156 (dk_at dksX0_runs_2 11 rfl rfl)
theorem dX0_runs_60 : decode cX0_runs 60 = .ok (.aload_n 0, 1) := dk_42 (dk_at dksX0_runs_2 14 rfl rfl)
theorem dX0_runs_61 : decode cX0_runs 61 = .ok (.getfield 10, 3) := dk_180 0 10 (dk_at dksX0_runs_2 15 rfl rfl)
theorem dX0_runs_64 : decode cX0_runs 64 = .ok (.getfield 127, 3) := dk_180 0 127 (dk_at dksX0_runs_2 18 rfl rfl)
theorem dX0_runs_67 : decode cX0_runs 67 = .ok (.getfield 156, 3) := dk_180 0 156 (dk_at dksX0_runs_2 21 rfl rfl)
theorem dX0_runs_70 : decode cX0_runs 70 = .ok (.isub, 1) := dk_100 (dk_at dksX0_runs_3 0 rfl rfl)
theorem dX0_runs_71 : decode cX0_runs 71 = .ok (.ireturn, 1) := dk_172 (dk_at dksX0_runs_3 1 rfl rfl)
abbrev cX0_loss : ByteArray := prog_1_method_45_code
def yX0_loss : MethodName := ⟨RX0, "loss", "()I"⟩
def dkwX0_loss_0 : List UInt8 := [42, 180, 0, 24, 42, 180, 0, 10, 180, 0, 127, 182, 0, 176, 42, 182, 1, 71, 100, 172]
abbrev dktX0_loss_0 : List UInt8 := dkwX0_loss_0 ++ []
theorem dksX0_loss_0 : cX0_loss.data.toList.drop 0 = dktX0_loss_0 := by decide +kernel
theorem dX0_loss_0 : decode cX0_loss 0 = .ok (.aload_n 0, 1) := dk_42 (dk_at dksX0_loss_0 0 rfl rfl)
theorem dX0_loss_1 : decode cX0_loss 1 = .ok (.getfield 24, 3) := dk_180 0 24 (dk_at dksX0_loss_0 1 rfl rfl)
theorem dX0_loss_4 : decode cX0_loss 4 = .ok (.aload_n 0, 1) := dk_42 (dk_at dksX0_loss_0 4 rfl rfl)
theorem dX0_loss_5 : decode cX0_loss 5 = .ok (.getfield 10, 3) := dk_180 0 10 (dk_at dksX0_loss_0 5 rfl rfl)
theorem dX0_loss_8 : decode cX0_loss 8 = .ok (.getfield 127, 3) := dk_180 0 127 (dk_at dksX0_loss_0 8 rfl rfl)
theorem dX0_loss_11 : decode cX0_loss 11 = .ok (.invokevirtual 176, 3) := dk_182 0 176 (dk_at dksX0_loss_0 11 rfl rfl)
theorem dX0_loss_14 : decode cX0_loss 14 = .ok (.aload_n 0, 1) := dk_42 (dk_at dksX0_loss_0 14 rfl rfl)
theorem dX0_loss_15 : decode cX0_loss 15 = .ok (.invokevirtual 327, 3) := dk_182 1 71 (dk_at dksX0_loss_0 15 rfl rfl)
theorem dX0_loss_18 : decode cX0_loss 18 = .ok (.isub, 1) := dk_100 (dk_at dksX0_loss_0 18 rfl rfl)
theorem dX0_loss_19 : decode cX0_loss 19 = .ok (.ireturn, 1) := dk_172 (dk_at dksX0_loss_0 19 rfl rfl)
abbrev cX0_prove : ByteArray := prog_1_method_47_code
def yX0_prove : MethodName := ⟨RX0, "prove", "()I"⟩
def dkwX0_prove_4 : List UInt8 := [42, 180, 0, 63, 182, 0, 180, 60, 167, 255, 184, 42, 180, 1, 78, 172]
abbrev dktX0_prove_4 : List UInt8 := dkwX0_prove_4 ++ []
def dkwX0_prove_3 : List UInt8 := [180, 1, 78, 4, 96, 181, 1, 78, 42, 180, 0, 10, 42, 180, 0, 63, 27, 182, 0, 172, 42, 180, 0, 24]
abbrev dktX0_prove_3 : List UInt8 := dkwX0_prove_3 ++ dktX0_prove_4
def dkwX0_prove_2 : List UInt8 := [180, 0, 63, 180, 0, 147, 181, 1, 81, 42, 180, 0, 71, 42, 180, 1, 78, 50, 27, 181, 1, 82, 42, 89]
abbrev dktX0_prove_2 : List UInt8 := dkwX0_prove_2 ++ dktX0_prove_3
def dkwX0_prove_1 : List UInt8 := [180, 0, 63, 182, 0, 180, 60, 27, 16, 247, 159, 0, 72, 42, 180, 0, 71, 42, 180, 1, 78, 50, 42]
abbrev dktX0_prove_1 : List UInt8 := dkwX0_prove_1 ++ dktX0_prove_2
def dkwX0_prove_0 : List UInt8 := [42, 180, 0, 63, 42, 180, 0, 10, 180, 0, 127, 182, 1, 67, 42, 3, 181, 1, 78, 42, 180, 0, 24, 42]
abbrev dktX0_prove_0 : List UInt8 := dkwX0_prove_0 ++ dktX0_prove_1
theorem dksX0_prove_0 : cX0_prove.data.toList.drop 0 = dktX0_prove_0 := by decide +kernel
theorem dksX0_prove_1 : cX0_prove.data.toList.drop 24 = dktX0_prove_1 := dk_seg dksX0_prove_0 24 rfl rfl
theorem dksX0_prove_2 : cX0_prove.data.toList.drop 47 = dktX0_prove_2 := dk_seg dksX0_prove_1 23 rfl rfl
theorem dksX0_prove_3 : cX0_prove.data.toList.drop 71 = dktX0_prove_3 := dk_seg dksX0_prove_2 24 rfl rfl
theorem dksX0_prove_4 : cX0_prove.data.toList.drop 95 = dktX0_prove_4 := dk_seg dksX0_prove_3 24 rfl rfl
theorem dX0_prove_0 : decode cX0_prove 0 = .ok (.aload_n 0, 1) := dk_42 (dk_at dksX0_prove_0 0 rfl rfl)
theorem dX0_prove_1 : decode cX0_prove 1 = .ok (.getfield 63, 3) := dk_180 0 63 (dk_at dksX0_prove_0 1 rfl rfl)
theorem dX0_prove_4 : decode cX0_prove 4 = .ok (.aload_n 0, 1) := dk_42 (dk_at dksX0_prove_0 4 rfl rfl)
theorem dX0_prove_5 : decode cX0_prove 5 = .ok (.getfield 10, 3) := dk_180 0 10 (dk_at dksX0_prove_0 5 rfl rfl)
theorem dX0_prove_8 : decode cX0_prove 8 = .ok (.getfield 127, 3) := dk_180 0 127 (dk_at dksX0_prove_0 8 rfl rfl)
theorem dX0_prove_11 : decode cX0_prove 11 = .ok (.invokevirtual 323, 3) := dk_182 1 67 (dk_at dksX0_prove_0 11 rfl rfl)
theorem dX0_prove_14 : decode cX0_prove 14 = .ok (.aload_n 0, 1) := dk_42 (dk_at dksX0_prove_0 14 rfl rfl)
theorem dX0_prove_15 : decode cX0_prove 15 = .ok (.iconst 0, 1) := dk_3 (dk_at dksX0_prove_0 15 rfl rfl)
theorem dX0_prove_16 : decode cX0_prove 16 = .ok (.putfield 334, 3) := dk_181 1 78 (dk_at dksX0_prove_0 16 rfl rfl)
theorem dX0_prove_19 : decode cX0_prove 19 = .ok (.aload_n 0, 1) := dk_42 (dk_at dksX0_prove_0 19 rfl rfl)
theorem dX0_prove_20 : decode cX0_prove 20 = .ok (.getfield 24, 3) := dk_180 0 24 (dk_at dksX0_prove_0 20 rfl rfl)
theorem dX0_prove_23 : decode cX0_prove 23 = .ok (.aload_n 0, 1) := dk_42 (dk_at dksX0_prove_0 23 rfl rfl)
theorem dX0_prove_24 : decode cX0_prove 24 = .ok (.getfield 63, 3) := dk_180 0 63 (dk_at dksX0_prove_1 0 rfl rfl)
theorem dX0_prove_27 : decode cX0_prove 27 = .ok (.invokevirtual 180, 3) := dk_182 0 180 (dk_at dksX0_prove_1 3 rfl rfl)
theorem dX0_prove_30 : decode cX0_prove 30 = .ok (.istore_n 1, 1) := dk_60 (dk_at dksX0_prove_1 6 rfl rfl)
theorem dX0_prove_31 : decode cX0_prove 31 = .ok (.iload_n 1, 1) := dk_27 (dk_at dksX0_prove_1 7 rfl rfl)
theorem dX0_prove_32 : decode cX0_prove 32 = .ok (.bipush (-9), 2) := dk_16 247 (dk_at dksX0_prove_1 8 rfl rfl)
theorem dX0_prove_34 : decode cX0_prove 34 = .ok (.if_icmp .eq 72, 3) := dk_159 0 72 (dk_at dksX0_prove_1 10 rfl rfl)
theorem dX0_prove_37 : decode cX0_prove 37 = .ok (.aload_n 0, 1) := dk_42 (dk_at dksX0_prove_1 13 rfl rfl)
theorem dX0_prove_38 : decode cX0_prove 38 = .ok (.getfield 71, 3) := dk_180 0 71 (dk_at dksX0_prove_1 14 rfl rfl)
theorem dX0_prove_41 : decode cX0_prove 41 = .ok (.aload_n 0, 1) := dk_42 (dk_at dksX0_prove_1 17 rfl rfl)
theorem dX0_prove_42 : decode cX0_prove 42 = .ok (.getfield 334, 3) := dk_180 1 78 (dk_at dksX0_prove_1 18 rfl rfl)
theorem dX0_prove_45 : decode cX0_prove 45 = .ok (.aaload, 1) := dk_50 (dk_at dksX0_prove_1 21 rfl rfl)
theorem dX0_prove_46 : decode cX0_prove 46 = .ok (.aload_n 0, 1) := dk_42 (dk_at dksX0_prove_1 22 rfl rfl)
theorem dX0_prove_47 : decode cX0_prove 47 = .ok (.getfield 63, 3) := dk_180 0 63 (dk_at dksX0_prove_2 0 rfl rfl)
theorem dX0_prove_50 : decode cX0_prove 50 = .ok (.getfield 147, 3) := dk_180 0 147 (dk_at dksX0_prove_2 3 rfl rfl)
theorem dX0_prove_53 : decode cX0_prove 53 = .ok (.putfield 337, 3) := dk_181 1 81 (dk_at dksX0_prove_2 6 rfl rfl)
theorem dX0_prove_56 : decode cX0_prove 56 = .ok (.aload_n 0, 1) := dk_42 (dk_at dksX0_prove_2 9 rfl rfl)
theorem dX0_prove_57 : decode cX0_prove 57 = .ok (.getfield 71, 3) := dk_180 0 71 (dk_at dksX0_prove_2 10 rfl rfl)
theorem dX0_prove_60 : decode cX0_prove 60 = .ok (.aload_n 0, 1) := dk_42 (dk_at dksX0_prove_2 13 rfl rfl)
theorem dX0_prove_61 : decode cX0_prove 61 = .ok (.getfield 334, 3) := dk_180 1 78 (dk_at dksX0_prove_2 14 rfl rfl)
theorem dX0_prove_64 : decode cX0_prove 64 = .ok (.aaload, 1) := dk_50 (dk_at dksX0_prove_2 17 rfl rfl)
theorem dX0_prove_65 : decode cX0_prove 65 = .ok (.iload_n 1, 1) := dk_27 (dk_at dksX0_prove_2 18 rfl rfl)
theorem dX0_prove_66 : decode cX0_prove 66 = .ok (.putfield 338, 3) := dk_181 1 82 (dk_at dksX0_prove_2 19 rfl rfl)
theorem dX0_prove_69 : decode cX0_prove 69 = .ok (.aload_n 0, 1) := dk_42 (dk_at dksX0_prove_2 22 rfl rfl)
theorem dX0_prove_70 : decode cX0_prove 70 = .ok (.dup, 1) := dk_89 (dk_at dksX0_prove_2 23 rfl rfl)
theorem dX0_prove_71 : decode cX0_prove 71 = .ok (.getfield 334, 3) := dk_180 1 78 (dk_at dksX0_prove_3 0 rfl rfl)
theorem dX0_prove_74 : decode cX0_prove 74 = .ok (.iconst 1, 1) := dk_4 (dk_at dksX0_prove_3 3 rfl rfl)
theorem dX0_prove_75 : decode cX0_prove 75 = .ok (.iadd, 1) := dk_96 (dk_at dksX0_prove_3 4 rfl rfl)
theorem dX0_prove_76 : decode cX0_prove 76 = .ok (.putfield 334, 3) := dk_181 1 78 (dk_at dksX0_prove_3 5 rfl rfl)
theorem dX0_prove_79 : decode cX0_prove 79 = .ok (.aload_n 0, 1) := dk_42 (dk_at dksX0_prove_3 8 rfl rfl)
theorem dX0_prove_80 : decode cX0_prove 80 = .ok (.getfield 10, 3) := dk_180 0 10 (dk_at dksX0_prove_3 9 rfl rfl)
theorem dX0_prove_83 : decode cX0_prove 83 = .ok (.aload_n 0, 1) := dk_42 (dk_at dksX0_prove_3 12 rfl rfl)
theorem dX0_prove_84 : decode cX0_prove 84 = .ok (.getfield 63, 3) := dk_180 0 63 (dk_at dksX0_prove_3 13 rfl rfl)
theorem dX0_prove_87 : decode cX0_prove 87 = .ok (.iload_n 1, 1) := dk_27 (dk_at dksX0_prove_3 16 rfl rfl)
theorem dX0_prove_88 : decode cX0_prove 88 = .ok (.invokevirtual 172, 3) := dk_182 0 172 (dk_at dksX0_prove_3 17 rfl rfl)
theorem dX0_prove_91 : decode cX0_prove 91 = .ok (.aload_n 0, 1) := dk_42 (dk_at dksX0_prove_3 20 rfl rfl)
theorem dX0_prove_92 : decode cX0_prove 92 = .ok (.getfield 24, 3) := dk_180 0 24 (dk_at dksX0_prove_3 21 rfl rfl)
theorem dX0_prove_95 : decode cX0_prove 95 = .ok (.aload_n 0, 1) := dk_42 (dk_at dksX0_prove_4 0 rfl rfl)
theorem dX0_prove_96 : decode cX0_prove 96 = .ok (.getfield 63, 3) := dk_180 0 63 (dk_at dksX0_prove_4 1 rfl rfl)
theorem dX0_prove_99 : decode cX0_prove 99 = .ok (.invokevirtual 180, 3) := dk_182 0 180 (dk_at dksX0_prove_4 4 rfl rfl)
theorem dX0_prove_102 : decode cX0_prove 102 = .ok (.istore_n 1, 1) := dk_60 (dk_at dksX0_prove_4 7 rfl rfl)
theorem dX0_prove_103 : decode cX0_prove 103 = .ok (.goto (-72), 3) := dk_167 255 184 (dk_at dksX0_prove_4 8 rfl rfl)
theorem dX0_prove_106 : decode cX0_prove 106 = .ok (.aload_n 0, 1) := dk_42 (dk_at dksX0_prove_4 11 rfl rfl)
theorem dX0_prove_107 : decode cX0_prove 107 = .ok (.getfield 334, 3) := dk_180 1 78 (dk_at dksX0_prove_4 12 rfl rfl)
theorem dX0_prove_110 : decode cX0_prove 110 = .ok (.ireturn, 1) := dk_172 (dk_at dksX0_prove_4 15 rfl rfl)
abbrev cX0_row : ByteArray := prog_1_method_49_code
def yX0_row : MethodName := ⟨RX0, "row", "(II)I"⟩
def dkwX0_row_1 : List UInt8 := [180, 1, 81, 167, 0, 12, 42, 180, 0, 71, 27, 50, 180, 1, 82, 172]
abbrev dktX0_row_1 : List UInt8 := dkwX0_row_1 ++ []
def dkwX0_row_0 : List UInt8 := [42, 27, 28, 182, 1, 83, 154, 0, 8, 16, 247, 167, 0, 28, 28, 154, 0, 15, 42, 180, 0, 71, 27, 50]
abbrev dktX0_row_0 : List UInt8 := dkwX0_row_0 ++ dktX0_row_1
theorem dksX0_row_0 : cX0_row.data.toList.drop 0 = dktX0_row_0 := by decide +kernel
theorem dksX0_row_1 : cX0_row.data.toList.drop 24 = dktX0_row_1 := dk_seg dksX0_row_0 24 rfl rfl
theorem dX0_row_0 : decode cX0_row 0 = .ok (.aload_n 0, 1) := dk_42 (dk_at dksX0_row_0 0 rfl rfl)
theorem dX0_row_1 : decode cX0_row 1 = .ok (.iload_n 1, 1) := dk_27 (dk_at dksX0_row_0 1 rfl rfl)
theorem dX0_row_2 : decode cX0_row 2 = .ok (.iload_n 2, 1) := dk_28 (dk_at dksX0_row_0 2 rfl rfl)
theorem dX0_row_3 : decode cX0_row 3 = .ok (.invokevirtual 339, 3) := dk_182 1 83 (dk_at dksX0_row_0 3 rfl rfl)
theorem dX0_row_6 : decode cX0_row 6 = .ok (.ifCond .ne 8, 3) := dk_154 0 8 (dk_at dksX0_row_0 6 rfl rfl)
theorem dX0_row_9 : decode cX0_row 9 = .ok (.bipush (-9), 2) := dk_16 247 (dk_at dksX0_row_0 9 rfl rfl)
theorem dX0_row_11 : decode cX0_row 11 = .ok (.goto 28, 3) := dk_167 0 28 (dk_at dksX0_row_0 11 rfl rfl)
theorem dX0_row_14 : decode cX0_row 14 = .ok (.iload_n 2, 1) := dk_28 (dk_at dksX0_row_0 14 rfl rfl)
theorem dX0_row_15 : decode cX0_row 15 = .ok (.ifCond .ne 15, 3) := dk_154 0 15 (dk_at dksX0_row_0 15 rfl rfl)
theorem dX0_row_18 : decode cX0_row 18 = .ok (.aload_n 0, 1) := dk_42 (dk_at dksX0_row_0 18 rfl rfl)
theorem dX0_row_19 : decode cX0_row 19 = .ok (.getfield 71, 3) := dk_180 0 71 (dk_at dksX0_row_0 19 rfl rfl)
theorem dX0_row_22 : decode cX0_row 22 = .ok (.iload_n 1, 1) := dk_27 (dk_at dksX0_row_0 22 rfl rfl)
theorem dX0_row_23 : decode cX0_row 23 = .ok (.aaload, 1) := dk_50 (dk_at dksX0_row_0 23 rfl rfl)
theorem dX0_row_24 : decode cX0_row 24 = .ok (.getfield 337, 3) := dk_180 1 81 (dk_at dksX0_row_1 0 rfl rfl)
theorem dX0_row_27 : decode cX0_row 27 = .ok (.goto 12, 3) := dk_167 0 12 (dk_at dksX0_row_1 3 rfl rfl)
theorem dX0_row_30 : decode cX0_row 30 = .ok (.aload_n 0, 1) := dk_42 (dk_at dksX0_row_1 6 rfl rfl)
theorem dX0_row_31 : decode cX0_row 31 = .ok (.getfield 71, 3) := dk_180 0 71 (dk_at dksX0_row_1 7 rfl rfl)
theorem dX0_row_34 : decode cX0_row 34 = .ok (.iload_n 1, 1) := dk_27 (dk_at dksX0_row_1 10 rfl rfl)
theorem dX0_row_35 : decode cX0_row 35 = .ok (.aaload, 1) := dk_50 (dk_at dksX0_row_1 11 rfl rfl)
theorem dX0_row_36 : decode cX0_row 36 = .ok (.getfield 338, 3) := dk_180 1 82 (dk_at dksX0_row_1 12 rfl rfl)
theorem dX0_row_39 : decode cX0_row 39 = .ok (.ireturn, 1) := dk_172 (dk_at dksX0_row_1 15 rfl rfl)
abbrev cX0_isCell : ByteArray := prog_1_method_48_code
def yX0_isCell : MethodName := ⟨RX0, "isCell", "(II)Z"⟩
def dkwX0_isCell_1 : List UInt8 := [167, 0, 4, 3, 172]
abbrev dktX0_isCell_1 : List UInt8 := dkwX0_isCell_1 ++ []
def dkwX0_isCell_0 : List UInt8 := [27, 3, 42, 180, 1, 78, 4, 100, 184, 0, 111, 153, 0, 16, 28, 3, 4, 184, 0, 111, 153, 0, 7, 4]
abbrev dktX0_isCell_0 : List UInt8 := dkwX0_isCell_0 ++ dktX0_isCell_1
theorem dksX0_isCell_0 : cX0_isCell.data.toList.drop 0 = dktX0_isCell_0 := by decide +kernel
theorem dksX0_isCell_1 : cX0_isCell.data.toList.drop 24 = dktX0_isCell_1 := dk_seg dksX0_isCell_0 24 rfl rfl
theorem dX0_isCell_0 : decode cX0_isCell 0 = .ok (.iload_n 1, 1) := dk_27 (dk_at dksX0_isCell_0 0 rfl rfl)
theorem dX0_isCell_1 : decode cX0_isCell 1 = .ok (.iconst 0, 1) := dk_3 (dk_at dksX0_isCell_0 1 rfl rfl)
theorem dX0_isCell_2 : decode cX0_isCell 2 = .ok (.aload_n 0, 1) := dk_42 (dk_at dksX0_isCell_0 2 rfl rfl)
theorem dX0_isCell_3 : decode cX0_isCell 3 = .ok (.getfield 334, 3) := dk_180 1 78 (dk_at dksX0_isCell_0 3 rfl rfl)
theorem dX0_isCell_6 : decode cX0_isCell 6 = .ok (.iconst 1, 1) := dk_4 (dk_at dksX0_isCell_0 6 rfl rfl)
theorem dX0_isCell_7 : decode cX0_isCell 7 = .ok (.isub, 1) := dk_100 (dk_at dksX0_isCell_0 7 rfl rfl)
theorem dX0_isCell_8 : decode cX0_isCell 8 = .ok (.invokestatic 111, 3) := dk_184 0 111 (dk_at dksX0_isCell_0 8 rfl rfl)
theorem dX0_isCell_11 : decode cX0_isCell 11 = .ok (.ifCond .eq 16, 3) := dk_153 0 16 (dk_at dksX0_isCell_0 11 rfl rfl)
theorem dX0_isCell_14 : decode cX0_isCell 14 = .ok (.iload_n 2, 1) := dk_28 (dk_at dksX0_isCell_0 14 rfl rfl)
theorem dX0_isCell_15 : decode cX0_isCell 15 = .ok (.iconst 0, 1) := dk_3 (dk_at dksX0_isCell_0 15 rfl rfl)
theorem dX0_isCell_16 : decode cX0_isCell 16 = .ok (.iconst 1, 1) := dk_4 (dk_at dksX0_isCell_0 16 rfl rfl)
theorem dX0_isCell_17 : decode cX0_isCell 17 = .ok (.invokestatic 111, 3) := dk_184 0 111 (dk_at dksX0_isCell_0 17 rfl rfl)
theorem dX0_isCell_20 : decode cX0_isCell 20 = .ok (.ifCond .eq 7, 3) := dk_153 0 7 (dk_at dksX0_isCell_0 20 rfl rfl)
theorem dX0_isCell_23 : decode cX0_isCell 23 = .ok (.iconst 1, 1) := dk_4 (dk_at dksX0_isCell_0 23 rfl rfl)
theorem dX0_isCell_24 : decode cX0_isCell 24 = .ok (.goto 4, 3) := dk_167 0 4 (dk_at dksX0_isCell_1 0 rfl rfl)
theorem dX0_isCell_27 : decode cX0_isCell 27 = .ok (.iconst 0, 1) := dk_3 (dk_at dksX0_isCell_1 3 rfl rfl)
theorem dX0_isCell_28 : decode cX0_isCell 28 = .ok (.ireturn, 1) := dk_172 (dk_at dksX0_isCell_1 4 rfl rfl)
abbrev cX0_alterRow : ByteArray := prog_1_method_50_code
def yX0_alterRow : MethodName := ⟨RX0, "alterRow", "(III)I"⟩
def dkwX0_alterRow_3 : List UInt8 := [181, 1, 82, 21, 4, 172]
abbrev dktX0_alterRow_3 : List UInt8 := dkwX0_alterRow_3 ++ []
def dkwX0_alterRow_2 : List UInt8 := [180, 0, 71, 27, 50, 28, 4, 160, 0, 7, 29, 167, 0, 12, 42, 180, 0, 71, 27, 50, 180, 1, 82]
abbrev dktX0_alterRow_2 : List UInt8 := dkwX0_alterRow_2 ++ dktX0_alterRow_3
def dkwX0_alterRow_1 : List UInt8 := [27, 50, 28, 154, 0, 7, 29, 167, 0, 12, 42, 180, 0, 71, 27, 50, 180, 1, 81, 181, 1, 81, 42]
abbrev dktX0_alterRow_1 : List UInt8 := dkwX0_alterRow_1 ++ dktX0_alterRow_2
def dkwX0_alterRow_0 : List UInt8 := [42, 27, 28, 182, 1, 83, 154, 0, 6, 16, 247, 172, 42, 27, 28, 182, 1, 86, 54, 4, 42, 180, 0, 71]
abbrev dktX0_alterRow_0 : List UInt8 := dkwX0_alterRow_0 ++ dktX0_alterRow_1
theorem dksX0_alterRow_0 : cX0_alterRow.data.toList.drop 0 = dktX0_alterRow_0 := by decide +kernel
theorem dksX0_alterRow_1 : cX0_alterRow.data.toList.drop 24 = dktX0_alterRow_1 := dk_seg dksX0_alterRow_0 24 rfl rfl
theorem dksX0_alterRow_2 : cX0_alterRow.data.toList.drop 47 = dktX0_alterRow_2 := dk_seg dksX0_alterRow_1 23 rfl rfl
theorem dksX0_alterRow_3 : cX0_alterRow.data.toList.drop 70 = dktX0_alterRow_3 := dk_seg dksX0_alterRow_2 23 rfl rfl
theorem dX0_alterRow_0 : decode cX0_alterRow 0 = .ok (.aload_n 0, 1) := dk_42 (dk_at dksX0_alterRow_0 0 rfl rfl)
theorem dX0_alterRow_1 : decode cX0_alterRow 1 = .ok (.iload_n 1, 1) := dk_27 (dk_at dksX0_alterRow_0 1 rfl rfl)
theorem dX0_alterRow_2 : decode cX0_alterRow 2 = .ok (.iload_n 2, 1) := dk_28 (dk_at dksX0_alterRow_0 2 rfl rfl)
theorem dX0_alterRow_3 : decode cX0_alterRow 3 = .ok (.invokevirtual 339, 3) := dk_182 1 83 (dk_at dksX0_alterRow_0 3 rfl rfl)
theorem dX0_alterRow_6 : decode cX0_alterRow 6 = .ok (.ifCond .ne 6, 3) := dk_154 0 6 (dk_at dksX0_alterRow_0 6 rfl rfl)
theorem dX0_alterRow_9 : decode cX0_alterRow 9 = .ok (.bipush (-9), 2) := dk_16 247 (dk_at dksX0_alterRow_0 9 rfl rfl)
theorem dX0_alterRow_11 : decode cX0_alterRow 11 = .ok (.ireturn, 1) := dk_172 (dk_at dksX0_alterRow_0 11 rfl rfl)
theorem dX0_alterRow_12 : decode cX0_alterRow 12 = .ok (.aload_n 0, 1) := dk_42 (dk_at dksX0_alterRow_0 12 rfl rfl)
theorem dX0_alterRow_13 : decode cX0_alterRow 13 = .ok (.iload_n 1, 1) := dk_27 (dk_at dksX0_alterRow_0 13 rfl rfl)
theorem dX0_alterRow_14 : decode cX0_alterRow 14 = .ok (.iload_n 2, 1) := dk_28 (dk_at dksX0_alterRow_0 14 rfl rfl)
theorem dX0_alterRow_15 : decode cX0_alterRow 15 = .ok (.invokevirtual 342, 3) := dk_182 1 86 (dk_at dksX0_alterRow_0 15 rfl rfl)
theorem dX0_alterRow_18 : decode cX0_alterRow 18 = .ok (.istore 4, 2) := dk_54 4 (dk_at dksX0_alterRow_0 18 rfl rfl)
theorem dX0_alterRow_20 : decode cX0_alterRow 20 = .ok (.aload_n 0, 1) := dk_42 (dk_at dksX0_alterRow_0 20 rfl rfl)
theorem dX0_alterRow_21 : decode cX0_alterRow 21 = .ok (.getfield 71, 3) := dk_180 0 71 (dk_at dksX0_alterRow_0 21 rfl rfl)
theorem dX0_alterRow_24 : decode cX0_alterRow 24 = .ok (.iload_n 1, 1) := dk_27 (dk_at dksX0_alterRow_1 0 rfl rfl)
theorem dX0_alterRow_25 : decode cX0_alterRow 25 = .ok (.aaload, 1) := dk_50 (dk_at dksX0_alterRow_1 1 rfl rfl)
theorem dX0_alterRow_26 : decode cX0_alterRow 26 = .ok (.iload_n 2, 1) := dk_28 (dk_at dksX0_alterRow_1 2 rfl rfl)
theorem dX0_alterRow_27 : decode cX0_alterRow 27 = .ok (.ifCond .ne 7, 3) := dk_154 0 7 (dk_at dksX0_alterRow_1 3 rfl rfl)
theorem dX0_alterRow_30 : decode cX0_alterRow 30 = .ok (.iload_n 3, 1) := dk_29 (dk_at dksX0_alterRow_1 6 rfl rfl)
theorem dX0_alterRow_31 : decode cX0_alterRow 31 = .ok (.goto 12, 3) := dk_167 0 12 (dk_at dksX0_alterRow_1 7 rfl rfl)
theorem dX0_alterRow_34 : decode cX0_alterRow 34 = .ok (.aload_n 0, 1) := dk_42 (dk_at dksX0_alterRow_1 10 rfl rfl)
theorem dX0_alterRow_35 : decode cX0_alterRow 35 = .ok (.getfield 71, 3) := dk_180 0 71 (dk_at dksX0_alterRow_1 11 rfl rfl)
theorem dX0_alterRow_38 : decode cX0_alterRow 38 = .ok (.iload_n 1, 1) := dk_27 (dk_at dksX0_alterRow_1 14 rfl rfl)
theorem dX0_alterRow_39 : decode cX0_alterRow 39 = .ok (.aaload, 1) := dk_50 (dk_at dksX0_alterRow_1 15 rfl rfl)
theorem dX0_alterRow_40 : decode cX0_alterRow 40 = .ok (.getfield 337, 3) := dk_180 1 81 (dk_at dksX0_alterRow_1 16 rfl rfl)
theorem dX0_alterRow_43 : decode cX0_alterRow 43 = .ok (.putfield 337, 3) := dk_181 1 81 (dk_at dksX0_alterRow_1 19 rfl rfl)
theorem dX0_alterRow_46 : decode cX0_alterRow 46 = .ok (.aload_n 0, 1) := dk_42 (dk_at dksX0_alterRow_1 22 rfl rfl)
theorem dX0_alterRow_47 : decode cX0_alterRow 47 = .ok (.getfield 71, 3) := dk_180 0 71 (dk_at dksX0_alterRow_2 0 rfl rfl)
theorem dX0_alterRow_50 : decode cX0_alterRow 50 = .ok (.iload_n 1, 1) := dk_27 (dk_at dksX0_alterRow_2 3 rfl rfl)
theorem dX0_alterRow_51 : decode cX0_alterRow 51 = .ok (.aaload, 1) := dk_50 (dk_at dksX0_alterRow_2 4 rfl rfl)
theorem dX0_alterRow_52 : decode cX0_alterRow 52 = .ok (.iload_n 2, 1) := dk_28 (dk_at dksX0_alterRow_2 5 rfl rfl)
theorem dX0_alterRow_53 : decode cX0_alterRow 53 = .ok (.iconst 1, 1) := dk_4 (dk_at dksX0_alterRow_2 6 rfl rfl)
theorem dX0_alterRow_54 : decode cX0_alterRow 54 = .ok (.if_icmp .ne 7, 3) := dk_160 0 7 (dk_at dksX0_alterRow_2 7 rfl rfl)
theorem dX0_alterRow_57 : decode cX0_alterRow 57 = .ok (.iload_n 3, 1) := dk_29 (dk_at dksX0_alterRow_2 10 rfl rfl)
theorem dX0_alterRow_58 : decode cX0_alterRow 58 = .ok (.goto 12, 3) := dk_167 0 12 (dk_at dksX0_alterRow_2 11 rfl rfl)
theorem dX0_alterRow_61 : decode cX0_alterRow 61 = .ok (.aload_n 0, 1) := dk_42 (dk_at dksX0_alterRow_2 14 rfl rfl)
theorem dX0_alterRow_62 : decode cX0_alterRow 62 = .ok (.getfield 71, 3) := dk_180 0 71 (dk_at dksX0_alterRow_2 15 rfl rfl)
theorem dX0_alterRow_65 : decode cX0_alterRow 65 = .ok (.iload_n 1, 1) := dk_27 (dk_at dksX0_alterRow_2 18 rfl rfl)
theorem dX0_alterRow_66 : decode cX0_alterRow 66 = .ok (.aaload, 1) := dk_50 (dk_at dksX0_alterRow_2 19 rfl rfl)
theorem dX0_alterRow_67 : decode cX0_alterRow 67 = .ok (.getfield 338, 3) := dk_180 1 82 (dk_at dksX0_alterRow_2 20 rfl rfl)
theorem dX0_alterRow_70 : decode cX0_alterRow 70 = .ok (.putfield 338, 3) := dk_181 1 82 (dk_at dksX0_alterRow_3 0 rfl rfl)
theorem dX0_alterRow_73 : decode cX0_alterRow 73 = .ok (.iload 4, 2) := dk_21 4 (dk_at dksX0_alterRow_3 3 rfl rfl)
theorem dX0_alterRow_75 : decode cX0_alterRow 75 = .ok (.ireturn, 1) := dk_172 (dk_at dksX0_alterRow_3 5 rfl rfl)
abbrev cX0_judge : ByteArray := prog_1_method_52_code
def yX0_judge : MethodName := ⟨RX0, "judge", "()I"⟩
def dkwX0_judge_7 : List UInt8 := [160, 0, 7, 3, 167, 0, 5, 16, 32, 172]
abbrev dktX0_judge_7 : List UInt8 := dkwX0_judge_7 ++ []
def dkwX0_judge_6 : List UInt8 := [16, 31, 172, 42, 180, 0, 63, 180, 0, 156, 42, 180, 0, 10, 180, 0, 127, 180, 0, 156, 100, 27]
abbrev dktX0_judge_6 : List UInt8 := dkwX0_judge_6 ++ dktX0_judge_7
def dkwX0_judge_5 : List UInt8 := [180, 1, 82, 182, 0, 172, 132, 2, 1, 167, 255, 164, 42, 42, 180, 0, 63, 182, 1, 88, 153, 0, 6]
abbrev dktX0_judge_5 : List UInt8 := dkwX0_judge_5 ++ dktX0_judge_6
def dkwX0_judge_4 : List UInt8 := [182, 0, 168, 154, 0, 7, 28, 4, 96, 172, 42, 180, 0, 10, 42, 180, 0, 63, 42, 180, 0, 71, 28, 50]
abbrev dktX0_judge_4 : List UInt8 := dkwX0_judge_4 ++ dktX0_judge_5
def dkwX0_judge_3 : List UInt8 := [184, 0, 165, 153, 0, 26, 42, 180, 0, 10, 42, 180, 0, 63, 42, 180, 0, 71, 28, 50, 180, 1, 82]
abbrev dktX0_judge_3 : List UInt8 := dkwX0_judge_3 ++ dktX0_judge_4
def dkwX0_judge_2 : List UInt8 := [180, 1, 81, 42, 180, 0, 63, 180, 0, 147, 160, 0, 41, 42, 180, 0, 71, 28, 50, 180, 1, 82]
abbrev dktX0_judge_2 : List UInt8 := dkwX0_judge_2 ++ dktX0_judge_3
def dkwX0_judge_1 : List UInt8 := [180, 0, 127, 182, 1, 67, 3, 61, 28, 42, 180, 1, 78, 162, 0, 90, 42, 180, 0, 71, 28, 50]
abbrev dktX0_judge_1 : List UInt8 := dkwX0_judge_1 ++ dktX0_judge_2
def dkwX0_judge_0 : List UInt8 := [42, 180, 0, 24, 42, 180, 0, 10, 180, 0, 127, 182, 0, 176, 60, 42, 180, 0, 63, 42, 180, 0, 10]
abbrev dktX0_judge_0 : List UInt8 := dkwX0_judge_0 ++ dktX0_judge_1
theorem dksX0_judge_0 : cX0_judge.data.toList.drop 0 = dktX0_judge_0 := by decide +kernel
theorem dksX0_judge_1 : cX0_judge.data.toList.drop 23 = dktX0_judge_1 := dk_seg dksX0_judge_0 23 rfl rfl
theorem dksX0_judge_2 : cX0_judge.data.toList.drop 45 = dktX0_judge_2 := dk_seg dksX0_judge_1 22 rfl rfl
theorem dksX0_judge_3 : cX0_judge.data.toList.drop 67 = dktX0_judge_3 := dk_seg dksX0_judge_2 22 rfl rfl
theorem dksX0_judge_4 : cX0_judge.data.toList.drop 90 = dktX0_judge_4 := dk_seg dksX0_judge_3 23 rfl rfl
theorem dksX0_judge_5 : cX0_judge.data.toList.drop 114 = dktX0_judge_5 := dk_seg dksX0_judge_4 24 rfl rfl
theorem dksX0_judge_6 : cX0_judge.data.toList.drop 137 = dktX0_judge_6 := dk_seg dksX0_judge_5 23 rfl rfl
theorem dksX0_judge_7 : cX0_judge.data.toList.drop 159 = dktX0_judge_7 := dk_seg dksX0_judge_6 22 rfl rfl
theorem dX0_judge_0 : decode cX0_judge 0 = .ok (.aload_n 0, 1) := dk_42 (dk_at dksX0_judge_0 0 rfl rfl)
theorem dX0_judge_1 : decode cX0_judge 1 = .ok (.getfield 24, 3) := dk_180 0 24 (dk_at dksX0_judge_0 1 rfl rfl)
theorem dX0_judge_4 : decode cX0_judge 4 = .ok (.aload_n 0, 1) := dk_42 (dk_at dksX0_judge_0 4 rfl rfl)
theorem dX0_judge_5 : decode cX0_judge 5 = .ok (.getfield 10, 3) := dk_180 0 10 (dk_at dksX0_judge_0 5 rfl rfl)
theorem dX0_judge_8 : decode cX0_judge 8 = .ok (.getfield 127, 3) := dk_180 0 127 (dk_at dksX0_judge_0 8 rfl rfl)
theorem dX0_judge_11 : decode cX0_judge 11 = .ok (.invokevirtual 176, 3) := dk_182 0 176 (dk_at dksX0_judge_0 11 rfl rfl)
theorem dX0_judge_14 : decode cX0_judge 14 = .ok (.istore_n 1, 1) := dk_60 (dk_at dksX0_judge_0 14 rfl rfl)
theorem dX0_judge_15 : decode cX0_judge 15 = .ok (.aload_n 0, 1) := dk_42 (dk_at dksX0_judge_0 15 rfl rfl)
theorem dX0_judge_16 : decode cX0_judge 16 = .ok (.getfield 63, 3) := dk_180 0 63 (dk_at dksX0_judge_0 16 rfl rfl)
theorem dX0_judge_19 : decode cX0_judge 19 = .ok (.aload_n 0, 1) := dk_42 (dk_at dksX0_judge_0 19 rfl rfl)
theorem dX0_judge_20 : decode cX0_judge 20 = .ok (.getfield 10, 3) := dk_180 0 10 (dk_at dksX0_judge_0 20 rfl rfl)
theorem dX0_judge_23 : decode cX0_judge 23 = .ok (.getfield 127, 3) := dk_180 0 127 (dk_at dksX0_judge_1 0 rfl rfl)
theorem dX0_judge_26 : decode cX0_judge 26 = .ok (.invokevirtual 323, 3) := dk_182 1 67 (dk_at dksX0_judge_1 3 rfl rfl)
theorem dX0_judge_29 : decode cX0_judge 29 = .ok (.iconst 0, 1) := dk_3 (dk_at dksX0_judge_1 6 rfl rfl)
theorem dX0_judge_30 : decode cX0_judge 30 = .ok (.istore_n 2, 1) := dk_61 (dk_at dksX0_judge_1 7 rfl rfl)
theorem dX0_judge_31 : decode cX0_judge 31 = .ok (.iload_n 2, 1) := dk_28 (dk_at dksX0_judge_1 8 rfl rfl)
theorem dX0_judge_32 : decode cX0_judge 32 = .ok (.aload_n 0, 1) := dk_42 (dk_at dksX0_judge_1 9 rfl rfl)
theorem dX0_judge_33 : decode cX0_judge 33 = .ok (.getfield 334, 3) := dk_180 1 78 (dk_at dksX0_judge_1 10 rfl rfl)
theorem dX0_judge_36 : decode cX0_judge 36 = .ok (.if_icmp .ge 90, 3) := dk_162 0 90 (dk_at dksX0_judge_1 13 rfl rfl)
theorem dX0_judge_39 : decode cX0_judge 39 = .ok (.aload_n 0, 1) := dk_42 (dk_at dksX0_judge_1 16 rfl rfl)
theorem dX0_judge_40 : decode cX0_judge 40 = .ok (.getfield 71, 3) := dk_180 0 71 (dk_at dksX0_judge_1 17 rfl rfl)
theorem dX0_judge_43 : decode cX0_judge 43 = .ok (.iload_n 2, 1) := dk_28 (dk_at dksX0_judge_1 20 rfl rfl)
theorem dX0_judge_44 : decode cX0_judge 44 = .ok (.aaload, 1) := dk_50 (dk_at dksX0_judge_1 21 rfl rfl)
theorem dX0_judge_45 : decode cX0_judge 45 = .ok (.getfield 337, 3) := dk_180 1 81 (dk_at dksX0_judge_2 0 rfl rfl)
theorem dX0_judge_48 : decode cX0_judge 48 = .ok (.aload_n 0, 1) := dk_42 (dk_at dksX0_judge_2 3 rfl rfl)
theorem dX0_judge_49 : decode cX0_judge 49 = .ok (.getfield 63, 3) := dk_180 0 63 (dk_at dksX0_judge_2 4 rfl rfl)
theorem dX0_judge_52 : decode cX0_judge 52 = .ok (.getfield 147, 3) := dk_180 0 147 (dk_at dksX0_judge_2 7 rfl rfl)
theorem dX0_judge_55 : decode cX0_judge 55 = .ok (.if_icmp .ne 41, 3) := dk_160 0 41 (dk_at dksX0_judge_2 10 rfl rfl)
theorem dX0_judge_58 : decode cX0_judge 58 = .ok (.aload_n 0, 1) := dk_42 (dk_at dksX0_judge_2 13 rfl rfl)
theorem dX0_judge_59 : decode cX0_judge 59 = .ok (.getfield 71, 3) := dk_180 0 71 (dk_at dksX0_judge_2 14 rfl rfl)
theorem dX0_judge_62 : decode cX0_judge 62 = .ok (.iload_n 2, 1) := dk_28 (dk_at dksX0_judge_2 17 rfl rfl)
theorem dX0_judge_63 : decode cX0_judge 63 = .ok (.aaload, 1) := dk_50 (dk_at dksX0_judge_2 18 rfl rfl)
theorem dX0_judge_64 : decode cX0_judge 64 = .ok (.getfield 338, 3) := dk_180 1 82 (dk_at dksX0_judge_2 19 rfl rfl)
theorem dX0_judge_67 : decode cX0_judge 67 = .ok (.invokestatic 165, 3) := dk_184 0 165 (dk_at dksX0_judge_3 0 rfl rfl)
theorem dX0_judge_70 : decode cX0_judge 70 = .ok (.ifCond .eq 26, 3) := dk_153 0 26 (dk_at dksX0_judge_3 3 rfl rfl)
theorem dX0_judge_73 : decode cX0_judge 73 = .ok (.aload_n 0, 1) := dk_42 (dk_at dksX0_judge_3 6 rfl rfl)
theorem dX0_judge_74 : decode cX0_judge 74 = .ok (.getfield 10, 3) := dk_180 0 10 (dk_at dksX0_judge_3 7 rfl rfl)
theorem dX0_judge_77 : decode cX0_judge 77 = .ok (.aload_n 0, 1) := dk_42 (dk_at dksX0_judge_3 10 rfl rfl)
theorem dX0_judge_78 : decode cX0_judge 78 = .ok (.getfield 63, 3) := dk_180 0 63 (dk_at dksX0_judge_3 11 rfl rfl)
theorem dX0_judge_81 : decode cX0_judge 81 = .ok (.aload_n 0, 1) := dk_42 (dk_at dksX0_judge_3 14 rfl rfl)
theorem dX0_judge_82 : decode cX0_judge 82 = .ok (.getfield 71, 3) := dk_180 0 71 (dk_at dksX0_judge_3 15 rfl rfl)
theorem dX0_judge_85 : decode cX0_judge 85 = .ok (.iload_n 2, 1) := dk_28 (dk_at dksX0_judge_3 18 rfl rfl)
theorem dX0_judge_86 : decode cX0_judge 86 = .ok (.aaload, 1) := dk_50 (dk_at dksX0_judge_3 19 rfl rfl)
theorem dX0_judge_87 : decode cX0_judge 87 = .ok (.getfield 338, 3) := dk_180 1 82 (dk_at dksX0_judge_3 20 rfl rfl)
theorem dX0_judge_90 : decode cX0_judge 90 = .ok (.invokevirtual 168, 3) := dk_182 0 168 (dk_at dksX0_judge_4 0 rfl rfl)
theorem dX0_judge_93 : decode cX0_judge 93 = .ok (.ifCond .ne 7, 3) := dk_154 0 7 (dk_at dksX0_judge_4 3 rfl rfl)
theorem dX0_judge_96 : decode cX0_judge 96 = .ok (.iload_n 2, 1) := dk_28 (dk_at dksX0_judge_4 6 rfl rfl)
theorem dX0_judge_97 : decode cX0_judge 97 = .ok (.iconst 1, 1) := dk_4 (dk_at dksX0_judge_4 7 rfl rfl)
theorem dX0_judge_98 : decode cX0_judge 98 = .ok (.iadd, 1) := dk_96 (dk_at dksX0_judge_4 8 rfl rfl)
theorem dX0_judge_99 : decode cX0_judge 99 = .ok (.ireturn, 1) := dk_172 (dk_at dksX0_judge_4 9 rfl rfl)
theorem dX0_judge_100 : decode cX0_judge 100 = .ok (.aload_n 0, 1) := dk_42 (dk_at dksX0_judge_4 10 rfl rfl)
theorem dX0_judge_101 : decode cX0_judge 101 = .ok (.getfield 10, 3) := dk_180 0 10 (dk_at dksX0_judge_4 11 rfl rfl)
theorem dX0_judge_104 : decode cX0_judge 104 = .ok (.aload_n 0, 1) := dk_42 (dk_at dksX0_judge_4 14 rfl rfl)
theorem dX0_judge_105 : decode cX0_judge 105 = .ok (.getfield 63, 3) := dk_180 0 63 (dk_at dksX0_judge_4 15 rfl rfl)
theorem dX0_judge_108 : decode cX0_judge 108 = .ok (.aload_n 0, 1) := dk_42 (dk_at dksX0_judge_4 18 rfl rfl)
theorem dX0_judge_109 : decode cX0_judge 109 = .ok (.getfield 71, 3) := dk_180 0 71 (dk_at dksX0_judge_4 19 rfl rfl)
theorem dX0_judge_112 : decode cX0_judge 112 = .ok (.iload_n 2, 1) := dk_28 (dk_at dksX0_judge_4 22 rfl rfl)
theorem dX0_judge_113 : decode cX0_judge 113 = .ok (.aaload, 1) := dk_50 (dk_at dksX0_judge_4 23 rfl rfl)
theorem dX0_judge_114 : decode cX0_judge 114 = .ok (.getfield 338, 3) := dk_180 1 82 (dk_at dksX0_judge_5 0 rfl rfl)
theorem dX0_judge_117 : decode cX0_judge 117 = .ok (.invokevirtual 172, 3) := dk_182 0 172 (dk_at dksX0_judge_5 3 rfl rfl)
theorem dX0_judge_120 : decode cX0_judge 120 = .ok (.iinc 2 1, 3) := dk_132 2 1 (dk_at dksX0_judge_5 6 rfl rfl)
theorem dX0_judge_123 : decode cX0_judge 123 = .ok (.goto (-92), 3) := dk_167 255 164 (dk_at dksX0_judge_5 9 rfl rfl)
theorem dX0_judge_126 : decode cX0_judge 126 = .ok (.aload_n 0, 1) := dk_42 (dk_at dksX0_judge_5 12 rfl rfl)
theorem dX0_judge_127 : decode cX0_judge 127 = .ok (.aload_n 0, 1) := dk_42 (dk_at dksX0_judge_5 13 rfl rfl)
theorem dX0_judge_128 : decode cX0_judge 128 = .ok (.getfield 63, 3) := dk_180 0 63 (dk_at dksX0_judge_5 14 rfl rfl)
theorem dX0_judge_131 : decode cX0_judge 131 = .ok (.invokevirtual 344, 3) := dk_182 1 88 (dk_at dksX0_judge_5 17 rfl rfl)
theorem dX0_judge_134 : decode cX0_judge 134 = .ok (.ifCond .eq 6, 3) := dk_153 0 6 (dk_at dksX0_judge_5 20 rfl rfl)
theorem dX0_judge_137 : decode cX0_judge 137 = .ok (.bipush 31, 2) := dk_16 31 (dk_at dksX0_judge_6 0 rfl rfl)
theorem dX0_judge_139 : decode cX0_judge 139 = .ok (.ireturn, 1) := dk_172 (dk_at dksX0_judge_6 2 rfl rfl)
theorem dX0_judge_140 : decode cX0_judge 140 = .ok (.aload_n 0, 1) := dk_42 (dk_at dksX0_judge_6 3 rfl rfl)
theorem dX0_judge_141 : decode cX0_judge 141 = .ok (.getfield 63, 3) := dk_180 0 63 (dk_at dksX0_judge_6 4 rfl rfl)
theorem dX0_judge_144 : decode cX0_judge 144 = .ok (.getfield 156, 3) := dk_180 0 156 (dk_at dksX0_judge_6 7 rfl rfl)
theorem dX0_judge_147 : decode cX0_judge 147 = .ok (.aload_n 0, 1) := dk_42 (dk_at dksX0_judge_6 10 rfl rfl)
theorem dX0_judge_148 : decode cX0_judge 148 = .ok (.getfield 10, 3) := dk_180 0 10 (dk_at dksX0_judge_6 11 rfl rfl)
theorem dX0_judge_151 : decode cX0_judge 151 = .ok (.getfield 127, 3) := dk_180 0 127 (dk_at dksX0_judge_6 14 rfl rfl)
theorem dX0_judge_154 : decode cX0_judge 154 = .ok (.getfield 156, 3) := dk_180 0 156 (dk_at dksX0_judge_6 17 rfl rfl)
theorem dX0_judge_157 : decode cX0_judge 157 = .ok (.isub, 1) := dk_100 (dk_at dksX0_judge_6 20 rfl rfl)
theorem dX0_judge_158 : decode cX0_judge 158 = .ok (.iload_n 1, 1) := dk_27 (dk_at dksX0_judge_6 21 rfl rfl)
theorem dX0_judge_159 : decode cX0_judge 159 = .ok (.if_icmp .ne 7, 3) := dk_160 0 7 (dk_at dksX0_judge_7 0 rfl rfl)
theorem dX0_judge_162 : decode cX0_judge 162 = .ok (.iconst 0, 1) := dk_3 (dk_at dksX0_judge_7 3 rfl rfl)
theorem dX0_judge_163 : decode cX0_judge 163 = .ok (.goto 5, 3) := dk_167 0 5 (dk_at dksX0_judge_7 4 rfl rfl)
theorem dX0_judge_166 : decode cX0_judge 166 = .ok (.bipush 32, 2) := dk_16 32 (dk_at dksX0_judge_7 7 rfl rfl)
theorem dX0_judge_168 : decode cX0_judge 168 = .ok (.ireturn, 1) := dk_172 (dk_at dksX0_judge_7 9 rfl rfl)
abbrev cX0_mayAny : ByteArray := prog_1_method_51_code
def yX0_mayAny : MethodName := ⟨RX0, "mayAny", "(LHungryHedge$Trip;)Z"⟩
def dkwX0_mayAny_1 : List UInt8 := [182, 0, 168, 158, 0, 7, 4, 167, 0, 4, 3, 128, 61, 132, 3, 1, 167, 255, 222, 28, 172]
abbrev dktX0_mayAny_1 : List UInt8 := dkwX0_mayAny_1 ++ []
def dkwX0_mayAny_0 : List UInt8 := [3, 61, 2, 62, 29, 42, 180, 0, 10, 180, 0, 107, 162, 0, 29, 28, 42, 180, 0, 10, 43, 29]
abbrev dktX0_mayAny_0 : List UInt8 := dkwX0_mayAny_0 ++ dktX0_mayAny_1
theorem dksX0_mayAny_0 : cX0_mayAny.data.toList.drop 0 = dktX0_mayAny_0 := by decide +kernel
theorem dksX0_mayAny_1 : cX0_mayAny.data.toList.drop 22 = dktX0_mayAny_1 := dk_seg dksX0_mayAny_0 22 rfl rfl
theorem dX0_mayAny_0 : decode cX0_mayAny 0 = .ok (.iconst 0, 1) := dk_3 (dk_at dksX0_mayAny_0 0 rfl rfl)
theorem dX0_mayAny_1 : decode cX0_mayAny 1 = .ok (.istore_n 2, 1) := dk_61 (dk_at dksX0_mayAny_0 1 rfl rfl)
theorem dX0_mayAny_2 : decode cX0_mayAny 2 = .ok (.iconst (-1), 1) := dk_2 (dk_at dksX0_mayAny_0 2 rfl rfl)
theorem dX0_mayAny_3 : decode cX0_mayAny 3 = .ok (.istore_n 3, 1) := dk_62 (dk_at dksX0_mayAny_0 3 rfl rfl)
theorem dX0_mayAny_4 : decode cX0_mayAny 4 = .ok (.iload_n 3, 1) := dk_29 (dk_at dksX0_mayAny_0 4 rfl rfl)
theorem dX0_mayAny_5 : decode cX0_mayAny 5 = .ok (.aload_n 0, 1) := dk_42 (dk_at dksX0_mayAny_0 5 rfl rfl)
theorem dX0_mayAny_6 : decode cX0_mayAny 6 = .ok (.getfield 10, 3) := dk_180 0 10 (dk_at dksX0_mayAny_0 6 rfl rfl)
theorem dX0_mayAny_9 : decode cX0_mayAny 9 = .ok (.getfield 107, 3) := dk_180 0 107 (dk_at dksX0_mayAny_0 9 rfl rfl)
theorem dX0_mayAny_12 : decode cX0_mayAny 12 = .ok (.if_icmp .ge 29, 3) := dk_162 0 29 (dk_at dksX0_mayAny_0 12 rfl rfl)
theorem dX0_mayAny_15 : decode cX0_mayAny 15 = .ok (.iload_n 2, 1) := dk_28 (dk_at dksX0_mayAny_0 15 rfl rfl)
theorem dX0_mayAny_16 : decode cX0_mayAny 16 = .ok (.aload_n 0, 1) := dk_42 (dk_at dksX0_mayAny_0 16 rfl rfl)
theorem dX0_mayAny_17 : decode cX0_mayAny 17 = .ok (.getfield 10, 3) := dk_180 0 10 (dk_at dksX0_mayAny_0 17 rfl rfl)
theorem dX0_mayAny_20 : decode cX0_mayAny 20 = .ok (.aload_n 1, 1) := dk_43 (dk_at dksX0_mayAny_0 20 rfl rfl)
theorem dX0_mayAny_21 : decode cX0_mayAny 21 = .ok (.iload_n 3, 1) := dk_29 (dk_at dksX0_mayAny_0 21 rfl rfl)
theorem dX0_mayAny_22 : decode cX0_mayAny 22 = .ok (.invokevirtual 168, 3) := dk_182 0 168 (dk_at dksX0_mayAny_1 0 rfl rfl)
theorem dX0_mayAny_25 : decode cX0_mayAny 25 = .ok (.ifCond .le 7, 3) := dk_158 0 7 (dk_at dksX0_mayAny_1 3 rfl rfl)
theorem dX0_mayAny_28 : decode cX0_mayAny 28 = .ok (.iconst 1, 1) := dk_4 (dk_at dksX0_mayAny_1 6 rfl rfl)
theorem dX0_mayAny_29 : decode cX0_mayAny 29 = .ok (.goto 4, 3) := dk_167 0 4 (dk_at dksX0_mayAny_1 7 rfl rfl)
theorem dX0_mayAny_32 : decode cX0_mayAny 32 = .ok (.iconst 0, 1) := dk_3 (dk_at dksX0_mayAny_1 10 rfl rfl)
theorem dX0_mayAny_33 : decode cX0_mayAny 33 = .ok (.ior, 1) := dk_128 (dk_at dksX0_mayAny_1 11 rfl rfl)
theorem dX0_mayAny_34 : decode cX0_mayAny 34 = .ok (.istore_n 2, 1) := dk_61 (dk_at dksX0_mayAny_1 12 rfl rfl)
theorem dX0_mayAny_35 : decode cX0_mayAny 35 = .ok (.iinc 3 1, 3) := dk_132 3 1 (dk_at dksX0_mayAny_1 13 rfl rfl)
theorem dX0_mayAny_38 : decode cX0_mayAny 38 = .ok (.goto (-34), 3) := dk_167 255 222 (dk_at dksX0_mayAny_1 16 rfl rfl)
theorem dX0_mayAny_41 : decode cX0_mayAny 41 = .ok (.iload_n 2, 1) := dk_28 (dk_at dksX0_mayAny_1 19 rfl rfl)
theorem dX0_mayAny_42 : decode cX0_mayAny 42 = .ok (.ireturn, 1) := dk_172 (dk_at dksX0_mayAny_1 20 rfl rfl)
abbrev cX0_sheet : ByteArray := prog_1_method_57_code
def yX0_sheet : MethodName := ⟨RX0, "sheet", "(III)I"⟩
def dkwX0_sheet_1 : List UInt8 := [164, 0, 5, 2, 172, 42, 180, 0, 78, 27, 50, 28, 29, 182, 1, 95, 4, 172, 58, 4, 16, 242, 172]
abbrev dktX0_sheet_1 : List UInt8 := dkwX0_sheet_1 ++ []
def dkwX0_sheet_0 : List UInt8 := [27, 184, 0, 237, 153, 0, 22, 28, 2, 6, 184, 0, 111, 153, 0, 13, 28, 155, 0, 11, 29, 16, 40]
abbrev dktX0_sheet_0 : List UInt8 := dkwX0_sheet_0 ++ dktX0_sheet_1
theorem dksX0_sheet_0 : cX0_sheet.data.toList.drop 0 = dktX0_sheet_0 := by decide +kernel
theorem dksX0_sheet_1 : cX0_sheet.data.toList.drop 23 = dktX0_sheet_1 := dk_seg dksX0_sheet_0 23 rfl rfl
theorem dX0_sheet_0 : decode cX0_sheet 0 = .ok (.iload_n 1, 1) := dk_27 (dk_at dksX0_sheet_0 0 rfl rfl)
theorem dX0_sheet_1 : decode cX0_sheet 1 = .ok (.invokestatic 237, 3) := dk_184 0 237 (dk_at dksX0_sheet_0 1 rfl rfl)
theorem dX0_sheet_4 : decode cX0_sheet 4 = .ok (.ifCond .eq 22, 3) := dk_153 0 22 (dk_at dksX0_sheet_0 4 rfl rfl)
theorem dX0_sheet_7 : decode cX0_sheet 7 = .ok (.iload_n 2, 1) := dk_28 (dk_at dksX0_sheet_0 7 rfl rfl)
theorem dX0_sheet_8 : decode cX0_sheet 8 = .ok (.iconst (-1), 1) := dk_2 (dk_at dksX0_sheet_0 8 rfl rfl)
theorem dX0_sheet_9 : decode cX0_sheet 9 = .ok (.iconst 3, 1) := dk_6 (dk_at dksX0_sheet_0 9 rfl rfl)
theorem dX0_sheet_10 : decode cX0_sheet 10 = .ok (.invokestatic 111, 3) := dk_184 0 111 (dk_at dksX0_sheet_0 10 rfl rfl)
theorem dX0_sheet_13 : decode cX0_sheet 13 = .ok (.ifCond .eq 13, 3) := dk_153 0 13 (dk_at dksX0_sheet_0 13 rfl rfl)
theorem dX0_sheet_16 : decode cX0_sheet 16 = .ok (.iload_n 2, 1) := dk_28 (dk_at dksX0_sheet_0 16 rfl rfl)
theorem dX0_sheet_17 : decode cX0_sheet 17 = .ok (.ifCond .lt 11, 3) := dk_155 0 11 (dk_at dksX0_sheet_0 17 rfl rfl)
theorem dX0_sheet_20 : decode cX0_sheet 20 = .ok (.iload_n 3, 1) := dk_29 (dk_at dksX0_sheet_0 20 rfl rfl)
theorem dX0_sheet_21 : decode cX0_sheet 21 = .ok (.bipush 40, 2) := dk_16 40 (dk_at dksX0_sheet_0 21 rfl rfl)
theorem dX0_sheet_23 : decode cX0_sheet 23 = .ok (.if_icmp .le 5, 3) := dk_164 0 5 (dk_at dksX0_sheet_1 0 rfl rfl)
theorem dX0_sheet_26 : decode cX0_sheet 26 = .ok (.iconst (-1), 1) := dk_2 (dk_at dksX0_sheet_1 3 rfl rfl)
theorem dX0_sheet_27 : decode cX0_sheet 27 = .ok (.ireturn, 1) := dk_172 (dk_at dksX0_sheet_1 4 rfl rfl)
theorem dX0_sheet_28 : decode cX0_sheet 28 = .ok (.aload_n 0, 1) := dk_42 (dk_at dksX0_sheet_1 5 rfl rfl)
theorem dX0_sheet_29 : decode cX0_sheet 29 = .ok (.getfield 78, 3) := dk_180 0 78 (dk_at dksX0_sheet_1 6 rfl rfl)
theorem dX0_sheet_32 : decode cX0_sheet 32 = .ok (.iload_n 1, 1) := dk_27 (dk_at dksX0_sheet_1 9 rfl rfl)
theorem dX0_sheet_33 : decode cX0_sheet 33 = .ok (.aaload, 1) := dk_50 (dk_at dksX0_sheet_1 10 rfl rfl)
theorem dX0_sheet_34 : decode cX0_sheet 34 = .ok (.iload_n 2, 1) := dk_28 (dk_at dksX0_sheet_1 11 rfl rfl)
theorem dX0_sheet_35 : decode cX0_sheet 35 = .ok (.iload_n 3, 1) := dk_29 (dk_at dksX0_sheet_1 12 rfl rfl)
theorem dX0_sheet_36 : decode cX0_sheet 36 = .ok (.invokevirtual 351, 3) := dk_182 1 95 (dk_at dksX0_sheet_1 13 rfl rfl)
theorem dX0_sheet_39 : decode cX0_sheet 39 = .ok (.iconst 1, 1) := dk_4 (dk_at dksX0_sheet_1 16 rfl rfl)
theorem dX0_sheet_40 : decode cX0_sheet 40 = .ok (.ireturn, 1) := dk_172 (dk_at dksX0_sheet_1 17 rfl rfl)
theorem dX0_sheet_41 : decode cX0_sheet 41 = .ok (.astore 4, 2) := dk_58 4 (dk_at dksX0_sheet_1 18 rfl rfl)
theorem dX0_sheet_43 : decode cX0_sheet 43 = .ok (.bipush (-14), 2) := dk_16 242 (dk_at dksX0_sheet_1 20 rfl rfl)
theorem dX0_sheet_45 : decode cX0_sheet 45 = .ok (.ireturn, 1) := dk_172 (dk_at dksX0_sheet_1 22 rfl rfl)
abbrev cX0_put : ByteArray := prog_1_method_59_code
def yX0_put : MethodName := ⟨RX0, "put", "(III)I"⟩
def dkwX0_put_1 : List UInt8 := [29, 182, 1, 107, 4, 172, 58, 4, 16, 245, 172, 58, 4, 16, 244, 172]
abbrev dktX0_put_1 : List UInt8 := dkwX0_put_1 ++ []
def dkwX0_put_0 : List UInt8 := [27, 184, 0, 237, 154, 0, 5, 2, 172, 42, 42, 42, 180, 0, 78, 27, 50, 182, 0, 240, 182, 0, 244, 28]
abbrev dktX0_put_0 : List UInt8 := dkwX0_put_0 ++ dktX0_put_1
theorem dksX0_put_0 : cX0_put.data.toList.drop 0 = dktX0_put_0 := by decide +kernel
theorem dksX0_put_1 : cX0_put.data.toList.drop 24 = dktX0_put_1 := dk_seg dksX0_put_0 24 rfl rfl
theorem dX0_put_0 : decode cX0_put 0 = .ok (.iload_n 1, 1) := dk_27 (dk_at dksX0_put_0 0 rfl rfl)
theorem dX0_put_1 : decode cX0_put 1 = .ok (.invokestatic 237, 3) := dk_184 0 237 (dk_at dksX0_put_0 1 rfl rfl)
theorem dX0_put_4 : decode cX0_put 4 = .ok (.ifCond .ne 5, 3) := dk_154 0 5 (dk_at dksX0_put_0 4 rfl rfl)
theorem dX0_put_7 : decode cX0_put 7 = .ok (.iconst (-1), 1) := dk_2 (dk_at dksX0_put_0 7 rfl rfl)
theorem dX0_put_8 : decode cX0_put 8 = .ok (.ireturn, 1) := dk_172 (dk_at dksX0_put_0 8 rfl rfl)
theorem dX0_put_9 : decode cX0_put 9 = .ok (.aload_n 0, 1) := dk_42 (dk_at dksX0_put_0 9 rfl rfl)
theorem dX0_put_10 : decode cX0_put 10 = .ok (.aload_n 0, 1) := dk_42 (dk_at dksX0_put_0 10 rfl rfl)
theorem dX0_put_11 : decode cX0_put 11 = .ok (.aload_n 0, 1) := dk_42 (dk_at dksX0_put_0 11 rfl rfl)
theorem dX0_put_12 : decode cX0_put 12 = .ok (.getfield 78, 3) := dk_180 0 78 (dk_at dksX0_put_0 12 rfl rfl)
theorem dX0_put_15 : decode cX0_put 15 = .ok (.iload_n 1, 1) := dk_27 (dk_at dksX0_put_0 15 rfl rfl)
theorem dX0_put_16 : decode cX0_put 16 = .ok (.aaload, 1) := dk_50 (dk_at dksX0_put_0 16 rfl rfl)
theorem dX0_put_17 : decode cX0_put 17 = .ok (.invokevirtual 240, 3) := dk_182 0 240 (dk_at dksX0_put_0 17 rfl rfl)
theorem dX0_put_20 : decode cX0_put 20 = .ok (.invokevirtual 244, 3) := dk_182 0 244 (dk_at dksX0_put_0 20 rfl rfl)
theorem dX0_put_23 : decode cX0_put 23 = .ok (.iload_n 2, 1) := dk_28 (dk_at dksX0_put_0 23 rfl rfl)
theorem dX0_put_24 : decode cX0_put 24 = .ok (.iload_n 3, 1) := dk_29 (dk_at dksX0_put_1 0 rfl rfl)
theorem dX0_put_25 : decode cX0_put 25 = .ok (.invokevirtual 363, 3) := dk_182 1 107 (dk_at dksX0_put_1 1 rfl rfl)
theorem dX0_put_28 : decode cX0_put 28 = .ok (.iconst 1, 1) := dk_4 (dk_at dksX0_put_1 4 rfl rfl)
theorem dX0_put_29 : decode cX0_put 29 = .ok (.ireturn, 1) := dk_172 (dk_at dksX0_put_1 5 rfl rfl)
theorem dX0_put_30 : decode cX0_put 30 = .ok (.astore 4, 2) := dk_58 4 (dk_at dksX0_put_1 6 rfl rfl)
theorem dX0_put_32 : decode cX0_put 32 = .ok (.bipush (-11), 2) := dk_16 245 (dk_at dksX0_put_1 8 rfl rfl)
theorem dX0_put_34 : decode cX0_put 34 = .ok (.ireturn, 1) := dk_172 (dk_at dksX0_put_1 10 rfl rfl)
theorem dX0_put_35 : decode cX0_put 35 = .ok (.astore 4, 2) := dk_58 4 (dk_at dksX0_put_1 11 rfl rfl)
theorem dX0_put_37 : decode cX0_put 37 = .ok (.bipush (-12), 2) := dk_16 244 (dk_at dksX0_put_1 13 rfl rfl)
theorem dX0_put_39 : decode cX0_put 39 = .ok (.ireturn, 1) := dk_172 (dk_at dksX0_put_1 15 rfl rfl)
abbrev cX0_set : ByteArray := prog_1_method_58_code
def yX0_set : MethodName := ⟨RX0, "set", "(Ljava/lang/Object;II)V"⟩
def dkwX0_set_3 : List UInt8 := [177]
abbrev dktX0_set_3 : List UInt8 := dkwX0_set_3 ++ []
def dkwX0_set_2 : List UInt8 := [193, 1, 92, 153, 0, 14, 43, 192, 1, 92, 28, 29, 133, 80, 167, 0, 10, 43, 192, 1, 94, 28, 29, 79]
abbrev dktX0_set_2 : List UInt8 := dkwX0_set_2 ++ dktX0_set_3
def dkwX0_set_1 : List UInt8 := [167, 0, 46, 43, 193, 0, 248, 153, 0, 14, 43, 192, 0, 248, 28, 29, 147, 86, 167, 0, 28, 43]
abbrev dktX0_set_1 : List UInt8 := dkwX0_set_1 ++ dktX0_set_2
def dkwX0_set_0 : List UInt8 := [42, 28, 43, 184, 1, 100, 182, 1, 104, 43, 193, 1, 0, 153, 0, 14, 43, 192, 1, 0, 28, 29, 145, 84]
abbrev dktX0_set_0 : List UInt8 := dkwX0_set_0 ++ dktX0_set_1
theorem dksX0_set_0 : cX0_set.data.toList.drop 0 = dktX0_set_0 := by decide +kernel
theorem dksX0_set_1 : cX0_set.data.toList.drop 24 = dktX0_set_1 := dk_seg dksX0_set_0 24 rfl rfl
theorem dksX0_set_2 : cX0_set.data.toList.drop 46 = dktX0_set_2 := dk_seg dksX0_set_1 22 rfl rfl
theorem dksX0_set_3 : cX0_set.data.toList.drop 70 = dktX0_set_3 := dk_seg dksX0_set_2 24 rfl rfl
theorem dX0_set_0 : decode cX0_set 0 = .ok (.aload_n 0, 1) := dk_42 (dk_at dksX0_set_0 0 rfl rfl)
theorem dX0_set_1 : decode cX0_set 1 = .ok (.iload_n 2, 1) := dk_28 (dk_at dksX0_set_0 1 rfl rfl)
theorem dX0_set_2 : decode cX0_set 2 = .ok (.aload_n 1, 1) := dk_43 (dk_at dksX0_set_0 2 rfl rfl)
theorem dX0_set_3 : decode cX0_set 3 = .ok (.invokestatic 356, 3) := dk_184 1 100 (dk_at dksX0_set_0 3 rfl rfl)
theorem dX0_set_6 : decode cX0_set 6 = .ok (.invokevirtual 360, 3) := dk_182 1 104 (dk_at dksX0_set_0 6 rfl rfl)
theorem dX0_set_9 : decode cX0_set 9 = .ok (.aload_n 1, 1) := dk_43 (dk_at dksX0_set_0 9 rfl rfl)
theorem dX0_set_10 : decode cX0_set 10 = .ok (.instanceof 256, 3) := dk_193 1 0 (dk_at dksX0_set_0 10 rfl rfl)
theorem dX0_set_13 : decode cX0_set 13 = .ok (.ifCond .eq 14, 3) := dk_153 0 14 (dk_at dksX0_set_0 13 rfl rfl)
theorem dX0_set_16 : decode cX0_set 16 = .ok (.aload_n 1, 1) := dk_43 (dk_at dksX0_set_0 16 rfl rfl)
theorem dX0_set_17 : decode cX0_set 17 = .ok (.checkcast 256, 3) := dk_192 1 0 (dk_at dksX0_set_0 17 rfl rfl)
theorem dX0_set_20 : decode cX0_set 20 = .ok (.iload_n 2, 1) := dk_28 (dk_at dksX0_set_0 20 rfl rfl)
theorem dX0_set_21 : decode cX0_set 21 = .ok (.iload_n 3, 1) := dk_29 (dk_at dksX0_set_0 21 rfl rfl)
theorem dX0_set_22 : decode cX0_set 22 = .ok (.i2b, 1) := dk_145 (dk_at dksX0_set_0 22 rfl rfl)
theorem dX0_set_23 : decode cX0_set 23 = .ok (.bastore, 1) := dk_84 (dk_at dksX0_set_0 23 rfl rfl)
theorem dX0_set_24 : decode cX0_set 24 = .ok (.goto 46, 3) := dk_167 0 46 (dk_at dksX0_set_1 0 rfl rfl)
theorem dX0_set_27 : decode cX0_set 27 = .ok (.aload_n 1, 1) := dk_43 (dk_at dksX0_set_1 3 rfl rfl)
theorem dX0_set_28 : decode cX0_set 28 = .ok (.instanceof 248, 3) := dk_193 0 248 (dk_at dksX0_set_1 4 rfl rfl)
theorem dX0_set_31 : decode cX0_set 31 = .ok (.ifCond .eq 14, 3) := dk_153 0 14 (dk_at dksX0_set_1 7 rfl rfl)
theorem dX0_set_34 : decode cX0_set 34 = .ok (.aload_n 1, 1) := dk_43 (dk_at dksX0_set_1 10 rfl rfl)
theorem dX0_set_35 : decode cX0_set 35 = .ok (.checkcast 248, 3) := dk_192 0 248 (dk_at dksX0_set_1 11 rfl rfl)
theorem dX0_set_38 : decode cX0_set 38 = .ok (.iload_n 2, 1) := dk_28 (dk_at dksX0_set_1 14 rfl rfl)
theorem dX0_set_39 : decode cX0_set 39 = .ok (.iload_n 3, 1) := dk_29 (dk_at dksX0_set_1 15 rfl rfl)
theorem dX0_set_40 : decode cX0_set 40 = .ok (.i2s, 1) := dk_147 (dk_at dksX0_set_1 16 rfl rfl)
theorem dX0_set_41 : decode cX0_set 41 = .ok (.sastore, 1) := dk_86 (dk_at dksX0_set_1 17 rfl rfl)
theorem dX0_set_42 : decode cX0_set 42 = .ok (.goto 28, 3) := dk_167 0 28 (dk_at dksX0_set_1 18 rfl rfl)
theorem dX0_set_45 : decode cX0_set 45 = .ok (.aload_n 1, 1) := dk_43 (dk_at dksX0_set_1 21 rfl rfl)
theorem dX0_set_46 : decode cX0_set 46 = .ok (.instanceof 348, 3) := dk_193 1 92 (dk_at dksX0_set_2 0 rfl rfl)
theorem dX0_set_49 : decode cX0_set 49 = .ok (.ifCond .eq 14, 3) := dk_153 0 14 (dk_at dksX0_set_2 3 rfl rfl)
theorem dX0_set_52 : decode cX0_set 52 = .ok (.aload_n 1, 1) := dk_43 (dk_at dksX0_set_2 6 rfl rfl)
theorem dX0_set_53 : decode cX0_set 53 = .ok (.checkcast 348, 3) := dk_192 1 92 (dk_at dksX0_set_2 7 rfl rfl)
theorem dX0_set_56 : decode cX0_set 56 = .ok (.iload_n 2, 1) := dk_28 (dk_at dksX0_set_2 10 rfl rfl)
theorem dX0_set_57 : decode cX0_set 57 = .ok (.iload_n 3, 1) := dk_29 (dk_at dksX0_set_2 11 rfl rfl)
theorem dX0_set_58 : decode cX0_set 58 = .ok (.i2l, 1) := dk_133 (dk_at dksX0_set_2 12 rfl rfl)
theorem dX0_set_59 : decode cX0_set 59 = .ok (.lastore, 1) := dk_80 (dk_at dksX0_set_2 13 rfl rfl)
theorem dX0_set_60 : decode cX0_set 60 = .ok (.goto 10, 3) := dk_167 0 10 (dk_at dksX0_set_2 14 rfl rfl)
theorem dX0_set_63 : decode cX0_set 63 = .ok (.aload_n 1, 1) := dk_43 (dk_at dksX0_set_2 17 rfl rfl)
theorem dX0_set_64 : decode cX0_set 64 = .ok (.checkcast 350, 3) := dk_192 1 94 (dk_at dksX0_set_2 18 rfl rfl)
theorem dX0_set_67 : decode cX0_set 67 = .ok (.iload_n 2, 1) := dk_28 (dk_at dksX0_set_2 21 rfl rfl)
theorem dX0_set_68 : decode cX0_set 68 = .ok (.iload_n 3, 1) := dk_29 (dk_at dksX0_set_2 22 rfl rfl)
theorem dX0_set_69 : decode cX0_set 69 = .ok (.iastore, 1) := dk_79 (dk_at dksX0_set_2 23 rfl rfl)
theorem dX0_set_70 : decode cX0_set 70 = .ok (.return_, 1) := dk_177 (dk_at dksX0_set_3 0 rfl rfl)
abbrev cX0_lengthOf : ByteArray := prog_1_method_54_code
def yX0_lengthOf : MethodName := ⟨RX0, "lengthOf", "(Ljava/lang/Object;)I"⟩
def dkwX0_lengthOf_1 : List UInt8 := [190, 172, 42, 193, 1, 92, 153, 0, 11, 42, 192, 1, 92, 190, 167, 0, 8, 42, 192, 1, 94, 190, 172]
abbrev dktX0_lengthOf_1 : List UInt8 := dkwX0_lengthOf_1 ++ []
def dkwX0_lengthOf_0 : List UInt8 := [42, 193, 1, 0, 153, 0, 9, 42, 192, 1, 0, 190, 172, 42, 193, 0, 248, 153, 0, 9, 42, 192, 0, 248]
abbrev dktX0_lengthOf_0 : List UInt8 := dkwX0_lengthOf_0 ++ dktX0_lengthOf_1
theorem dksX0_lengthOf_0 : cX0_lengthOf.data.toList.drop 0 = dktX0_lengthOf_0 := by decide +kernel
theorem dksX0_lengthOf_1 : cX0_lengthOf.data.toList.drop 24 = dktX0_lengthOf_1 := dk_seg dksX0_lengthOf_0 24 rfl rfl
theorem dX0_lengthOf_0 : decode cX0_lengthOf 0 = .ok (.aload_n 0, 1) := dk_42 (dk_at dksX0_lengthOf_0 0 rfl rfl)
theorem dX0_lengthOf_1 : decode cX0_lengthOf 1 = .ok (.instanceof 256, 3) := dk_193 1 0 (dk_at dksX0_lengthOf_0 1 rfl rfl)
theorem dX0_lengthOf_4 : decode cX0_lengthOf 4 = .ok (.ifCond .eq 9, 3) := dk_153 0 9 (dk_at dksX0_lengthOf_0 4 rfl rfl)
theorem dX0_lengthOf_7 : decode cX0_lengthOf 7 = .ok (.aload_n 0, 1) := dk_42 (dk_at dksX0_lengthOf_0 7 rfl rfl)
theorem dX0_lengthOf_8 : decode cX0_lengthOf 8 = .ok (.checkcast 256, 3) := dk_192 1 0 (dk_at dksX0_lengthOf_0 8 rfl rfl)
theorem dX0_lengthOf_11 : decode cX0_lengthOf 11 = .ok (.arraylength, 1) := dk_190 (dk_at dksX0_lengthOf_0 11 rfl rfl)
theorem dX0_lengthOf_12 : decode cX0_lengthOf 12 = .ok (.ireturn, 1) := dk_172 (dk_at dksX0_lengthOf_0 12 rfl rfl)
theorem dX0_lengthOf_13 : decode cX0_lengthOf 13 = .ok (.aload_n 0, 1) := dk_42 (dk_at dksX0_lengthOf_0 13 rfl rfl)
theorem dX0_lengthOf_14 : decode cX0_lengthOf 14 = .ok (.instanceof 248, 3) := dk_193 0 248 (dk_at dksX0_lengthOf_0 14 rfl rfl)
theorem dX0_lengthOf_17 : decode cX0_lengthOf 17 = .ok (.ifCond .eq 9, 3) := dk_153 0 9 (dk_at dksX0_lengthOf_0 17 rfl rfl)
theorem dX0_lengthOf_20 : decode cX0_lengthOf 20 = .ok (.aload_n 0, 1) := dk_42 (dk_at dksX0_lengthOf_0 20 rfl rfl)
theorem dX0_lengthOf_21 : decode cX0_lengthOf 21 = .ok (.checkcast 248, 3) := dk_192 0 248 (dk_at dksX0_lengthOf_0 21 rfl rfl)
theorem dX0_lengthOf_24 : decode cX0_lengthOf 24 = .ok (.arraylength, 1) := dk_190 (dk_at dksX0_lengthOf_1 0 rfl rfl)
theorem dX0_lengthOf_25 : decode cX0_lengthOf 25 = .ok (.ireturn, 1) := dk_172 (dk_at dksX0_lengthOf_1 1 rfl rfl)
theorem dX0_lengthOf_26 : decode cX0_lengthOf 26 = .ok (.aload_n 0, 1) := dk_42 (dk_at dksX0_lengthOf_1 2 rfl rfl)
theorem dX0_lengthOf_27 : decode cX0_lengthOf 27 = .ok (.instanceof 348, 3) := dk_193 1 92 (dk_at dksX0_lengthOf_1 3 rfl rfl)
theorem dX0_lengthOf_30 : decode cX0_lengthOf 30 = .ok (.ifCond .eq 11, 3) := dk_153 0 11 (dk_at dksX0_lengthOf_1 6 rfl rfl)
theorem dX0_lengthOf_33 : decode cX0_lengthOf 33 = .ok (.aload_n 0, 1) := dk_42 (dk_at dksX0_lengthOf_1 9 rfl rfl)
theorem dX0_lengthOf_34 : decode cX0_lengthOf 34 = .ok (.checkcast 348, 3) := dk_192 1 92 (dk_at dksX0_lengthOf_1 10 rfl rfl)
theorem dX0_lengthOf_37 : decode cX0_lengthOf 37 = .ok (.arraylength, 1) := dk_190 (dk_at dksX0_lengthOf_1 13 rfl rfl)
theorem dX0_lengthOf_38 : decode cX0_lengthOf 38 = .ok (.goto 8, 3) := dk_167 0 8 (dk_at dksX0_lengthOf_1 14 rfl rfl)
theorem dX0_lengthOf_41 : decode cX0_lengthOf 41 = .ok (.aload_n 0, 1) := dk_42 (dk_at dksX0_lengthOf_1 17 rfl rfl)
theorem dX0_lengthOf_42 : decode cX0_lengthOf 42 = .ok (.checkcast 350, 3) := dk_192 1 94 (dk_at dksX0_lengthOf_1 18 rfl rfl)
theorem dX0_lengthOf_45 : decode cX0_lengthOf 45 = .ok (.arraylength, 1) := dk_190 (dk_at dksX0_lengthOf_1 21 rfl rfl)
theorem dX0_lengthOf_46 : decode cX0_lengthOf 46 = .ok (.ireturn, 1) := dk_172 (dk_at dksX0_lengthOf_1 22 rfl rfl)
abbrev cX0_within : ByteArray := prog_1_method_55_code
def yX0_within : MethodName := ⟨RX0, "within", "(II)V"⟩
def dkwX0_within_0 : List UInt8 := [27, 155, 0, 8, 27, 28, 161, 0, 8, 42, 180, 0, 85, 191, 177]
abbrev dktX0_within_0 : List UInt8 := dkwX0_within_0 ++ []
theorem dksX0_within_0 : cX0_within.data.toList.drop 0 = dktX0_within_0 := by decide +kernel
theorem dX0_within_0 : decode cX0_within 0 = .ok (.iload_n 1, 1) := dk_27 (dk_at dksX0_within_0 0 rfl rfl)
theorem dX0_within_1 : decode cX0_within 1 = .ok (.ifCond .lt 8, 3) := dk_155 0 8 (dk_at dksX0_within_0 1 rfl rfl)
theorem dX0_within_4 : decode cX0_within 4 = .ok (.iload_n 1, 1) := dk_27 (dk_at dksX0_within_0 4 rfl rfl)
theorem dX0_within_5 : decode cX0_within 5 = .ok (.iload_n 2, 1) := dk_28 (dk_at dksX0_within_0 5 rfl rfl)
theorem dX0_within_6 : decode cX0_within 6 = .ok (.if_icmp .lt 8, 3) := dk_161 0 8 (dk_at dksX0_within_0 6 rfl rfl)
theorem dX0_within_9 : decode cX0_within 9 = .ok (.aload_n 0, 1) := dk_42 (dk_at dksX0_within_0 9 rfl rfl)
theorem dX0_within_10 : decode cX0_within 10 = .ok (.getfield 85, 3) := dk_180 0 85 (dk_at dksX0_within_0 10 rfl rfl)
theorem dX0_within_13 : decode cX0_within 13 = .ok (.athrow, 1) := dk_191 (dk_at dksX0_within_0 13 rfl rfl)
theorem dX0_within_14 : decode cX0_within 14 = .ok (.return_, 1) := dk_177 (dk_at dksX0_within_0 14 rfl rfl)
abbrev cX0_item : ByteArray := prog_1_method_65_code
def yX0_item : MethodName := ⟨RX0, "item", "(III)I"⟩
def dkwX0_item_2 : List UInt8 := [58, 4, 16, 244, 172]
abbrev dktX0_item_2 : List UInt8 := dkwX0_item_2 ++ []
def dkwX0_item_1 : List UInt8 := [27, 50, 182, 0, 240, 182, 0, 244, 28, 29, 182, 1, 127, 172, 58, 4, 16, 245, 172, 58, 4, 16, 243, 172]
abbrev dktX0_item_1 : List UInt8 := dkwX0_item_1 ++ dktX0_item_2
def dkwX0_item_0 : List UInt8 := [27, 184, 0, 237, 153, 0, 12, 28, 3, 6, 184, 0, 111, 154, 0, 5, 2, 172, 42, 42, 42, 180, 0, 78]
abbrev dktX0_item_0 : List UInt8 := dkwX0_item_0 ++ dktX0_item_1
theorem dksX0_item_0 : cX0_item.data.toList.drop 0 = dktX0_item_0 := by decide +kernel
theorem dksX0_item_1 : cX0_item.data.toList.drop 24 = dktX0_item_1 := dk_seg dksX0_item_0 24 rfl rfl
theorem dksX0_item_2 : cX0_item.data.toList.drop 48 = dktX0_item_2 := dk_seg dksX0_item_1 24 rfl rfl
theorem dX0_item_0 : decode cX0_item 0 = .ok (.iload_n 1, 1) := dk_27 (dk_at dksX0_item_0 0 rfl rfl)
theorem dX0_item_1 : decode cX0_item 1 = .ok (.invokestatic 237, 3) := dk_184 0 237 (dk_at dksX0_item_0 1 rfl rfl)
theorem dX0_item_4 : decode cX0_item 4 = .ok (.ifCond .eq 12, 3) := dk_153 0 12 (dk_at dksX0_item_0 4 rfl rfl)
theorem dX0_item_7 : decode cX0_item 7 = .ok (.iload_n 2, 1) := dk_28 (dk_at dksX0_item_0 7 rfl rfl)
theorem dX0_item_8 : decode cX0_item 8 = .ok (.iconst 0, 1) := dk_3 (dk_at dksX0_item_0 8 rfl rfl)
theorem dX0_item_9 : decode cX0_item 9 = .ok (.iconst 3, 1) := dk_6 (dk_at dksX0_item_0 9 rfl rfl)
theorem dX0_item_10 : decode cX0_item 10 = .ok (.invokestatic 111, 3) := dk_184 0 111 (dk_at dksX0_item_0 10 rfl rfl)
theorem dX0_item_13 : decode cX0_item 13 = .ok (.ifCond .ne 5, 3) := dk_154 0 5 (dk_at dksX0_item_0 13 rfl rfl)
theorem dX0_item_16 : decode cX0_item 16 = .ok (.iconst (-1), 1) := dk_2 (dk_at dksX0_item_0 16 rfl rfl)
theorem dX0_item_17 : decode cX0_item 17 = .ok (.ireturn, 1) := dk_172 (dk_at dksX0_item_0 17 rfl rfl)
theorem dX0_item_18 : decode cX0_item 18 = .ok (.aload_n 0, 1) := dk_42 (dk_at dksX0_item_0 18 rfl rfl)
theorem dX0_item_19 : decode cX0_item 19 = .ok (.aload_n 0, 1) := dk_42 (dk_at dksX0_item_0 19 rfl rfl)
theorem dX0_item_20 : decode cX0_item 20 = .ok (.aload_n 0, 1) := dk_42 (dk_at dksX0_item_0 20 rfl rfl)
theorem dX0_item_21 : decode cX0_item 21 = .ok (.getfield 78, 3) := dk_180 0 78 (dk_at dksX0_item_0 21 rfl rfl)
theorem dX0_item_24 : decode cX0_item 24 = .ok (.iload_n 1, 1) := dk_27 (dk_at dksX0_item_1 0 rfl rfl)
theorem dX0_item_25 : decode cX0_item 25 = .ok (.aaload, 1) := dk_50 (dk_at dksX0_item_1 1 rfl rfl)
theorem dX0_item_26 : decode cX0_item 26 = .ok (.invokevirtual 240, 3) := dk_182 0 240 (dk_at dksX0_item_1 2 rfl rfl)
theorem dX0_item_29 : decode cX0_item 29 = .ok (.invokevirtual 244, 3) := dk_182 0 244 (dk_at dksX0_item_1 5 rfl rfl)
theorem dX0_item_32 : decode cX0_item 32 = .ok (.iload_n 2, 1) := dk_28 (dk_at dksX0_item_1 8 rfl rfl)
theorem dX0_item_33 : decode cX0_item 33 = .ok (.iload_n 3, 1) := dk_29 (dk_at dksX0_item_1 9 rfl rfl)
theorem dX0_item_34 : decode cX0_item 34 = .ok (.invokevirtual 383, 3) := dk_182 1 127 (dk_at dksX0_item_1 10 rfl rfl)
theorem dX0_item_37 : decode cX0_item 37 = .ok (.ireturn, 1) := dk_172 (dk_at dksX0_item_1 13 rfl rfl)
theorem dX0_item_38 : decode cX0_item 38 = .ok (.astore 4, 2) := dk_58 4 (dk_at dksX0_item_1 14 rfl rfl)
theorem dX0_item_40 : decode cX0_item 40 = .ok (.bipush (-11), 2) := dk_16 245 (dk_at dksX0_item_1 16 rfl rfl)
theorem dX0_item_42 : decode cX0_item 42 = .ok (.ireturn, 1) := dk_172 (dk_at dksX0_item_1 18 rfl rfl)
theorem dX0_item_43 : decode cX0_item 43 = .ok (.astore 4, 2) := dk_58 4 (dk_at dksX0_item_1 19 rfl rfl)
theorem dX0_item_45 : decode cX0_item 45 = .ok (.bipush (-13), 2) := dk_16 243 (dk_at dksX0_item_1 21 rfl rfl)
theorem dX0_item_47 : decode cX0_item 47 = .ok (.ireturn, 1) := dk_172 (dk_at dksX0_item_1 23 rfl rfl)
theorem dX0_item_48 : decode cX0_item 48 = .ok (.astore 4, 2) := dk_58 4 (dk_at dksX0_item_2 0 rfl rfl)
theorem dX0_item_50 : decode cX0_item 50 = .ok (.bipush (-12), 2) := dk_16 244 (dk_at dksX0_item_2 2 rfl rfl)
theorem dX0_item_52 : decode cX0_item 52 = .ok (.ireturn, 1) := dk_172 (dk_at dksX0_item_2 4 rfl rfl)
abbrev cX0_itemOf : ByteArray := prog_1_method_64_code
def yX0_itemOf : MethodName := ⟨RX0, "itemOf", "(Ljava/lang/Object;II)I"⟩
def dkwX0_itemOf_3 : List UInt8 := [192, 1, 94, 29, 182, 1, 119, 172, 42, 43, 192, 1, 92, 29, 182, 1, 123, 172]
abbrev dktX0_itemOf_3 : List UInt8 := dkwX0_itemOf_3 ++ []
def dkwX0_itemOf_2 : List UInt8 := [42, 43, 192, 1, 0, 29, 182, 1, 111, 172, 42, 43, 192, 0, 248, 29, 182, 1, 115, 172, 42, 43]
abbrev dktX0_itemOf_2 : List UInt8 := dkwX0_itemOf_2 ++ dktX0_itemOf_3
def dkwX0_itemOf_1 : List UInt8 := [170, 0, 0, 0, 0, 0, 57, 0, 0, 0, 0, 0, 0, 0, 2, 0, 0, 0, 27, 0, 0, 0, 37, 0, 0, 0, 47]
abbrev dktX0_itemOf_1 : List UInt8 := dkwX0_itemOf_1 ++ dktX0_itemOf_2
def dkwX0_itemOf_0 : List UInt8 := [28]
abbrev dktX0_itemOf_0 : List UInt8 := dkwX0_itemOf_0 ++ dktX0_itemOf_1
theorem dksX0_itemOf_0 : cX0_itemOf.data.toList.drop 0 = dktX0_itemOf_0 := by decide +kernel
theorem dksX0_itemOf_1 : cX0_itemOf.data.toList.drop 1 = dktX0_itemOf_1 := dk_seg dksX0_itemOf_0 1 rfl rfl
theorem dksX0_itemOf_2 : cX0_itemOf.data.toList.drop 28 = dktX0_itemOf_2 := dk_seg dksX0_itemOf_1 27 rfl rfl
theorem dksX0_itemOf_3 : cX0_itemOf.data.toList.drop 50 = dktX0_itemOf_3 := dk_seg dksX0_itemOf_2 22 rfl rfl
theorem dX0_itemOf_0 : decode cX0_itemOf 0 = .ok (.iload_n 2, 1) := dk_28 (dk_at dksX0_itemOf_0 0 rfl rfl)
theorem dX0_itemOf_1 : decode cX0_itemOf 1 = .ok (.tableswitch 57 0 2 #[27, 37, 47], 27) := by decide +kernel
theorem dX0_itemOf_28 : decode cX0_itemOf 28 = .ok (.aload_n 0, 1) := dk_42 (dk_at dksX0_itemOf_2 0 rfl rfl)
theorem dX0_itemOf_29 : decode cX0_itemOf 29 = .ok (.aload_n 1, 1) := dk_43 (dk_at dksX0_itemOf_2 1 rfl rfl)
theorem dX0_itemOf_30 : decode cX0_itemOf 30 = .ok (.checkcast 256, 3) := dk_192 1 0 (dk_at dksX0_itemOf_2 2 rfl rfl)
theorem dX0_itemOf_33 : decode cX0_itemOf 33 = .ok (.iload_n 3, 1) := dk_29 (dk_at dksX0_itemOf_2 5 rfl rfl)
theorem dX0_itemOf_34 : decode cX0_itemOf 34 = .ok (.invokevirtual 367, 3) := dk_182 1 111 (dk_at dksX0_itemOf_2 6 rfl rfl)
theorem dX0_itemOf_37 : decode cX0_itemOf 37 = .ok (.ireturn, 1) := dk_172 (dk_at dksX0_itemOf_2 9 rfl rfl)
theorem dX0_itemOf_38 : decode cX0_itemOf 38 = .ok (.aload_n 0, 1) := dk_42 (dk_at dksX0_itemOf_2 10 rfl rfl)
theorem dX0_itemOf_39 : decode cX0_itemOf 39 = .ok (.aload_n 1, 1) := dk_43 (dk_at dksX0_itemOf_2 11 rfl rfl)
theorem dX0_itemOf_40 : decode cX0_itemOf 40 = .ok (.checkcast 248, 3) := dk_192 0 248 (dk_at dksX0_itemOf_2 12 rfl rfl)
theorem dX0_itemOf_43 : decode cX0_itemOf 43 = .ok (.iload_n 3, 1) := dk_29 (dk_at dksX0_itemOf_2 15 rfl rfl)
theorem dX0_itemOf_44 : decode cX0_itemOf 44 = .ok (.invokevirtual 371, 3) := dk_182 1 115 (dk_at dksX0_itemOf_2 16 rfl rfl)
theorem dX0_itemOf_47 : decode cX0_itemOf 47 = .ok (.ireturn, 1) := dk_172 (dk_at dksX0_itemOf_2 19 rfl rfl)
theorem dX0_itemOf_48 : decode cX0_itemOf 48 = .ok (.aload_n 0, 1) := dk_42 (dk_at dksX0_itemOf_2 20 rfl rfl)
theorem dX0_itemOf_49 : decode cX0_itemOf 49 = .ok (.aload_n 1, 1) := dk_43 (dk_at dksX0_itemOf_2 21 rfl rfl)
theorem dX0_itemOf_50 : decode cX0_itemOf 50 = .ok (.checkcast 350, 3) := dk_192 1 94 (dk_at dksX0_itemOf_3 0 rfl rfl)
theorem dX0_itemOf_53 : decode cX0_itemOf 53 = .ok (.iload_n 3, 1) := dk_29 (dk_at dksX0_itemOf_3 3 rfl rfl)
theorem dX0_itemOf_54 : decode cX0_itemOf 54 = .ok (.invokevirtual 375, 3) := dk_182 1 119 (dk_at dksX0_itemOf_3 4 rfl rfl)
theorem dX0_itemOf_57 : decode cX0_itemOf 57 = .ok (.ireturn, 1) := dk_172 (dk_at dksX0_itemOf_3 7 rfl rfl)
theorem dX0_itemOf_58 : decode cX0_itemOf 58 = .ok (.aload_n 0, 1) := dk_42 (dk_at dksX0_itemOf_3 8 rfl rfl)
theorem dX0_itemOf_59 : decode cX0_itemOf 59 = .ok (.aload_n 1, 1) := dk_43 (dk_at dksX0_itemOf_3 9 rfl rfl)
theorem dX0_itemOf_60 : decode cX0_itemOf 60 = .ok (.checkcast 348, 3) := dk_192 1 92 (dk_at dksX0_itemOf_3 10 rfl rfl)
theorem dX0_itemOf_63 : decode cX0_itemOf 63 = .ok (.iload_n 3, 1) := dk_29 (dk_at dksX0_itemOf_3 13 rfl rfl)
theorem dX0_itemOf_64 : decode cX0_itemOf 64 = .ok (.invokevirtual 379, 3) := dk_182 1 123 (dk_at dksX0_itemOf_3 14 rfl rfl)
theorem dX0_itemOf_67 : decode cX0_itemOf 67 = .ok (.ireturn, 1) := dk_172 (dk_at dksX0_itemOf_3 17 rfl rfl)
abbrev cX0_byteAt : ByteArray := prog_1_method_60_code
def yX0_byteAt : MethodName := ⟨RX0, "byteAt", "([BI)I"⟩
def dkwX0_byteAt_0 : List UInt8 := [42, 28, 43, 190, 182, 1, 104, 43, 28, 51, 172]
abbrev dktX0_byteAt_0 : List UInt8 := dkwX0_byteAt_0 ++ []
theorem dksX0_byteAt_0 : cX0_byteAt.data.toList.drop 0 = dktX0_byteAt_0 := by decide +kernel
theorem dX0_byteAt_0 : decode cX0_byteAt 0 = .ok (.aload_n 0, 1) := dk_42 (dk_at dksX0_byteAt_0 0 rfl rfl)
theorem dX0_byteAt_1 : decode cX0_byteAt 1 = .ok (.iload_n 2, 1) := dk_28 (dk_at dksX0_byteAt_0 1 rfl rfl)
theorem dX0_byteAt_2 : decode cX0_byteAt 2 = .ok (.aload_n 1, 1) := dk_43 (dk_at dksX0_byteAt_0 2 rfl rfl)
theorem dX0_byteAt_3 : decode cX0_byteAt 3 = .ok (.arraylength, 1) := dk_190 (dk_at dksX0_byteAt_0 3 rfl rfl)
theorem dX0_byteAt_4 : decode cX0_byteAt 4 = .ok (.invokevirtual 360, 3) := dk_182 1 104 (dk_at dksX0_byteAt_0 4 rfl rfl)
theorem dX0_byteAt_7 : decode cX0_byteAt 7 = .ok (.aload_n 1, 1) := dk_43 (dk_at dksX0_byteAt_0 7 rfl rfl)
theorem dX0_byteAt_8 : decode cX0_byteAt 8 = .ok (.iload_n 2, 1) := dk_28 (dk_at dksX0_byteAt_0 8 rfl rfl)
theorem dX0_byteAt_9 : decode cX0_byteAt 9 = .ok (.baload, 1) := dk_51 (dk_at dksX0_byteAt_0 9 rfl rfl)
theorem dX0_byteAt_10 : decode cX0_byteAt 10 = .ok (.ireturn, 1) := dk_172 (dk_at dksX0_byteAt_0 10 rfl rfl)
abbrev cX0_shortAt : ByteArray := prog_1_method_61_code
def yX0_shortAt : MethodName := ⟨RX0, "shortAt", "([SI)I"⟩
def dkwX0_shortAt_0 : List UInt8 := [42, 28, 43, 190, 182, 1, 104, 43, 28, 53, 172]
abbrev dktX0_shortAt_0 : List UInt8 := dkwX0_shortAt_0 ++ []
theorem dksX0_shortAt_0 : cX0_shortAt.data.toList.drop 0 = dktX0_shortAt_0 := by decide +kernel
theorem dX0_shortAt_0 : decode cX0_shortAt 0 = .ok (.aload_n 0, 1) := dk_42 (dk_at dksX0_shortAt_0 0 rfl rfl)
theorem dX0_shortAt_1 : decode cX0_shortAt 1 = .ok (.iload_n 2, 1) := dk_28 (dk_at dksX0_shortAt_0 1 rfl rfl)
theorem dX0_shortAt_2 : decode cX0_shortAt 2 = .ok (.aload_n 1, 1) := dk_43 (dk_at dksX0_shortAt_0 2 rfl rfl)
theorem dX0_shortAt_3 : decode cX0_shortAt 3 = .ok (.arraylength, 1) := dk_190 (dk_at dksX0_shortAt_0 3 rfl rfl)
theorem dX0_shortAt_4 : decode cX0_shortAt 4 = .ok (.invokevirtual 360, 3) := dk_182 1 104 (dk_at dksX0_shortAt_0 4 rfl rfl)
theorem dX0_shortAt_7 : decode cX0_shortAt 7 = .ok (.aload_n 1, 1) := dk_43 (dk_at dksX0_shortAt_0 7 rfl rfl)
theorem dX0_shortAt_8 : decode cX0_shortAt 8 = .ok (.iload_n 2, 1) := dk_28 (dk_at dksX0_shortAt_0 8 rfl rfl)
theorem dX0_shortAt_9 : decode cX0_shortAt 9 = .ok (.saload, 1) := dk_53 (dk_at dksX0_shortAt_0 9 rfl rfl)
theorem dX0_shortAt_10 : decode cX0_shortAt 10 = .ok (.ireturn, 1) := dk_172 (dk_at dksX0_shortAt_0 10 rfl rfl)
abbrev cX0_intAt : ByteArray := prog_1_method_62_code
def yX0_intAt : MethodName := ⟨RX0, "intAt", "([II)I"⟩
def dkwX0_intAt_0 : List UInt8 := [42, 28, 43, 190, 182, 1, 104, 43, 28, 46, 172]
abbrev dktX0_intAt_0 : List UInt8 := dkwX0_intAt_0 ++ []
theorem dksX0_intAt_0 : cX0_intAt.data.toList.drop 0 = dktX0_intAt_0 := by decide +kernel
theorem dX0_intAt_0 : decode cX0_intAt 0 = .ok (.aload_n 0, 1) := dk_42 (dk_at dksX0_intAt_0 0 rfl rfl)
theorem dX0_intAt_1 : decode cX0_intAt 1 = .ok (.iload_n 2, 1) := dk_28 (dk_at dksX0_intAt_0 1 rfl rfl)
theorem dX0_intAt_2 : decode cX0_intAt 2 = .ok (.aload_n 1, 1) := dk_43 (dk_at dksX0_intAt_0 2 rfl rfl)
theorem dX0_intAt_3 : decode cX0_intAt 3 = .ok (.arraylength, 1) := dk_190 (dk_at dksX0_intAt_0 3 rfl rfl)
theorem dX0_intAt_4 : decode cX0_intAt 4 = .ok (.invokevirtual 360, 3) := dk_182 1 104 (dk_at dksX0_intAt_0 4 rfl rfl)
theorem dX0_intAt_7 : decode cX0_intAt 7 = .ok (.aload_n 1, 1) := dk_43 (dk_at dksX0_intAt_0 7 rfl rfl)
theorem dX0_intAt_8 : decode cX0_intAt 8 = .ok (.iload_n 2, 1) := dk_28 (dk_at dksX0_intAt_0 8 rfl rfl)
theorem dX0_intAt_9 : decode cX0_intAt 9 = .ok (.iaload, 1) := dk_46 (dk_at dksX0_intAt_0 9 rfl rfl)
theorem dX0_intAt_10 : decode cX0_intAt 10 = .ok (.ireturn, 1) := dk_172 (dk_at dksX0_intAt_0 10 rfl rfl)
abbrev cX0_longAt : ByteArray := prog_1_method_63_code
def yX0_longAt : MethodName := ⟨RX0, "longAt", "([JI)I"⟩
def dkwX0_longAt_0 : List UInt8 := [42, 28, 43, 190, 182, 1, 104, 43, 28, 47, 136, 172]
abbrev dktX0_longAt_0 : List UInt8 := dkwX0_longAt_0 ++ []
theorem dksX0_longAt_0 : cX0_longAt.data.toList.drop 0 = dktX0_longAt_0 := by decide +kernel
theorem dX0_longAt_0 : decode cX0_longAt 0 = .ok (.aload_n 0, 1) := dk_42 (dk_at dksX0_longAt_0 0 rfl rfl)
theorem dX0_longAt_1 : decode cX0_longAt 1 = .ok (.iload_n 2, 1) := dk_28 (dk_at dksX0_longAt_0 1 rfl rfl)
theorem dX0_longAt_2 : decode cX0_longAt 2 = .ok (.aload_n 1, 1) := dk_43 (dk_at dksX0_longAt_0 2 rfl rfl)
theorem dX0_longAt_3 : decode cX0_longAt 3 = .ok (.arraylength, 1) := dk_190 (dk_at dksX0_longAt_0 3 rfl rfl)
theorem dX0_longAt_4 : decode cX0_longAt 4 = .ok (.invokevirtual 360, 3) := dk_182 1 104 (dk_at dksX0_longAt_0 4 rfl rfl)
theorem dX0_longAt_7 : decode cX0_longAt 7 = .ok (.aload_n 1, 1) := dk_43 (dk_at dksX0_longAt_0 7 rfl rfl)
theorem dX0_longAt_8 : decode cX0_longAt 8 = .ok (.iload_n 2, 1) := dk_28 (dk_at dksX0_longAt_0 8 rfl rfl)
theorem dX0_longAt_9 : decode cX0_longAt 9 = .ok (.laload, 1) := dk_47 (dk_at dksX0_longAt_0 9 rfl rfl)
theorem dX0_longAt_10 : decode cX0_longAt 10 = .ok (.l2i, 1) := dk_136 (dk_at dksX0_longAt_0 10 rfl rfl)
theorem dX0_longAt_11 : decode cX0_longAt 11 = .ok (.ireturn, 1) := dk_172 (dk_at dksX0_longAt_0 11 rfl rfl)
abbrev cX0_acts : ByteArray := prog_1_method_67_code
def yX0_acts : MethodName := ⟨RX0, "acts", "(III)I"⟩
def dkwX0_acts_2 : List UInt8 := [172, 58, 4, 16, 243, 172, 58, 4, 16, 244, 172]
abbrev dktX0_acts_2 : List UInt8 := dkwX0_acts_2 ++ []
def dkwX0_acts_1 : List UInt8 := [180, 0, 78, 27, 50, 182, 0, 240, 182, 0, 244, 192, 1, 94, 28, 29, 182, 1, 133, 172, 58, 4, 16, 245]
abbrev dktX0_acts_1 : List UInt8 := dkwX0_acts_1 ++ dktX0_acts_2
def dkwX0_acts_0 : List UInt8 := [27, 184, 0, 237, 153, 0, 13, 29, 3, 16, 20, 184, 0, 111, 154, 0, 5, 2, 172, 42, 42, 42]
abbrev dktX0_acts_0 : List UInt8 := dkwX0_acts_0 ++ dktX0_acts_1
theorem dksX0_acts_0 : cX0_acts.data.toList.drop 0 = dktX0_acts_0 := by decide +kernel
theorem dksX0_acts_1 : cX0_acts.data.toList.drop 22 = dktX0_acts_1 := dk_seg dksX0_acts_0 22 rfl rfl
theorem dksX0_acts_2 : cX0_acts.data.toList.drop 46 = dktX0_acts_2 := dk_seg dksX0_acts_1 24 rfl rfl
theorem dX0_acts_0 : decode cX0_acts 0 = .ok (.iload_n 1, 1) := dk_27 (dk_at dksX0_acts_0 0 rfl rfl)
theorem dX0_acts_1 : decode cX0_acts 1 = .ok (.invokestatic 237, 3) := dk_184 0 237 (dk_at dksX0_acts_0 1 rfl rfl)
theorem dX0_acts_4 : decode cX0_acts 4 = .ok (.ifCond .eq 13, 3) := dk_153 0 13 (dk_at dksX0_acts_0 4 rfl rfl)
theorem dX0_acts_7 : decode cX0_acts 7 = .ok (.iload_n 3, 1) := dk_29 (dk_at dksX0_acts_0 7 rfl rfl)
theorem dX0_acts_8 : decode cX0_acts 8 = .ok (.iconst 0, 1) := dk_3 (dk_at dksX0_acts_0 8 rfl rfl)
theorem dX0_acts_9 : decode cX0_acts 9 = .ok (.bipush 20, 2) := dk_16 20 (dk_at dksX0_acts_0 9 rfl rfl)
theorem dX0_acts_11 : decode cX0_acts 11 = .ok (.invokestatic 111, 3) := dk_184 0 111 (dk_at dksX0_acts_0 11 rfl rfl)
theorem dX0_acts_14 : decode cX0_acts 14 = .ok (.ifCond .ne 5, 3) := dk_154 0 5 (dk_at dksX0_acts_0 14 rfl rfl)
theorem dX0_acts_17 : decode cX0_acts 17 = .ok (.iconst (-1), 1) := dk_2 (dk_at dksX0_acts_0 17 rfl rfl)
theorem dX0_acts_18 : decode cX0_acts 18 = .ok (.ireturn, 1) := dk_172 (dk_at dksX0_acts_0 18 rfl rfl)
theorem dX0_acts_19 : decode cX0_acts 19 = .ok (.aload_n 0, 1) := dk_42 (dk_at dksX0_acts_0 19 rfl rfl)
theorem dX0_acts_20 : decode cX0_acts 20 = .ok (.aload_n 0, 1) := dk_42 (dk_at dksX0_acts_0 20 rfl rfl)
theorem dX0_acts_21 : decode cX0_acts 21 = .ok (.aload_n 0, 1) := dk_42 (dk_at dksX0_acts_0 21 rfl rfl)
theorem dX0_acts_22 : decode cX0_acts 22 = .ok (.getfield 78, 3) := dk_180 0 78 (dk_at dksX0_acts_1 0 rfl rfl)
theorem dX0_acts_25 : decode cX0_acts 25 = .ok (.iload_n 1, 1) := dk_27 (dk_at dksX0_acts_1 3 rfl rfl)
theorem dX0_acts_26 : decode cX0_acts 26 = .ok (.aaload, 1) := dk_50 (dk_at dksX0_acts_1 4 rfl rfl)
theorem dX0_acts_27 : decode cX0_acts 27 = .ok (.invokevirtual 240, 3) := dk_182 0 240 (dk_at dksX0_acts_1 5 rfl rfl)
theorem dX0_acts_30 : decode cX0_acts 30 = .ok (.invokevirtual 244, 3) := dk_182 0 244 (dk_at dksX0_acts_1 8 rfl rfl)
theorem dX0_acts_33 : decode cX0_acts 33 = .ok (.checkcast 350, 3) := dk_192 1 94 (dk_at dksX0_acts_1 11 rfl rfl)
theorem dX0_acts_36 : decode cX0_acts 36 = .ok (.iload_n 2, 1) := dk_28 (dk_at dksX0_acts_1 14 rfl rfl)
theorem dX0_acts_37 : decode cX0_acts 37 = .ok (.iload_n 3, 1) := dk_29 (dk_at dksX0_acts_1 15 rfl rfl)
theorem dX0_acts_38 : decode cX0_acts 38 = .ok (.invokevirtual 389, 3) := dk_182 1 133 (dk_at dksX0_acts_1 16 rfl rfl)
theorem dX0_acts_41 : decode cX0_acts 41 = .ok (.ireturn, 1) := dk_172 (dk_at dksX0_acts_1 19 rfl rfl)
theorem dX0_acts_42 : decode cX0_acts 42 = .ok (.astore 4, 2) := dk_58 4 (dk_at dksX0_acts_1 20 rfl rfl)
theorem dX0_acts_44 : decode cX0_acts 44 = .ok (.bipush (-11), 2) := dk_16 245 (dk_at dksX0_acts_1 22 rfl rfl)
theorem dX0_acts_46 : decode cX0_acts 46 = .ok (.ireturn, 1) := dk_172 (dk_at dksX0_acts_2 0 rfl rfl)
theorem dX0_acts_47 : decode cX0_acts 47 = .ok (.astore 4, 2) := dk_58 4 (dk_at dksX0_acts_2 1 rfl rfl)
theorem dX0_acts_49 : decode cX0_acts 49 = .ok (.bipush (-13), 2) := dk_16 243 (dk_at dksX0_acts_2 3 rfl rfl)
theorem dX0_acts_51 : decode cX0_acts 51 = .ok (.ireturn, 1) := dk_172 (dk_at dksX0_acts_2 5 rfl rfl)
theorem dX0_acts_52 : decode cX0_acts 52 = .ok (.astore 4, 2) := dk_58 4 (dk_at dksX0_acts_2 6 rfl rfl)
theorem dX0_acts_54 : decode cX0_acts 54 = .ok (.bipush (-12), 2) := dk_16 244 (dk_at dksX0_acts_2 8 rfl rfl)
theorem dX0_acts_56 : decode cX0_acts 56 = .ok (.ireturn, 1) := dk_172 (dk_at dksX0_acts_2 10 rfl rfl)
abbrev cX0_doneBy : ByteArray := prog_1_method_66_code
def yX0_doneBy : MethodName := ⟨RX0, "doneBy", "([III)I"⟩
def dkwX0_doneBy_1 : List UInt8 := [182, 1, 131, 155, 0, 7, 4, 167, 0, 4, 3, 96, 54, 4, 132, 5, 1, 167, 255, 221, 21, 4, 172]
abbrev dktX0_doneBy_1 : List UInt8 := dkwX0_doneBy_1 ++ []
def dkwX0_doneBy_0 : List UInt8 := [3, 54, 4, 3, 54, 5, 21, 5, 29, 162, 0, 35, 21, 4, 42, 42, 43, 28, 21, 5, 96, 182, 1, 119]
abbrev dktX0_doneBy_0 : List UInt8 := dkwX0_doneBy_0 ++ dktX0_doneBy_1
theorem dksX0_doneBy_0 : cX0_doneBy.data.toList.drop 0 = dktX0_doneBy_0 := by decide +kernel
theorem dksX0_doneBy_1 : cX0_doneBy.data.toList.drop 24 = dktX0_doneBy_1 := dk_seg dksX0_doneBy_0 24 rfl rfl
theorem dX0_doneBy_0 : decode cX0_doneBy 0 = .ok (.iconst 0, 1) := dk_3 (dk_at dksX0_doneBy_0 0 rfl rfl)
theorem dX0_doneBy_1 : decode cX0_doneBy 1 = .ok (.istore 4, 2) := dk_54 4 (dk_at dksX0_doneBy_0 1 rfl rfl)
theorem dX0_doneBy_3 : decode cX0_doneBy 3 = .ok (.iconst 0, 1) := dk_3 (dk_at dksX0_doneBy_0 3 rfl rfl)
theorem dX0_doneBy_4 : decode cX0_doneBy 4 = .ok (.istore 5, 2) := dk_54 5 (dk_at dksX0_doneBy_0 4 rfl rfl)
theorem dX0_doneBy_6 : decode cX0_doneBy 6 = .ok (.iload 5, 2) := dk_21 5 (dk_at dksX0_doneBy_0 6 rfl rfl)
theorem dX0_doneBy_8 : decode cX0_doneBy 8 = .ok (.iload_n 3, 1) := dk_29 (dk_at dksX0_doneBy_0 8 rfl rfl)
theorem dX0_doneBy_9 : decode cX0_doneBy 9 = .ok (.if_icmp .ge 35, 3) := dk_162 0 35 (dk_at dksX0_doneBy_0 9 rfl rfl)
theorem dX0_doneBy_12 : decode cX0_doneBy 12 = .ok (.iload 4, 2) := dk_21 4 (dk_at dksX0_doneBy_0 12 rfl rfl)
theorem dX0_doneBy_14 : decode cX0_doneBy 14 = .ok (.aload_n 0, 1) := dk_42 (dk_at dksX0_doneBy_0 14 rfl rfl)
theorem dX0_doneBy_15 : decode cX0_doneBy 15 = .ok (.aload_n 0, 1) := dk_42 (dk_at dksX0_doneBy_0 15 rfl rfl)
theorem dX0_doneBy_16 : decode cX0_doneBy 16 = .ok (.aload_n 1, 1) := dk_43 (dk_at dksX0_doneBy_0 16 rfl rfl)
theorem dX0_doneBy_17 : decode cX0_doneBy 17 = .ok (.iload_n 2, 1) := dk_28 (dk_at dksX0_doneBy_0 17 rfl rfl)
theorem dX0_doneBy_18 : decode cX0_doneBy 18 = .ok (.iload 5, 2) := dk_21 5 (dk_at dksX0_doneBy_0 18 rfl rfl)
theorem dX0_doneBy_20 : decode cX0_doneBy 20 = .ok (.iadd, 1) := dk_96 (dk_at dksX0_doneBy_0 20 rfl rfl)
theorem dX0_doneBy_21 : decode cX0_doneBy 21 = .ok (.invokevirtual 375, 3) := dk_182 1 119 (dk_at dksX0_doneBy_0 21 rfl rfl)
theorem dX0_doneBy_24 : decode cX0_doneBy 24 = .ok (.invokevirtual 387, 3) := dk_182 1 131 (dk_at dksX0_doneBy_1 0 rfl rfl)
theorem dX0_doneBy_27 : decode cX0_doneBy 27 = .ok (.ifCond .lt 7, 3) := dk_155 0 7 (dk_at dksX0_doneBy_1 3 rfl rfl)
theorem dX0_doneBy_30 : decode cX0_doneBy 30 = .ok (.iconst 1, 1) := dk_4 (dk_at dksX0_doneBy_1 6 rfl rfl)
theorem dX0_doneBy_31 : decode cX0_doneBy 31 = .ok (.goto 4, 3) := dk_167 0 4 (dk_at dksX0_doneBy_1 7 rfl rfl)
theorem dX0_doneBy_34 : decode cX0_doneBy 34 = .ok (.iconst 0, 1) := dk_3 (dk_at dksX0_doneBy_1 10 rfl rfl)
theorem dX0_doneBy_35 : decode cX0_doneBy 35 = .ok (.iadd, 1) := dk_96 (dk_at dksX0_doneBy_1 11 rfl rfl)
theorem dX0_doneBy_36 : decode cX0_doneBy 36 = .ok (.istore 4, 2) := dk_54 4 (dk_at dksX0_doneBy_1 12 rfl rfl)
theorem dX0_doneBy_38 : decode cX0_doneBy 38 = .ok (.iinc 5 1, 3) := dk_132 5 1 (dk_at dksX0_doneBy_1 14 rfl rfl)
theorem dX0_doneBy_41 : decode cX0_doneBy 41 = .ok (.goto (-35), 3) := dk_167 255 221 (dk_at dksX0_doneBy_1 17 rfl rfl)
theorem dX0_doneBy_44 : decode cX0_doneBy 44 = .ok (.iload 4, 2) := dk_21 4 (dk_at dksX0_doneBy_1 20 rfl rfl)
theorem dX0_doneBy_46 : decode cX0_doneBy 46 = .ok (.ireturn, 1) := dk_172 (dk_at dksX0_doneBy_1 22 rfl rfl)
abbrev cX0_shelf : ByteArray := prog_1_method_73_code
def yX0_shelf : MethodName := ⟨RX0, "shelf", "(III)I"⟩
def dkwX0_shelf_5 : List UInt8 := [182, 0, 240, 167, 0, 4, 1, 181, 1, 176, 4, 172]
abbrev dktX0_shelf_5 : List UInt8 := dkwX0_shelf_5 ++ []
def dkwX0_shelf_4 : List UInt8 := [167, 0, 4, 3, 181, 1, 157, 42, 180, 0, 103, 27, 50, 28, 6, 160, 0, 15, 42, 180, 0, 78, 29, 50]
abbrev dktX0_shelf_4 : List UInt8 := dkwX0_shelf_4 ++ dktX0_shelf_5
def dkwX0_shelf_3 : List UInt8 := [42, 180, 0, 103, 27, 50, 28, 181, 1, 154, 42, 180, 0, 103, 27, 50, 28, 5, 162, 0, 7, 29]
abbrev dktX0_shelf_3 : List UInt8 := dkwX0_shelf_3 ++ dktX0_shelf_4
def dkwX0_shelf_2 : List UInt8 := [42, 180, 0, 10, 180, 0, 107, 153, 0, 15, 28, 6, 160, 0, 12, 29, 184, 0, 237, 154, 0, 5, 2, 172]
abbrev dktX0_shelf_2 : List UInt8 := dkwX0_shelf_2 ++ dktX0_shelf_3
def dkwX0_shelf_1 : List UInt8 := [182, 0, 136, 153, 0, 43, 28, 4, 160, 0, 11, 42, 29, 182, 1, 164, 153, 0, 30, 28, 5, 160, 0, 13]
abbrev dktX0_shelf_1 : List UInt8 := dkwX0_shelf_1 ++ dktX0_shelf_2
def dkwX0_shelf_0 : List UInt8 := [27, 184, 1, 179, 153, 0, 64, 28, 3, 7, 184, 0, 111, 153, 0, 55, 28, 154, 0, 11, 42, 29]
abbrev dktX0_shelf_0 : List UInt8 := dkwX0_shelf_0 ++ dktX0_shelf_1
theorem dksX0_shelf_0 : cX0_shelf.data.toList.drop 0 = dktX0_shelf_0 := by decide +kernel
theorem dksX0_shelf_1 : cX0_shelf.data.toList.drop 22 = dktX0_shelf_1 := dk_seg dksX0_shelf_0 22 rfl rfl
theorem dksX0_shelf_2 : cX0_shelf.data.toList.drop 46 = dktX0_shelf_2 := dk_seg dksX0_shelf_1 24 rfl rfl
theorem dksX0_shelf_3 : cX0_shelf.data.toList.drop 70 = dktX0_shelf_3 := dk_seg dksX0_shelf_2 24 rfl rfl
theorem dksX0_shelf_4 : cX0_shelf.data.toList.drop 92 = dktX0_shelf_4 := dk_seg dksX0_shelf_3 22 rfl rfl
theorem dksX0_shelf_5 : cX0_shelf.data.toList.drop 116 = dktX0_shelf_5 := dk_seg dksX0_shelf_4 24 rfl rfl
theorem dX0_shelf_0 : decode cX0_shelf 0 = .ok (.iload_n 1, 1) := dk_27 (dk_at dksX0_shelf_0 0 rfl rfl)
theorem dX0_shelf_1 : decode cX0_shelf 1 = .ok (.invokestatic 435, 3) := dk_184 1 179 (dk_at dksX0_shelf_0 1 rfl rfl)
theorem dX0_shelf_4 : decode cX0_shelf 4 = .ok (.ifCond .eq 64, 3) := dk_153 0 64 (dk_at dksX0_shelf_0 4 rfl rfl)
theorem dX0_shelf_7 : decode cX0_shelf 7 = .ok (.iload_n 2, 1) := dk_28 (dk_at dksX0_shelf_0 7 rfl rfl)
theorem dX0_shelf_8 : decode cX0_shelf 8 = .ok (.iconst 0, 1) := dk_3 (dk_at dksX0_shelf_0 8 rfl rfl)
theorem dX0_shelf_9 : decode cX0_shelf 9 = .ok (.iconst 4, 1) := dk_7 (dk_at dksX0_shelf_0 9 rfl rfl)
theorem dX0_shelf_10 : decode cX0_shelf 10 = .ok (.invokestatic 111, 3) := dk_184 0 111 (dk_at dksX0_shelf_0 10 rfl rfl)
theorem dX0_shelf_13 : decode cX0_shelf 13 = .ok (.ifCond .eq 55, 3) := dk_153 0 55 (dk_at dksX0_shelf_0 13 rfl rfl)
theorem dX0_shelf_16 : decode cX0_shelf 16 = .ok (.iload_n 2, 1) := dk_28 (dk_at dksX0_shelf_0 16 rfl rfl)
theorem dX0_shelf_17 : decode cX0_shelf 17 = .ok (.ifCond .ne 11, 3) := dk_154 0 11 (dk_at dksX0_shelf_0 17 rfl rfl)
theorem dX0_shelf_20 : decode cX0_shelf 20 = .ok (.aload_n 0, 1) := dk_42 (dk_at dksX0_shelf_0 20 rfl rfl)
theorem dX0_shelf_21 : decode cX0_shelf 21 = .ok (.iload_n 3, 1) := dk_29 (dk_at dksX0_shelf_0 21 rfl rfl)
theorem dX0_shelf_22 : decode cX0_shelf 22 = .ok (.invokevirtual 136, 3) := dk_182 0 136 (dk_at dksX0_shelf_1 0 rfl rfl)
theorem dX0_shelf_25 : decode cX0_shelf 25 = .ok (.ifCond .eq 43, 3) := dk_153 0 43 (dk_at dksX0_shelf_1 3 rfl rfl)
theorem dX0_shelf_28 : decode cX0_shelf 28 = .ok (.iload_n 2, 1) := dk_28 (dk_at dksX0_shelf_1 6 rfl rfl)
theorem dX0_shelf_29 : decode cX0_shelf 29 = .ok (.iconst 1, 1) := dk_4 (dk_at dksX0_shelf_1 7 rfl rfl)
theorem dX0_shelf_30 : decode cX0_shelf 30 = .ok (.if_icmp .ne 11, 3) := dk_160 0 11 (dk_at dksX0_shelf_1 8 rfl rfl)
theorem dX0_shelf_33 : decode cX0_shelf 33 = .ok (.aload_n 0, 1) := dk_42 (dk_at dksX0_shelf_1 11 rfl rfl)
theorem dX0_shelf_34 : decode cX0_shelf 34 = .ok (.iload_n 3, 1) := dk_29 (dk_at dksX0_shelf_1 12 rfl rfl)
theorem dX0_shelf_35 : decode cX0_shelf 35 = .ok (.invokevirtual 420, 3) := dk_182 1 164 (dk_at dksX0_shelf_1 13 rfl rfl)
theorem dX0_shelf_38 : decode cX0_shelf 38 = .ok (.ifCond .eq 30, 3) := dk_153 0 30 (dk_at dksX0_shelf_1 16 rfl rfl)
theorem dX0_shelf_41 : decode cX0_shelf 41 = .ok (.iload_n 2, 1) := dk_28 (dk_at dksX0_shelf_1 19 rfl rfl)
theorem dX0_shelf_42 : decode cX0_shelf 42 = .ok (.iconst 2, 1) := dk_5 (dk_at dksX0_shelf_1 20 rfl rfl)
theorem dX0_shelf_43 : decode cX0_shelf 43 = .ok (.if_icmp .ne 13, 3) := dk_160 0 13 (dk_at dksX0_shelf_1 21 rfl rfl)
theorem dX0_shelf_46 : decode cX0_shelf 46 = .ok (.aload_n 0, 1) := dk_42 (dk_at dksX0_shelf_2 0 rfl rfl)
theorem dX0_shelf_47 : decode cX0_shelf 47 = .ok (.getfield 10, 3) := dk_180 0 10 (dk_at dksX0_shelf_2 1 rfl rfl)
theorem dX0_shelf_50 : decode cX0_shelf 50 = .ok (.getfield 107, 3) := dk_180 0 107 (dk_at dksX0_shelf_2 4 rfl rfl)
theorem dX0_shelf_53 : decode cX0_shelf 53 = .ok (.ifCond .eq 15, 3) := dk_153 0 15 (dk_at dksX0_shelf_2 7 rfl rfl)
theorem dX0_shelf_56 : decode cX0_shelf 56 = .ok (.iload_n 2, 1) := dk_28 (dk_at dksX0_shelf_2 10 rfl rfl)
theorem dX0_shelf_57 : decode cX0_shelf 57 = .ok (.iconst 3, 1) := dk_6 (dk_at dksX0_shelf_2 11 rfl rfl)
theorem dX0_shelf_58 : decode cX0_shelf 58 = .ok (.if_icmp .ne 12, 3) := dk_160 0 12 (dk_at dksX0_shelf_2 12 rfl rfl)
theorem dX0_shelf_61 : decode cX0_shelf 61 = .ok (.iload_n 3, 1) := dk_29 (dk_at dksX0_shelf_2 15 rfl rfl)
theorem dX0_shelf_62 : decode cX0_shelf 62 = .ok (.invokestatic 237, 3) := dk_184 0 237 (dk_at dksX0_shelf_2 16 rfl rfl)
theorem dX0_shelf_65 : decode cX0_shelf 65 = .ok (.ifCond .ne 5, 3) := dk_154 0 5 (dk_at dksX0_shelf_2 19 rfl rfl)
theorem dX0_shelf_68 : decode cX0_shelf 68 = .ok (.iconst (-1), 1) := dk_2 (dk_at dksX0_shelf_2 22 rfl rfl)
theorem dX0_shelf_69 : decode cX0_shelf 69 = .ok (.ireturn, 1) := dk_172 (dk_at dksX0_shelf_2 23 rfl rfl)
theorem dX0_shelf_70 : decode cX0_shelf 70 = .ok (.aload_n 0, 1) := dk_42 (dk_at dksX0_shelf_3 0 rfl rfl)
theorem dX0_shelf_71 : decode cX0_shelf 71 = .ok (.getfield 103, 3) := dk_180 0 103 (dk_at dksX0_shelf_3 1 rfl rfl)
theorem dX0_shelf_74 : decode cX0_shelf 74 = .ok (.iload_n 1, 1) := dk_27 (dk_at dksX0_shelf_3 4 rfl rfl)
theorem dX0_shelf_75 : decode cX0_shelf 75 = .ok (.aaload, 1) := dk_50 (dk_at dksX0_shelf_3 5 rfl rfl)
theorem dX0_shelf_76 : decode cX0_shelf 76 = .ok (.iload_n 2, 1) := dk_28 (dk_at dksX0_shelf_3 6 rfl rfl)
theorem dX0_shelf_77 : decode cX0_shelf 77 = .ok (.putfield 410, 3) := dk_181 1 154 (dk_at dksX0_shelf_3 7 rfl rfl)
theorem dX0_shelf_80 : decode cX0_shelf 80 = .ok (.aload_n 0, 1) := dk_42 (dk_at dksX0_shelf_3 10 rfl rfl)
theorem dX0_shelf_81 : decode cX0_shelf 81 = .ok (.getfield 103, 3) := dk_180 0 103 (dk_at dksX0_shelf_3 11 rfl rfl)
theorem dX0_shelf_84 : decode cX0_shelf 84 = .ok (.iload_n 1, 1) := dk_27 (dk_at dksX0_shelf_3 14 rfl rfl)
theorem dX0_shelf_85 : decode cX0_shelf 85 = .ok (.aaload, 1) := dk_50 (dk_at dksX0_shelf_3 15 rfl rfl)
theorem dX0_shelf_86 : decode cX0_shelf 86 = .ok (.iload_n 2, 1) := dk_28 (dk_at dksX0_shelf_3 16 rfl rfl)
theorem dX0_shelf_87 : decode cX0_shelf 87 = .ok (.iconst 2, 1) := dk_5 (dk_at dksX0_shelf_3 17 rfl rfl)
theorem dX0_shelf_88 : decode cX0_shelf 88 = .ok (.if_icmp .ge 7, 3) := dk_162 0 7 (dk_at dksX0_shelf_3 18 rfl rfl)
theorem dX0_shelf_91 : decode cX0_shelf 91 = .ok (.iload_n 3, 1) := dk_29 (dk_at dksX0_shelf_3 21 rfl rfl)
theorem dX0_shelf_92 : decode cX0_shelf 92 = .ok (.goto 4, 3) := dk_167 0 4 (dk_at dksX0_shelf_4 0 rfl rfl)
theorem dX0_shelf_95 : decode cX0_shelf 95 = .ok (.iconst 0, 1) := dk_3 (dk_at dksX0_shelf_4 3 rfl rfl)
theorem dX0_shelf_96 : decode cX0_shelf 96 = .ok (.putfield 413, 3) := dk_181 1 157 (dk_at dksX0_shelf_4 4 rfl rfl)
theorem dX0_shelf_99 : decode cX0_shelf 99 = .ok (.aload_n 0, 1) := dk_42 (dk_at dksX0_shelf_4 7 rfl rfl)
theorem dX0_shelf_100 : decode cX0_shelf 100 = .ok (.getfield 103, 3) := dk_180 0 103 (dk_at dksX0_shelf_4 8 rfl rfl)
theorem dX0_shelf_103 : decode cX0_shelf 103 = .ok (.iload_n 1, 1) := dk_27 (dk_at dksX0_shelf_4 11 rfl rfl)
theorem dX0_shelf_104 : decode cX0_shelf 104 = .ok (.aaload, 1) := dk_50 (dk_at dksX0_shelf_4 12 rfl rfl)
theorem dX0_shelf_105 : decode cX0_shelf 105 = .ok (.iload_n 2, 1) := dk_28 (dk_at dksX0_shelf_4 13 rfl rfl)
theorem dX0_shelf_106 : decode cX0_shelf 106 = .ok (.iconst 3, 1) := dk_6 (dk_at dksX0_shelf_4 14 rfl rfl)
theorem dX0_shelf_107 : decode cX0_shelf 107 = .ok (.if_icmp .ne 15, 3) := dk_160 0 15 (dk_at dksX0_shelf_4 15 rfl rfl)
theorem dX0_shelf_110 : decode cX0_shelf 110 = .ok (.aload_n 0, 1) := dk_42 (dk_at dksX0_shelf_4 18 rfl rfl)
theorem dX0_shelf_111 : decode cX0_shelf 111 = .ok (.getfield 78, 3) := dk_180 0 78 (dk_at dksX0_shelf_4 19 rfl rfl)
theorem dX0_shelf_114 : decode cX0_shelf 114 = .ok (.iload_n 3, 1) := dk_29 (dk_at dksX0_shelf_4 22 rfl rfl)
theorem dX0_shelf_115 : decode cX0_shelf 115 = .ok (.aaload, 1) := dk_50 (dk_at dksX0_shelf_4 23 rfl rfl)
theorem dX0_shelf_116 : decode cX0_shelf 116 = .ok (.invokevirtual 240, 3) := dk_182 0 240 (dk_at dksX0_shelf_5 0 rfl rfl)
theorem dX0_shelf_119 : decode cX0_shelf 119 = .ok (.goto 4, 3) := dk_167 0 4 (dk_at dksX0_shelf_5 3 rfl rfl)
theorem dX0_shelf_122 : decode cX0_shelf 122 = .ok (.aconst_null, 1) := dk_1 (dk_at dksX0_shelf_5 6 rfl rfl)
theorem dX0_shelf_123 : decode cX0_shelf 123 = .ok (.putfield 432, 3) := dk_181 1 176 (dk_at dksX0_shelf_5 7 rfl rfl)
theorem dX0_shelf_126 : decode cX0_shelf 126 = .ok (.iconst 1, 1) := dk_4 (dk_at dksX0_shelf_5 10 rfl rfl)
theorem dX0_shelf_127 : decode cX0_shelf 127 = .ok (.ireturn, 1) := dk_172 (dk_at dksX0_shelf_5 11 rfl rfl)
abbrev cX0_isShelf : ByteArray := prog_1_method_69_code
def yX0_isShelf : MethodName := ⟨RX0, "isShelf", "(I)Z"⟩
def dkwX0_isShelf_0 : List UInt8 := [26, 3, 6, 184, 0, 111, 172]
abbrev dktX0_isShelf_0 : List UInt8 := dkwX0_isShelf_0 ++ []
theorem dksX0_isShelf_0 : cX0_isShelf.data.toList.drop 0 = dktX0_isShelf_0 := by decide +kernel
theorem dX0_isShelf_0 : decode cX0_isShelf 0 = .ok (.iload_n 0, 1) := dk_26 (dk_at dksX0_isShelf_0 0 rfl rfl)
theorem dX0_isShelf_1 : decode cX0_isShelf 1 = .ok (.iconst 0, 1) := dk_3 (dk_at dksX0_isShelf_0 1 rfl rfl)
theorem dX0_isShelf_2 : decode cX0_isShelf 2 = .ok (.iconst 3, 1) := dk_6 (dk_at dksX0_isShelf_0 2 rfl rfl)
theorem dX0_isShelf_3 : decode cX0_isShelf 3 = .ok (.invokestatic 111, 3) := dk_184 0 111 (dk_at dksX0_isShelf_0 3 rfl rfl)
theorem dX0_isShelf_6 : decode cX0_isShelf 6 = .ok (.ireturn, 1) := dk_172 (dk_at dksX0_isShelf_0 6 rfl rfl)
abbrev cX0_isRisk : ByteArray := prog_1_method_70_code
def yX0_isRisk : MethodName := ⟨RX0, "isRisk", "(I)Z"⟩
def dkwX0_isRisk_0 : List UInt8 := [27, 3, 42, 180, 0, 10, 180, 0, 221, 4, 100, 184, 0, 111, 172]
abbrev dktX0_isRisk_0 : List UInt8 := dkwX0_isRisk_0 ++ []
theorem dksX0_isRisk_0 : cX0_isRisk.data.toList.drop 0 = dktX0_isRisk_0 := by decide +kernel
theorem dX0_isRisk_0 : decode cX0_isRisk 0 = .ok (.iload_n 1, 1) := dk_27 (dk_at dksX0_isRisk_0 0 rfl rfl)
theorem dX0_isRisk_1 : decode cX0_isRisk 1 = .ok (.iconst 0, 1) := dk_3 (dk_at dksX0_isRisk_0 1 rfl rfl)
theorem dX0_isRisk_2 : decode cX0_isRisk 2 = .ok (.aload_n 0, 1) := dk_42 (dk_at dksX0_isRisk_0 2 rfl rfl)
theorem dX0_isRisk_3 : decode cX0_isRisk 3 = .ok (.getfield 10, 3) := dk_180 0 10 (dk_at dksX0_isRisk_0 3 rfl rfl)
theorem dX0_isRisk_6 : decode cX0_isRisk 6 = .ok (.getfield 221, 3) := dk_180 0 221 (dk_at dksX0_isRisk_0 6 rfl rfl)
theorem dX0_isRisk_9 : decode cX0_isRisk 9 = .ok (.iconst 1, 1) := dk_4 (dk_at dksX0_isRisk_0 9 rfl rfl)
theorem dX0_isRisk_10 : decode cX0_isRisk 10 = .ok (.isub, 1) := dk_100 (dk_at dksX0_isRisk_0 10 rfl rfl)
theorem dX0_isRisk_11 : decode cX0_isRisk 11 = .ok (.invokestatic 111, 3) := dk_184 0 111 (dk_at dksX0_isRisk_0 11 rfl rfl)
theorem dX0_isRisk_14 : decode cX0_isRisk 14 = .ok (.ireturn, 1) := dk_172 (dk_at dksX0_isRisk_0 14 rfl rfl)
abbrev cX0_taken : ByteArray := prog_1_method_76_code
def yX0_taken : MethodName := ⟨RX0, "taken", "(II)I"⟩
def dkwX0_taken_2 : List UInt8 := [184, 1, 201, 172, 78, 16, 245, 172, 78, 16, 243, 172]
abbrev dktX0_taken_2 : List UInt8 := dkwX0_taken_2 ++ []
def dkwX0_taken_1 : List UInt8 := [184, 0, 111, 154, 0, 5, 2, 172, 42, 42, 42, 180, 0, 103, 27, 50, 182, 1, 197, 182, 0, 244, 28]
abbrev dktX0_taken_1 : List UInt8 := dkwX0_taken_1 ++ dktX0_taken_2
def dkwX0_taken_0 : List UInt8 := [27, 184, 1, 179, 153, 0, 24, 28, 3, 16, 6, 184, 0, 111, 154, 0, 16, 28, 16, 10, 16, 13]
abbrev dktX0_taken_0 : List UInt8 := dkwX0_taken_0 ++ dktX0_taken_1
theorem dksX0_taken_0 : cX0_taken.data.toList.drop 0 = dktX0_taken_0 := by decide +kernel
theorem dksX0_taken_1 : cX0_taken.data.toList.drop 22 = dktX0_taken_1 := dk_seg dksX0_taken_0 22 rfl rfl
theorem dksX0_taken_2 : cX0_taken.data.toList.drop 45 = dktX0_taken_2 := dk_seg dksX0_taken_1 23 rfl rfl
theorem dX0_taken_0 : decode cX0_taken 0 = .ok (.iload_n 1, 1) := dk_27 (dk_at dksX0_taken_0 0 rfl rfl)
theorem dX0_taken_1 : decode cX0_taken 1 = .ok (.invokestatic 435, 3) := dk_184 1 179 (dk_at dksX0_taken_0 1 rfl rfl)
theorem dX0_taken_4 : decode cX0_taken 4 = .ok (.ifCond .eq 24, 3) := dk_153 0 24 (dk_at dksX0_taken_0 4 rfl rfl)
theorem dX0_taken_7 : decode cX0_taken 7 = .ok (.iload_n 2, 1) := dk_28 (dk_at dksX0_taken_0 7 rfl rfl)
theorem dX0_taken_8 : decode cX0_taken 8 = .ok (.iconst 0, 1) := dk_3 (dk_at dksX0_taken_0 8 rfl rfl)
theorem dX0_taken_9 : decode cX0_taken 9 = .ok (.bipush 6, 2) := dk_16 6 (dk_at dksX0_taken_0 9 rfl rfl)
theorem dX0_taken_11 : decode cX0_taken 11 = .ok (.invokestatic 111, 3) := dk_184 0 111 (dk_at dksX0_taken_0 11 rfl rfl)
theorem dX0_taken_14 : decode cX0_taken 14 = .ok (.ifCond .ne 16, 3) := dk_154 0 16 (dk_at dksX0_taken_0 14 rfl rfl)
theorem dX0_taken_17 : decode cX0_taken 17 = .ok (.iload_n 2, 1) := dk_28 (dk_at dksX0_taken_0 17 rfl rfl)
theorem dX0_taken_18 : decode cX0_taken 18 = .ok (.bipush 10, 2) := dk_16 10 (dk_at dksX0_taken_0 18 rfl rfl)
theorem dX0_taken_20 : decode cX0_taken 20 = .ok (.bipush 13, 2) := dk_16 13 (dk_at dksX0_taken_0 20 rfl rfl)
theorem dX0_taken_22 : decode cX0_taken 22 = .ok (.invokestatic 111, 3) := dk_184 0 111 (dk_at dksX0_taken_1 0 rfl rfl)
theorem dX0_taken_25 : decode cX0_taken 25 = .ok (.ifCond .ne 5, 3) := dk_154 0 5 (dk_at dksX0_taken_1 3 rfl rfl)
theorem dX0_taken_28 : decode cX0_taken 28 = .ok (.iconst (-1), 1) := dk_2 (dk_at dksX0_taken_1 6 rfl rfl)
theorem dX0_taken_29 : decode cX0_taken 29 = .ok (.ireturn, 1) := dk_172 (dk_at dksX0_taken_1 7 rfl rfl)
theorem dX0_taken_30 : decode cX0_taken 30 = .ok (.aload_n 0, 1) := dk_42 (dk_at dksX0_taken_1 8 rfl rfl)
theorem dX0_taken_31 : decode cX0_taken 31 = .ok (.aload_n 0, 1) := dk_42 (dk_at dksX0_taken_1 9 rfl rfl)
theorem dX0_taken_32 : decode cX0_taken 32 = .ok (.aload_n 0, 1) := dk_42 (dk_at dksX0_taken_1 10 rfl rfl)
theorem dX0_taken_33 : decode cX0_taken 33 = .ok (.getfield 103, 3) := dk_180 0 103 (dk_at dksX0_taken_1 11 rfl rfl)
theorem dX0_taken_36 : decode cX0_taken 36 = .ok (.iload_n 1, 1) := dk_27 (dk_at dksX0_taken_1 14 rfl rfl)
theorem dX0_taken_37 : decode cX0_taken 37 = .ok (.aaload, 1) := dk_50 (dk_at dksX0_taken_1 15 rfl rfl)
theorem dX0_taken_38 : decode cX0_taken 38 = .ok (.invokevirtual 453, 3) := dk_182 1 197 (dk_at dksX0_taken_1 16 rfl rfl)
theorem dX0_taken_41 : decode cX0_taken 41 = .ok (.invokevirtual 244, 3) := dk_182 0 244 (dk_at dksX0_taken_1 19 rfl rfl)
theorem dX0_taken_44 : decode cX0_taken 44 = .ok (.iload_n 2, 1) := dk_28 (dk_at dksX0_taken_1 22 rfl rfl)
theorem dX0_taken_45 : decode cX0_taken 45 = .ok (.invokestatic 457, 3) := dk_184 1 201 (dk_at dksX0_taken_2 0 rfl rfl)
theorem dX0_taken_48 : decode cX0_taken 48 = .ok (.ireturn, 1) := dk_172 (dk_at dksX0_taken_2 3 rfl rfl)
theorem dX0_taken_49 : decode cX0_taken 49 = .ok (.astore_n 3, 1) := dk_78 (dk_at dksX0_taken_2 4 rfl rfl)
theorem dX0_taken_50 : decode cX0_taken 50 = .ok (.bipush (-11), 2) := dk_16 245 (dk_at dksX0_taken_2 5 rfl rfl)
theorem dX0_taken_52 : decode cX0_taken 52 = .ok (.ireturn, 1) := dk_172 (dk_at dksX0_taken_2 7 rfl rfl)
theorem dX0_taken_53 : decode cX0_taken 53 = .ok (.astore_n 3, 1) := dk_78 (dk_at dksX0_taken_2 8 rfl rfl)
theorem dX0_taken_54 : decode cX0_taken 54 = .ok (.bipush (-13), 2) := dk_16 243 (dk_at dksX0_taken_2 9 rfl rfl)
theorem dX0_taken_56 : decode cX0_taken 56 = .ok (.ireturn, 1) := dk_172 (dk_at dksX0_taken_2 11 rfl rfl)
abbrev cX0_heldOf : ByteArray := prog_1_method_72_code
def yX0_heldOf : MethodName := ⟨RX0, "heldOf", "(LHungryHedge$Shelf;)Ljava/lang/Object;"⟩
def dkwX0_heldOf_6 : List UInt8 := [180, 0, 10, 180, 0, 127, 180, 0, 156, 183, 1, 175, 167, 0, 4, 1, 176, 43, 180, 1, 176, 176, 1, 176]
abbrev dktX0_heldOf_6 : List UInt8 := dkwX0_heldOf_6 ++ []
def dkwX0_heldOf_5 : List UInt8 := [180, 0, 107, 158, 0, 34, 187, 1, 173, 89, 42, 42, 180, 0, 10, 180, 0, 127, 180, 0, 153, 42]
abbrev dktX0_heldOf_5 : List UInt8 := dkwX0_heldOf_5 ++ dktX0_heldOf_6
def dkwX0_heldOf_4 : List UInt8 := [180, 0, 224, 43, 180, 1, 157, 50, 182, 1, 169, 183, 1, 172, 167, 0, 4, 1, 176, 42, 180, 0, 10]
abbrev dktX0_heldOf_4 : List UInt8 := dkwX0_heldOf_4 ++ dktX0_heldOf_5
def dkwX0_heldOf_3 : List UInt8 := [42, 43, 180, 1, 157, 182, 1, 164, 153, 0, 33, 187, 1, 167, 89, 42, 43, 180, 1, 157, 42, 180, 0, 10]
abbrev dktX0_heldOf_3 : List UInt8 := dkwX0_heldOf_3 ++ dktX0_heldOf_4
def dkwX0_heldOf_2 : List UInt8 := [42, 43, 180, 1, 157, 182, 0, 136, 153, 0, 14, 42, 43, 180, 1, 157, 182, 1, 160, 167, 0, 4, 1, 176]
abbrev dktX0_heldOf_2 : List UInt8 := dkwX0_heldOf_2 ++ dktX0_heldOf_3
def dkwX0_heldOf_1 : List UInt8 := [170, 0, 0, 0, 0, 0, 0, 147, 0, 0, 0, 0, 0, 0, 0, 3, 0, 0, 0, 32, 0, 0, 0, 56, 0, 0, 0, 99, 0, 0, 0, 142]
abbrev dktX0_heldOf_1 : List UInt8 := dkwX0_heldOf_1 ++ dktX0_heldOf_2
def dkwX0_heldOf_0 : List UInt8 := [43, 180, 1, 154]
abbrev dktX0_heldOf_0 : List UInt8 := dkwX0_heldOf_0 ++ dktX0_heldOf_1
theorem dksX0_heldOf_0 : cX0_heldOf.data.toList.drop 0 = dktX0_heldOf_0 := by decide +kernel
theorem dksX0_heldOf_1 : cX0_heldOf.data.toList.drop 4 = dktX0_heldOf_1 := dk_seg dksX0_heldOf_0 4 rfl rfl
theorem dksX0_heldOf_2 : cX0_heldOf.data.toList.drop 36 = dktX0_heldOf_2 := dk_seg dksX0_heldOf_1 32 rfl rfl
theorem dksX0_heldOf_3 : cX0_heldOf.data.toList.drop 60 = dktX0_heldOf_3 := dk_seg dksX0_heldOf_2 24 rfl rfl
theorem dksX0_heldOf_4 : cX0_heldOf.data.toList.drop 84 = dktX0_heldOf_4 := dk_seg dksX0_heldOf_3 24 rfl rfl
theorem dksX0_heldOf_5 : cX0_heldOf.data.toList.drop 107 = dktX0_heldOf_5 := dk_seg dksX0_heldOf_4 23 rfl rfl
theorem dksX0_heldOf_6 : cX0_heldOf.data.toList.drop 129 = dktX0_heldOf_6 := dk_seg dksX0_heldOf_5 22 rfl rfl
theorem dX0_heldOf_0 : decode cX0_heldOf 0 = .ok (.aload_n 1, 1) := dk_43 (dk_at dksX0_heldOf_0 0 rfl rfl)
theorem dX0_heldOf_1 : decode cX0_heldOf 1 = .ok (.getfield 410, 3) := dk_180 1 154 (dk_at dksX0_heldOf_0 1 rfl rfl)
theorem dX0_heldOf_4 : decode cX0_heldOf 4 = .ok (.tableswitch 147 0 3 #[32, 56, 99, 142], 32) := by decide +kernel
theorem dX0_heldOf_36 : decode cX0_heldOf 36 = .ok (.aload_n 0, 1) := dk_42 (dk_at dksX0_heldOf_2 0 rfl rfl)
theorem dX0_heldOf_37 : decode cX0_heldOf 37 = .ok (.aload_n 1, 1) := dk_43 (dk_at dksX0_heldOf_2 1 rfl rfl)
theorem dX0_heldOf_38 : decode cX0_heldOf 38 = .ok (.getfield 413, 3) := dk_180 1 157 (dk_at dksX0_heldOf_2 2 rfl rfl)
theorem dX0_heldOf_41 : decode cX0_heldOf 41 = .ok (.invokevirtual 136, 3) := dk_182 0 136 (dk_at dksX0_heldOf_2 5 rfl rfl)
theorem dX0_heldOf_44 : decode cX0_heldOf 44 = .ok (.ifCond .eq 14, 3) := dk_153 0 14 (dk_at dksX0_heldOf_2 8 rfl rfl)
theorem dX0_heldOf_47 : decode cX0_heldOf 47 = .ok (.aload_n 0, 1) := dk_42 (dk_at dksX0_heldOf_2 11 rfl rfl)
theorem dX0_heldOf_48 : decode cX0_heldOf 48 = .ok (.aload_n 1, 1) := dk_43 (dk_at dksX0_heldOf_2 12 rfl rfl)
theorem dX0_heldOf_49 : decode cX0_heldOf 49 = .ok (.getfield 413, 3) := dk_180 1 157 (dk_at dksX0_heldOf_2 13 rfl rfl)
theorem dX0_heldOf_52 : decode cX0_heldOf 52 = .ok (.invokevirtual 416, 3) := dk_182 1 160 (dk_at dksX0_heldOf_2 16 rfl rfl)
theorem dX0_heldOf_55 : decode cX0_heldOf 55 = .ok (.goto 4, 3) := dk_167 0 4 (dk_at dksX0_heldOf_2 19 rfl rfl)
theorem dX0_heldOf_58 : decode cX0_heldOf 58 = .ok (.aconst_null, 1) := dk_1 (dk_at dksX0_heldOf_2 22 rfl rfl)
theorem dX0_heldOf_59 : decode cX0_heldOf 59 = .ok (.areturn, 1) := dk_176 (dk_at dksX0_heldOf_2 23 rfl rfl)
theorem dX0_heldOf_60 : decode cX0_heldOf 60 = .ok (.aload_n 0, 1) := dk_42 (dk_at dksX0_heldOf_3 0 rfl rfl)
theorem dX0_heldOf_61 : decode cX0_heldOf 61 = .ok (.aload_n 1, 1) := dk_43 (dk_at dksX0_heldOf_3 1 rfl rfl)
theorem dX0_heldOf_62 : decode cX0_heldOf 62 = .ok (.getfield 413, 3) := dk_180 1 157 (dk_at dksX0_heldOf_3 2 rfl rfl)
theorem dX0_heldOf_65 : decode cX0_heldOf 65 = .ok (.invokevirtual 420, 3) := dk_182 1 164 (dk_at dksX0_heldOf_3 5 rfl rfl)
theorem dX0_heldOf_68 : decode cX0_heldOf 68 = .ok (.ifCond .eq 33, 3) := dk_153 0 33 (dk_at dksX0_heldOf_3 8 rfl rfl)
theorem dX0_heldOf_71 : decode cX0_heldOf 71 = .ok (.new 423, 3) := dk_187 1 167 (dk_at dksX0_heldOf_3 11 rfl rfl)
theorem dX0_heldOf_74 : decode cX0_heldOf 74 = .ok (.dup, 1) := dk_89 (dk_at dksX0_heldOf_3 14 rfl rfl)
theorem dX0_heldOf_75 : decode cX0_heldOf 75 = .ok (.aload_n 0, 1) := dk_42 (dk_at dksX0_heldOf_3 15 rfl rfl)
theorem dX0_heldOf_76 : decode cX0_heldOf 76 = .ok (.aload_n 1, 1) := dk_43 (dk_at dksX0_heldOf_3 16 rfl rfl)
theorem dX0_heldOf_77 : decode cX0_heldOf 77 = .ok (.getfield 413, 3) := dk_180 1 157 (dk_at dksX0_heldOf_3 17 rfl rfl)
theorem dX0_heldOf_80 : decode cX0_heldOf 80 = .ok (.aload_n 0, 1) := dk_42 (dk_at dksX0_heldOf_3 20 rfl rfl)
theorem dX0_heldOf_81 : decode cX0_heldOf 81 = .ok (.getfield 10, 3) := dk_180 0 10 (dk_at dksX0_heldOf_3 21 rfl rfl)
theorem dX0_heldOf_84 : decode cX0_heldOf 84 = .ok (.getfield 224, 3) := dk_180 0 224 (dk_at dksX0_heldOf_4 0 rfl rfl)
theorem dX0_heldOf_87 : decode cX0_heldOf 87 = .ok (.aload_n 1, 1) := dk_43 (dk_at dksX0_heldOf_4 3 rfl rfl)
theorem dX0_heldOf_88 : decode cX0_heldOf 88 = .ok (.getfield 413, 3) := dk_180 1 157 (dk_at dksX0_heldOf_4 4 rfl rfl)
theorem dX0_heldOf_91 : decode cX0_heldOf 91 = .ok (.aaload, 1) := dk_50 (dk_at dksX0_heldOf_4 7 rfl rfl)
theorem dX0_heldOf_92 : decode cX0_heldOf 92 = .ok (.invokevirtual 425, 3) := dk_182 1 169 (dk_at dksX0_heldOf_4 8 rfl rfl)
theorem dX0_heldOf_95 : decode cX0_heldOf 95 = .ok (.invokespecial 428, 3) := dk_183 1 172 (dk_at dksX0_heldOf_4 11 rfl rfl)
theorem dX0_heldOf_98 : decode cX0_heldOf 98 = .ok (.goto 4, 3) := dk_167 0 4 (dk_at dksX0_heldOf_4 14 rfl rfl)
theorem dX0_heldOf_101 : decode cX0_heldOf 101 = .ok (.aconst_null, 1) := dk_1 (dk_at dksX0_heldOf_4 17 rfl rfl)
theorem dX0_heldOf_102 : decode cX0_heldOf 102 = .ok (.areturn, 1) := dk_176 (dk_at dksX0_heldOf_4 18 rfl rfl)
theorem dX0_heldOf_103 : decode cX0_heldOf 103 = .ok (.aload_n 0, 1) := dk_42 (dk_at dksX0_heldOf_4 19 rfl rfl)
theorem dX0_heldOf_104 : decode cX0_heldOf 104 = .ok (.getfield 10, 3) := dk_180 0 10 (dk_at dksX0_heldOf_4 20 rfl rfl)
theorem dX0_heldOf_107 : decode cX0_heldOf 107 = .ok (.getfield 107, 3) := dk_180 0 107 (dk_at dksX0_heldOf_5 0 rfl rfl)
theorem dX0_heldOf_110 : decode cX0_heldOf 110 = .ok (.ifCond .le 34, 3) := dk_158 0 34 (dk_at dksX0_heldOf_5 3 rfl rfl)
theorem dX0_heldOf_113 : decode cX0_heldOf 113 = .ok (.new 429, 3) := dk_187 1 173 (dk_at dksX0_heldOf_5 6 rfl rfl)
theorem dX0_heldOf_116 : decode cX0_heldOf 116 = .ok (.dup, 1) := dk_89 (dk_at dksX0_heldOf_5 9 rfl rfl)
theorem dX0_heldOf_117 : decode cX0_heldOf 117 = .ok (.aload_n 0, 1) := dk_42 (dk_at dksX0_heldOf_5 10 rfl rfl)
theorem dX0_heldOf_118 : decode cX0_heldOf 118 = .ok (.aload_n 0, 1) := dk_42 (dk_at dksX0_heldOf_5 11 rfl rfl)
theorem dX0_heldOf_119 : decode cX0_heldOf 119 = .ok (.getfield 10, 3) := dk_180 0 10 (dk_at dksX0_heldOf_5 12 rfl rfl)
theorem dX0_heldOf_122 : decode cX0_heldOf 122 = .ok (.getfield 127, 3) := dk_180 0 127 (dk_at dksX0_heldOf_5 15 rfl rfl)
theorem dX0_heldOf_125 : decode cX0_heldOf 125 = .ok (.getfield 153, 3) := dk_180 0 153 (dk_at dksX0_heldOf_5 18 rfl rfl)
theorem dX0_heldOf_128 : decode cX0_heldOf 128 = .ok (.aload_n 0, 1) := dk_42 (dk_at dksX0_heldOf_5 21 rfl rfl)
theorem dX0_heldOf_129 : decode cX0_heldOf 129 = .ok (.getfield 10, 3) := dk_180 0 10 (dk_at dksX0_heldOf_6 0 rfl rfl)
theorem dX0_heldOf_132 : decode cX0_heldOf 132 = .ok (.getfield 127, 3) := dk_180 0 127 (dk_at dksX0_heldOf_6 3 rfl rfl)
theorem dX0_heldOf_135 : decode cX0_heldOf 135 = .ok (.getfield 156, 3) := dk_180 0 156 (dk_at dksX0_heldOf_6 6 rfl rfl)
theorem dX0_heldOf_138 : decode cX0_heldOf 138 = .ok (.invokespecial 431, 3) := dk_183 1 175 (dk_at dksX0_heldOf_6 9 rfl rfl)
theorem dX0_heldOf_141 : decode cX0_heldOf 141 = .ok (.goto 4, 3) := dk_167 0 4 (dk_at dksX0_heldOf_6 12 rfl rfl)
theorem dX0_heldOf_144 : decode cX0_heldOf 144 = .ok (.aconst_null, 1) := dk_1 (dk_at dksX0_heldOf_6 15 rfl rfl)
theorem dX0_heldOf_145 : decode cX0_heldOf 145 = .ok (.areturn, 1) := dk_176 (dk_at dksX0_heldOf_6 16 rfl rfl)
theorem dX0_heldOf_146 : decode cX0_heldOf 146 = .ok (.aload_n 1, 1) := dk_43 (dk_at dksX0_heldOf_6 17 rfl rfl)
theorem dX0_heldOf_147 : decode cX0_heldOf 147 = .ok (.getfield 432, 3) := dk_180 1 176 (dk_at dksX0_heldOf_6 18 rfl rfl)
theorem dX0_heldOf_150 : decode cX0_heldOf 150 = .ok (.areturn, 1) := dk_176 (dk_at dksX0_heldOf_6 21 rfl rfl)
theorem dX0_heldOf_151 : decode cX0_heldOf 151 = .ok (.aconst_null, 1) := dk_1 (dk_at dksX0_heldOf_6 22 rfl rfl)
theorem dX0_heldOf_152 : decode cX0_heldOf 152 = .ok (.areturn, 1) := dk_176 (dk_at dksX0_heldOf_6 23 rfl rfl)
abbrev cX0_patchThing : ByteArray := prog_1_method_71_code
def yX0_patchThing : MethodName := ⟨RX0, "patchThing", "(I)LHungryHedge$Tells;"⟩
def dkwX0_patchThing_3 : List UInt8 := [187, 1, 148, 89, 42, 27, 28, 183, 1, 150, 176, 187, 1, 151, 89, 42, 27, 28, 183, 1, 153, 176]
abbrev dktX0_patchThing_3 : List UInt8 := dkwX0_patchThing_3 ++ []
def dkwX0_patchThing_2 : List UInt8 := [187, 1, 140, 89, 42, 27, 28, 183, 1, 142, 176, 187, 1, 145, 89, 42, 27, 28, 183, 1, 147, 176]
abbrev dktX0_patchThing_2 : List UInt8 := dkwX0_patchThing_2 ++ dktX0_patchThing_3
def dkwX0_patchThing_1 : List UInt8 := [170, 0, 0, 0, 0, 59, 0, 0, 0, 1, 0, 0, 0, 3, 0, 0, 0, 26, 0, 0, 0, 37, 0, 0, 0, 48]
abbrev dktX0_patchThing_1 : List UInt8 := dkwX0_patchThing_1 ++ dktX0_patchThing_2
def dkwX0_patchThing_0 : List UInt8 := [42, 180, 0, 10, 180, 0, 127, 180, 0, 130, 27, 46, 61, 42, 180, 0, 10, 180, 0, 115, 27, 46]
abbrev dktX0_patchThing_0 : List UInt8 := dkwX0_patchThing_0 ++ dktX0_patchThing_1
theorem dksX0_patchThing_0 : cX0_patchThing.data.toList.drop 0 = dktX0_patchThing_0 := by decide +kernel
theorem dksX0_patchThing_1 : cX0_patchThing.data.toList.drop 22 = dktX0_patchThing_1 := dk_seg dksX0_patchThing_0 22 rfl rfl
theorem dksX0_patchThing_2 : cX0_patchThing.data.toList.drop 48 = dktX0_patchThing_2 := dk_seg dksX0_patchThing_1 26 rfl rfl
theorem dksX0_patchThing_3 : cX0_patchThing.data.toList.drop 70 = dktX0_patchThing_3 := dk_seg dksX0_patchThing_2 22 rfl rfl
theorem dX0_patchThing_0 : decode cX0_patchThing 0 = .ok (.aload_n 0, 1) := dk_42 (dk_at dksX0_patchThing_0 0 rfl rfl)
theorem dX0_patchThing_1 : decode cX0_patchThing 1 = .ok (.getfield 10, 3) := dk_180 0 10 (dk_at dksX0_patchThing_0 1 rfl rfl)
theorem dX0_patchThing_4 : decode cX0_patchThing 4 = .ok (.getfield 127, 3) := dk_180 0 127 (dk_at dksX0_patchThing_0 4 rfl rfl)
theorem dX0_patchThing_7 : decode cX0_patchThing 7 = .ok (.getfield 130, 3) := dk_180 0 130 (dk_at dksX0_patchThing_0 7 rfl rfl)
theorem dX0_patchThing_10 : decode cX0_patchThing 10 = .ok (.iload_n 1, 1) := dk_27 (dk_at dksX0_patchThing_0 10 rfl rfl)
theorem dX0_patchThing_11 : decode cX0_patchThing 11 = .ok (.iaload, 1) := dk_46 (dk_at dksX0_patchThing_0 11 rfl rfl)
theorem dX0_patchThing_12 : decode cX0_patchThing 12 = .ok (.istore_n 2, 1) := dk_61 (dk_at dksX0_patchThing_0 12 rfl rfl)
theorem dX0_patchThing_13 : decode cX0_patchThing 13 = .ok (.aload_n 0, 1) := dk_42 (dk_at dksX0_patchThing_0 13 rfl rfl)
theorem dX0_patchThing_14 : decode cX0_patchThing 14 = .ok (.getfield 10, 3) := dk_180 0 10 (dk_at dksX0_patchThing_0 14 rfl rfl)
theorem dX0_patchThing_17 : decode cX0_patchThing 17 = .ok (.getfield 115, 3) := dk_180 0 115 (dk_at dksX0_patchThing_0 17 rfl rfl)
theorem dX0_patchThing_20 : decode cX0_patchThing 20 = .ok (.iload_n 1, 1) := dk_27 (dk_at dksX0_patchThing_0 20 rfl rfl)
theorem dX0_patchThing_21 : decode cX0_patchThing 21 = .ok (.iaload, 1) := dk_46 (dk_at dksX0_patchThing_0 21 rfl rfl)
theorem dX0_patchThing_22 : decode cX0_patchThing 22 = .ok (.tableswitch 59 1 3 #[26, 37, 48], 26) := by decide +kernel
theorem dX0_patchThing_48 : decode cX0_patchThing 48 = .ok (.new 396, 3) := dk_187 1 140 (dk_at dksX0_patchThing_2 0 rfl rfl)
theorem dX0_patchThing_51 : decode cX0_patchThing 51 = .ok (.dup, 1) := dk_89 (dk_at dksX0_patchThing_2 3 rfl rfl)
theorem dX0_patchThing_52 : decode cX0_patchThing 52 = .ok (.aload_n 0, 1) := dk_42 (dk_at dksX0_patchThing_2 4 rfl rfl)
theorem dX0_patchThing_53 : decode cX0_patchThing 53 = .ok (.iload_n 1, 1) := dk_27 (dk_at dksX0_patchThing_2 5 rfl rfl)
theorem dX0_patchThing_54 : decode cX0_patchThing 54 = .ok (.iload_n 2, 1) := dk_28 (dk_at dksX0_patchThing_2 6 rfl rfl)
theorem dX0_patchThing_55 : decode cX0_patchThing 55 = .ok (.invokespecial 398, 3) := dk_183 1 142 (dk_at dksX0_patchThing_2 7 rfl rfl)
theorem dX0_patchThing_58 : decode cX0_patchThing 58 = .ok (.areturn, 1) := dk_176 (dk_at dksX0_patchThing_2 10 rfl rfl)
theorem dX0_patchThing_59 : decode cX0_patchThing 59 = .ok (.new 401, 3) := dk_187 1 145 (dk_at dksX0_patchThing_2 11 rfl rfl)
theorem dX0_patchThing_62 : decode cX0_patchThing 62 = .ok (.dup, 1) := dk_89 (dk_at dksX0_patchThing_2 14 rfl rfl)
theorem dX0_patchThing_63 : decode cX0_patchThing 63 = .ok (.aload_n 0, 1) := dk_42 (dk_at dksX0_patchThing_2 15 rfl rfl)
theorem dX0_patchThing_64 : decode cX0_patchThing 64 = .ok (.iload_n 1, 1) := dk_27 (dk_at dksX0_patchThing_2 16 rfl rfl)
theorem dX0_patchThing_65 : decode cX0_patchThing 65 = .ok (.iload_n 2, 1) := dk_28 (dk_at dksX0_patchThing_2 17 rfl rfl)
theorem dX0_patchThing_66 : decode cX0_patchThing 66 = .ok (.invokespecial 403, 3) := dk_183 1 147 (dk_at dksX0_patchThing_2 18 rfl rfl)
theorem dX0_patchThing_69 : decode cX0_patchThing 69 = .ok (.areturn, 1) := dk_176 (dk_at dksX0_patchThing_2 21 rfl rfl)
theorem dX0_patchThing_70 : decode cX0_patchThing 70 = .ok (.new 404, 3) := dk_187 1 148 (dk_at dksX0_patchThing_3 0 rfl rfl)
theorem dX0_patchThing_73 : decode cX0_patchThing 73 = .ok (.dup, 1) := dk_89 (dk_at dksX0_patchThing_3 3 rfl rfl)
theorem dX0_patchThing_74 : decode cX0_patchThing 74 = .ok (.aload_n 0, 1) := dk_42 (dk_at dksX0_patchThing_3 4 rfl rfl)
theorem dX0_patchThing_75 : decode cX0_patchThing 75 = .ok (.iload_n 1, 1) := dk_27 (dk_at dksX0_patchThing_3 5 rfl rfl)
theorem dX0_patchThing_76 : decode cX0_patchThing 76 = .ok (.iload_n 2, 1) := dk_28 (dk_at dksX0_patchThing_3 6 rfl rfl)
theorem dX0_patchThing_77 : decode cX0_patchThing 77 = .ok (.invokespecial 406, 3) := dk_183 1 150 (dk_at dksX0_patchThing_3 7 rfl rfl)
theorem dX0_patchThing_80 : decode cX0_patchThing 80 = .ok (.areturn, 1) := dk_176 (dk_at dksX0_patchThing_3 10 rfl rfl)
theorem dX0_patchThing_81 : decode cX0_patchThing 81 = .ok (.new 407, 3) := dk_187 1 151 (dk_at dksX0_patchThing_3 11 rfl rfl)
theorem dX0_patchThing_84 : decode cX0_patchThing 84 = .ok (.dup, 1) := dk_89 (dk_at dksX0_patchThing_3 14 rfl rfl)
theorem dX0_patchThing_85 : decode cX0_patchThing 85 = .ok (.aload_n 0, 1) := dk_42 (dk_at dksX0_patchThing_3 15 rfl rfl)
theorem dX0_patchThing_86 : decode cX0_patchThing 86 = .ok (.iload_n 1, 1) := dk_27 (dk_at dksX0_patchThing_3 16 rfl rfl)
theorem dX0_patchThing_87 : decode cX0_patchThing 87 = .ok (.iload_n 2, 1) := dk_28 (dk_at dksX0_patchThing_3 17 rfl rfl)
theorem dX0_patchThing_88 : decode cX0_patchThing 88 = .ok (.invokespecial 409, 3) := dk_183 1 153 (dk_at dksX0_patchThing_3 18 rfl rfl)
theorem dX0_patchThing_91 : decode cX0_patchThing 91 = .ok (.areturn, 1) := dk_176 (dk_at dksX0_patchThing_3 21 rfl rfl)
abbrev cX0_castTo : ByteArray := prog_1_method_75_code
def yX0_castTo : MethodName := ⟨RX0, "castTo", "(Ljava/lang/Object;I)I"⟩
def dkwX0_castTo_4 : List UInt8 := [42, 192, 1, 173, 182, 1, 192, 172, 42, 27, 184, 1, 193, 172]
abbrev dktX0_castTo_4 : List UInt8 := dkwX0_castTo_4 ++ []
def dkwX0_castTo_3 : List UInt8 := [42, 192, 1, 148, 182, 1, 189, 172, 42, 192, 1, 151, 182, 1, 190, 172, 42, 192, 1, 167, 182, 1, 191, 172]
abbrev dktX0_castTo_3 : List UInt8 := dkwX0_castTo_3 ++ dktX0_castTo_4
def dkwX0_castTo_2 : List UInt8 := [42, 192, 1, 182, 182, 1, 184, 172, 42, 192, 1, 140, 182, 1, 187, 172, 42, 192, 1, 145, 182, 1, 188, 172]
abbrev dktX0_castTo_2 : List UInt8 := dkwX0_castTo_2 ++ dktX0_castTo_3
def dkwX0_castTo_1 : List UInt8 := [170, 0, 0, 0, 0, 0, 99, 0, 0, 0, 0, 0, 0, 0, 6, 0, 0, 0, 43, 0, 0, 0, 51, 0, 0, 0, 59, 0, 0, 0, 67, 0, 0, 0, 75, 0, 0, 0, 83, 0, 0, 0, 91]
abbrev dktX0_castTo_1 : List UInt8 := dkwX0_castTo_1 ++ dktX0_castTo_2
def dkwX0_castTo_0 : List UInt8 := [27]
abbrev dktX0_castTo_0 : List UInt8 := dkwX0_castTo_0 ++ dktX0_castTo_1
theorem dksX0_castTo_0 : cX0_castTo.data.toList.drop 0 = dktX0_castTo_0 := by decide +kernel
theorem dksX0_castTo_1 : cX0_castTo.data.toList.drop 1 = dktX0_castTo_1 := dk_seg dksX0_castTo_0 1 rfl rfl
theorem dksX0_castTo_2 : cX0_castTo.data.toList.drop 44 = dktX0_castTo_2 := dk_seg dksX0_castTo_1 43 rfl rfl
theorem dksX0_castTo_3 : cX0_castTo.data.toList.drop 68 = dktX0_castTo_3 := dk_seg dksX0_castTo_2 24 rfl rfl
theorem dksX0_castTo_4 : cX0_castTo.data.toList.drop 92 = dktX0_castTo_4 := dk_seg dksX0_castTo_3 24 rfl rfl
theorem dX0_castTo_0 : decode cX0_castTo 0 = .ok (.iload_n 1, 1) := dk_27 (dk_at dksX0_castTo_0 0 rfl rfl)
theorem dX0_castTo_1 : decode cX0_castTo 1 = .ok (.tableswitch 99 0 6 #[43, 51, 59, 67, 75, 83, 91], 43) := by decide +kernel
theorem dX0_castTo_44 : decode cX0_castTo 44 = .ok (.aload_n 0, 1) := dk_42 (dk_at dksX0_castTo_2 0 rfl rfl)
theorem dX0_castTo_45 : decode cX0_castTo 45 = .ok (.checkcast 438, 3) := dk_192 1 182 (dk_at dksX0_castTo_2 1 rfl rfl)
theorem dX0_castTo_48 : decode cX0_castTo 48 = .ok (.invokevirtual 440, 3) := dk_182 1 184 (dk_at dksX0_castTo_2 4 rfl rfl)
theorem dX0_castTo_51 : decode cX0_castTo 51 = .ok (.ireturn, 1) := dk_172 (dk_at dksX0_castTo_2 7 rfl rfl)
theorem dX0_castTo_52 : decode cX0_castTo 52 = .ok (.aload_n 0, 1) := dk_42 (dk_at dksX0_castTo_2 8 rfl rfl)
theorem dX0_castTo_53 : decode cX0_castTo 53 = .ok (.checkcast 396, 3) := dk_192 1 140 (dk_at dksX0_castTo_2 9 rfl rfl)
theorem dX0_castTo_56 : decode cX0_castTo 56 = .ok (.invokevirtual 443, 3) := dk_182 1 187 (dk_at dksX0_castTo_2 12 rfl rfl)
theorem dX0_castTo_59 : decode cX0_castTo 59 = .ok (.ireturn, 1) := dk_172 (dk_at dksX0_castTo_2 15 rfl rfl)
theorem dX0_castTo_60 : decode cX0_castTo 60 = .ok (.aload_n 0, 1) := dk_42 (dk_at dksX0_castTo_2 16 rfl rfl)
theorem dX0_castTo_61 : decode cX0_castTo 61 = .ok (.checkcast 401, 3) := dk_192 1 145 (dk_at dksX0_castTo_2 17 rfl rfl)
theorem dX0_castTo_64 : decode cX0_castTo 64 = .ok (.invokevirtual 444, 3) := dk_182 1 188 (dk_at dksX0_castTo_2 20 rfl rfl)
theorem dX0_castTo_67 : decode cX0_castTo 67 = .ok (.ireturn, 1) := dk_172 (dk_at dksX0_castTo_2 23 rfl rfl)
theorem dX0_castTo_68 : decode cX0_castTo 68 = .ok (.aload_n 0, 1) := dk_42 (dk_at dksX0_castTo_3 0 rfl rfl)
theorem dX0_castTo_69 : decode cX0_castTo 69 = .ok (.checkcast 404, 3) := dk_192 1 148 (dk_at dksX0_castTo_3 1 rfl rfl)
theorem dX0_castTo_72 : decode cX0_castTo 72 = .ok (.invokevirtual 445, 3) := dk_182 1 189 (dk_at dksX0_castTo_3 4 rfl rfl)
theorem dX0_castTo_75 : decode cX0_castTo 75 = .ok (.ireturn, 1) := dk_172 (dk_at dksX0_castTo_3 7 rfl rfl)
theorem dX0_castTo_76 : decode cX0_castTo 76 = .ok (.aload_n 0, 1) := dk_42 (dk_at dksX0_castTo_3 8 rfl rfl)
theorem dX0_castTo_77 : decode cX0_castTo 77 = .ok (.checkcast 407, 3) := dk_192 1 151 (dk_at dksX0_castTo_3 9 rfl rfl)
theorem dX0_castTo_80 : decode cX0_castTo 80 = .ok (.invokevirtual 446, 3) := dk_182 1 190 (dk_at dksX0_castTo_3 12 rfl rfl)
theorem dX0_castTo_83 : decode cX0_castTo 83 = .ok (.ireturn, 1) := dk_172 (dk_at dksX0_castTo_3 15 rfl rfl)
theorem dX0_castTo_84 : decode cX0_castTo 84 = .ok (.aload_n 0, 1) := dk_42 (dk_at dksX0_castTo_3 16 rfl rfl)
theorem dX0_castTo_85 : decode cX0_castTo 85 = .ok (.checkcast 423, 3) := dk_192 1 167 (dk_at dksX0_castTo_3 17 rfl rfl)
theorem dX0_castTo_88 : decode cX0_castTo 88 = .ok (.invokevirtual 447, 3) := dk_182 1 191 (dk_at dksX0_castTo_3 20 rfl rfl)
theorem dX0_castTo_91 : decode cX0_castTo 91 = .ok (.ireturn, 1) := dk_172 (dk_at dksX0_castTo_3 23 rfl rfl)
theorem dX0_castTo_92 : decode cX0_castTo 92 = .ok (.aload_n 0, 1) := dk_42 (dk_at dksX0_castTo_4 0 rfl rfl)
theorem dX0_castTo_93 : decode cX0_castTo 93 = .ok (.checkcast 429, 3) := dk_192 1 173 (dk_at dksX0_castTo_4 1 rfl rfl)
theorem dX0_castTo_96 : decode cX0_castTo 96 = .ok (.invokevirtual 448, 3) := dk_182 1 192 (dk_at dksX0_castTo_4 4 rfl rfl)
theorem dX0_castTo_99 : decode cX0_castTo 99 = .ok (.ireturn, 1) := dk_172 (dk_at dksX0_castTo_4 7 rfl rfl)
theorem dX0_castTo_100 : decode cX0_castTo 100 = .ok (.aload_n 0, 1) := dk_42 (dk_at dksX0_castTo_4 8 rfl rfl)
theorem dX0_castTo_101 : decode cX0_castTo 101 = .ok (.iload_n 1, 1) := dk_27 (dk_at dksX0_castTo_4 9 rfl rfl)
theorem dX0_castTo_102 : decode cX0_castTo 102 = .ok (.invokestatic 449, 3) := dk_184 1 193 (dk_at dksX0_castTo_4 10 rfl rfl)
theorem dX0_castTo_105 : decode cX0_castTo 105 = .ok (.ireturn, 1) := dk_172 (dk_at dksX0_castTo_4 13 rfl rfl)
abbrev cX0_rowAs : ByteArray := prog_1_method_74_code
def yX0_rowAs : MethodName := ⟨RX0, "rowAs", "(Ljava/lang/Object;I)I"⟩
def dkwX0_rowAs_2 : List UInt8 := [42, 192, 1, 0, 190, 172, 42, 192, 0, 248, 190, 172, 42, 192, 1, 94, 190, 172, 42, 192, 1, 92, 190, 172]
abbrev dktX0_rowAs_2 : List UInt8 := dkwX0_rowAs_2 ++ []
def dkwX0_rowAs_1 : List UInt8 := [170, 0, 0, 0, 0, 0, 45, 0, 0, 0, 10, 0, 0, 0, 12, 0, 0, 0, 27, 0, 0, 0, 33, 0, 0, 0, 39]
abbrev dktX0_rowAs_1 : List UInt8 := dkwX0_rowAs_1 ++ dktX0_rowAs_2
def dkwX0_rowAs_0 : List UInt8 := [27]
abbrev dktX0_rowAs_0 : List UInt8 := dkwX0_rowAs_0 ++ dktX0_rowAs_1
theorem dksX0_rowAs_0 : cX0_rowAs.data.toList.drop 0 = dktX0_rowAs_0 := by decide +kernel
theorem dksX0_rowAs_1 : cX0_rowAs.data.toList.drop 1 = dktX0_rowAs_1 := dk_seg dksX0_rowAs_0 1 rfl rfl
theorem dksX0_rowAs_2 : cX0_rowAs.data.toList.drop 28 = dktX0_rowAs_2 := dk_seg dksX0_rowAs_1 27 rfl rfl
theorem dX0_rowAs_0 : decode cX0_rowAs 0 = .ok (.iload_n 1, 1) := dk_27 (dk_at dksX0_rowAs_0 0 rfl rfl)
theorem dX0_rowAs_1 : decode cX0_rowAs 1 = .ok (.tableswitch 45 10 12 #[27, 33, 39], 27) := by decide +kernel
theorem dX0_rowAs_28 : decode cX0_rowAs 28 = .ok (.aload_n 0, 1) := dk_42 (dk_at dksX0_rowAs_2 0 rfl rfl)
theorem dX0_rowAs_29 : decode cX0_rowAs 29 = .ok (.checkcast 256, 3) := dk_192 1 0 (dk_at dksX0_rowAs_2 1 rfl rfl)
theorem dX0_rowAs_32 : decode cX0_rowAs 32 = .ok (.arraylength, 1) := dk_190 (dk_at dksX0_rowAs_2 4 rfl rfl)
theorem dX0_rowAs_33 : decode cX0_rowAs 33 = .ok (.ireturn, 1) := dk_172 (dk_at dksX0_rowAs_2 5 rfl rfl)
theorem dX0_rowAs_34 : decode cX0_rowAs 34 = .ok (.aload_n 0, 1) := dk_42 (dk_at dksX0_rowAs_2 6 rfl rfl)
theorem dX0_rowAs_35 : decode cX0_rowAs 35 = .ok (.checkcast 248, 3) := dk_192 0 248 (dk_at dksX0_rowAs_2 7 rfl rfl)
theorem dX0_rowAs_38 : decode cX0_rowAs 38 = .ok (.arraylength, 1) := dk_190 (dk_at dksX0_rowAs_2 10 rfl rfl)
theorem dX0_rowAs_39 : decode cX0_rowAs 39 = .ok (.ireturn, 1) := dk_172 (dk_at dksX0_rowAs_2 11 rfl rfl)
theorem dX0_rowAs_40 : decode cX0_rowAs 40 = .ok (.aload_n 0, 1) := dk_42 (dk_at dksX0_rowAs_2 12 rfl rfl)
theorem dX0_rowAs_41 : decode cX0_rowAs 41 = .ok (.checkcast 350, 3) := dk_192 1 94 (dk_at dksX0_rowAs_2 13 rfl rfl)
theorem dX0_rowAs_44 : decode cX0_rowAs 44 = .ok (.arraylength, 1) := dk_190 (dk_at dksX0_rowAs_2 16 rfl rfl)
theorem dX0_rowAs_45 : decode cX0_rowAs 45 = .ok (.ireturn, 1) := dk_172 (dk_at dksX0_rowAs_2 17 rfl rfl)
theorem dX0_rowAs_46 : decode cX0_rowAs 46 = .ok (.aload_n 0, 1) := dk_42 (dk_at dksX0_rowAs_2 18 rfl rfl)
theorem dX0_rowAs_47 : decode cX0_rowAs 47 = .ok (.checkcast 348, 3) := dk_192 1 92 (dk_at dksX0_rowAs_2 19 rfl rfl)
theorem dX0_rowAs_50 : decode cX0_rowAs 50 = .ok (.arraylength, 1) := dk_190 (dk_at dksX0_rowAs_2 22 rfl rfl)
theorem dX0_rowAs_51 : decode cX0_rowAs 51 = .ok (.ireturn, 1) := dk_172 (dk_at dksX0_rowAs_2 23 rfl rfl)
abbrev cX0_act : ByteArray := prog_1_method_78_code
def yX0_act : MethodName := ⟨RX0, "act", "(III)I"⟩
def dkwX0_act_2 : List UInt8 := [192, 1, 205, 28, 29, 184, 1, 218, 172, 58, 5, 16, 241, 172]
abbrev dktX0_act_2 : List UInt8 := dkwX0_act_2 ++ []
def dkwX0_act_1 : List UInt8 := [42, 180, 0, 103, 27, 50, 182, 1, 197, 58, 4, 25, 4, 193, 1, 205, 154, 0, 5, 3, 172, 25, 4]
abbrev dktX0_act_1 : List UInt8 := dkwX0_act_1 ++ dktX0_act_2
def dkwX0_act_0 : List UInt8 := [42, 3, 181, 1, 137, 27, 184, 1, 179, 153, 0, 12, 28, 3, 6, 184, 0, 111, 154, 0, 5, 3, 172, 42]
abbrev dktX0_act_0 : List UInt8 := dkwX0_act_0 ++ dktX0_act_1
theorem dksX0_act_0 : cX0_act.data.toList.drop 0 = dktX0_act_0 := by decide +kernel
theorem dksX0_act_1 : cX0_act.data.toList.drop 24 = dktX0_act_1 := dk_seg dksX0_act_0 24 rfl rfl
theorem dksX0_act_2 : cX0_act.data.toList.drop 47 = dktX0_act_2 := dk_seg dksX0_act_1 23 rfl rfl
theorem dX0_act_0 : decode cX0_act 0 = .ok (.aload_n 0, 1) := dk_42 (dk_at dksX0_act_0 0 rfl rfl)
theorem dX0_act_1 : decode cX0_act 1 = .ok (.iconst 0, 1) := dk_3 (dk_at dksX0_act_0 1 rfl rfl)
theorem dX0_act_2 : decode cX0_act 2 = .ok (.putfield 393, 3) := dk_181 1 137 (dk_at dksX0_act_0 2 rfl rfl)
theorem dX0_act_5 : decode cX0_act 5 = .ok (.iload_n 1, 1) := dk_27 (dk_at dksX0_act_0 5 rfl rfl)
theorem dX0_act_6 : decode cX0_act 6 = .ok (.invokestatic 435, 3) := dk_184 1 179 (dk_at dksX0_act_0 6 rfl rfl)
theorem dX0_act_9 : decode cX0_act 9 = .ok (.ifCond .eq 12, 3) := dk_153 0 12 (dk_at dksX0_act_0 9 rfl rfl)
theorem dX0_act_12 : decode cX0_act 12 = .ok (.iload_n 2, 1) := dk_28 (dk_at dksX0_act_0 12 rfl rfl)
theorem dX0_act_13 : decode cX0_act 13 = .ok (.iconst 0, 1) := dk_3 (dk_at dksX0_act_0 13 rfl rfl)
theorem dX0_act_14 : decode cX0_act 14 = .ok (.iconst 3, 1) := dk_6 (dk_at dksX0_act_0 14 rfl rfl)
theorem dX0_act_15 : decode cX0_act 15 = .ok (.invokestatic 111, 3) := dk_184 0 111 (dk_at dksX0_act_0 15 rfl rfl)
theorem dX0_act_18 : decode cX0_act 18 = .ok (.ifCond .ne 5, 3) := dk_154 0 5 (dk_at dksX0_act_0 18 rfl rfl)
theorem dX0_act_21 : decode cX0_act 21 = .ok (.iconst 0, 1) := dk_3 (dk_at dksX0_act_0 21 rfl rfl)
theorem dX0_act_22 : decode cX0_act 22 = .ok (.ireturn, 1) := dk_172 (dk_at dksX0_act_0 22 rfl rfl)
theorem dX0_act_23 : decode cX0_act 23 = .ok (.aload_n 0, 1) := dk_42 (dk_at dksX0_act_0 23 rfl rfl)
theorem dX0_act_24 : decode cX0_act 24 = .ok (.aload_n 0, 1) := dk_42 (dk_at dksX0_act_1 0 rfl rfl)
theorem dX0_act_25 : decode cX0_act 25 = .ok (.getfield 103, 3) := dk_180 0 103 (dk_at dksX0_act_1 1 rfl rfl)
theorem dX0_act_28 : decode cX0_act 28 = .ok (.iload_n 1, 1) := dk_27 (dk_at dksX0_act_1 4 rfl rfl)
theorem dX0_act_29 : decode cX0_act 29 = .ok (.aaload, 1) := dk_50 (dk_at dksX0_act_1 5 rfl rfl)
theorem dX0_act_30 : decode cX0_act 30 = .ok (.invokevirtual 453, 3) := dk_182 1 197 (dk_at dksX0_act_1 6 rfl rfl)
theorem dX0_act_33 : decode cX0_act 33 = .ok (.astore 4, 2) := dk_58 4 (dk_at dksX0_act_1 9 rfl rfl)
theorem dX0_act_35 : decode cX0_act 35 = .ok (.aload 4, 2) := dk_25 4 (dk_at dksX0_act_1 11 rfl rfl)
theorem dX0_act_37 : decode cX0_act 37 = .ok (.instanceof 461, 3) := dk_193 1 205 (dk_at dksX0_act_1 13 rfl rfl)
theorem dX0_act_40 : decode cX0_act 40 = .ok (.ifCond .ne 5, 3) := dk_154 0 5 (dk_at dksX0_act_1 16 rfl rfl)
theorem dX0_act_43 : decode cX0_act 43 = .ok (.iconst 0, 1) := dk_3 (dk_at dksX0_act_1 19 rfl rfl)
theorem dX0_act_44 : decode cX0_act 44 = .ok (.ireturn, 1) := dk_172 (dk_at dksX0_act_1 20 rfl rfl)
theorem dX0_act_45 : decode cX0_act 45 = .ok (.aload 4, 2) := dk_25 4 (dk_at dksX0_act_1 21 rfl rfl)
theorem dX0_act_47 : decode cX0_act 47 = .ok (.checkcast 461, 3) := dk_192 1 205 (dk_at dksX0_act_2 0 rfl rfl)
theorem dX0_act_50 : decode cX0_act 50 = .ok (.iload_n 2, 1) := dk_28 (dk_at dksX0_act_2 3 rfl rfl)
theorem dX0_act_51 : decode cX0_act 51 = .ok (.iload_n 3, 1) := dk_29 (dk_at dksX0_act_2 4 rfl rfl)
theorem dX0_act_52 : decode cX0_act 52 = .ok (.invokestatic 474, 3) := dk_184 1 218 (dk_at dksX0_act_2 5 rfl rfl)
theorem dX0_act_55 : decode cX0_act 55 = .ok (.ireturn, 1) := dk_172 (dk_at dksX0_act_2 8 rfl rfl)
theorem dX0_act_56 : decode cX0_act 56 = .ok (.astore 5, 2) := dk_58 5 (dk_at dksX0_act_2 9 rfl rfl)
theorem dX0_act_58 : decode cX0_act 58 = .ok (.bipush (-15), 2) := dk_16 241 (dk_at dksX0_act_2 11 rfl rfl)
theorem dX0_act_60 : decode cX0_act 60 = .ok (.ireturn, 1) := dk_172 (dk_at dksX0_act_2 13 rfl rfl)
abbrev cX0_acted : ByteArray := prog_1_method_77_code
def yX0_acted : MethodName := ⟨RX0, "acted", "(LHungryHedge$Tells;II)I"⟩
def dkwX0_acted_3 : List UInt8 := [42, 28, 185, 1, 215, 2, 0, 172]
abbrev dktX0_acted_3 : List UInt8 := dkwX0_acted_3 ++ []
def dkwX0_acted_2 : List UInt8 := [42, 28, 185, 1, 204, 2, 0, 172, 42, 28, 185, 1, 209, 2, 0, 172, 42, 28, 185, 1, 212, 2, 0, 172]
abbrev dktX0_acted_2 : List UInt8 := dkwX0_acted_2 ++ dktX0_acted_3
def dkwX0_acted_1 : List UInt8 := [170, 0, 0, 0, 0, 0, 51, 0, 0, 0, 0, 0, 0, 0, 2, 0, 0, 0, 27, 0, 0, 0, 35, 0, 0, 0, 43]
abbrev dktX0_acted_1 : List UInt8 := dkwX0_acted_1 ++ dktX0_acted_2
def dkwX0_acted_0 : List UInt8 := [27]
abbrev dktX0_acted_0 : List UInt8 := dkwX0_acted_0 ++ dktX0_acted_1
theorem dksX0_acted_0 : cX0_acted.data.toList.drop 0 = dktX0_acted_0 := by decide +kernel
theorem dksX0_acted_1 : cX0_acted.data.toList.drop 1 = dktX0_acted_1 := dk_seg dksX0_acted_0 1 rfl rfl
theorem dksX0_acted_2 : cX0_acted.data.toList.drop 28 = dktX0_acted_2 := dk_seg dksX0_acted_1 27 rfl rfl
theorem dksX0_acted_3 : cX0_acted.data.toList.drop 52 = dktX0_acted_3 := dk_seg dksX0_acted_2 24 rfl rfl
theorem dX0_acted_0 : decode cX0_acted 0 = .ok (.iload_n 1, 1) := dk_27 (dk_at dksX0_acted_0 0 rfl rfl)
theorem dX0_acted_1 : decode cX0_acted 1 = .ok (.tableswitch 51 0 2 #[27, 35, 43], 27) := by decide +kernel
theorem dX0_acted_28 : decode cX0_acted 28 = .ok (.aload_n 0, 1) := dk_42 (dk_at dksX0_acted_2 0 rfl rfl)
theorem dX0_acted_29 : decode cX0_acted 29 = .ok (.iload_n 2, 1) := dk_28 (dk_at dksX0_acted_2 1 rfl rfl)
theorem dX0_acted_30 : decode cX0_acted 30 = .ok (.invokeinterface 460 2, 5) := by decide +kernel
theorem dX0_acted_35 : decode cX0_acted 35 = .ok (.ireturn, 1) := dk_172 (dk_at dksX0_acted_2 7 rfl rfl)
theorem dX0_acted_36 : decode cX0_acted 36 = .ok (.aload_n 0, 1) := dk_42 (dk_at dksX0_acted_2 8 rfl rfl)
theorem dX0_acted_37 : decode cX0_acted 37 = .ok (.iload_n 2, 1) := dk_28 (dk_at dksX0_acted_2 9 rfl rfl)
theorem dX0_acted_38 : decode cX0_acted 38 = .ok (.invokeinterface 465 2, 5) := by decide +kernel
theorem dX0_acted_43 : decode cX0_acted 43 = .ok (.ireturn, 1) := dk_172 (dk_at dksX0_acted_2 15 rfl rfl)
theorem dX0_acted_44 : decode cX0_acted 44 = .ok (.aload_n 0, 1) := dk_42 (dk_at dksX0_acted_2 16 rfl rfl)
theorem dX0_acted_45 : decode cX0_acted 45 = .ok (.iload_n 2, 1) := dk_28 (dk_at dksX0_acted_2 17 rfl rfl)
theorem dX0_acted_46 : decode cX0_acted 46 = .ok (.invokeinterface 468 2, 5) := by decide +kernel
theorem dX0_acted_51 : decode cX0_acted 51 = .ok (.ireturn, 1) := dk_172 (dk_at dksX0_acted_2 23 rfl rfl)
theorem dX0_acted_52 : decode cX0_acted 52 = .ok (.aload_n 0, 1) := dk_42 (dk_at dksX0_acted_3 0 rfl rfl)
theorem dX0_acted_53 : decode cX0_acted 53 = .ok (.iload_n 2, 1) := dk_28 (dk_at dksX0_acted_3 1 rfl rfl)
theorem dX0_acted_54 : decode cX0_acted 54 = .ok (.invokeinterface 471 2, 5) := by decide +kernel
theorem dX0_acted_59 : decode cX0_acted 59 = .ok (.ireturn, 1) := dk_172 (dk_at dksX0_acted_3 7 rfl rfl)
abbrev cX0_ran : ByteArray := prog_1_method_68_code
def yX0_ran : MethodName := ⟨RX0, "ran", "(I)V"⟩
def dkwX0_ran_1 : List UInt8 := [4, 96, 181, 1, 137, 177]
abbrev dktX0_ran_1 : List UInt8 := dkwX0_ran_1 ++ []
def dkwX0_ran_0 : List UInt8 := [42, 180, 1, 137, 16, 30, 162, 0, 13, 42, 180, 0, 96, 42, 180, 1, 137, 27, 79, 42, 89, 180, 1, 137]
abbrev dktX0_ran_0 : List UInt8 := dkwX0_ran_0 ++ dktX0_ran_1
theorem dksX0_ran_0 : cX0_ran.data.toList.drop 0 = dktX0_ran_0 := by decide +kernel
theorem dksX0_ran_1 : cX0_ran.data.toList.drop 24 = dktX0_ran_1 := dk_seg dksX0_ran_0 24 rfl rfl
theorem dX0_ran_0 : decode cX0_ran 0 = .ok (.aload_n 0, 1) := dk_42 (dk_at dksX0_ran_0 0 rfl rfl)
theorem dX0_ran_1 : decode cX0_ran 1 = .ok (.getfield 393, 3) := dk_180 1 137 (dk_at dksX0_ran_0 1 rfl rfl)
theorem dX0_ran_4 : decode cX0_ran 4 = .ok (.bipush 30, 2) := dk_16 30 (dk_at dksX0_ran_0 4 rfl rfl)
theorem dX0_ran_6 : decode cX0_ran 6 = .ok (.if_icmp .ge 13, 3) := dk_162 0 13 (dk_at dksX0_ran_0 6 rfl rfl)
theorem dX0_ran_9 : decode cX0_ran 9 = .ok (.aload_n 0, 1) := dk_42 (dk_at dksX0_ran_0 9 rfl rfl)
theorem dX0_ran_10 : decode cX0_ran 10 = .ok (.getfield 96, 3) := dk_180 0 96 (dk_at dksX0_ran_0 10 rfl rfl)
theorem dX0_ran_13 : decode cX0_ran 13 = .ok (.aload_n 0, 1) := dk_42 (dk_at dksX0_ran_0 13 rfl rfl)
theorem dX0_ran_14 : decode cX0_ran 14 = .ok (.getfield 393, 3) := dk_180 1 137 (dk_at dksX0_ran_0 14 rfl rfl)
theorem dX0_ran_17 : decode cX0_ran 17 = .ok (.iload_n 1, 1) := dk_27 (dk_at dksX0_ran_0 17 rfl rfl)
theorem dX0_ran_18 : decode cX0_ran 18 = .ok (.iastore, 1) := dk_79 (dk_at dksX0_ran_0 18 rfl rfl)
theorem dX0_ran_19 : decode cX0_ran 19 = .ok (.aload_n 0, 1) := dk_42 (dk_at dksX0_ran_0 19 rfl rfl)
theorem dX0_ran_20 : decode cX0_ran 20 = .ok (.dup, 1) := dk_89 (dk_at dksX0_ran_0 20 rfl rfl)
theorem dX0_ran_21 : decode cX0_ran 21 = .ok (.getfield 393, 3) := dk_180 1 137 (dk_at dksX0_ran_0 21 rfl rfl)
theorem dX0_ran_24 : decode cX0_ran 24 = .ok (.iconst 1, 1) := dk_4 (dk_at dksX0_ran_1 0 rfl rfl)
theorem dX0_ran_25 : decode cX0_ran 25 = .ok (.iadd, 1) := dk_96 (dk_at dksX0_ran_1 1 rfl rfl)
theorem dX0_ran_26 : decode cX0_ran 26 = .ok (.putfield 393, 3) := dk_181 1 137 (dk_at dksX0_ran_1 2 rfl rfl)
theorem dX0_ran_29 : decode cX0_ran 29 = .ok (.return_, 1) := dk_177 (dk_at dksX0_ran_1 5 rfl rfl)
abbrev cX0_trace : ByteArray := prog_1_method_79_code
def yX0_trace : MethodName := ⟨RX0, "trace", "(I)I"⟩
def dkwX0_trace_1 : List UInt8 := [167, 0, 5, 16, 253, 172]
abbrev dktX0_trace_1 : List UInt8 := dkwX0_trace_1 ++ []
def dkwX0_trace_0 : List UInt8 := [27, 155, 0, 25, 27, 42, 180, 1, 137, 16, 30, 184, 1, 224, 162, 0, 12, 42, 180, 0, 96, 27, 46]
abbrev dktX0_trace_0 : List UInt8 := dkwX0_trace_0 ++ dktX0_trace_1
theorem dksX0_trace_0 : cX0_trace.data.toList.drop 0 = dktX0_trace_0 := by decide +kernel
theorem dksX0_trace_1 : cX0_trace.data.toList.drop 23 = dktX0_trace_1 := dk_seg dksX0_trace_0 23 rfl rfl
theorem dX0_trace_0 : decode cX0_trace 0 = .ok (.iload_n 1, 1) := dk_27 (dk_at dksX0_trace_0 0 rfl rfl)
theorem dX0_trace_1 : decode cX0_trace 1 = .ok (.ifCond .lt 25, 3) := dk_155 0 25 (dk_at dksX0_trace_0 1 rfl rfl)
theorem dX0_trace_4 : decode cX0_trace 4 = .ok (.iload_n 1, 1) := dk_27 (dk_at dksX0_trace_0 4 rfl rfl)
theorem dX0_trace_5 : decode cX0_trace 5 = .ok (.aload_n 0, 1) := dk_42 (dk_at dksX0_trace_0 5 rfl rfl)
theorem dX0_trace_6 : decode cX0_trace 6 = .ok (.getfield 393, 3) := dk_180 1 137 (dk_at dksX0_trace_0 6 rfl rfl)
theorem dX0_trace_9 : decode cX0_trace 9 = .ok (.bipush 30, 2) := dk_16 30 (dk_at dksX0_trace_0 9 rfl rfl)
theorem dX0_trace_11 : decode cX0_trace 11 = .ok (.invokestatic 480, 3) := dk_184 1 224 (dk_at dksX0_trace_0 11 rfl rfl)
theorem dX0_trace_14 : decode cX0_trace 14 = .ok (.if_icmp .ge 12, 3) := dk_162 0 12 (dk_at dksX0_trace_0 14 rfl rfl)
theorem dX0_trace_17 : decode cX0_trace 17 = .ok (.aload_n 0, 1) := dk_42 (dk_at dksX0_trace_0 17 rfl rfl)
theorem dX0_trace_18 : decode cX0_trace 18 = .ok (.getfield 96, 3) := dk_180 0 96 (dk_at dksX0_trace_0 18 rfl rfl)
theorem dX0_trace_21 : decode cX0_trace 21 = .ok (.iload_n 1, 1) := dk_27 (dk_at dksX0_trace_0 21 rfl rfl)
theorem dX0_trace_22 : decode cX0_trace 22 = .ok (.iaload, 1) := dk_46 (dk_at dksX0_trace_0 22 rfl rfl)
theorem dX0_trace_23 : decode cX0_trace 23 = .ok (.goto 5, 3) := dk_167 0 5 (dk_at dksX0_trace_1 0 rfl rfl)
theorem dX0_trace_26 : decode cX0_trace 26 = .ok (.bipush (-3), 2) := dk_16 253 (dk_at dksX0_trace_1 3 rfl rfl)
theorem dX0_trace_28 : decode cX0_trace 28 = .ok (.ireturn, 1) := dk_172 (dk_at dksX0_trace_1 5 rfl rfl)
abbrev cX0_many : ByteArray := prog_1_method_80_code
def yX0_many : MethodName := ⟨RX0, "many", "(I)I"⟩
def dkwX0_many_5 : List UInt8 := [180, 0, 150, 172, 42, 180, 0, 10, 180, 0, 127, 180, 0, 153, 172, 2, 172]
abbrev dktX0_many_5 : List UInt8 := dkwX0_many_5 ++ []
def dkwX0_many_4 : List UInt8 := [180, 0, 127, 180, 0, 147, 172, 42, 180, 0, 10, 180, 0, 127, 180, 0, 156, 172, 42, 180, 0, 10]
abbrev dktX0_many_4 : List UInt8 := dkwX0_many_4 ++ dktX0_many_5
def dkwX0_many_3 : List UInt8 := [42, 180, 1, 78, 172, 42, 180, 1, 25, 172, 42, 180, 1, 137, 16, 30, 184, 1, 224, 172, 42, 180, 0, 10]
abbrev dktX0_many_3 : List UInt8 := dkwX0_many_3 ++ dktX0_many_4
def dkwX0_many_2 : List UInt8 := [42, 180, 0, 10, 180, 0, 107, 172, 42, 180, 0, 10, 180, 0, 221, 172, 42, 180, 0, 10, 180, 1, 45, 172]
abbrev dktX0_many_2 : List UInt8 := dkwX0_many_2 ++ dktX0_many_3
def dkwX0_many_1 : List UInt8 := [170, 0, 0, 0, 0, 0, 140, 0, 0, 0, 0, 0, 0, 0, 9, 0, 0, 0, 55, 0, 0, 0, 63, 0, 0, 0, 71, 0, 0, 0, 79, 0, 0, 0, 84, 0, 0, 0, 89, 0, 0, 0, 99, 0, 0, 0, 110, 0, 0, 0, 121, 0, 0, 0, 129]
abbrev dktX0_many_1 : List UInt8 := dkwX0_many_1 ++ dktX0_many_2
def dkwX0_many_0 : List UInt8 := [27]
abbrev dktX0_many_0 : List UInt8 := dkwX0_many_0 ++ dktX0_many_1
theorem dksX0_many_0 : cX0_many.data.toList.drop 0 = dktX0_many_0 := by decide +kernel
theorem dksX0_many_1 : cX0_many.data.toList.drop 1 = dktX0_many_1 := dk_seg dksX0_many_0 1 rfl rfl
theorem dksX0_many_2 : cX0_many.data.toList.drop 56 = dktX0_many_2 := dk_seg dksX0_many_1 55 rfl rfl
theorem dksX0_many_3 : cX0_many.data.toList.drop 80 = dktX0_many_3 := dk_seg dksX0_many_2 24 rfl rfl
theorem dksX0_many_4 : cX0_many.data.toList.drop 104 = dktX0_many_4 := dk_seg dksX0_many_3 24 rfl rfl
theorem dksX0_many_5 : cX0_many.data.toList.drop 126 = dktX0_many_5 := dk_seg dksX0_many_4 22 rfl rfl
theorem dX0_many_0 : decode cX0_many 0 = .ok (.iload_n 1, 1) := dk_27 (dk_at dksX0_many_0 0 rfl rfl)
theorem dX0_many_1 : decode cX0_many 1 = .ok (.tableswitch 140 0 9 #[55, 63, 71, 79, 84, 89, 99, 110, 121, 129], 55) := by decide +kernel
theorem dX0_many_56 : decode cX0_many 56 = .ok (.aload_n 0, 1) := dk_42 (dk_at dksX0_many_2 0 rfl rfl)
theorem dX0_many_57 : decode cX0_many 57 = .ok (.getfield 10, 3) := dk_180 0 10 (dk_at dksX0_many_2 1 rfl rfl)
theorem dX0_many_60 : decode cX0_many 60 = .ok (.getfield 107, 3) := dk_180 0 107 (dk_at dksX0_many_2 4 rfl rfl)
theorem dX0_many_63 : decode cX0_many 63 = .ok (.ireturn, 1) := dk_172 (dk_at dksX0_many_2 7 rfl rfl)
theorem dX0_many_64 : decode cX0_many 64 = .ok (.aload_n 0, 1) := dk_42 (dk_at dksX0_many_2 8 rfl rfl)
theorem dX0_many_65 : decode cX0_many 65 = .ok (.getfield 10, 3) := dk_180 0 10 (dk_at dksX0_many_2 9 rfl rfl)
theorem dX0_many_68 : decode cX0_many 68 = .ok (.getfield 221, 3) := dk_180 0 221 (dk_at dksX0_many_2 12 rfl rfl)
theorem dX0_many_71 : decode cX0_many 71 = .ok (.ireturn, 1) := dk_172 (dk_at dksX0_many_2 15 rfl rfl)
theorem dX0_many_72 : decode cX0_many 72 = .ok (.aload_n 0, 1) := dk_42 (dk_at dksX0_many_2 16 rfl rfl)
theorem dX0_many_73 : decode cX0_many 73 = .ok (.getfield 10, 3) := dk_180 0 10 (dk_at dksX0_many_2 17 rfl rfl)
theorem dX0_many_76 : decode cX0_many 76 = .ok (.getfield 301, 3) := dk_180 1 45 (dk_at dksX0_many_2 20 rfl rfl)
theorem dX0_many_79 : decode cX0_many 79 = .ok (.ireturn, 1) := dk_172 (dk_at dksX0_many_2 23 rfl rfl)
theorem dX0_many_80 : decode cX0_many 80 = .ok (.aload_n 0, 1) := dk_42 (dk_at dksX0_many_3 0 rfl rfl)
theorem dX0_many_81 : decode cX0_many 81 = .ok (.getfield 334, 3) := dk_180 1 78 (dk_at dksX0_many_3 1 rfl rfl)
theorem dX0_many_84 : decode cX0_many 84 = .ok (.ireturn, 1) := dk_172 (dk_at dksX0_many_3 4 rfl rfl)
theorem dX0_many_85 : decode cX0_many 85 = .ok (.aload_n 0, 1) := dk_42 (dk_at dksX0_many_3 5 rfl rfl)
theorem dX0_many_86 : decode cX0_many 86 = .ok (.getfield 281, 3) := dk_180 1 25 (dk_at dksX0_many_3 6 rfl rfl)
theorem dX0_many_89 : decode cX0_many 89 = .ok (.ireturn, 1) := dk_172 (dk_at dksX0_many_3 9 rfl rfl)
theorem dX0_many_90 : decode cX0_many 90 = .ok (.aload_n 0, 1) := dk_42 (dk_at dksX0_many_3 10 rfl rfl)
theorem dX0_many_91 : decode cX0_many 91 = .ok (.getfield 393, 3) := dk_180 1 137 (dk_at dksX0_many_3 11 rfl rfl)
theorem dX0_many_94 : decode cX0_many 94 = .ok (.bipush 30, 2) := dk_16 30 (dk_at dksX0_many_3 14 rfl rfl)
theorem dX0_many_96 : decode cX0_many 96 = .ok (.invokestatic 480, 3) := dk_184 1 224 (dk_at dksX0_many_3 16 rfl rfl)
theorem dX0_many_99 : decode cX0_many 99 = .ok (.ireturn, 1) := dk_172 (dk_at dksX0_many_3 19 rfl rfl)
theorem dX0_many_100 : decode cX0_many 100 = .ok (.aload_n 0, 1) := dk_42 (dk_at dksX0_many_3 20 rfl rfl)
theorem dX0_many_101 : decode cX0_many 101 = .ok (.getfield 10, 3) := dk_180 0 10 (dk_at dksX0_many_3 21 rfl rfl)
theorem dX0_many_104 : decode cX0_many 104 = .ok (.getfield 127, 3) := dk_180 0 127 (dk_at dksX0_many_4 0 rfl rfl)
theorem dX0_many_107 : decode cX0_many 107 = .ok (.getfield 147, 3) := dk_180 0 147 (dk_at dksX0_many_4 3 rfl rfl)
theorem dX0_many_110 : decode cX0_many 110 = .ok (.ireturn, 1) := dk_172 (dk_at dksX0_many_4 6 rfl rfl)
theorem dX0_many_111 : decode cX0_many 111 = .ok (.aload_n 0, 1) := dk_42 (dk_at dksX0_many_4 7 rfl rfl)
theorem dX0_many_112 : decode cX0_many 112 = .ok (.getfield 10, 3) := dk_180 0 10 (dk_at dksX0_many_4 8 rfl rfl)
theorem dX0_many_115 : decode cX0_many 115 = .ok (.getfield 127, 3) := dk_180 0 127 (dk_at dksX0_many_4 11 rfl rfl)
theorem dX0_many_118 : decode cX0_many 118 = .ok (.getfield 156, 3) := dk_180 0 156 (dk_at dksX0_many_4 14 rfl rfl)
theorem dX0_many_121 : decode cX0_many 121 = .ok (.ireturn, 1) := dk_172 (dk_at dksX0_many_4 17 rfl rfl)
theorem dX0_many_122 : decode cX0_many 122 = .ok (.aload_n 0, 1) := dk_42 (dk_at dksX0_many_4 18 rfl rfl)
theorem dX0_many_123 : decode cX0_many 123 = .ok (.getfield 10, 3) := dk_180 0 10 (dk_at dksX0_many_4 19 rfl rfl)
theorem dX0_many_126 : decode cX0_many 126 = .ok (.getfield 150, 3) := dk_180 0 150 (dk_at dksX0_many_5 0 rfl rfl)
theorem dX0_many_129 : decode cX0_many 129 = .ok (.ireturn, 1) := dk_172 (dk_at dksX0_many_5 3 rfl rfl)
theorem dX0_many_130 : decode cX0_many 130 = .ok (.aload_n 0, 1) := dk_42 (dk_at dksX0_many_5 4 rfl rfl)
theorem dX0_many_131 : decode cX0_many 131 = .ok (.getfield 10, 3) := dk_180 0 10 (dk_at dksX0_many_5 5 rfl rfl)
theorem dX0_many_134 : decode cX0_many 134 = .ok (.getfield 127, 3) := dk_180 0 127 (dk_at dksX0_many_5 8 rfl rfl)
theorem dX0_many_137 : decode cX0_many 137 = .ok (.getfield 153, 3) := dk_180 0 153 (dk_at dksX0_many_5 11 rfl rfl)
theorem dX0_many_140 : decode cX0_many 140 = .ok (.ireturn, 1) := dk_172 (dk_at dksX0_many_5 14 rfl rfl)
theorem dX0_many_141 : decode cX0_many 141 = .ok (.iconst (-1), 1) := dk_2 (dk_at dksX0_many_5 15 rfl rfl)
theorem dX0_many_142 : decode cX0_many 142 = .ok (.ireturn, 1) := dk_172 (dk_at dksX0_many_5 16 rfl rfl)
abbrev cX0_keep : ByteArray := prog_1_method_81_code
def yX0_keep : MethodName := ⟨RX0, "keep", "()I"⟩
def dkwX0_keep_0 : List UInt8 := [42, 180, 0, 16, 42, 180, 0, 10, 182, 1, 227, 42, 4, 181, 1, 230, 4, 172]
abbrev dktX0_keep_0 : List UInt8 := dkwX0_keep_0 ++ []
theorem dksX0_keep_0 : cX0_keep.data.toList.drop 0 = dktX0_keep_0 := by decide +kernel
theorem dX0_keep_0 : decode cX0_keep 0 = .ok (.aload_n 0, 1) := dk_42 (dk_at dksX0_keep_0 0 rfl rfl)
theorem dX0_keep_1 : decode cX0_keep 1 = .ok (.getfield 16, 3) := dk_180 0 16 (dk_at dksX0_keep_0 1 rfl rfl)
theorem dX0_keep_4 : decode cX0_keep 4 = .ok (.aload_n 0, 1) := dk_42 (dk_at dksX0_keep_0 4 rfl rfl)
theorem dX0_keep_5 : decode cX0_keep 5 = .ok (.getfield 10, 3) := dk_180 0 10 (dk_at dksX0_keep_0 5 rfl rfl)
theorem dX0_keep_8 : decode cX0_keep 8 = .ok (.invokevirtual 483, 3) := dk_182 1 227 (dk_at dksX0_keep_0 8 rfl rfl)
theorem dX0_keep_11 : decode cX0_keep 11 = .ok (.aload_n 0, 1) := dk_42 (dk_at dksX0_keep_0 11 rfl rfl)
theorem dX0_keep_12 : decode cX0_keep 12 = .ok (.iconst 1, 1) := dk_4 (dk_at dksX0_keep_0 12 rfl rfl)
theorem dX0_keep_13 : decode cX0_keep 13 = .ok (.putfield 486, 3) := dk_181 1 230 (dk_at dksX0_keep_0 13 rfl rfl)
theorem dX0_keep_16 : decode cX0_keep 16 = .ok (.iconst 1, 1) := dk_4 (dk_at dksX0_keep_0 16 rfl rfl)
theorem dX0_keep_17 : decode cX0_keep 17 = .ok (.ireturn, 1) := dk_172 (dk_at dksX0_keep_0 17 rfl rfl)
abbrev cX0_again : ByteArray := prog_1_method_82_code
def yX0_again : MethodName := ⟨RX0, "again", "()I"⟩
def dkwX0_again_0 : List UInt8 := [42, 180, 1, 230, 154, 0, 6, 16, 253, 172, 42, 180, 0, 10, 42, 180, 0, 16, 182, 1, 227, 4, 172]
abbrev dktX0_again_0 : List UInt8 := dkwX0_again_0 ++ []
theorem dksX0_again_0 : cX0_again.data.toList.drop 0 = dktX0_again_0 := by decide +kernel
theorem dX0_again_0 : decode cX0_again 0 = .ok (.aload_n 0, 1) := dk_42 (dk_at dksX0_again_0 0 rfl rfl)
theorem dX0_again_1 : decode cX0_again 1 = .ok (.getfield 486, 3) := dk_180 1 230 (dk_at dksX0_again_0 1 rfl rfl)
theorem dX0_again_4 : decode cX0_again 4 = .ok (.ifCond .ne 6, 3) := dk_154 0 6 (dk_at dksX0_again_0 4 rfl rfl)
theorem dX0_again_7 : decode cX0_again 7 = .ok (.bipush (-3), 2) := dk_16 253 (dk_at dksX0_again_0 7 rfl rfl)
theorem dX0_again_9 : decode cX0_again 9 = .ok (.ireturn, 1) := dk_172 (dk_at dksX0_again_0 9 rfl rfl)
theorem dX0_again_10 : decode cX0_again 10 = .ok (.aload_n 0, 1) := dk_42 (dk_at dksX0_again_0 10 rfl rfl)
theorem dX0_again_11 : decode cX0_again 11 = .ok (.getfield 10, 3) := dk_180 0 10 (dk_at dksX0_again_0 11 rfl rfl)
theorem dX0_again_14 : decode cX0_again 14 = .ok (.aload_n 0, 1) := dk_42 (dk_at dksX0_again_0 14 rfl rfl)
theorem dX0_again_15 : decode cX0_again 15 = .ok (.getfield 16, 3) := dk_180 0 16 (dk_at dksX0_again_0 15 rfl rfl)
theorem dX0_again_18 : decode cX0_again 18 = .ok (.invokevirtual 483, 3) := dk_182 1 227 (dk_at dksX0_again_0 18 rfl rfl)
theorem dX0_again_21 : decode cX0_again 21 = .ok (.iconst 1, 1) := dk_4 (dk_at dksX0_again_0 21 rfl rfl)
theorem dX0_again_22 : decode cX0_again 22 = .ok (.ireturn, 1) := dk_172 (dk_at dksX0_again_0 22 rfl rfl)
theorem q106 : (Jvm.Cond.initialized "HungryHedge") ∈ lw_all := lw_g (lw_at lw_m1 1 rfl) rfl
theorem q148 : (Jvm.Cond.instantiable "HungryHedge" (19 : Nat)) ∈ lw_all := lw_g (lw_at lw_m1 43 rfl) rfl
theorem q150 : (Jvm.Cond.instanceMethod ({ cls := "HungryHedge", name := "<init>", desc := "()V" } : Jvm.MethodName)) ∈ lw_all := lw_g (lw_at lw_m1 45 rfl) rfl
theorem q151 : (Jvm.Cond.code ({ cls := "HungryHedge", name := "<init>", desc := "()V" } : Jvm.MethodName) prog_1_method_3_code (1 : Nat) (Option.none : Option Jvm.ClassFile.FieldType)) ∈ lw_all := lw_g (lw_at lw_m1 46 rfl) rfl
theorem q152 : (Jvm.Cond.methodLink "HungryHedge" (1 : Nat) ({ cls := "java/lang/Object", name := "<init>", desc := "()V" } : Jvm.MethodName)) ∈ lw_all := lw_g (lw_at lw_m1 47 rfl) rfl
theorem q155 : (Jvm.Cond.classLink "HungryHedge" (7 : Nat) "HungryHedge$Kept") ∈ lw_all := lw_g (lw_at lw_m1 50 rfl) rfl
theorem q157 : (Jvm.Cond.methodLinkNest "HungryHedge" (9 : Nat) ({ cls := "HungryHedge$Kept", name := "<init>", desc := "()V" } : Jvm.MethodName) "HungryHedge") ∈ lw_tbl := lw_at lw_m1 52 rfl
theorem q174 : (Jvm.Cond.fieldLinkNest "HungryHedge" (153 : Nat) "HungryHedge$Trip" "at" "I" "HungryHedge") ∈ lw_tbl := lw_at lw_m1 69 rfl
theorem q178 : (Jvm.Cond.fieldLinkNest "HungryHedge" (147 : Nat) "HungryHedge$Trip" "minute" "I" "HungryHedge") ∈ lw_tbl := lw_at lw_m1 73 rfl
theorem q182 : (Jvm.Cond.fieldLinkNest "HungryHedge" (156 : Nat) "HungryHedge$Trip" "got" "I" "HungryHedge") ∈ lw_tbl := lw_at lw_m1 77 rfl
theorem q186 : (Jvm.Cond.fieldLinkNest "HungryHedge" (130 : Nat) "HungryHedge$Trip" "food" "[I" "HungryHedge") ∈ lw_tbl := lw_at lw_m1 81 rfl
theorem q201 : (Jvm.Cond.fieldLinkNest "HungryHedge" (107 : Nat) "HungryHedge$Kept" "patches" "I" "HungryHedge") ∈ lw_tbl := lw_at lw_m1 96 rfl
theorem q204 : (Jvm.Cond.fieldLinkNest "HungryHedge" (221 : Nat) "HungryHedge$Kept" "risks" "I" "HungryHedge") ∈ lw_tbl := lw_at lw_m1 99 rfl
theorem q206 : (Jvm.Cond.fieldLinkNest "HungryHedge" (301 : Nat) "HungryHedge$Kept" "clauses" "I" "HungryHedge") ∈ lw_tbl := lw_at lw_m1 101 rfl
theorem q208 : (Jvm.Cond.fieldLinkNest "HungryHedge" (150 : Nat) "HungryHedge$Kept" "dusk" "I" "HungryHedge") ∈ lw_tbl := lw_at lw_m1 103 rfl
theorem q211 : (Jvm.Cond.fieldLinkNest "HungryHedge" (186 : Nat) "HungryHedge$Kept" "journey" "I" "HungryHedge") ∈ lw_tbl := lw_at lw_m1 106 rfl
theorem q214 : (Jvm.Cond.fieldLinkNest "HungryHedge" (261 : Nat) "HungryHedge$Kept" "strong" "I" "HungryHedge") ∈ lw_tbl := lw_at lw_m1 109 rfl
theorem q217 : (Jvm.Cond.fieldLinkNest "HungryHedge" (264 : Nat) "HungryHedge$Kept" "weak" "I" "HungryHedge") ∈ lw_tbl := lw_at lw_m1 112 rfl
theorem q220 : (Jvm.Cond.fieldLinkNest "HungryHedge" (267 : Nat) "HungryHedge$Kept" "force" "I" "HungryHedge") ∈ lw_tbl := lw_at lw_m1 115 rfl
theorem q222 : (Jvm.Cond.fieldLinkNest "HungryHedge" (115 : Nat) "HungryHedge$Kept" "kind" "[I" "HungryHedge") ∈ lw_tbl := lw_at lw_m1 117 rfl
theorem q225 : (Jvm.Cond.fieldLinkNest "HungryHedge" (118 : Nat) "HungryHedge$Kept" "top" "[I" "HungryHedge") ∈ lw_tbl := lw_at lw_m1 120 rfl
theorem q227 : (Jvm.Cond.fieldLinkNest "HungryHedge" (121 : Nat) "HungryHedge$Kept" "fill" "[I" "HungryHedge") ∈ lw_tbl := lw_at lw_m1 122 rfl
theorem q230 : (Jvm.Cond.fieldLinkNest "HungryHedge" (124 : Nat) "HungryHedge$Kept" "rich" "[I" "HungryHedge") ∈ lw_tbl := lw_at lw_m1 125 rfl
theorem q232 : (Jvm.Cond.fieldLinkNest "HungryHedge" (133 : Nat) "HungryHedge$Kept" "yields" "[I" "HungryHedge") ∈ lw_tbl := lw_at lw_m1 127 rfl
theorem q234 : (Jvm.Cond.fieldLinkNest "HungryHedge" (144 : Nat) "HungryHedge$Kept" "miles" "[I" "HungryHedge") ∈ lw_tbl := lw_at lw_m1 129 rfl
theorem q237 : (Jvm.Cond.fieldLinkNest "HungryHedge" (224 : Nat) "HungryHedge$Kept" "risk" "[LHungryHedge$Risk;" "HungryHedge") ∈ lw_tbl := lw_at lw_m1 132 rfl
theorem q239 : (Jvm.Cond.fieldLinkNest "HungryHedge" (297 : Nat) "HungryHedge$Kept" "clause" "[LHungryHedge$Clause;" "HungryHedge") ∈ lw_tbl := lw_at lw_m1 134 rfl
theorem q241 : (Jvm.Cond.fieldLinkNest "HungryHedge" (127 : Nat) "HungryHedge$Kept" "now" "LHungryHedge$Trip;" "HungryHedge") ∈ lw_tbl := lw_at lw_m1 136 rfl
theorem q277 : (Jvm.Cond.classLink "HungryHedge" (19 : Nat) "HungryHedge$Most") ∈ lw_all := lw_g (lw_at lw_m1 172 rfl) rfl
theorem q279 : (Jvm.Cond.methodLink "HungryHedge" (21 : Nat) ({ cls := "HungryHedge$Most", name := "<init>", desc := "(LHungryHedge;)V" } : Jvm.MethodName)) ∈ lw_all := lw_g (lw_at lw_m1 174 rfl) rfl
theorem q300 : (Jvm.Cond.classLink "HungryHedge" (28 : Nat) "HungryHedge$Round") ∈ lw_all := lw_g (lw_at lw_m1 195 rfl) rfl
theorem q302 : (Jvm.Cond.methodLinkNest "HungryHedge" (30 : Nat) ({ cls := "HungryHedge$Round", name := "<init>", desc := "(LHungryHedge;)V" } : Jvm.MethodName) "HungryHedge") ∈ lw_tbl := lw_at lw_m1 197 rfl
theorem q308 : (Jvm.Cond.fieldLinkNest "HungryHedge" (202 : Nat) "HungryHedge$Round" "best" "[I" "HungryHedge") ∈ lw_tbl := lw_at lw_m1 203 rfl
theorem q310 : (Jvm.Cond.fieldLinkNest "HungryHedge" (192 : Nat) "HungryHedge$Round" "brought" "I" "HungryHedge") ∈ lw_tbl := lw_at lw_m1 205 rfl
theorem q312 : (Jvm.Cond.fieldLinkNest "HungryHedge" (195 : Nat) "HungryHedge$Round" "time" "I" "HungryHedge") ∈ lw_tbl := lw_at lw_m1 207 rfl
theorem q325 : (Jvm.Cond.classLink "HungryHedge" (35 : Nat) "HungryHedge$Dares") ∈ lw_all := lw_g (lw_at lw_m1 220 rfl) rfl
theorem q327 : (Jvm.Cond.methodLinkNest "HungryHedge" (37 : Nat) ({ cls := "HungryHedge$Dares", name := "<init>", desc := "(LHungryHedge;)V" } : Jvm.MethodName) "HungryHedge") ∈ lw_tbl := lw_at lw_m1 222 rfl
theorem q334 : (Jvm.Cond.fieldLinkNest "HungryHedge" (217 : Nat) "HungryHedge$Dares" "cases" "[[J" "HungryHedge") ∈ lw_tbl := lw_at lw_m1 229 rfl
theorem q342 : (Jvm.Cond.classLink "HungryHedge" (42 : Nat) "HungryHedge$Spread") ∈ lw_all := lw_g (lw_at lw_m1 237 rfl) rfl
theorem q344 : (Jvm.Cond.methodLinkNest "HungryHedge" (44 : Nat) ({ cls := "HungryHedge$Spread", name := "<init>", desc := "(LHungryHedge;)V" } : Jvm.MethodName) "HungryHedge") ∈ lw_tbl := lw_at lw_m1 239 rfl
theorem q350 : (Jvm.Cond.fieldLinkNest "HungryHedge" (273 : Nat) "HungryHedge$Spread" "told" "[I" "HungryHedge") ∈ lw_tbl := lw_at lw_m2 5 rfl
theorem q368 : (Jvm.Cond.classLink "HungryHedge" (53 : Nat) "HungryHedge$Reader") ∈ lw_all := lw_g (lw_at lw_m2 23 rfl) rfl
theorem q370 : (Jvm.Cond.methodLinkNest "HungryHedge" (55 : Nat) ({ cls := "HungryHedge$Reader", name := "<init>", desc := "()V" } : Jvm.MethodName) "HungryHedge") ∈ lw_tbl := lw_at lw_m2 25 rfl
theorem q439 : (Jvm.Cond.fieldLinkNest "HungryHedge" (290 : Nat) "HungryHedge$Fault" "place" "I" "HungryHedge") ∈ lw_tbl := lw_at lw_m2 94 rfl
theorem q460 : (Jvm.Cond.fieldLinkNest "HungryHedge" (293 : Nat) "HungryHedge$Reader" "clause" "[LHungryHedge$Clause;" "HungryHedge") ∈ lw_tbl := lw_at lw_m2 115 rfl
theorem q467 : (Jvm.Cond.fieldLinkNest "HungryHedge" (298 : Nat) "HungryHedge$Reader" "clauses" "I" "HungryHedge") ∈ lw_tbl := lw_at lw_m2 122 rfl
theorem q493 : (Jvm.Cond.classLink "HungryHedge" (60 : Nat) "HungryHedge$Trip") ∈ lw_all := lw_g (lw_at lw_m2 148 rfl) rfl
theorem q494 : (Jvm.Cond.methodLinkNest "HungryHedge" (62 : Nat) ({ cls := "HungryHedge$Trip", name := "<init>", desc := "()V" } : Jvm.MethodName) "HungryHedge") ∈ lw_tbl := lw_at lw_m2 149 rfl
theorem q495 : (Jvm.Cond.methodLink "HungryHedge" (67 : Nat) ({ cls := "HungryHedge", name := "someRows", desc := "()[LHungryHedge$Row;" } : Jvm.MethodName)) ∈ lw_all := lw_g (lw_at lw_m2 150 rfl) rfl
theorem q496 : (Jvm.Cond.static ({ cls := "HungryHedge", name := "someRows", desc := "()[LHungryHedge$Row;" } : Jvm.MethodName)) ∈ lw_all := lw_g (lw_at lw_m2 151 rfl) rfl
theorem q497 : (Jvm.Cond.code ({ cls := "HungryHedge", name := "someRows", desc := "()[LHungryHedge$Row;" } : Jvm.MethodName) prog_1_method_46_code (2 : Nat) (Option.some (Jvm.ClassFile.FieldType.array (Jvm.ClassFile.FieldType.object "HungryHedge$Row")))) ∈ lw_all := lw_g (lw_at lw_m2 152 rfl) rfl
theorem q498 : (Jvm.Cond.classLink "HungryHedge" (331 : Nat) "HungryHedge$Row") ∈ lw_all := lw_g (lw_at lw_m2 153 rfl) rfl
theorem q501 : (Jvm.Cond.methodLinkNest "HungryHedge" (333 : Nat) ({ cls := "HungryHedge$Row", name := "<init>", desc := "()V" } : Jvm.MethodName) "HungryHedge") ∈ lw_tbl := lw_at lw_m2 156 rfl
theorem q505 : (Jvm.Cond.fieldLinkNest "HungryHedge" (337 : Nat) "HungryHedge$Row" "minute" "I" "HungryHedge") ∈ lw_tbl := lw_at lw_m2 160 rfl
theorem q506 : (Jvm.Cond.fieldLinkNest "HungryHedge" (338 : Nat) "HungryHedge$Row" "act" "I" "HungryHedge") ∈ lw_tbl := lw_at lw_m2 161 rfl
theorem q512 : (Jvm.Cond.classLink "HungryHedge" (75 : Nat) "HungryHedge$Sheet") ∈ lw_all := lw_g (lw_at lw_m2 167 rfl) rfl
theorem q515 : (Jvm.Cond.methodLinkNest "HungryHedge" (77 : Nat) ({ cls := "HungryHedge$Sheet", name := "<init>", desc := "()V" } : Jvm.MethodName) "HungryHedge") ∈ lw_tbl := lw_at lw_m2 170 rfl
theorem q535 : (Jvm.Cond.classLink "HungryHedge" (82 : Nat) "HungryHedge$Beyond") ∈ lw_all := lw_g (lw_at lw_m2 190 rfl) rfl
theorem q544 : (Jvm.Cond.methodLink "HungryHedge" (84 : Nat) ({ cls := "HungryHedge$Beyond", name := "<init>", desc := "()V" } : Jvm.MethodName)) ∈ lw_all := lw_g (lw_at lw_m2 199 rfl) rfl
theorem q550 : (Jvm.Cond.classLink "HungryHedge" (89 : Nat) "HungryHedge$Nothing") ∈ lw_all := lw_g (lw_at lw_m2 205 rfl) rfl
theorem q559 : (Jvm.Cond.methodLink "HungryHedge" (91 : Nat) ({ cls := "HungryHedge$Nothing", name := "<init>", desc := "()V" } : Jvm.MethodName)) ∈ lw_all := lw_g (lw_at lw_m2 214 rfl) rfl
theorem q565 : (Jvm.Cond.classLink "HungryHedge" (100 : Nat) "HungryHedge$Shelf") ∈ lw_all := lw_g (lw_at lw_m2 220 rfl) rfl
theorem q568 : (Jvm.Cond.methodLinkNest "HungryHedge" (102 : Nat) ({ cls := "HungryHedge$Shelf", name := "<init>", desc := "()V" } : Jvm.MethodName) "HungryHedge") ∈ lw_tbl := lw_at lw_m2 223 rfl
theorem q573 : (Jvm.Cond.fieldLinkNest "HungryHedge" (410 : Nat) "HungryHedge$Shelf" "what" "I" "HungryHedge") ∈ lw_tbl := lw_at lw_m2 228 rfl
theorem q574 : (Jvm.Cond.fieldLinkNest "HungryHedge" (413 : Nat) "HungryHedge$Shelf" "number" "I" "HungryHedge") ∈ lw_tbl := lw_at lw_m2 229 rfl
theorem q575 : (Jvm.Cond.fieldLinkNest "HungryHedge" (432 : Nat) "HungryHedge$Shelf" "row" "Ljava/lang/Object;" "HungryHedge") ∈ lw_tbl := lw_at lw_m2 230 rfl
theorem q585 : (Jvm.Cond.fieldLink "HungryHedge" (10 : Nat) "HungryHedge" "d" "LHungryHedge$Kept;") ∈ lw_all := lw_g (lw_at lw_m3 0 rfl) rfl
theorem q588 : (Jvm.Cond.fieldLink "HungryHedge" (16 : Nat) "HungryHedge" "kept" "LHungryHedge$Kept;") ∈ lw_all := lw_g (lw_at lw_m3 3 rfl) rfl
theorem q589 : (Jvm.Cond.fieldLink "HungryHedge" (486 : Nat) "HungryHedge" "isKept" "Z") ∈ lw_all := lw_g (lw_at lw_m3 4 rfl) rfl
theorem q590 : (Jvm.Cond.fieldLink "HungryHedge" (24 : Nat) "HungryHedge" "most" "LHungryHedge$Most;") ∈ lw_all := lw_g (lw_at lw_m3 5 rfl) rfl
theorem q591 : (Jvm.Cond.fieldLink "HungryHedge" (31 : Nat) "HungryHedge" "round" "LHungryHedge$Round;") ∈ lw_all := lw_g (lw_at lw_m3 6 rfl) rfl
theorem q592 : (Jvm.Cond.fieldLink "HungryHedge" (38 : Nat) "HungryHedge" "dares" "LHungryHedge$Dares;") ∈ lw_all := lw_g (lw_at lw_m3 7 rfl) rfl
theorem q593 : (Jvm.Cond.fieldLink "HungryHedge" (45 : Nat) "HungryHedge" "spread" "LHungryHedge$Spread;") ∈ lw_all := lw_g (lw_at lw_m3 8 rfl) rfl
theorem q594 : (Jvm.Cond.fieldLink "HungryHedge" (49 : Nat) "HungryHedge" "tape" "[B") ∈ lw_all := lw_g (lw_at lw_m3 9 rfl) rfl
theorem q595 : (Jvm.Cond.fieldLink "HungryHedge" (281 : Nat) "HungryHedge" "taped" "I") ∈ lw_all := lw_g (lw_at lw_m3 10 rfl) rfl
theorem q596 : (Jvm.Cond.fieldLink "HungryHedge" (56 : Nat) "HungryHedge" "reader" "LHungryHedge$Reader;") ∈ lw_all := lw_g (lw_at lw_m3 11 rfl) rfl
theorem q597 : (Jvm.Cond.fieldLink "HungryHedge" (63 : Nat) "HungryHedge" "trial" "LHungryHedge$Trip;") ∈ lw_all := lw_g (lw_at lw_m3 12 rfl) rfl
theorem q598 : (Jvm.Cond.fieldLink "HungryHedge" (71 : Nat) "HungryHedge" "rows" "[LHungryHedge$Row;") ∈ lw_all := lw_g (lw_at lw_m3 13 rfl) rfl
theorem q599 : (Jvm.Cond.fieldLink "HungryHedge" (334 : Nat) "HungryHedge" "rowMany" "I") ∈ lw_all := lw_g (lw_at lw_m3 14 rfl) rfl
theorem q600 : (Jvm.Cond.fieldLink "HungryHedge" (78 : Nat) "HungryHedge" "sheets" "[LHungryHedge$Sheet;") ∈ lw_all := lw_g (lw_at lw_m3 15 rfl) rfl
theorem q601 : (Jvm.Cond.fieldLink "HungryHedge" (85 : Nat) "HungryHedge" "beyond" "LHungryHedge$Beyond;") ∈ lw_all := lw_g (lw_at lw_m3 16 rfl) rfl
theorem q602 : (Jvm.Cond.fieldLink "HungryHedge" (92 : Nat) "HungryHedge" "nothing" "LHungryHedge$Nothing;") ∈ lw_all := lw_g (lw_at lw_m3 17 rfl) rfl
theorem q603 : (Jvm.Cond.fieldLink "HungryHedge" (96 : Nat) "HungryHedge" "traced" "[I") ∈ lw_all := lw_g (lw_at lw_m3 18 rfl) rfl
theorem q604 : (Jvm.Cond.fieldLink "HungryHedge" (393 : Nat) "HungryHedge" "bodies" "I") ∈ lw_all := lw_g (lw_at lw_m3 19 rfl) rfl
theorem q605 : (Jvm.Cond.fieldLink "HungryHedge" (103 : Nat) "HungryHedge" "shelves" "[LHungryHedge$Shelf;") ∈ lw_all := lw_g (lw_at lw_m3 20 rfl) rfl
theorem q606 : (Jvm.Cond.laysFinal "HungryHedge" "HungryHedge" "d" "LHungryHedge$Kept;") ∈ lw_all := lw_g (lw_at lw_m3 21 rfl) rfl
theorem q607 : (Jvm.Cond.soleField "HungryHedge" "d") ∈ lw_all := lw_g (lw_at lw_m3 22 rfl) rfl
theorem q608 : (Jvm.Cond.laysFinal "HungryHedge" "HungryHedge" "kept" "LHungryHedge$Kept;") ∈ lw_all := lw_g (lw_at lw_m3 23 rfl) rfl
theorem q609 : (Jvm.Cond.soleField "HungryHedge" "kept") ∈ lw_all := lw_g (lw_at lw_m3 24 rfl) rfl
theorem q610 : (Jvm.Cond.lays "HungryHedge" "HungryHedge" "isKept" "Z") ∈ lw_all := lw_g (lw_at lw_m3 25 rfl) rfl
theorem q611 : (Jvm.Cond.soleField "HungryHedge" "isKept") ∈ lw_all := lw_g (lw_at lw_m3 26 rfl) rfl
theorem q612 : (Jvm.Cond.laysFinal "HungryHedge" "HungryHedge" "most" "LHungryHedge$Most;") ∈ lw_all := lw_g (lw_at lw_m3 27 rfl) rfl
theorem q613 : (Jvm.Cond.soleField "HungryHedge" "most") ∈ lw_all := lw_g (lw_at lw_m3 28 rfl) rfl
theorem q614 : (Jvm.Cond.laysFinal "HungryHedge" "HungryHedge" "round" "LHungryHedge$Round;") ∈ lw_all := lw_g (lw_at lw_m3 29 rfl) rfl
theorem q615 : (Jvm.Cond.soleField "HungryHedge" "round") ∈ lw_all := lw_g (lw_at lw_m3 30 rfl) rfl
theorem q616 : (Jvm.Cond.laysFinal "HungryHedge" "HungryHedge" "dares" "LHungryHedge$Dares;") ∈ lw_all := lw_g (lw_at lw_m3 31 rfl) rfl
theorem q617 : (Jvm.Cond.soleField "HungryHedge" "dares") ∈ lw_all := lw_g (lw_at lw_m3 32 rfl) rfl
theorem q618 : (Jvm.Cond.laysFinal "HungryHedge" "HungryHedge" "spread" "LHungryHedge$Spread;") ∈ lw_all := lw_g (lw_at lw_m3 33 rfl) rfl
theorem q619 : (Jvm.Cond.soleField "HungryHedge" "spread") ∈ lw_all := lw_g (lw_at lw_m3 34 rfl) rfl
theorem q620 : (Jvm.Cond.laysFinal "HungryHedge" "HungryHedge" "tape" "[B") ∈ lw_all := lw_g (lw_at lw_m3 35 rfl) rfl
theorem q621 : (Jvm.Cond.soleField "HungryHedge" "tape") ∈ lw_all := lw_g (lw_at lw_m3 36 rfl) rfl
theorem q622 : (Jvm.Cond.lays "HungryHedge" "HungryHedge" "taped" "I") ∈ lw_all := lw_g (lw_at lw_m3 37 rfl) rfl
theorem q623 : (Jvm.Cond.soleField "HungryHedge" "taped") ∈ lw_all := lw_g (lw_at lw_m3 38 rfl) rfl
theorem q624 : (Jvm.Cond.laysFinal "HungryHedge" "HungryHedge" "reader" "LHungryHedge$Reader;") ∈ lw_all := lw_g (lw_at lw_m3 39 rfl) rfl
theorem q625 : (Jvm.Cond.soleField "HungryHedge" "reader") ∈ lw_all := lw_g (lw_at lw_m3 40 rfl) rfl
theorem q626 : (Jvm.Cond.laysFinal "HungryHedge" "HungryHedge" "trial" "LHungryHedge$Trip;") ∈ lw_all := lw_g (lw_at lw_m3 41 rfl) rfl
theorem q627 : (Jvm.Cond.soleField "HungryHedge" "trial") ∈ lw_all := lw_g (lw_at lw_m3 42 rfl) rfl
theorem q628 : (Jvm.Cond.laysFinal "HungryHedge" "HungryHedge" "rows" "[LHungryHedge$Row;") ∈ lw_all := lw_g (lw_at lw_m3 43 rfl) rfl
theorem q629 : (Jvm.Cond.soleField "HungryHedge" "rows") ∈ lw_all := lw_g (lw_at lw_m3 44 rfl) rfl
theorem q630 : (Jvm.Cond.lays "HungryHedge" "HungryHedge" "rowMany" "I") ∈ lw_all := lw_g (lw_at lw_m3 45 rfl) rfl
theorem q631 : (Jvm.Cond.soleField "HungryHedge" "rowMany") ∈ lw_all := lw_g (lw_at lw_m3 46 rfl) rfl
theorem q632 : (Jvm.Cond.laysFinal "HungryHedge" "HungryHedge" "sheets" "[LHungryHedge$Sheet;") ∈ lw_all := lw_g (lw_at lw_m3 47 rfl) rfl
theorem q633 : (Jvm.Cond.soleField "HungryHedge" "sheets") ∈ lw_all := lw_g (lw_at lw_m3 48 rfl) rfl
theorem q634 : (Jvm.Cond.laysFinal "HungryHedge" "HungryHedge" "beyond" "LHungryHedge$Beyond;") ∈ lw_all := lw_g (lw_at lw_m3 49 rfl) rfl
theorem q635 : (Jvm.Cond.soleField "HungryHedge" "beyond") ∈ lw_all := lw_g (lw_at lw_m3 50 rfl) rfl
theorem q636 : (Jvm.Cond.laysFinal "HungryHedge" "HungryHedge" "nothing" "LHungryHedge$Nothing;") ∈ lw_all := lw_g (lw_at lw_m3 51 rfl) rfl
theorem q637 : (Jvm.Cond.soleField "HungryHedge" "nothing") ∈ lw_all := lw_g (lw_at lw_m3 52 rfl) rfl
theorem q638 : (Jvm.Cond.laysFinal "HungryHedge" "HungryHedge" "traced" "[I") ∈ lw_all := lw_g (lw_at lw_m3 53 rfl) rfl
theorem q639 : (Jvm.Cond.soleField "HungryHedge" "traced") ∈ lw_all := lw_g (lw_at lw_m3 54 rfl) rfl
theorem q640 : (Jvm.Cond.lays "HungryHedge" "HungryHedge" "bodies" "I") ∈ lw_all := lw_g (lw_at lw_m3 55 rfl) rfl
theorem q641 : (Jvm.Cond.soleField "HungryHedge" "bodies") ∈ lw_all := lw_g (lw_at lw_m3 56 rfl) rfl
theorem q642 : (Jvm.Cond.laysFinal "HungryHedge" "HungryHedge" "shelves" "[LHungryHedge$Shelf;") ∈ lw_all := lw_g (lw_at lw_m3 57 rfl) rfl
theorem q643 : (Jvm.Cond.soleField "HungryHedge" "shelves") ∈ lw_all := lw_g (lw_at lw_m3 58 rfl) rfl
theorem q644 : (Jvm.Cond.superclass "HungryHedge" "java/lang/Object") ∈ lw_all := lw_g (lw_at lw_m3 59 rfl) rfl
theorem q646 : (Jvm.Cond.instanceMethod ({ cls := "HungryHedge", name := "patch", desc := "(III)I" } : Jvm.MethodName)) ∈ lw_all := lw_g (lw_at lw_m3 61 rfl) rfl
theorem q647 : (Jvm.Cond.selects "HungryHedge" ({ cls := "HungryHedge", name := "patch", desc := "(III)I" } : Jvm.MethodName) ({ cls := "HungryHedge", name := "patch", desc := "(III)I" } : Jvm.MethodName)) ∈ lw_all := lw_g (lw_at lw_m3 62 rfl) rfl
theorem q648 : (Jvm.Cond.code ({ cls := "HungryHedge", name := "patch", desc := "(III)I" } : Jvm.MethodName) prog_1_method_6_code (6 : Nat) (Option.some Jvm.ClassFile.FieldType.int)) ∈ lw_all := lw_g (lw_at lw_m3 63 rfl) rfl
theorem q649 : (Jvm.Cond.methodLink "HungryHedge" (111 : Nat) ({ cls := "HungryHedge", name := "in", desc := "(III)Z" } : Jvm.MethodName)) ∈ lw_all := lw_g (lw_at lw_m3 64 rfl) rfl
theorem q650 : (Jvm.Cond.static ({ cls := "HungryHedge", name := "in", desc := "(III)Z" } : Jvm.MethodName)) ∈ lw_all := lw_g (lw_at lw_m3 65 rfl) rfl
theorem q651 : (Jvm.Cond.code ({ cls := "HungryHedge", name := "in", desc := "(III)Z" } : Jvm.MethodName) prog_1_method_1_code (3 : Nat) (Option.some Jvm.ClassFile.FieldType.boolean)) ∈ lw_all := lw_g (lw_at lw_m3 66 rfl) rfl
theorem q653 : (Jvm.Cond.instanceMethod ({ cls := "HungryHedge", name := "patchOf", desc := "(II)I" } : Jvm.MethodName)) ∈ lw_all := lw_g (lw_at lw_m3 68 rfl) rfl
theorem q654 : (Jvm.Cond.selects "HungryHedge" ({ cls := "HungryHedge", name := "patchOf", desc := "(II)I" } : Jvm.MethodName) ({ cls := "HungryHedge", name := "patchOf", desc := "(II)I" } : Jvm.MethodName)) ∈ lw_all := lw_g (lw_at lw_m3 69 rfl) rfl
theorem q655 : (Jvm.Cond.code ({ cls := "HungryHedge", name := "patchOf", desc := "(II)I" } : Jvm.MethodName) prog_1_method_7_code (3 : Nat) (Option.some Jvm.ClassFile.FieldType.int)) ∈ lw_all := lw_g (lw_at lw_m3 70 rfl) rfl
theorem q656 : (Jvm.Cond.methodLink "HungryHedge" (136 : Nat) ({ cls := "HungryHedge", name := "isPatch", desc := "(I)Z" } : Jvm.MethodName)) ∈ lw_all := lw_g (lw_at lw_m3 71 rfl) rfl
theorem q657 : (Jvm.Cond.privateMethod ({ cls := "HungryHedge", name := "isPatch", desc := "(I)Z" } : Jvm.MethodName)) ∈ lw_tbl := lw_at lw_m3 72 rfl
theorem q658 : (Jvm.Cond.instanceMethod ({ cls := "HungryHedge", name := "isPatch", desc := "(I)Z" } : Jvm.MethodName)) ∈ lw_all := lw_g (lw_at lw_m3 73 rfl) rfl
theorem q659 : (Jvm.Cond.code ({ cls := "HungryHedge", name := "isPatch", desc := "(I)Z" } : Jvm.MethodName) prog_1_method_4_code (2 : Nat) (Option.some Jvm.ClassFile.FieldType.boolean)) ∈ lw_all := lw_g (lw_at lw_m3 74 rfl) rfl
theorem q661 : (Jvm.Cond.instanceMethod ({ cls := "HungryHedge", name := "yieldOf", desc := "(II)I" } : Jvm.MethodName)) ∈ lw_all := lw_g (lw_at lw_m3 76 rfl) rfl
theorem q662 : (Jvm.Cond.selects "HungryHedge" ({ cls := "HungryHedge", name := "yieldOf", desc := "(II)I" } : Jvm.MethodName) ({ cls := "HungryHedge", name := "yieldOf", desc := "(II)I" } : Jvm.MethodName)) ∈ lw_all := lw_g (lw_at lw_m3 77 rfl) rfl
theorem q663 : (Jvm.Cond.code ({ cls := "HungryHedge", name := "yieldOf", desc := "(II)I" } : Jvm.MethodName) prog_1_method_8_code (3 : Nat) (Option.some Jvm.ClassFile.FieldType.int)) ∈ lw_all := lw_g (lw_at lw_m3 78 rfl) rfl
theorem q664 : (Jvm.Cond.methodLink "HungryHedge" (140 : Nat) ({ cls := "HungryHedge$Kept", name := "brings", desc := "(II)I" } : Jvm.MethodName)) ∈ lw_all := lw_g (lw_at lw_m3 79 rfl) rfl
theorem q669 : (Jvm.Cond.instanceMethod ({ cls := "HungryHedge", name := "lay", desc := "(III)I" } : Jvm.MethodName)) ∈ lw_all := lw_g (lw_at lw_m3 84 rfl) rfl
theorem q670 : (Jvm.Cond.selects "HungryHedge" ({ cls := "HungryHedge", name := "lay", desc := "(III)I" } : Jvm.MethodName) ({ cls := "HungryHedge", name := "lay", desc := "(III)I" } : Jvm.MethodName)) ∈ lw_all := lw_g (lw_at lw_m3 85 rfl) rfl
theorem q671 : (Jvm.Cond.code ({ cls := "HungryHedge", name := "lay", desc := "(III)I" } : Jvm.MethodName) prog_1_method_9_code (6 : Nat) (Option.some Jvm.ClassFile.FieldType.int)) ∈ lw_all := lw_g (lw_at lw_m3 86 rfl) rfl
theorem q673 : (Jvm.Cond.instanceMethod ({ cls := "HungryHedge", name := "way", desc := "(III)I" } : Jvm.MethodName)) ∈ lw_all := lw_g (lw_at lw_m3 88 rfl) rfl
theorem q674 : (Jvm.Cond.selects "HungryHedge" ({ cls := "HungryHedge", name := "way", desc := "(III)I" } : Jvm.MethodName) ({ cls := "HungryHedge", name := "way", desc := "(III)I" } : Jvm.MethodName)) ∈ lw_all := lw_g (lw_at lw_m3 89 rfl) rfl
theorem q675 : (Jvm.Cond.code ({ cls := "HungryHedge", name := "way", desc := "(III)I" } : Jvm.MethodName) prog_1_method_10_code (5 : Nat) (Option.some Jvm.ClassFile.FieldType.int)) ∈ lw_all := lw_g (lw_at lw_m3 90 rfl) rfl
theorem q677 : (Jvm.Cond.instanceMethod ({ cls := "HungryHedge", name := "dusk", desc := "(I)I" } : Jvm.MethodName)) ∈ lw_all := lw_g (lw_at lw_m3 92 rfl) rfl
theorem q678 : (Jvm.Cond.selects "HungryHedge" ({ cls := "HungryHedge", name := "dusk", desc := "(I)I" } : Jvm.MethodName) ({ cls := "HungryHedge", name := "dusk", desc := "(I)I" } : Jvm.MethodName)) ∈ lw_all := lw_g (lw_at lw_m3 93 rfl) rfl
theorem q679 : (Jvm.Cond.code ({ cls := "HungryHedge", name := "dusk", desc := "(I)I" } : Jvm.MethodName) prog_1_method_11_code (3 : Nat) (Option.some Jvm.ClassFile.FieldType.int)) ∈ lw_all := lw_g (lw_at lw_m3 94 rfl) rfl
theorem q681 : (Jvm.Cond.instanceMethod ({ cls := "HungryHedge", name := "perch", desc := "(I)I" } : Jvm.MethodName)) ∈ lw_all := lw_g (lw_at lw_m3 96 rfl) rfl
theorem q682 : (Jvm.Cond.selects "HungryHedge" ({ cls := "HungryHedge", name := "perch", desc := "(I)I" } : Jvm.MethodName) ({ cls := "HungryHedge", name := "perch", desc := "(I)I" } : Jvm.MethodName)) ∈ lw_all := lw_g (lw_at lw_m3 97 rfl) rfl
theorem q683 : (Jvm.Cond.code ({ cls := "HungryHedge", name := "perch", desc := "(I)I" } : Jvm.MethodName) prog_1_method_12_code (3 : Nat) (Option.some Jvm.ClassFile.FieldType.int)) ∈ lw_all := lw_g (lw_at lw_m3 98 rfl) rfl
theorem q685 : (Jvm.Cond.instanceMethod ({ cls := "HungryHedge", name := "dawn", desc := "()I" } : Jvm.MethodName)) ∈ lw_all := lw_g (lw_at lw_m3 100 rfl) rfl
theorem q686 : (Jvm.Cond.selects "HungryHedge" ({ cls := "HungryHedge", name := "dawn", desc := "()I" } : Jvm.MethodName) ({ cls := "HungryHedge", name := "dawn", desc := "()I" } : Jvm.MethodName)) ∈ lw_all := lw_g (lw_at lw_m3 101 rfl) rfl
theorem q687 : (Jvm.Cond.code ({ cls := "HungryHedge", name := "dawn", desc := "()I" } : Jvm.MethodName) prog_1_method_13_code (2 : Nat) (Option.some Jvm.ClassFile.FieldType.int)) ∈ lw_all := lw_g (lw_at lw_m3 102 rfl) rfl
theorem q688 : (Jvm.Cond.methodLink "HungryHedge" (159 : Nat) ({ cls := "java/lang/System", name := "arraycopy", desc := "(Ljava/lang/Object;ILjava/lang/Object;II)V" } : Jvm.MethodName)) ∈ lw_all := lw_g (lw_at lw_m3 103 rfl) rfl
theorem q692 : (Jvm.Cond.instanceMethod ({ cls := "HungryHedge", name := "does", desc := "(I)I" } : Jvm.MethodName)) ∈ lw_all := lw_g (lw_at lw_m3 107 rfl) rfl
theorem q693 : (Jvm.Cond.selects "HungryHedge" ({ cls := "HungryHedge", name := "does", desc := "(I)I" } : Jvm.MethodName) ({ cls := "HungryHedge", name := "does", desc := "(I)I" } : Jvm.MethodName)) ∈ lw_all := lw_g (lw_at lw_m3 108 rfl) rfl
theorem q694 : (Jvm.Cond.code ({ cls := "HungryHedge", name := "does", desc := "(I)I" } : Jvm.MethodName) prog_1_method_14_code (2 : Nat) (Option.some Jvm.ClassFile.FieldType.int)) ∈ lw_all := lw_g (lw_at lw_m3 109 rfl) rfl
theorem q695 : (Jvm.Cond.methodLink "HungryHedge" (165 : Nat) ({ cls := "HungryHedge", name := "isAct", desc := "(I)Z" } : Jvm.MethodName)) ∈ lw_all := lw_g (lw_at lw_m3 110 rfl) rfl
theorem q696 : (Jvm.Cond.static ({ cls := "HungryHedge", name := "isAct", desc := "(I)Z" } : Jvm.MethodName)) ∈ lw_all := lw_g (lw_at lw_m3 111 rfl) rfl
theorem q697 : (Jvm.Cond.code ({ cls := "HungryHedge", name := "isAct", desc := "(I)Z" } : Jvm.MethodName) prog_1_method_5_code (1 : Nat) (Option.some Jvm.ClassFile.FieldType.boolean)) ∈ lw_all := lw_g (lw_at lw_m3 112 rfl) rfl
theorem q698 : (Jvm.Cond.methodLink "HungryHedge" (168 : Nat) ({ cls := "HungryHedge$Kept", name := "takes", desc := "(LHungryHedge$Trip;I)I" } : Jvm.MethodName)) ∈ lw_all := lw_g (lw_at lw_m3 113 rfl) rfl
theorem q702 : (Jvm.Cond.methodLink "HungryHedge" (172 : Nat) ({ cls := "HungryHedge$Kept", name := "does", desc := "(LHungryHedge$Trip;I)V" } : Jvm.MethodName)) ∈ lw_all := lw_g (lw_at lw_m3 117 rfl) rfl
theorem q719 : (Jvm.Cond.instanceMethod ({ cls := "HungryHedge", name := "best", desc := "()I" } : Jvm.MethodName)) ∈ lw_all := lw_g (lw_at lw_m3 134 rfl) rfl
theorem q720 : (Jvm.Cond.selects "HungryHedge" ({ cls := "HungryHedge", name := "best", desc := "()I" } : Jvm.MethodName) ({ cls := "HungryHedge", name := "best", desc := "()I" } : Jvm.MethodName)) ∈ lw_all := lw_g (lw_at lw_m3 135 rfl) rfl
theorem q721 : (Jvm.Cond.code ({ cls := "HungryHedge", name := "best", desc := "()I" } : Jvm.MethodName) prog_1_method_15_code (1 : Nat) (Option.some Jvm.ClassFile.FieldType.int)) ∈ lw_all := lw_g (lw_at lw_m3 136 rfl) rfl
theorem q722 : (Jvm.Cond.methodLink "HungryHedge" (176 : Nat) ({ cls := "HungryHedge$Most", name := "all", desc := "(LHungryHedge$Trip;)I" } : Jvm.MethodName)) ∈ lw_all := lw_g (lw_at lw_m3 137 rfl) rfl
theorem q755 : (Jvm.Cond.instanceMethod ({ cls := "HungryHedge", name := "first", desc := "()I" } : Jvm.MethodName)) ∈ lw_all := lw_g (lw_at lw_m3 170 rfl) rfl
theorem q756 : (Jvm.Cond.selects "HungryHedge" ({ cls := "HungryHedge", name := "first", desc := "()I" } : Jvm.MethodName) ({ cls := "HungryHedge", name := "first", desc := "()I" } : Jvm.MethodName)) ∈ lw_all := lw_g (lw_at lw_m3 171 rfl) rfl
theorem q757 : (Jvm.Cond.code ({ cls := "HungryHedge", name := "first", desc := "()I" } : Jvm.MethodName) prog_1_method_16_code (1 : Nat) (Option.some Jvm.ClassFile.FieldType.int)) ∈ lw_all := lw_g (lw_at lw_m3 172 rfl) rfl
theorem q758 : (Jvm.Cond.methodLink "HungryHedge" (180 : Nat) ({ cls := "HungryHedge$Most", name := "first", desc := "(LHungryHedge$Trip;)I" } : Jvm.MethodName)) ∈ lw_all := lw_g (lw_at lw_m3 173 rfl) rfl
theorem q764 : (Jvm.Cond.instanceMethod ({ cls := "HungryHedge", name := "with", desc := "(I)I" } : Jvm.MethodName)) ∈ lw_all := lw_g (lw_at lw_m3 179 rfl) rfl
theorem q765 : (Jvm.Cond.selects "HungryHedge" ({ cls := "HungryHedge", name := "with", desc := "(I)I" } : Jvm.MethodName) ({ cls := "HungryHedge", name := "with", desc := "(I)I" } : Jvm.MethodName)) ∈ lw_all := lw_g (lw_at lw_m3 180 rfl) rfl
theorem q766 : (Jvm.Cond.code ({ cls := "HungryHedge", name := "with", desc := "(I)I" } : Jvm.MethodName) prog_1_method_17_code (3 : Nat) (Option.some Jvm.ClassFile.FieldType.int)) ∈ lw_all := lw_g (lw_at lw_m3 181 rfl) rfl
theorem q767 : (Jvm.Cond.methodLink "HungryHedge" (183 : Nat) ({ cls := "HungryHedge$Most", name := "with", desc := "(LHungryHedge$Trip;I)I" } : Jvm.MethodName)) ∈ lw_all := lw_g (lw_at lw_m3 182 rfl) rfl
theorem q772 : (Jvm.Cond.instanceMethod ({ cls := "HungryHedge", name := "journey", desc := "(I)I" } : Jvm.MethodName)) ∈ lw_all := lw_g (lw_at lw_m3 187 rfl) rfl
theorem q773 : (Jvm.Cond.selects "HungryHedge" ({ cls := "HungryHedge", name := "journey", desc := "(I)I" } : Jvm.MethodName) ({ cls := "HungryHedge", name := "journey", desc := "(I)I" } : Jvm.MethodName)) ∈ lw_all := lw_g (lw_at lw_m3 188 rfl) rfl
theorem q774 : (Jvm.Cond.code ({ cls := "HungryHedge", name := "journey", desc := "(I)I" } : Jvm.MethodName) prog_1_method_19_code (3 : Nat) (Option.some Jvm.ClassFile.FieldType.int)) ∈ lw_all := lw_g (lw_at lw_m3 189 rfl) rfl
theorem q776 : (Jvm.Cond.instanceMethod ({ cls := "HungryHedge", name := "rate", desc := "(I)I" } : Jvm.MethodName)) ∈ lw_all := lw_g (lw_at lw_m3 191 rfl) rfl
theorem q777 : (Jvm.Cond.selects "HungryHedge" ({ cls := "HungryHedge", name := "rate", desc := "(I)I" } : Jvm.MethodName) ({ cls := "HungryHedge", name := "rate", desc := "(I)I" } : Jvm.MethodName)) ∈ lw_all := lw_g (lw_at lw_m3 192 rfl) rfl
theorem q778 : (Jvm.Cond.code ({ cls := "HungryHedge", name := "rate", desc := "(I)I" } : Jvm.MethodName) prog_1_method_21_code (3 : Nat) (Option.some Jvm.ClassFile.FieldType.int)) ∈ lw_all := lw_g (lw_at lw_m3 193 rfl) rfl
theorem q779 : (Jvm.Cond.methodLink "HungryHedge" (189 : Nat) ({ cls := "HungryHedge$Round", name := "finds", desc := "()V" } : Jvm.MethodName)) ∈ lw_all := lw_g (lw_at lw_m3 194 rfl) rfl
theorem q788 : (Jvm.Cond.privateMethod ({ cls := "HungryHedge", name := "broughtIn", desc := "(II)I" } : Jvm.MethodName)) ∈ lw_tbl := lw_at lw_m3 203 rfl
theorem q789 : (Jvm.Cond.instanceMethod ({ cls := "HungryHedge", name := "broughtIn", desc := "(II)I" } : Jvm.MethodName)) ∈ lw_all := lw_g (lw_at lw_m3 204 rfl) rfl
theorem q790 : (Jvm.Cond.code ({ cls := "HungryHedge", name := "broughtIn", desc := "(II)I" } : Jvm.MethodName) prog_1_method_20_code (5 : Nat) (Option.some Jvm.ClassFile.FieldType.int)) ∈ lw_all := lw_g (lw_at lw_m3 205 rfl) rfl
theorem q792 : (Jvm.Cond.methodLink "HungryHedge" (198 : Nat) ({ cls := "HungryHedge", name := "divisor", desc := "(JJ)J" } : Jvm.MethodName)) ∈ lw_all := lw_g (lw_at lw_m3 207 rfl) rfl
theorem q793 : (Jvm.Cond.static ({ cls := "HungryHedge", name := "divisor", desc := "(JJ)J" } : Jvm.MethodName)) ∈ lw_all := lw_g (lw_at lw_m3 208 rfl) rfl
theorem q794 : (Jvm.Cond.code ({ cls := "HungryHedge", name := "divisor", desc := "(JJ)J" } : Jvm.MethodName) prog_1_method_18_code (10 : Nat) (Option.some Jvm.ClassFile.FieldType.long)) ∈ lw_all := lw_g (lw_at lw_m3 209 rfl) rfl
theorem q796 : (Jvm.Cond.instanceMethod ({ cls := "HungryHedge", name := "stay", desc := "(I)I" } : Jvm.MethodName)) ∈ lw_all := lw_g (lw_at lw_m3 211 rfl) rfl
theorem q797 : (Jvm.Cond.selects "HungryHedge" ({ cls := "HungryHedge", name := "stay", desc := "(I)I" } : Jvm.MethodName) ({ cls := "HungryHedge", name := "stay", desc := "(I)I" } : Jvm.MethodName)) ∈ lw_all := lw_g (lw_at lw_m3 212 rfl) rfl
theorem q798 : (Jvm.Cond.code ({ cls := "HungryHedge", name := "stay", desc := "(I)I" } : Jvm.MethodName) prog_1_method_22_code (2 : Nat) (Option.some Jvm.ClassFile.FieldType.int)) ∈ lw_all := lw_g (lw_at lw_m3 213 rfl) rfl
theorem q800 : (Jvm.Cond.instanceMethod ({ cls := "HungryHedge", name := "load", desc := "(III)I" } : Jvm.MethodName)) ∈ lw_all := lw_g (lw_at lw_m3 215 rfl) rfl
theorem q801 : (Jvm.Cond.selects "HungryHedge" ({ cls := "HungryHedge", name := "load", desc := "(III)I" } : Jvm.MethodName) ({ cls := "HungryHedge", name := "load", desc := "(III)I" } : Jvm.MethodName)) ∈ lw_all := lw_g (lw_at lw_m3 216 rfl) rfl
theorem q802 : (Jvm.Cond.code ({ cls := "HungryHedge", name := "load", desc := "(III)I" } : Jvm.MethodName) prog_1_method_23_code (8 : Nat) (Option.some Jvm.ClassFile.FieldType.int)) ∈ lw_all := lw_g (lw_at lw_m3 217 rfl) rfl
theorem q803 : (Jvm.Cond.methodLink "HungryHedge" (205 : Nat) ({ cls := "HungryHedge", name := "broughtIn", desc := "(II)I" } : Jvm.MethodName)) ∈ lw_all := lw_g (lw_at lw_m3 218 rfl) rfl
theorem q805 : (Jvm.Cond.instanceMethod ({ cls := "HungryHedge", name := "dare", desc := "(II)J" } : Jvm.MethodName)) ∈ lw_all := lw_g (lw_at lw_m3 220 rfl) rfl
theorem q806 : (Jvm.Cond.selects "HungryHedge" ({ cls := "HungryHedge", name := "dare", desc := "(II)J" } : Jvm.MethodName) ({ cls := "HungryHedge", name := "dare", desc := "(II)J" } : Jvm.MethodName)) ∈ lw_all := lw_g (lw_at lw_m3 221 rfl) rfl
theorem q807 : (Jvm.Cond.code ({ cls := "HungryHedge", name := "dare", desc := "(II)J" } : Jvm.MethodName) prog_1_method_25_code (3 : Nat) (Option.some Jvm.ClassFile.FieldType.long)) ∈ lw_all := lw_g (lw_at lw_m3 222 rfl) rfl
theorem q808 : (Jvm.Cond.methodLink "HungryHedge" (208 : Nat) ({ cls := "HungryHedge", name := "isDare", desc := "(II)Z" } : Jvm.MethodName)) ∈ lw_all := lw_g (lw_at lw_m3 223 rfl) rfl
theorem q809 : (Jvm.Cond.static ({ cls := "HungryHedge", name := "isDare", desc := "(II)Z" } : Jvm.MethodName)) ∈ lw_all := lw_g (lw_at lw_m3 224 rfl) rfl
theorem q810 : (Jvm.Cond.code ({ cls := "HungryHedge", name := "isDare", desc := "(II)Z" } : Jvm.MethodName) prog_1_method_24_code (2 : Nat) (Option.some Jvm.ClassFile.FieldType.boolean)) ∈ lw_all := lw_g (lw_at lw_m3 225 rfl) rfl
theorem q811 : (Jvm.Cond.constantLong "HungryHedge" (212 : Nat) (-1 : Int64)) ∈ lw_all := lw_g (lw_at lw_m3 226 rfl) rfl
theorem q812 : (Jvm.Cond.methodLink "HungryHedge" (214 : Nat) ({ cls := "HungryHedge$Dares", name := "finds", desc := "(II)V" } : Jvm.MethodName)) ∈ lw_all := lw_g (lw_at lw_m3 227 rfl) rfl
theorem q834 : (Jvm.Cond.instanceMethod ({ cls := "HungryHedge", name := "bold", desc := "(II)I" } : Jvm.MethodName)) ∈ lw_all := lw_g (lw_at lw_m4 9 rfl) rfl
theorem q835 : (Jvm.Cond.selects "HungryHedge" ({ cls := "HungryHedge", name := "bold", desc := "(II)I" } : Jvm.MethodName) ({ cls := "HungryHedge", name := "bold", desc := "(II)I" } : Jvm.MethodName)) ∈ lw_all := lw_g (lw_at lw_m4 10 rfl) rfl
theorem q836 : (Jvm.Cond.code ({ cls := "HungryHedge", name := "bold", desc := "(II)I" } : Jvm.MethodName) prog_1_method_26_code (4 : Nat) (Option.some Jvm.ClassFile.FieldType.int)) ∈ lw_all := lw_g (lw_at lw_m4 11 rfl) rfl
theorem q837 : (Jvm.Cond.methodLinkNest "HungryHedge" (228 : Nat) ({ cls := "HungryHedge$Dares", name := "by", desc := "(LHungryHedge$Risk;II)J" } : Jvm.MethodName) "HungryHedge") ∈ lw_tbl := lw_at lw_m4 12 rfl
theorem q839 : (Jvm.Cond.instanceMethod ({ cls := "HungryHedge", name := "alike", desc := "(III)J" } : Jvm.MethodName)) ∈ lw_all := lw_g (lw_at lw_m4 14 rfl) rfl
theorem q840 : (Jvm.Cond.selects "HungryHedge" ({ cls := "HungryHedge", name := "alike", desc := "(III)J" } : Jvm.MethodName) ({ cls := "HungryHedge", name := "alike", desc := "(III)J" } : Jvm.MethodName)) ∈ lw_all := lw_g (lw_at lw_m4 15 rfl) rfl
theorem q841 : (Jvm.Cond.code ({ cls := "HungryHedge", name := "alike", desc := "(III)J" } : Jvm.MethodName) prog_1_method_27_code (4 : Nat) (Option.some Jvm.ClassFile.FieldType.long)) ∈ lw_all := lw_g (lw_at lw_m4 16 rfl) rfl
theorem q843 : (Jvm.Cond.instanceMethod ({ cls := "HungryHedge", name := "risk", desc := "(I)I" } : Jvm.MethodName)) ∈ lw_all := lw_g (lw_at lw_m4 18 rfl) rfl
theorem q844 : (Jvm.Cond.selects "HungryHedge" ({ cls := "HungryHedge", name := "risk", desc := "(I)I" } : Jvm.MethodName) ({ cls := "HungryHedge", name := "risk", desc := "(I)I" } : Jvm.MethodName)) ∈ lw_all := lw_g (lw_at lw_m4 19 rfl) rfl
theorem q845 : (Jvm.Cond.codeWith ({ cls := "HungryHedge", name := "risk", desc := "(I)I" } : Jvm.MethodName) prog_1_method_29_code (3 : Nat) (Option.some Jvm.ClassFile.FieldType.int) [((9 : Nat), (29 : Nat), (30 : Nat), (89 : Nat)), ((9 : Nat), (29 : Nat), (34 : Nat), (254 : Nat))]) ∈ lw_all := lw_g (lw_at lw_m4 20 rfl) rfl
theorem q846 : (Jvm.Cond.classLink "HungryHedge" (254 : Nat) "java/lang/ClassCastException") ∈ lw_all := lw_g (lw_at lw_m4 21 rfl) rfl
theorem q873 : (Jvm.Cond.methodLink "HungryHedge" (237 : Nat) ({ cls := "HungryHedge", name := "isSheet", desc := "(I)Z" } : Jvm.MethodName)) ∈ lw_all := lw_g (lw_at lw_m4 48 rfl) rfl
theorem q874 : (Jvm.Cond.static ({ cls := "HungryHedge", name := "isSheet", desc := "(I)Z" } : Jvm.MethodName)) ∈ lw_all := lw_g (lw_at lw_m4 49 rfl) rfl
theorem q875 : (Jvm.Cond.code ({ cls := "HungryHedge", name := "isSheet", desc := "(I)Z" } : Jvm.MethodName) prog_1_method_53_code (1 : Nat) (Option.some Jvm.ClassFile.FieldType.boolean)) ∈ lw_all := lw_g (lw_at lw_m4 50 rfl) rfl
theorem q876 : (Jvm.Cond.methodLink "HungryHedge" (240 : Nat) ({ cls := "HungryHedge$Sheet", name := "row", desc := "()Ljava/lang/Object;" } : Jvm.MethodName)) ∈ lw_all := lw_g (lw_at lw_m4 51 rfl) rfl
theorem q880 : (Jvm.Cond.methodLink "HungryHedge" (244 : Nat) ({ cls := "HungryHedge", name := "there", desc := "(Ljava/lang/Object;)Ljava/lang/Object;" } : Jvm.MethodName)) ∈ lw_all := lw_g (lw_at lw_m4 55 rfl) rfl
theorem q881 : (Jvm.Cond.privateMethod ({ cls := "HungryHedge", name := "there", desc := "(Ljava/lang/Object;)Ljava/lang/Object;" } : Jvm.MethodName)) ∈ lw_tbl := lw_at lw_m4 56 rfl
theorem q882 : (Jvm.Cond.instanceMethod ({ cls := "HungryHedge", name := "there", desc := "(Ljava/lang/Object;)Ljava/lang/Object;" } : Jvm.MethodName)) ∈ lw_all := lw_g (lw_at lw_m4 57 rfl) rfl
theorem q883 : (Jvm.Cond.code ({ cls := "HungryHedge", name := "there", desc := "(Ljava/lang/Object;)Ljava/lang/Object;" } : Jvm.MethodName) prog_1_method_56_code (2 : Nat) (Option.some (Jvm.ClassFile.FieldType.object "java/lang/Object"))) ∈ lw_all := lw_g (lw_at lw_m4 58 rfl) rfl
theorem q884 : (Jvm.Cond.classLink "HungryHedge" (248 : Nat) "[S") ∈ lw_all := lw_g (lw_at lw_m4 59 rfl) rfl
theorem q885 : (Jvm.Cond.methodLink "HungryHedge" (250 : Nat) ({ cls := "HungryHedge", name := "tenOf", desc := "([S)I" } : Jvm.MethodName)) ∈ lw_all := lw_g (lw_at lw_m4 60 rfl) rfl
theorem q886 : (Jvm.Cond.privateMethod ({ cls := "HungryHedge", name := "tenOf", desc := "([S)I" } : Jvm.MethodName)) ∈ lw_tbl := lw_at lw_m4 61 rfl
theorem q887 : (Jvm.Cond.instanceMethod ({ cls := "HungryHedge", name := "tenOf", desc := "([S)I" } : Jvm.MethodName)) ∈ lw_all := lw_g (lw_at lw_m4 62 rfl) rfl
theorem q888 : (Jvm.Cond.code ({ cls := "HungryHedge", name := "tenOf", desc := "([S)I" } : Jvm.MethodName) prog_1_method_28_code (5 : Nat) (Option.some Jvm.ClassFile.FieldType.int)) ∈ lw_all := lw_g (lw_at lw_m4 63 rfl) rfl
theorem q889 : (Jvm.Cond.classLink "HungryHedge" (232 : Nat) "HungryHedge$Risk") ∈ lw_all := lw_g (lw_at lw_m4 64 rfl) rfl
theorem q891 : (Jvm.Cond.methodLinkNest "HungryHedge" (234 : Nat) ({ cls := "HungryHedge$Risk", name := "<init>", desc := "()V" } : Jvm.MethodName) "HungryHedge") ∈ lw_tbl := lw_at lw_m4 66 rfl
theorem q897 : (Jvm.Cond.fieldLinkNest "HungryHedge" (235 : Nat) "HungryHedge$Risk" "brings" "[I" "HungryHedge") ∈ lw_tbl := lw_at lw_m4 72 rfl
theorem q902 : (Jvm.Cond.instanceMethod ({ cls := "HungryHedge", name := "yields", desc := "(II)I" } : Jvm.MethodName)) ∈ lw_all := lw_g (lw_at lw_m4 77 rfl) rfl
theorem q903 : (Jvm.Cond.selects "HungryHedge" ({ cls := "HungryHedge", name := "yields", desc := "(II)I" } : Jvm.MethodName) ({ cls := "HungryHedge", name := "yields", desc := "(II)I" } : Jvm.MethodName)) ∈ lw_all := lw_g (lw_at lw_m4 78 rfl) rfl
theorem q904 : (Jvm.Cond.codeWith ({ cls := "HungryHedge", name := "yields", desc := "(II)I" } : Jvm.MethodName) prog_1_method_31_code (4 : Nat) (Option.some Jvm.ClassFile.FieldType.int) [((17 : Nat), (38 : Nat), (39 : Nat), (89 : Nat)), ((17 : Nat), (38 : Nat), (43 : Nat), (254 : Nat))]) ∈ lw_all := lw_g (lw_at lw_m4 79 rfl) rfl
theorem q905 : (Jvm.Cond.classLink "HungryHedge" (256 : Nat) "[B") ∈ lw_all := lw_g (lw_at lw_m4 80 rfl) rfl
theorem q906 : (Jvm.Cond.methodLink "HungryHedge" (257 : Nat) ({ cls := "HungryHedge", name := "yieldsBy", desc := "(I[B)I" } : Jvm.MethodName)) ∈ lw_all := lw_g (lw_at lw_m4 81 rfl) rfl
theorem q907 : (Jvm.Cond.privateMethod ({ cls := "HungryHedge", name := "yieldsBy", desc := "(I[B)I" } : Jvm.MethodName)) ∈ lw_tbl := lw_at lw_m4 82 rfl
theorem q908 : (Jvm.Cond.instanceMethod ({ cls := "HungryHedge", name := "yieldsBy", desc := "(I[B)I" } : Jvm.MethodName)) ∈ lw_all := lw_g (lw_at lw_m4 83 rfl) rfl
theorem q909 : (Jvm.Cond.code ({ cls := "HungryHedge", name := "yieldsBy", desc := "(I[B)I" } : Jvm.MethodName) prog_1_method_30_code (5 : Nat) (Option.some Jvm.ClassFile.FieldType.int)) ∈ lw_all := lw_g (lw_at lw_m4 84 rfl) rfl
theorem q911 : (Jvm.Cond.instanceMethod ({ cls := "HungryHedge", name := "flock", desc := "(II)I" } : Jvm.MethodName)) ∈ lw_all := lw_g (lw_at lw_m4 86 rfl) rfl
theorem q912 : (Jvm.Cond.selects "HungryHedge" ({ cls := "HungryHedge", name := "flock", desc := "(II)I" } : Jvm.MethodName) ({ cls := "HungryHedge", name := "flock", desc := "(II)I" } : Jvm.MethodName)) ∈ lw_all := lw_g (lw_at lw_m4 87 rfl) rfl
theorem q913 : (Jvm.Cond.code ({ cls := "HungryHedge", name := "flock", desc := "(II)I" } : Jvm.MethodName) prog_1_method_32_code (4 : Nat) (Option.some Jvm.ClassFile.FieldType.int)) ∈ lw_all := lw_g (lw_at lw_m4 88 rfl) rfl
theorem q915 : (Jvm.Cond.instanceMethod ({ cls := "HungryHedge", name := "rests", desc := "()I" } : Jvm.MethodName)) ∈ lw_all := lw_g (lw_at lw_m4 90 rfl) rfl
theorem q916 : (Jvm.Cond.selects "HungryHedge" ({ cls := "HungryHedge", name := "rests", desc := "()I" } : Jvm.MethodName) ({ cls := "HungryHedge", name := "rests", desc := "()I" } : Jvm.MethodName)) ∈ lw_all := lw_g (lw_at lw_m4 91 rfl) rfl
theorem q917 : (Jvm.Cond.code ({ cls := "HungryHedge", name := "rests", desc := "()I" } : Jvm.MethodName) prog_1_method_33_code (1 : Nat) (Option.some Jvm.ClassFile.FieldType.int)) ∈ lw_all := lw_g (lw_at lw_m4 92 rfl) rfl
theorem q918 : (Jvm.Cond.methodLink "HungryHedge" (270 : Nat) ({ cls := "HungryHedge$Spread", name := "finds", desc := "(I)I" } : Jvm.MethodName)) ∈ lw_all := lw_g (lw_at lw_m4 93 rfl) rfl
theorem q936 : (Jvm.Cond.instanceMethod ({ cls := "HungryHedge", name := "restOf", desc := "(II)I" } : Jvm.MethodName)) ∈ lw_all := lw_g (lw_at lw_m4 111 rfl) rfl
theorem q937 : (Jvm.Cond.selects "HungryHedge" ({ cls := "HungryHedge", name := "restOf", desc := "(II)I" } : Jvm.MethodName) ({ cls := "HungryHedge", name := "restOf", desc := "(II)I" } : Jvm.MethodName)) ∈ lw_all := lw_g (lw_at lw_m4 112 rfl) rfl
theorem q938 : (Jvm.Cond.code ({ cls := "HungryHedge", name := "restOf", desc := "(II)I" } : Jvm.MethodName) prog_1_method_34_code (3 : Nat) (Option.some Jvm.ClassFile.FieldType.int)) ∈ lw_all := lw_g (lw_at lw_m4 113 rfl) rfl
theorem q940 : (Jvm.Cond.instanceMethod ({ cls := "HungryHedge", name := "finders", desc := "(III)I" } : Jvm.MethodName)) ∈ lw_all := lw_g (lw_at lw_m4 115 rfl) rfl
theorem q941 : (Jvm.Cond.selects "HungryHedge" ({ cls := "HungryHedge", name := "finders", desc := "(III)I" } : Jvm.MethodName) ({ cls := "HungryHedge", name := "finders", desc := "(III)I" } : Jvm.MethodName)) ∈ lw_all := lw_g (lw_at lw_m4 116 rfl) rfl
theorem q942 : (Jvm.Cond.code ({ cls := "HungryHedge", name := "finders", desc := "(III)I" } : Jvm.MethodName) prog_1_method_35_code (10 : Nat) (Option.some Jvm.ClassFile.FieldType.int)) ∈ lw_all := lw_g (lw_at lw_m4 117 rfl) rfl
theorem q944 : (Jvm.Cond.instanceMethod ({ cls := "HungryHedge", name := "feed", desc := "(JI)I" } : Jvm.MethodName)) ∈ lw_all := lw_g (lw_at lw_m4 119 rfl) rfl
theorem q945 : (Jvm.Cond.selects "HungryHedge" ({ cls := "HungryHedge", name := "feed", desc := "(JI)I" } : Jvm.MethodName) ({ cls := "HungryHedge", name := "feed", desc := "(JI)I" } : Jvm.MethodName)) ∈ lw_all := lw_g (lw_at lw_m4 120 rfl) rfl
theorem q946 : (Jvm.Cond.code ({ cls := "HungryHedge", name := "feed", desc := "(JI)I" } : Jvm.MethodName) prog_1_method_37_code (5 : Nat) (Option.some Jvm.ClassFile.FieldType.int)) ∈ lw_all := lw_g (lw_at lw_m4 121 rfl) rfl
theorem q948 : (Jvm.Cond.instanceMethod ({ cls := "HungryHedge", name := "read", desc := "()I" } : Jvm.MethodName)) ∈ lw_all := lw_g (lw_at lw_m4 123 rfl) rfl
theorem q949 : (Jvm.Cond.selects "HungryHedge" ({ cls := "HungryHedge", name := "read", desc := "()I" } : Jvm.MethodName) ({ cls := "HungryHedge", name := "read", desc := "()I" } : Jvm.MethodName)) ∈ lw_all := lw_g (lw_at lw_m4 124 rfl) rfl
theorem q950 : (Jvm.Cond.codeWith ({ cls := "HungryHedge", name := "read", desc := "()I" } : Jvm.MethodName) prog_1_method_38_code (3 : Nat) (Option.some Jvm.ClassFile.FieldType.int) [((10 : Nat), (22 : Nat), (25 : Nat), (288 : Nat))]) ∈ lw_all := lw_g (lw_at lw_m4 125 rfl) rfl
theorem q951 : (Jvm.Cond.classLink "HungryHedge" (288 : Nat) "HungryHedge$Fault") ∈ lw_all := lw_g (lw_at lw_m4 126 rfl) rfl
theorem q952 : (Jvm.Cond.methodLink "HungryHedge" (284 : Nat) ({ cls := "HungryHedge$Reader", name := "read", desc := "([BI)V" } : Jvm.MethodName)) ∈ lw_all := lw_g (lw_at lw_m4 127 rfl) rfl
theorem q1136 : (Jvm.Cond.fieldLinkNest "HungryHedge" (302 : Nat) "HungryHedge$Clause" "act" "I" "HungryHedge") ∈ lw_tbl := lw_at lw_m5 71 rfl
theorem q1138 : (Jvm.Cond.fieldLinkNest "HungryHedge" (307 : Nat) "HungryHedge$Clause" "cond" "LHungryHedge$Cond;" "HungryHedge") ∈ lw_tbl := lw_at lw_m5 73 rfl
theorem q1146 : (Jvm.Cond.instanceMethod ({ cls := "HungryHedge", name := "ruled", desc := "()I" } : Jvm.MethodName)) ∈ lw_all := lw_g (lw_at lw_m5 81 rfl) rfl
theorem q1147 : (Jvm.Cond.selects "HungryHedge" ({ cls := "HungryHedge", name := "ruled", desc := "()I" } : Jvm.MethodName) ({ cls := "HungryHedge", name := "ruled", desc := "()I" } : Jvm.MethodName)) ∈ lw_all := lw_g (lw_at lw_m5 82 rfl) rfl
theorem q1148 : (Jvm.Cond.code ({ cls := "HungryHedge", name := "ruled", desc := "()I" } : Jvm.MethodName) prog_1_method_41_code (1 : Nat) (Option.some Jvm.ClassFile.FieldType.int)) ∈ lw_all := lw_g (lw_at lw_m5 83 rfl) rfl
theorem q1149 : (Jvm.Cond.methodLink "HungryHedge" (320 : Nat) ({ cls := "HungryHedge", name := "ruledFor", desc := "(LHungryHedge$Trip;)I" } : Jvm.MethodName)) ∈ lw_all := lw_g (lw_at lw_m5 84 rfl) rfl
theorem q1150 : (Jvm.Cond.privateMethod ({ cls := "HungryHedge", name := "ruledFor", desc := "(LHungryHedge$Trip;)I" } : Jvm.MethodName)) ∈ lw_tbl := lw_at lw_m5 85 rfl
theorem q1151 : (Jvm.Cond.instanceMethod ({ cls := "HungryHedge", name := "ruledFor", desc := "(LHungryHedge$Trip;)I" } : Jvm.MethodName)) ∈ lw_all := lw_g (lw_at lw_m5 86 rfl) rfl
theorem q1152 : (Jvm.Cond.code ({ cls := "HungryHedge", name := "ruledFor", desc := "(LHungryHedge$Trip;)I" } : Jvm.MethodName) prog_1_method_40_code (3 : Nat) (Option.some Jvm.ClassFile.FieldType.int)) ∈ lw_all := lw_g (lw_at lw_m5 87 rfl) rfl
theorem q1153 : (Jvm.Cond.methodLink "HungryHedge" (317 : Nat) ({ cls := "HungryHedge", name := "clauseFor", desc := "(LHungryHedge$Trip;)I" } : Jvm.MethodName)) ∈ lw_all := lw_g (lw_at lw_m5 88 rfl) rfl
theorem q1154 : (Jvm.Cond.privateMethod ({ cls := "HungryHedge", name := "clauseFor", desc := "(LHungryHedge$Trip;)I" } : Jvm.MethodName)) ∈ lw_tbl := lw_at lw_m5 89 rfl
theorem q1155 : (Jvm.Cond.instanceMethod ({ cls := "HungryHedge", name := "clauseFor", desc := "(LHungryHedge$Trip;)I" } : Jvm.MethodName)) ∈ lw_all := lw_g (lw_at lw_m5 90 rfl) rfl
theorem q1156 : (Jvm.Cond.code ({ cls := "HungryHedge", name := "clauseFor", desc := "(LHungryHedge$Trip;)I" } : Jvm.MethodName) prog_1_method_39_code (3 : Nat) (Option.some Jvm.ClassFile.FieldType.int)) ∈ lw_all := lw_g (lw_at lw_m5 91 rfl) rfl
theorem q1157 : (Jvm.Cond.interfaceEntry "HungryHedge" (311 : Nat)) ∈ lw_tbl := lw_at lw_m5 92 rfl
theorem q1158 : (Jvm.Cond.methodLink "HungryHedge" (311 : Nat) ({ cls := "HungryHedge$Cond", name := "holds", desc := "(LHungryHedge;LHungryHedge$Trip;)Z" } : Jvm.MethodName)) ∈ lw_all := lw_g (lw_at lw_m5 93 rfl) rfl
theorem q1176 : (Jvm.Cond.privateMethod ({ cls := "HungryHedge", name := "value", desc := "(LHungryHedge$Trip;II)I" } : Jvm.MethodName)) ∈ lw_tbl := lw_at lw_m5 111 rfl
theorem q1177 : (Jvm.Cond.instanceMethod ({ cls := "HungryHedge", name := "value", desc := "(LHungryHedge$Trip;II)I" } : Jvm.MethodName)) ∈ lw_all := lw_g (lw_at lw_m5 112 rfl) rfl
theorem q1178 : (Jvm.Cond.code ({ cls := "HungryHedge", name := "value", desc := "(LHungryHedge$Trip;II)I" } : Jvm.MethodName) prog_1_method_36_code (4 : Nat) (Option.some Jvm.ClassFile.FieldType.int)) ∈ lw_all := lw_g (lw_at lw_m5 113 rfl) rfl
theorem q1179 : (Jvm.Cond.methodLink "HungryHedge" (276 : Nat) ({ cls := "java/lang/Math", name := "max", desc := "(II)I" } : Jvm.MethodName)) ∈ lw_all := lw_g (lw_at lw_m5 114 rfl) rfl
theorem q1197 : (Jvm.Cond.instanceMethod ({ cls := "HungryHedge", name := "clause", desc := "()I" } : Jvm.MethodName)) ∈ lw_all := lw_g (lw_at lw_m5 132 rfl) rfl
theorem q1198 : (Jvm.Cond.selects "HungryHedge" ({ cls := "HungryHedge", name := "clause", desc := "()I" } : Jvm.MethodName) ({ cls := "HungryHedge", name := "clause", desc := "()I" } : Jvm.MethodName)) ∈ lw_all := lw_g (lw_at lw_m5 133 rfl) rfl
theorem q1199 : (Jvm.Cond.code ({ cls := "HungryHedge", name := "clause", desc := "()I" } : Jvm.MethodName) prog_1_method_42_code (1 : Nat) (Option.some Jvm.ClassFile.FieldType.int)) ∈ lw_all := lw_g (lw_at lw_m5 134 rfl) rfl
theorem q1201 : (Jvm.Cond.instanceMethod ({ cls := "HungryHedge", name := "run", desc := "()I" } : Jvm.MethodName)) ∈ lw_all := lw_g (lw_at lw_m5 136 rfl) rfl
theorem q1202 : (Jvm.Cond.selects "HungryHedge" ({ cls := "HungryHedge", name := "run", desc := "()I" } : Jvm.MethodName) ({ cls := "HungryHedge", name := "run", desc := "()I" } : Jvm.MethodName)) ∈ lw_all := lw_g (lw_at lw_m5 137 rfl) rfl
theorem q1203 : (Jvm.Cond.code ({ cls := "HungryHedge", name := "run", desc := "()I" } : Jvm.MethodName) prog_1_method_44_code (1 : Nat) (Option.some Jvm.ClassFile.FieldType.int)) ∈ lw_all := lw_g (lw_at lw_m5 138 rfl) rfl
theorem q1204 : (Jvm.Cond.methodLink "HungryHedge" (327 : Nat) ({ cls := "HungryHedge", name := "runs", desc := "()I" } : Jvm.MethodName)) ∈ lw_all := lw_g (lw_at lw_m5 139 rfl) rfl
theorem q1205 : (Jvm.Cond.privateMethod ({ cls := "HungryHedge", name := "runs", desc := "()I" } : Jvm.MethodName)) ∈ lw_tbl := lw_at lw_m5 140 rfl
theorem q1206 : (Jvm.Cond.instanceMethod ({ cls := "HungryHedge", name := "runs", desc := "()I" } : Jvm.MethodName)) ∈ lw_all := lw_g (lw_at lw_m5 141 rfl) rfl
theorem q1207 : (Jvm.Cond.code ({ cls := "HungryHedge", name := "runs", desc := "()I" } : Jvm.MethodName) prog_1_method_43_code (2 : Nat) (Option.some Jvm.ClassFile.FieldType.int)) ∈ lw_all := lw_g (lw_at lw_m5 142 rfl) rfl
theorem q1208 : (Jvm.Cond.methodLink "HungryHedge" (323 : Nat) ({ cls := "HungryHedge$Trip", name := "become", desc := "(LHungryHedge$Trip;)V" } : Jvm.MethodName)) ∈ lw_all := lw_g (lw_at lw_m5 143 rfl) rfl
theorem q1210 : (Jvm.Cond.instanceMethod ({ cls := "HungryHedge", name := "loss", desc := "()I" } : Jvm.MethodName)) ∈ lw_all := lw_g (lw_at lw_m5 145 rfl) rfl
theorem q1211 : (Jvm.Cond.selects "HungryHedge" ({ cls := "HungryHedge", name := "loss", desc := "()I" } : Jvm.MethodName) ({ cls := "HungryHedge", name := "loss", desc := "()I" } : Jvm.MethodName)) ∈ lw_all := lw_g (lw_at lw_m5 146 rfl) rfl
theorem q1212 : (Jvm.Cond.code ({ cls := "HungryHedge", name := "loss", desc := "()I" } : Jvm.MethodName) prog_1_method_45_code (1 : Nat) (Option.some Jvm.ClassFile.FieldType.int)) ∈ lw_all := lw_g (lw_at lw_m5 147 rfl) rfl
theorem q1214 : (Jvm.Cond.instanceMethod ({ cls := "HungryHedge", name := "prove", desc := "()I" } : Jvm.MethodName)) ∈ lw_all := lw_g (lw_at lw_m5 149 rfl) rfl
theorem q1215 : (Jvm.Cond.selects "HungryHedge" ({ cls := "HungryHedge", name := "prove", desc := "()I" } : Jvm.MethodName) ({ cls := "HungryHedge", name := "prove", desc := "()I" } : Jvm.MethodName)) ∈ lw_all := lw_g (lw_at lw_m5 150 rfl) rfl
theorem q1216 : (Jvm.Cond.code ({ cls := "HungryHedge", name := "prove", desc := "()I" } : Jvm.MethodName) prog_1_method_47_code (2 : Nat) (Option.some Jvm.ClassFile.FieldType.int)) ∈ lw_all := lw_g (lw_at lw_m5 151 rfl) rfl
theorem q1218 : (Jvm.Cond.instanceMethod ({ cls := "HungryHedge", name := "row", desc := "(II)I" } : Jvm.MethodName)) ∈ lw_all := lw_g (lw_at lw_m5 153 rfl) rfl
theorem q1219 : (Jvm.Cond.selects "HungryHedge" ({ cls := "HungryHedge", name := "row", desc := "(II)I" } : Jvm.MethodName) ({ cls := "HungryHedge", name := "row", desc := "(II)I" } : Jvm.MethodName)) ∈ lw_all := lw_g (lw_at lw_m5 154 rfl) rfl
theorem q1220 : (Jvm.Cond.code ({ cls := "HungryHedge", name := "row", desc := "(II)I" } : Jvm.MethodName) prog_1_method_49_code (3 : Nat) (Option.some Jvm.ClassFile.FieldType.int)) ∈ lw_all := lw_g (lw_at lw_m5 155 rfl) rfl
theorem q1221 : (Jvm.Cond.methodLink "HungryHedge" (339 : Nat) ({ cls := "HungryHedge", name := "isCell", desc := "(II)Z" } : Jvm.MethodName)) ∈ lw_all := lw_g (lw_at lw_m5 156 rfl) rfl
theorem q1222 : (Jvm.Cond.privateMethod ({ cls := "HungryHedge", name := "isCell", desc := "(II)Z" } : Jvm.MethodName)) ∈ lw_tbl := lw_at lw_m5 157 rfl
theorem q1223 : (Jvm.Cond.instanceMethod ({ cls := "HungryHedge", name := "isCell", desc := "(II)Z" } : Jvm.MethodName)) ∈ lw_all := lw_g (lw_at lw_m5 158 rfl) rfl
theorem q1224 : (Jvm.Cond.code ({ cls := "HungryHedge", name := "isCell", desc := "(II)Z" } : Jvm.MethodName) prog_1_method_48_code (3 : Nat) (Option.some Jvm.ClassFile.FieldType.boolean)) ∈ lw_all := lw_g (lw_at lw_m5 159 rfl) rfl
theorem q1226 : (Jvm.Cond.instanceMethod ({ cls := "HungryHedge", name := "alterRow", desc := "(III)I" } : Jvm.MethodName)) ∈ lw_all := lw_g (lw_at lw_m5 161 rfl) rfl
theorem q1227 : (Jvm.Cond.selects "HungryHedge" ({ cls := "HungryHedge", name := "alterRow", desc := "(III)I" } : Jvm.MethodName) ({ cls := "HungryHedge", name := "alterRow", desc := "(III)I" } : Jvm.MethodName)) ∈ lw_all := lw_g (lw_at lw_m5 162 rfl) rfl
theorem q1228 : (Jvm.Cond.code ({ cls := "HungryHedge", name := "alterRow", desc := "(III)I" } : Jvm.MethodName) prog_1_method_50_code (5 : Nat) (Option.some Jvm.ClassFile.FieldType.int)) ∈ lw_all := lw_g (lw_at lw_m5 163 rfl) rfl
theorem q1229 : (Jvm.Cond.methodLink "HungryHedge" (342 : Nat) ({ cls := "HungryHedge", name := "row", desc := "(II)I" } : Jvm.MethodName)) ∈ lw_all := lw_g (lw_at lw_m5 164 rfl) rfl
theorem q1231 : (Jvm.Cond.instanceMethod ({ cls := "HungryHedge", name := "judge", desc := "()I" } : Jvm.MethodName)) ∈ lw_all := lw_g (lw_at lw_m5 166 rfl) rfl
theorem q1232 : (Jvm.Cond.selects "HungryHedge" ({ cls := "HungryHedge", name := "judge", desc := "()I" } : Jvm.MethodName) ({ cls := "HungryHedge", name := "judge", desc := "()I" } : Jvm.MethodName)) ∈ lw_all := lw_g (lw_at lw_m5 167 rfl) rfl
theorem q1233 : (Jvm.Cond.code ({ cls := "HungryHedge", name := "judge", desc := "()I" } : Jvm.MethodName) prog_1_method_52_code (3 : Nat) (Option.some Jvm.ClassFile.FieldType.int)) ∈ lw_all := lw_g (lw_at lw_m5 168 rfl) rfl
theorem q1234 : (Jvm.Cond.methodLink "HungryHedge" (344 : Nat) ({ cls := "HungryHedge", name := "mayAny", desc := "(LHungryHedge$Trip;)Z" } : Jvm.MethodName)) ∈ lw_all := lw_g (lw_at lw_m5 169 rfl) rfl
theorem q1235 : (Jvm.Cond.privateMethod ({ cls := "HungryHedge", name := "mayAny", desc := "(LHungryHedge$Trip;)Z" } : Jvm.MethodName)) ∈ lw_tbl := lw_at lw_m5 170 rfl
theorem q1236 : (Jvm.Cond.instanceMethod ({ cls := "HungryHedge", name := "mayAny", desc := "(LHungryHedge$Trip;)Z" } : Jvm.MethodName)) ∈ lw_all := lw_g (lw_at lw_m5 171 rfl) rfl
theorem q1237 : (Jvm.Cond.code ({ cls := "HungryHedge", name := "mayAny", desc := "(LHungryHedge$Trip;)Z" } : Jvm.MethodName) prog_1_method_51_code (4 : Nat) (Option.some Jvm.ClassFile.FieldType.boolean)) ∈ lw_all := lw_g (lw_at lw_m5 172 rfl) rfl
theorem q1239 : (Jvm.Cond.instanceMethod ({ cls := "HungryHedge", name := "sheet", desc := "(III)I" } : Jvm.MethodName)) ∈ lw_all := lw_g (lw_at lw_m5 174 rfl) rfl
theorem q1240 : (Jvm.Cond.selects "HungryHedge" ({ cls := "HungryHedge", name := "sheet", desc := "(III)I" } : Jvm.MethodName) ({ cls := "HungryHedge", name := "sheet", desc := "(III)I" } : Jvm.MethodName)) ∈ lw_all := lw_g (lw_at lw_m5 175 rfl) rfl
theorem q1241 : (Jvm.Cond.codeWith ({ cls := "HungryHedge", name := "sheet", desc := "(III)I" } : Jvm.MethodName) prog_1_method_57_code (5 : Nat) (Option.some Jvm.ClassFile.FieldType.int) [((28 : Nat), (40 : Nat), (41 : Nat), (354 : Nat))]) ∈ lw_all := lw_g (lw_at lw_m5 176 rfl) rfl
theorem q1242 : (Jvm.Cond.classLink "HungryHedge" (354 : Nat) "java/lang/NegativeArraySizeException") ∈ lw_all := lw_g (lw_at lw_m5 177 rfl) rfl
theorem q1256 : (Jvm.Cond.methodLink "HungryHedge" (351 : Nat) ({ cls := "HungryHedge$Sheet", name := "becomes", desc := "(II)V" } : Jvm.MethodName)) ∈ lw_all := lw_g (lw_at lw_m5 191 rfl) rfl
theorem q1262 : (Jvm.Cond.instanceMethod ({ cls := "HungryHedge", name := "put", desc := "(III)I" } : Jvm.MethodName)) ∈ lw_all := lw_g (lw_at lw_m5 197 rfl) rfl
theorem q1263 : (Jvm.Cond.selects "HungryHedge" ({ cls := "HungryHedge", name := "put", desc := "(III)I" } : Jvm.MethodName) ({ cls := "HungryHedge", name := "put", desc := "(III)I" } : Jvm.MethodName)) ∈ lw_all := lw_g (lw_at lw_m5 198 rfl) rfl
theorem q1264 : (Jvm.Cond.codeWith ({ cls := "HungryHedge", name := "put", desc := "(III)I" } : Jvm.MethodName) prog_1_method_59_code (5 : Nat) (Option.some Jvm.ClassFile.FieldType.int) [((9 : Nat), (29 : Nat), (30 : Nat), (89 : Nat)), ((9 : Nat), (29 : Nat), (35 : Nat), (82 : Nat))]) ∈ lw_all := lw_g (lw_at lw_m5 199 rfl) rfl
theorem q1265 : (Jvm.Cond.methodLink "HungryHedge" (363 : Nat) ({ cls := "HungryHedge", name := "set", desc := "(Ljava/lang/Object;II)V" } : Jvm.MethodName)) ∈ lw_all := lw_g (lw_at lw_m5 200 rfl) rfl
theorem q1266 : (Jvm.Cond.privateMethod ({ cls := "HungryHedge", name := "set", desc := "(Ljava/lang/Object;II)V" } : Jvm.MethodName)) ∈ lw_tbl := lw_at lw_m5 201 rfl
theorem q1267 : (Jvm.Cond.instanceMethod ({ cls := "HungryHedge", name := "set", desc := "(Ljava/lang/Object;II)V" } : Jvm.MethodName)) ∈ lw_all := lw_g (lw_at lw_m5 202 rfl) rfl
theorem q1268 : (Jvm.Cond.code ({ cls := "HungryHedge", name := "set", desc := "(Ljava/lang/Object;II)V" } : Jvm.MethodName) prog_1_method_58_code (4 : Nat) (Option.none : Option Jvm.ClassFile.FieldType)) ∈ lw_all := lw_g (lw_at lw_m5 203 rfl) rfl
theorem q1269 : (Jvm.Cond.methodLink "HungryHedge" (356 : Nat) ({ cls := "HungryHedge", name := "lengthOf", desc := "(Ljava/lang/Object;)I" } : Jvm.MethodName)) ∈ lw_all := lw_g (lw_at lw_m5 204 rfl) rfl
theorem q1270 : (Jvm.Cond.static ({ cls := "HungryHedge", name := "lengthOf", desc := "(Ljava/lang/Object;)I" } : Jvm.MethodName)) ∈ lw_all := lw_g (lw_at lw_m5 205 rfl) rfl
theorem q1271 : (Jvm.Cond.code ({ cls := "HungryHedge", name := "lengthOf", desc := "(Ljava/lang/Object;)I" } : Jvm.MethodName) prog_1_method_54_code (1 : Nat) (Option.some Jvm.ClassFile.FieldType.int)) ∈ lw_all := lw_g (lw_at lw_m5 206 rfl) rfl
theorem q1272 : (Jvm.Cond.classLink "HungryHedge" (348 : Nat) "[J") ∈ lw_all := lw_g (lw_at lw_m5 207 rfl) rfl
theorem q1273 : (Jvm.Cond.classLink "HungryHedge" (350 : Nat) "[I") ∈ lw_all := lw_g (lw_at lw_m5 208 rfl) rfl
theorem q1274 : (Jvm.Cond.methodLink "HungryHedge" (360 : Nat) ({ cls := "HungryHedge", name := "within", desc := "(II)V" } : Jvm.MethodName)) ∈ lw_all := lw_g (lw_at lw_m5 209 rfl) rfl
theorem q1275 : (Jvm.Cond.privateMethod ({ cls := "HungryHedge", name := "within", desc := "(II)V" } : Jvm.MethodName)) ∈ lw_tbl := lw_at lw_m5 210 rfl
theorem q1276 : (Jvm.Cond.instanceMethod ({ cls := "HungryHedge", name := "within", desc := "(II)V" } : Jvm.MethodName)) ∈ lw_all := lw_g (lw_at lw_m5 211 rfl) rfl
theorem q1277 : (Jvm.Cond.code ({ cls := "HungryHedge", name := "within", desc := "(II)V" } : Jvm.MethodName) prog_1_method_55_code (3 : Nat) (Option.none : Option Jvm.ClassFile.FieldType)) ∈ lw_all := lw_g (lw_at lw_m5 212 rfl) rfl
theorem q1279 : (Jvm.Cond.instanceMethod ({ cls := "HungryHedge", name := "item", desc := "(III)I" } : Jvm.MethodName)) ∈ lw_all := lw_g (lw_at lw_m5 214 rfl) rfl
theorem q1280 : (Jvm.Cond.selects "HungryHedge" ({ cls := "HungryHedge", name := "item", desc := "(III)I" } : Jvm.MethodName) ({ cls := "HungryHedge", name := "item", desc := "(III)I" } : Jvm.MethodName)) ∈ lw_all := lw_g (lw_at lw_m5 215 rfl) rfl
theorem q1281 : (Jvm.Cond.codeWith ({ cls := "HungryHedge", name := "item", desc := "(III)I" } : Jvm.MethodName) prog_1_method_65_code (5 : Nat) (Option.some Jvm.ClassFile.FieldType.int) [((18 : Nat), (37 : Nat), (38 : Nat), (89 : Nat)), ((18 : Nat), (37 : Nat), (43 : Nat), (254 : Nat)), ((18 : Nat), (37 : Nat), (48 : Nat), (82 : Nat))]) ∈ lw_all := lw_g (lw_at lw_m5 216 rfl) rfl
theorem q1282 : (Jvm.Cond.methodLink "HungryHedge" (383 : Nat) ({ cls := "HungryHedge", name := "itemOf", desc := "(Ljava/lang/Object;II)I" } : Jvm.MethodName)) ∈ lw_all := lw_g (lw_at lw_m5 217 rfl) rfl
theorem q1283 : (Jvm.Cond.privateMethod ({ cls := "HungryHedge", name := "itemOf", desc := "(Ljava/lang/Object;II)I" } : Jvm.MethodName)) ∈ lw_tbl := lw_at lw_m5 218 rfl
theorem q1284 : (Jvm.Cond.instanceMethod ({ cls := "HungryHedge", name := "itemOf", desc := "(Ljava/lang/Object;II)I" } : Jvm.MethodName)) ∈ lw_all := lw_g (lw_at lw_m5 219 rfl) rfl
theorem q1285 : (Jvm.Cond.code ({ cls := "HungryHedge", name := "itemOf", desc := "(Ljava/lang/Object;II)I" } : Jvm.MethodName) prog_1_method_64_code (4 : Nat) (Option.some Jvm.ClassFile.FieldType.int)) ∈ lw_all := lw_g (lw_at lw_m5 220 rfl) rfl
theorem q1286 : (Jvm.Cond.methodLink "HungryHedge" (367 : Nat) ({ cls := "HungryHedge", name := "byteAt", desc := "([BI)I" } : Jvm.MethodName)) ∈ lw_all := lw_g (lw_at lw_m5 221 rfl) rfl
theorem q1287 : (Jvm.Cond.privateMethod ({ cls := "HungryHedge", name := "byteAt", desc := "([BI)I" } : Jvm.MethodName)) ∈ lw_tbl := lw_at lw_m5 222 rfl
theorem q1288 : (Jvm.Cond.instanceMethod ({ cls := "HungryHedge", name := "byteAt", desc := "([BI)I" } : Jvm.MethodName)) ∈ lw_all := lw_g (lw_at lw_m5 223 rfl) rfl
theorem q1289 : (Jvm.Cond.code ({ cls := "HungryHedge", name := "byteAt", desc := "([BI)I" } : Jvm.MethodName) prog_1_method_60_code (3 : Nat) (Option.some Jvm.ClassFile.FieldType.int)) ∈ lw_all := lw_g (lw_at lw_m5 224 rfl) rfl
theorem q1290 : (Jvm.Cond.methodLink "HungryHedge" (371 : Nat) ({ cls := "HungryHedge", name := "shortAt", desc := "([SI)I" } : Jvm.MethodName)) ∈ lw_all := lw_g (lw_at lw_m5 225 rfl) rfl
theorem q1291 : (Jvm.Cond.privateMethod ({ cls := "HungryHedge", name := "shortAt", desc := "([SI)I" } : Jvm.MethodName)) ∈ lw_tbl := lw_at lw_m5 226 rfl
theorem q1292 : (Jvm.Cond.instanceMethod ({ cls := "HungryHedge", name := "shortAt", desc := "([SI)I" } : Jvm.MethodName)) ∈ lw_all := lw_g (lw_at lw_m5 227 rfl) rfl
theorem q1293 : (Jvm.Cond.code ({ cls := "HungryHedge", name := "shortAt", desc := "([SI)I" } : Jvm.MethodName) prog_1_method_61_code (3 : Nat) (Option.some Jvm.ClassFile.FieldType.int)) ∈ lw_all := lw_g (lw_at lw_m5 228 rfl) rfl
theorem q1294 : (Jvm.Cond.methodLink "HungryHedge" (375 : Nat) ({ cls := "HungryHedge", name := "intAt", desc := "([II)I" } : Jvm.MethodName)) ∈ lw_all := lw_g (lw_at lw_m5 229 rfl) rfl
theorem q1295 : (Jvm.Cond.privateMethod ({ cls := "HungryHedge", name := "intAt", desc := "([II)I" } : Jvm.MethodName)) ∈ lw_tbl := lw_at lw_m5 230 rfl
theorem q1296 : (Jvm.Cond.instanceMethod ({ cls := "HungryHedge", name := "intAt", desc := "([II)I" } : Jvm.MethodName)) ∈ lw_all := lw_g (lw_at lw_m5 231 rfl) rfl
theorem q1297 : (Jvm.Cond.code ({ cls := "HungryHedge", name := "intAt", desc := "([II)I" } : Jvm.MethodName) prog_1_method_62_code (3 : Nat) (Option.some Jvm.ClassFile.FieldType.int)) ∈ lw_all := lw_g (lw_at lw_m5 232 rfl) rfl
theorem q1298 : (Jvm.Cond.methodLink "HungryHedge" (379 : Nat) ({ cls := "HungryHedge", name := "longAt", desc := "([JI)I" } : Jvm.MethodName)) ∈ lw_all := lw_g (lw_at lw_m5 233 rfl) rfl
theorem q1299 : (Jvm.Cond.privateMethod ({ cls := "HungryHedge", name := "longAt", desc := "([JI)I" } : Jvm.MethodName)) ∈ lw_tbl := lw_at lw_m5 234 rfl
theorem q1300 : (Jvm.Cond.instanceMethod ({ cls := "HungryHedge", name := "longAt", desc := "([JI)I" } : Jvm.MethodName)) ∈ lw_all := lw_g (lw_at lw_m5 235 rfl) rfl
theorem q1301 : (Jvm.Cond.code ({ cls := "HungryHedge", name := "longAt", desc := "([JI)I" } : Jvm.MethodName) prog_1_method_63_code (3 : Nat) (Option.some Jvm.ClassFile.FieldType.int)) ∈ lw_all := lw_g (lw_at lw_m5 236 rfl) rfl
theorem q1303 : (Jvm.Cond.instanceMethod ({ cls := "HungryHedge", name := "acts", desc := "(III)I" } : Jvm.MethodName)) ∈ lw_all := lw_g (lw_at lw_m5 238 rfl) rfl
theorem q1304 : (Jvm.Cond.selects "HungryHedge" ({ cls := "HungryHedge", name := "acts", desc := "(III)I" } : Jvm.MethodName) ({ cls := "HungryHedge", name := "acts", desc := "(III)I" } : Jvm.MethodName)) ∈ lw_all := lw_g (lw_at lw_m5 239 rfl) rfl
theorem q1305 : (Jvm.Cond.codeWith ({ cls := "HungryHedge", name := "acts", desc := "(III)I" } : Jvm.MethodName) prog_1_method_67_code (5 : Nat) (Option.some Jvm.ClassFile.FieldType.int) [((19 : Nat), (41 : Nat), (42 : Nat), (89 : Nat)), ((19 : Nat), (41 : Nat), (47 : Nat), (254 : Nat)), ((19 : Nat), (41 : Nat), (52 : Nat), (82 : Nat))]) ∈ lw_all := lw_g (lw_at lw_m6 0 rfl) rfl
theorem q1306 : (Jvm.Cond.methodLink "HungryHedge" (389 : Nat) ({ cls := "HungryHedge", name := "doneBy", desc := "([III)I" } : Jvm.MethodName)) ∈ lw_all := lw_g (lw_at lw_m6 1 rfl) rfl
theorem q1307 : (Jvm.Cond.privateMethod ({ cls := "HungryHedge", name := "doneBy", desc := "([III)I" } : Jvm.MethodName)) ∈ lw_tbl := lw_at lw_m6 2 rfl
theorem q1308 : (Jvm.Cond.instanceMethod ({ cls := "HungryHedge", name := "doneBy", desc := "([III)I" } : Jvm.MethodName)) ∈ lw_all := lw_g (lw_at lw_m6 3 rfl) rfl
theorem q1309 : (Jvm.Cond.code ({ cls := "HungryHedge", name := "doneBy", desc := "([III)I" } : Jvm.MethodName) prog_1_method_66_code (6 : Nat) (Option.some Jvm.ClassFile.FieldType.int)) ∈ lw_all := lw_g (lw_at lw_m6 4 rfl) rfl
theorem q1310 : (Jvm.Cond.methodLink "HungryHedge" (387 : Nat) ({ cls := "HungryHedge", name := "does", desc := "(I)I" } : Jvm.MethodName)) ∈ lw_all := lw_g (lw_at lw_m6 5 rfl) rfl
theorem q1312 : (Jvm.Cond.instanceMethod ({ cls := "HungryHedge", name := "shelf", desc := "(III)I" } : Jvm.MethodName)) ∈ lw_all := lw_g (lw_at lw_m6 7 rfl) rfl
theorem q1313 : (Jvm.Cond.selects "HungryHedge" ({ cls := "HungryHedge", name := "shelf", desc := "(III)I" } : Jvm.MethodName) ({ cls := "HungryHedge", name := "shelf", desc := "(III)I" } : Jvm.MethodName)) ∈ lw_all := lw_g (lw_at lw_m6 8 rfl) rfl
theorem q1314 : (Jvm.Cond.code ({ cls := "HungryHedge", name := "shelf", desc := "(III)I" } : Jvm.MethodName) prog_1_method_73_code (4 : Nat) (Option.some Jvm.ClassFile.FieldType.int)) ∈ lw_all := lw_g (lw_at lw_m6 9 rfl) rfl
theorem q1315 : (Jvm.Cond.methodLink "HungryHedge" (435 : Nat) ({ cls := "HungryHedge", name := "isShelf", desc := "(I)Z" } : Jvm.MethodName)) ∈ lw_all := lw_g (lw_at lw_m6 10 rfl) rfl
theorem q1316 : (Jvm.Cond.static ({ cls := "HungryHedge", name := "isShelf", desc := "(I)Z" } : Jvm.MethodName)) ∈ lw_all := lw_g (lw_at lw_m6 11 rfl) rfl
theorem q1317 : (Jvm.Cond.code ({ cls := "HungryHedge", name := "isShelf", desc := "(I)Z" } : Jvm.MethodName) prog_1_method_69_code (1 : Nat) (Option.some Jvm.ClassFile.FieldType.boolean)) ∈ lw_all := lw_g (lw_at lw_m6 12 rfl) rfl
theorem q1318 : (Jvm.Cond.methodLink "HungryHedge" (420 : Nat) ({ cls := "HungryHedge", name := "isRisk", desc := "(I)Z" } : Jvm.MethodName)) ∈ lw_all := lw_g (lw_at lw_m6 13 rfl) rfl
theorem q1319 : (Jvm.Cond.privateMethod ({ cls := "HungryHedge", name := "isRisk", desc := "(I)Z" } : Jvm.MethodName)) ∈ lw_tbl := lw_at lw_m6 14 rfl
theorem q1320 : (Jvm.Cond.instanceMethod ({ cls := "HungryHedge", name := "isRisk", desc := "(I)Z" } : Jvm.MethodName)) ∈ lw_all := lw_g (lw_at lw_m6 15 rfl) rfl
theorem q1321 : (Jvm.Cond.code ({ cls := "HungryHedge", name := "isRisk", desc := "(I)Z" } : Jvm.MethodName) prog_1_method_70_code (2 : Nat) (Option.some Jvm.ClassFile.FieldType.boolean)) ∈ lw_all := lw_g (lw_at lw_m6 16 rfl) rfl
theorem q1323 : (Jvm.Cond.instanceMethod ({ cls := "HungryHedge", name := "taken", desc := "(II)I" } : Jvm.MethodName)) ∈ lw_all := lw_g (lw_at lw_m6 18 rfl) rfl
theorem q1324 : (Jvm.Cond.selects "HungryHedge" ({ cls := "HungryHedge", name := "taken", desc := "(II)I" } : Jvm.MethodName) ({ cls := "HungryHedge", name := "taken", desc := "(II)I" } : Jvm.MethodName)) ∈ lw_all := lw_g (lw_at lw_m6 19 rfl) rfl
theorem q1325 : (Jvm.Cond.codeWith ({ cls := "HungryHedge", name := "taken", desc := "(II)I" } : Jvm.MethodName) prog_1_method_76_code (4 : Nat) (Option.some Jvm.ClassFile.FieldType.int) [((30 : Nat), (48 : Nat), (49 : Nat), (89 : Nat)), ((30 : Nat), (48 : Nat), (53 : Nat), (254 : Nat))]) ∈ lw_all := lw_g (lw_at lw_m6 20 rfl) rfl
theorem q1326 : (Jvm.Cond.methodLink "HungryHedge" (453 : Nat) ({ cls := "HungryHedge", name := "heldOf", desc := "(LHungryHedge$Shelf;)Ljava/lang/Object;" } : Jvm.MethodName)) ∈ lw_all := lw_g (lw_at lw_m6 21 rfl) rfl
theorem q1327 : (Jvm.Cond.privateMethod ({ cls := "HungryHedge", name := "heldOf", desc := "(LHungryHedge$Shelf;)Ljava/lang/Object;" } : Jvm.MethodName)) ∈ lw_tbl := lw_at lw_m6 22 rfl
theorem q1328 : (Jvm.Cond.instanceMethod ({ cls := "HungryHedge", name := "heldOf", desc := "(LHungryHedge$Shelf;)Ljava/lang/Object;" } : Jvm.MethodName)) ∈ lw_all := lw_g (lw_at lw_m6 23 rfl) rfl
theorem q1329 : (Jvm.Cond.code ({ cls := "HungryHedge", name := "heldOf", desc := "(LHungryHedge$Shelf;)Ljava/lang/Object;" } : Jvm.MethodName) prog_1_method_72_code (2 : Nat) (Option.some (Jvm.ClassFile.FieldType.object "java/lang/Object"))) ∈ lw_all := lw_g (lw_at lw_m6 24 rfl) rfl
theorem q1330 : (Jvm.Cond.methodLink "HungryHedge" (416 : Nat) ({ cls := "HungryHedge", name := "patchThing", desc := "(I)LHungryHedge$Tells;" } : Jvm.MethodName)) ∈ lw_all := lw_g (lw_at lw_m6 25 rfl) rfl
theorem q1331 : (Jvm.Cond.privateMethod ({ cls := "HungryHedge", name := "patchThing", desc := "(I)LHungryHedge$Tells;" } : Jvm.MethodName)) ∈ lw_tbl := lw_at lw_m6 26 rfl
theorem q1332 : (Jvm.Cond.instanceMethod ({ cls := "HungryHedge", name := "patchThing", desc := "(I)LHungryHedge$Tells;" } : Jvm.MethodName)) ∈ lw_all := lw_g (lw_at lw_m6 27 rfl) rfl
theorem q1333 : (Jvm.Cond.code ({ cls := "HungryHedge", name := "patchThing", desc := "(I)LHungryHedge$Tells;" } : Jvm.MethodName) prog_1_method_71_code (3 : Nat) (Option.some (Jvm.ClassFile.FieldType.object "HungryHedge$Tells"))) ∈ lw_all := lw_g (lw_at lw_m6 28 rfl) rfl
theorem q1334 : (Jvm.Cond.classLink "HungryHedge" (396 : Nat) "HungryHedge$BushThing") ∈ lw_all := lw_g (lw_at lw_m6 29 rfl) rfl
theorem q1336 : (Jvm.Cond.methodLink "HungryHedge" (398 : Nat) ({ cls := "HungryHedge$BushThing", name := "<init>", desc := "(LHungryHedge;II)V" } : Jvm.MethodName)) ∈ lw_all := lw_g (lw_at lw_m6 31 rfl) rfl
theorem q1360 : (Jvm.Cond.classLink "HungryHedge" (401 : Nat) "HungryHedge$FieldThing") ∈ lw_all := lw_g (lw_at lw_m6 55 rfl) rfl
theorem q1362 : (Jvm.Cond.methodLink "HungryHedge" (403 : Nat) ({ cls := "HungryHedge$FieldThing", name := "<init>", desc := "(LHungryHedge;II)V" } : Jvm.MethodName)) ∈ lw_all := lw_g (lw_at lw_m6 57 rfl) rfl
theorem q1374 : (Jvm.Cond.classLink "HungryHedge" (404 : Nat) "HungryHedge$FeederThing") ∈ lw_all := lw_g (lw_at lw_m6 69 rfl) rfl
theorem q1376 : (Jvm.Cond.methodLink "HungryHedge" (406 : Nat) ({ cls := "HungryHedge$FeederThing", name := "<init>", desc := "(LHungryHedge;II)V" } : Jvm.MethodName)) ∈ lw_all := lw_g (lw_at lw_m6 71 rfl) rfl
theorem q1389 : (Jvm.Cond.classLink "HungryHedge" (407 : Nat) "HungryHedge$NestThing") ∈ lw_all := lw_g (lw_at lw_m6 84 rfl) rfl
theorem q1391 : (Jvm.Cond.methodLink "HungryHedge" (409 : Nat) ({ cls := "HungryHedge$NestThing", name := "<init>", desc := "(LHungryHedge;II)V" } : Jvm.MethodName)) ∈ lw_all := lw_g (lw_at lw_m6 86 rfl) rfl
theorem q1402 : (Jvm.Cond.classLink "HungryHedge" (423 : Nat) "HungryHedge$RiskThing") ∈ lw_all := lw_g (lw_at lw_m6 97 rfl) rfl
theorem q1404 : (Jvm.Cond.methodLink "HungryHedge" (425 : Nat) ({ cls := "HungryHedge$Risk", name := "greatest", desc := "()I" } : Jvm.MethodName)) ∈ lw_all := lw_g (lw_at lw_m6 99 rfl) rfl
theorem q1409 : (Jvm.Cond.methodLink "HungryHedge" (428 : Nat) ({ cls := "HungryHedge$RiskThing", name := "<init>", desc := "(LHungryHedge;II)V" } : Jvm.MethodName)) ∈ lw_all := lw_g (lw_at lw_m6 104 rfl) rfl
theorem q1423 : (Jvm.Cond.classLink "HungryHedge" (429 : Nat) "HungryHedge$BirdThing") ∈ lw_all := lw_g (lw_at lw_m6 118 rfl) rfl
theorem q1425 : (Jvm.Cond.methodLink "HungryHedge" (431 : Nat) ({ cls := "HungryHedge$BirdThing", name := "<init>", desc := "(LHungryHedge;II)V" } : Jvm.MethodName)) ∈ lw_all := lw_g (lw_at lw_m6 120 rfl) rfl
theorem q1439 : (Jvm.Cond.methodLink "HungryHedge" (457 : Nat) ({ cls := "HungryHedge", name := "castTo", desc := "(Ljava/lang/Object;I)I" } : Jvm.MethodName)) ∈ lw_all := lw_g (lw_at lw_m6 134 rfl) rfl
theorem q1440 : (Jvm.Cond.static ({ cls := "HungryHedge", name := "castTo", desc := "(Ljava/lang/Object;I)I" } : Jvm.MethodName)) ∈ lw_all := lw_g (lw_at lw_m6 135 rfl) rfl
theorem q1441 : (Jvm.Cond.code ({ cls := "HungryHedge", name := "castTo", desc := "(Ljava/lang/Object;I)I" } : Jvm.MethodName) prog_1_method_75_code (2 : Nat) (Option.some Jvm.ClassFile.FieldType.int)) ∈ lw_all := lw_g (lw_at lw_m6 136 rfl) rfl
theorem q1442 : (Jvm.Cond.classLink "HungryHedge" (438 : Nat) "HungryHedge$PatchThing") ∈ lw_all := lw_g (lw_at lw_m6 137 rfl) rfl
theorem q1443 : (Jvm.Cond.methodLink "HungryHedge" (440 : Nat) ({ cls := "HungryHedge$PatchThing", name := "its", desc := "()I" } : Jvm.MethodName)) ∈ lw_all := lw_g (lw_at lw_m6 138 rfl) rfl
theorem q1451 : (Jvm.Cond.methodLink "HungryHedge" (443 : Nat) ({ cls := "HungryHedge$BushThing", name := "its", desc := "()I" } : Jvm.MethodName)) ∈ lw_all := lw_g (lw_at lw_m6 146 rfl) rfl
theorem q1457 : (Jvm.Cond.methodLink "HungryHedge" (444 : Nat) ({ cls := "HungryHedge$FieldThing", name := "its", desc := "()I" } : Jvm.MethodName)) ∈ lw_all := lw_g (lw_at lw_m6 152 rfl) rfl
theorem q1461 : (Jvm.Cond.methodLink "HungryHedge" (445 : Nat) ({ cls := "HungryHedge$FeederThing", name := "its", desc := "()I" } : Jvm.MethodName)) ∈ lw_all := lw_g (lw_at lw_m6 156 rfl) rfl
theorem q1464 : (Jvm.Cond.methodLink "HungryHedge" (446 : Nat) ({ cls := "HungryHedge$NestThing", name := "its", desc := "()I" } : Jvm.MethodName)) ∈ lw_all := lw_g (lw_at lw_m6 159 rfl) rfl
theorem q1467 : (Jvm.Cond.methodLink "HungryHedge" (447 : Nat) ({ cls := "HungryHedge$RiskThing", name := "its", desc := "()I" } : Jvm.MethodName)) ∈ lw_all := lw_g (lw_at lw_m6 162 rfl) rfl
theorem q1471 : (Jvm.Cond.methodLink "HungryHedge" (448 : Nat) ({ cls := "HungryHedge$BirdThing", name := "its", desc := "()I" } : Jvm.MethodName)) ∈ lw_all := lw_g (lw_at lw_m6 166 rfl) rfl
theorem q1475 : (Jvm.Cond.methodLink "HungryHedge" (449 : Nat) ({ cls := "HungryHedge", name := "rowAs", desc := "(Ljava/lang/Object;I)I" } : Jvm.MethodName)) ∈ lw_all := lw_g (lw_at lw_m6 170 rfl) rfl
theorem q1476 : (Jvm.Cond.static ({ cls := "HungryHedge", name := "rowAs", desc := "(Ljava/lang/Object;I)I" } : Jvm.MethodName)) ∈ lw_all := lw_g (lw_at lw_m6 171 rfl) rfl
theorem q1477 : (Jvm.Cond.code ({ cls := "HungryHedge", name := "rowAs", desc := "(Ljava/lang/Object;I)I" } : Jvm.MethodName) prog_1_method_74_code (2 : Nat) (Option.some Jvm.ClassFile.FieldType.int)) ∈ lw_all := lw_g (lw_at lw_m6 172 rfl) rfl
theorem q1479 : (Jvm.Cond.instanceMethod ({ cls := "HungryHedge", name := "act", desc := "(III)I" } : Jvm.MethodName)) ∈ lw_all := lw_g (lw_at lw_m6 174 rfl) rfl
theorem q1480 : (Jvm.Cond.selects "HungryHedge" ({ cls := "HungryHedge", name := "act", desc := "(III)I" } : Jvm.MethodName) ({ cls := "HungryHedge", name := "act", desc := "(III)I" } : Jvm.MethodName)) ∈ lw_all := lw_g (lw_at lw_m6 175 rfl) rfl
theorem q1481 : (Jvm.Cond.codeWith ({ cls := "HungryHedge", name := "act", desc := "(III)I" } : Jvm.MethodName) prog_1_method_78_code (6 : Nat) (Option.some Jvm.ClassFile.FieldType.int) [((45 : Nat), (55 : Nat), (56 : Nat), (478 : Nat))]) ∈ lw_all := lw_g (lw_at lw_m6 176 rfl) rfl
theorem q1482 : (Jvm.Cond.classLink "HungryHedge" (478 : Nat) "java/lang/ArithmeticException") ∈ lw_all := lw_g (lw_at lw_m6 177 rfl) rfl
theorem q1496 : (Jvm.Cond.classLink "HungryHedge" (461 : Nat) "HungryHedge$Tells") ∈ lw_all := lw_g (lw_at lw_m6 191 rfl) rfl
theorem q1497 : (Jvm.Cond.methodLink "HungryHedge" (474 : Nat) ({ cls := "HungryHedge", name := "acted", desc := "(LHungryHedge$Tells;II)I" } : Jvm.MethodName)) ∈ lw_all := lw_g (lw_at lw_m6 192 rfl) rfl
theorem q1498 : (Jvm.Cond.static ({ cls := "HungryHedge", name := "acted", desc := "(LHungryHedge$Tells;II)I" } : Jvm.MethodName)) ∈ lw_all := lw_g (lw_at lw_m6 193 rfl) rfl
theorem q1499 : (Jvm.Cond.code ({ cls := "HungryHedge", name := "acted", desc := "(LHungryHedge$Tells;II)I" } : Jvm.MethodName) prog_1_method_77_code (3 : Nat) (Option.some Jvm.ClassFile.FieldType.int)) ∈ lw_all := lw_g (lw_at lw_m6 194 rfl) rfl
theorem q1500 : (Jvm.Cond.interfaceEntry "HungryHedge" (460 : Nat)) ∈ lw_tbl := lw_at lw_m6 195 rfl
theorem q1510 : (Jvm.Cond.privateMethod ({ cls := "HungryHedge", name := "ran", desc := "(I)V" } : Jvm.MethodName)) ∈ lw_tbl := lw_at lw_m6 205 rfl
theorem q1511 : (Jvm.Cond.instanceMethod ({ cls := "HungryHedge", name := "ran", desc := "(I)V" } : Jvm.MethodName)) ∈ lw_all := lw_g (lw_at lw_m6 206 rfl) rfl
theorem q1512 : (Jvm.Cond.code ({ cls := "HungryHedge", name := "ran", desc := "(I)V" } : Jvm.MethodName) prog_1_method_68_code (2 : Nat) (Option.none : Option Jvm.ClassFile.FieldType)) ∈ lw_all := lw_g (lw_at lw_m6 207 rfl) rfl
theorem q1548 : (Jvm.Cond.interfaceEntry "HungryHedge" (465 : Nat)) ∈ lw_tbl := lw_at lw_m7 3 rfl
theorem q1594 : (Jvm.Cond.interfaceEntry "HungryHedge" (468 : Nat)) ∈ lw_tbl := lw_at lw_m7 49 rfl
theorem q1626 : (Jvm.Cond.interfaceEntry "HungryHedge" (471 : Nat)) ∈ lw_tbl := lw_at lw_m7 81 rfl
theorem q1627 : (Jvm.Cond.methodLink "HungryHedge" (471 : Nat) ({ cls := "HungryHedge$Tells", name := "tells", desc := "(I)I" } : Jvm.MethodName)) ∈ lw_all := lw_g (lw_at lw_m7 82 rfl) rfl
theorem q1664 : (Jvm.Cond.instanceMethod ({ cls := "HungryHedge", name := "trace", desc := "(I)I" } : Jvm.MethodName)) ∈ lw_all := lw_g (lw_at lw_m7 119 rfl) rfl
theorem q1665 : (Jvm.Cond.selects "HungryHedge" ({ cls := "HungryHedge", name := "trace", desc := "(I)I" } : Jvm.MethodName) ({ cls := "HungryHedge", name := "trace", desc := "(I)I" } : Jvm.MethodName)) ∈ lw_all := lw_g (lw_at lw_m7 120 rfl) rfl
theorem q1666 : (Jvm.Cond.code ({ cls := "HungryHedge", name := "trace", desc := "(I)I" } : Jvm.MethodName) prog_1_method_79_code (2 : Nat) (Option.some Jvm.ClassFile.FieldType.int)) ∈ lw_all := lw_g (lw_at lw_m7 121 rfl) rfl
theorem q1667 : (Jvm.Cond.methodLink "HungryHedge" (480 : Nat) ({ cls := "java/lang/Math", name := "min", desc := "(II)I" } : Jvm.MethodName)) ∈ lw_all := lw_g (lw_at lw_m7 122 rfl) rfl
theorem q1669 : (Jvm.Cond.instanceMethod ({ cls := "HungryHedge", name := "many", desc := "(I)I" } : Jvm.MethodName)) ∈ lw_all := lw_g (lw_at lw_m7 124 rfl) rfl
theorem q1670 : (Jvm.Cond.selects "HungryHedge" ({ cls := "HungryHedge", name := "many", desc := "(I)I" } : Jvm.MethodName) ({ cls := "HungryHedge", name := "many", desc := "(I)I" } : Jvm.MethodName)) ∈ lw_all := lw_g (lw_at lw_m7 125 rfl) rfl
theorem q1671 : (Jvm.Cond.code ({ cls := "HungryHedge", name := "many", desc := "(I)I" } : Jvm.MethodName) prog_1_method_80_code (2 : Nat) (Option.some Jvm.ClassFile.FieldType.int)) ∈ lw_all := lw_g (lw_at lw_m7 126 rfl) rfl
theorem q1673 : (Jvm.Cond.instanceMethod ({ cls := "HungryHedge", name := "keep", desc := "()I" } : Jvm.MethodName)) ∈ lw_all := lw_g (lw_at lw_m7 128 rfl) rfl
theorem q1674 : (Jvm.Cond.selects "HungryHedge" ({ cls := "HungryHedge", name := "keep", desc := "()I" } : Jvm.MethodName) ({ cls := "HungryHedge", name := "keep", desc := "()I" } : Jvm.MethodName)) ∈ lw_all := lw_g (lw_at lw_m7 129 rfl) rfl
theorem q1675 : (Jvm.Cond.code ({ cls := "HungryHedge", name := "keep", desc := "()I" } : Jvm.MethodName) prog_1_method_81_code (1 : Nat) (Option.some Jvm.ClassFile.FieldType.int)) ∈ lw_all := lw_g (lw_at lw_m7 130 rfl) rfl
theorem q1676 : (Jvm.Cond.methodLink "HungryHedge" (483 : Nat) ({ cls := "HungryHedge$Kept", name := "become", desc := "(LHungryHedge$Kept;)V" } : Jvm.MethodName)) ∈ lw_all := lw_g (lw_at lw_m7 131 rfl) rfl
theorem q1686 : (Jvm.Cond.instanceMethod ({ cls := "HungryHedge", name := "again", desc := "()I" } : Jvm.MethodName)) ∈ lw_all := lw_g (lw_at lw_m7 141 rfl) rfl
theorem q1687 : (Jvm.Cond.selects "HungryHedge" ({ cls := "HungryHedge", name := "again", desc := "()I" } : Jvm.MethodName) ({ cls := "HungryHedge", name := "again", desc := "()I" } : Jvm.MethodName)) ∈ lw_all := lw_g (lw_at lw_m7 142 rfl) rfl
theorem q1688 : (Jvm.Cond.code ({ cls := "HungryHedge", name := "again", desc := "()I" } : Jvm.MethodName) prog_1_method_82_code (1 : Nat) (Option.some Jvm.ClassFile.FieldType.int)) ∈ lw_all := lw_g (lw_at lw_m7 143 rfl) rfl
theorem in_X0 : ∀ w ∈ wsX00, w ∈ lw_all := lw_in wsX00 [606, 608, 610, 612, 614, 616, 618, 620, 622, 624, 626, 628, 630, 632, 634, 636, 638, 640, 642] (by decide +kernel) (by decide +kernel)
