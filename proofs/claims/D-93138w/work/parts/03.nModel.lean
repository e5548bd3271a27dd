/-! HungryHedgeModel -/
set_option maxRecDepth 100000
def RX14 : String := "HungryHedgeModel"
def TX14 : u_T := fun k => match k with
  | 0 => ("HungryHedgeModel", "minute", "I", false)
  | 1 => ("HungryHedgeModel", "got", "I", false)
  | 2 => ("HungryHedgeModel", "dusk", "I", false)
  | 3 => ("HungryHedgeModel", "place", "I", false)
  | 4 => ("HungryHedgeModel", "journey", "I", false)
  | 5 => ("HungryHedgeModel", "force", "I", false)
  | 6 => ("HungryHedgeModel", "strong", "I", false)
  | 7 => ("HungryHedgeModel", "weak", "I", false)
  | 8 => ("HungryHedgeModel", "patches", "I", false)
  | 9 => ("HungryHedgeModel", "risks", "I", false)
  | 10 => ("HungryHedgeModel", "clauses", "I", false)
  | 11 => ("HungryHedgeModel", "patch", "[I", true)
  | 12 => ("HungryHedgeModel", "food", "I", false)
  | 13 => ("HungryHedgeModel", "mile", "[I", true)
  | 14 => ("HungryHedgeModel", "risk", "[I", true)
  | 15 => ("HungryHedgeModel", "clauseEnd", "[I", true)
  | 16 => ("HungryHedgeModel", "clauseDoes", "[I", true)
  | 17 => ("HungryHedgeModel", "way", "[I", true)
  | 18 => ("HungryHedgeModel", "stamp", "I", false)
  | 19 => ("HungryHedgeModel", "nextMinute", "I", false)
  | 20 => ("HungryHedgeModel", "nextPlace", "I", false)
  | 21 => ("HungryHedgeModel", "nextFood", "I", false)
  | 22 => ("HungryHedgeModel", "nextGot", "I", false)
  | 23 => ("HungryHedgeModel", "found", "[I", true)
  | 24 => ("HungryHedgeModel", "pileMinute", "[I", true)
  | 25 => ("HungryHedgeModel", "pilePlace", "[I", true)
  | 26 => ("HungryHedgeModel", "pileFood", "[I", true)
  | 27 => ("HungryHedgeModel", "pileAct", "[I", true)
  | 28 => ("HungryHedgeModel", "pileMost", "[I", true)
  | 29 => ("HungryHedgeModel", "stays", "[I", true)
  | 30 => ("HungryHedgeModel", "bestStays", "[I", true)
  | 31 => ("HungryHedgeModel", "roundGot", "I", false)
  | 32 => ("HungryHedgeModel", "roundTime", "I", false)
  | 33 => ("HungryHedgeModel", "dares", "[J", true)
  | 34 => ("HungryHedgeModel", "dared", "I", false)
  | 35 => ("HungryHedgeModel", "alikes", "[J", true)
  | 36 => ("HungryHedgeModel", "spread", "[I", true)
  | 37 => ("HungryHedgeModel", "weighs", "[I", true)
  | 38 => ("HungryHedgeModel", "tape", "[I", true)
  | 39 => ("HungryHedgeModel", "tapeMany", "I", false)
  | 40 => ("HungryHedgeModel", "tokenKind", "I", false)
  | 41 => ("HungryHedgeModel", "tokenAt", "I", false)
  | 42 => ("HungryHedgeModel", "tokenEnd", "I", false)
  | 43 => ("HungryHedgeModel", "tokenValue", "J", false)
  | 44 => ("HungryHedgeModel", "fault", "I", false)
  | 45 => ("HungryHedgeModel", "fresh", "[I", true)
  | 46 => ("HungryHedgeModel", "waiting", "[I", true)
  | 47 => ("HungryHedgeModel", "freshEnd", "[I", true)
  | 48 => ("HungryHedgeModel", "freshDoes", "[I", true)
  | 49 => ("HungryHedgeModel", "freshMany", "I", false)
  | 50 => ("HungryHedgeModel", "waits", "I", false)
  | 51 => ("HungryHedgeModel", "askedMinute", "I", false)
  | 52 => ("HungryHedgeModel", "askedPlace", "I", false)
  | 53 => ("HungryHedgeModel", "askedFood", "I", false)
  | 54 => ("HungryHedgeModel", "askedGot", "I", false)
  | 55 => ("HungryHedgeModel", "stack", "[I", true)
  | 56 => ("HungryHedgeModel", "rows", "[I", true)
  | 57 => ("HungryHedgeModel", "rowMany", "I", false)
  | 58 => ("HungryHedgeModel", "sorts", "[I", true)
  | 59 => ("HungryHedgeModel", "sizes", "[I", true)
  | 60 => ("HungryHedgeModel", "sheets", "[J", true)
  | 61 => ("HungryHedgeModel", "held", "[I", true)
  | 62 => ("HungryHedgeModel", "heldNumber", "[I", true)
  | 63 => ("HungryHedgeModel", "heldSize", "[I", true)
  | 64 => ("HungryHedgeModel", "kind", "I", false)
  | 65 => ("HungryHedgeModel", "number", "I", false)
  | 66 => ("HungryHedgeModel", "its", "I", false)
  | 67 => ("HungryHedgeModel", "traced", "[I", true)
  | 68 => ("HungryHedgeModel", "bodies", "I", false)
  | 69 => ("HungryHedgeModel", "isParted", "Z", false)
  | 70 => ("HungryHedgeModel", "isKept", "Z", false)
  | 71 => ("HungryHedgeModel", "kept", "[I", true)
  | 72 => ("HungryHedgeModel", "movedTo", "I", false)
  | _ => ("HungryHedgeModel", "counts", "[I", true)
def tyX14 : Nat → FieldType := fun k => match k with
  | 0 => .int
  | 1 => .int
  | 2 => .int
  | 3 => .int
  | 4 => .int
  | 5 => .int
  | 6 => .int
  | 7 => .int
  | 8 => .int
  | 9 => .int
  | 10 => .int
  | 11 => .array .int
  | 12 => .int
  | 13 => .array .int
  | 14 => .array .int
  | 15 => .array .int
  | 16 => .array .int
  | 17 => .array .int
  | 18 => .int
  | 19 => .int
  | 20 => .int
  | 21 => .int
  | 22 => .int
  | 23 => .array .int
  | 24 => .array .int
  | 25 => .array .int
  | 26 => .array .int
  | 27 => .array .int
  | 28 => .array .int
  | 29 => .array .int
  | 30 => .array .int
  | 31 => .int
  | 32 => .int
  | 33 => .array .long
  | 34 => .int
  | 35 => .array .long
  | 36 => .array .int
  | 37 => .array .int
  | 38 => .array .int
  | 39 => .int
  | 40 => .int
  | 41 => .int
  | 42 => .int
  | 43 => .long
  | 44 => .int
  | 45 => .array .int
  | 46 => .array .int
  | 47 => .array .int
  | 48 => .array .int
  | 49 => .int
  | 50 => .int
  | 51 => .int
  | 52 => .int
  | 53 => .int
  | 54 => .int
  | 55 => .array .int
  | 56 => .array .int
  | 57 => .int
  | 58 => .array .int
  | 59 => .array .int
  | 60 => .array .long
  | 61 => .array .int
  | 62 => .array .int
  | 63 => .array .int
  | 64 => .int
  | 65 => .int
  | 66 => .int
  | 67 => .array .int
  | 68 => .int
  | 69 => .boolean
  | 70 => .boolean
  | 71 => .array .int
  | 72 => .int
  | _ => .array .int
abbrev wsX140 : List Cond := u_ws RX14 TX14 74
set_option maxRecDepth 100000 in
theorem nmX14 : ∀ a, a < 74 → ∀ b, b < 74 → a ≠ b → (TX14 a).2.1 ≠ (TX14 b).2.1 := by decide +kernel
set_option maxRecDepth 100000 in
theorem tyX14_ok : ∀ k, k < 74 → parseFieldDescriptor (TX14 k).2.2.1 = some (tyX14 k) := by decide +kernel
abbrev cX14_init : ByteArray := prog_33_method_1_code
def yX14_init : MethodName := ⟨RX14, "<init>", "()V"⟩
def dkwX14_init_14 : List UInt8 := [16, 12, 188, 10, 181, 0, 127, 177]
abbrev dktX14_init_14 : List UInt8 := dkwX14_init_14 ++ []
def dkwX14_init_13 : List UInt8 := [188, 10, 181, 0, 118, 42, 16, 30, 188, 10, 181, 0, 121, 42, 17, 1, 144, 188, 10, 181, 0, 124, 42]
abbrev dktX14_init_13 : List UInt8 := dkwX14_init_13 ++ dktX14_init_14
def dkwX14_init_12 : List UInt8 := [4, 2, 79, 89, 5, 2, 79, 89, 6, 2, 79, 181, 0, 112, 42, 7, 188, 10, 181, 0, 115, 42, 7]
abbrev dktX14_init_12 : List UInt8 := dkwX14_init_12 ++ dktX14_init_13
def dkwX14_init_11 : List UInt8 := [7, 188, 10, 181, 0, 106, 42, 17, 0, 160, 188, 11, 181, 0, 109, 42, 7, 188, 10, 89, 3, 2, 79, 89]
abbrev dktX14_init_11 : List UInt8 := dkwX14_init_11 ++ dktX14_init_12
def dkwX14_init_10 : List UInt8 := [42, 7, 188, 10, 89, 3, 2, 79, 89, 4, 2, 79, 89, 5, 2, 79, 89, 6, 2, 79, 181, 0, 103, 42]
abbrev dktX14_init_10 : List UInt8 := dkwX14_init_10 ++ dktX14_init_11
def dkwX14_init_9 : List UInt8 := [16, 6, 188, 10, 181, 0, 94, 42, 17, 0, 210, 188, 10, 181, 0, 97, 42, 16, 40, 188, 10, 181, 0, 100]
abbrev dktX14_init_9 : List UInt8 := dkwX14_init_9 ++ dktX14_init_10
def dkwX14_init_8 : List UInt8 := [188, 10, 181, 0, 85, 42, 17, 0, 210, 188, 10, 181, 0, 88, 42, 16, 6, 188, 10, 181, 0, 91, 42]
abbrev dktX14_init_8 : List UInt8 := dkwX14_init_8 ++ dktX14_init_9
def dkwX14_init_7 : List UInt8 := [181, 0, 76, 42, 7, 188, 10, 181, 0, 79, 42, 17, 0, 200, 188, 10, 181, 0, 82, 42, 17, 0, 210]
abbrev dktX14_init_7 : List UInt8 := dkwX14_init_7 ++ dktX14_init_8
def dkwX14_init_6 : List UInt8 := [181, 0, 66, 42, 2, 181, 0, 70, 42, 17, 0, 241, 188, 11, 181, 0, 73, 42, 16, 8, 188, 10]
abbrev dktX14_init_6 : List UInt8 := dkwX14_init_6 ++ dktX14_init_7
def dkwX14_init_5 : List UInt8 := [181, 0, 57, 42, 7, 188, 10, 181, 0, 60, 42, 7, 188, 10, 181, 0, 63, 42, 17, 12, 61, 188, 11]
abbrev dktX14_init_5 : List UInt8 := dkwX14_init_5 ++ dktX14_init_6
def dkwX14_init_4 : List UInt8 := [181, 0, 48, 42, 16, 24, 188, 10, 181, 0, 51, 42, 16, 24, 188, 10, 181, 0, 54, 42, 16, 24, 188, 10]
abbrev dktX14_init_4 : List UInt8 := dkwX14_init_4 ++ dktX14_init_5
def dkwX14_init_3 : List UInt8 := [181, 0, 38, 42, 18, 41, 188, 10, 181, 0, 42, 42, 16, 24, 188, 10, 181, 0, 45, 42, 16, 24, 188, 10]
abbrev dktX14_init_3 : List UInt8 := dkwX14_init_3 ++ dktX14_init_4
def dkwX14_init_2 : List UInt8 := [188, 10, 181, 0, 29, 42, 16, 6, 188, 10, 181, 0, 32, 42, 17, 0, 210, 188, 10, 181, 0, 35, 42, 4]
abbrev dktX14_init_2 : List UInt8 := dkwX14_init_2 ++ dktX14_init_3
def dkwX14_init_1 : List UInt8 := [188, 10, 181, 0, 19, 42, 16, 16, 188, 10, 181, 0, 23, 42, 16, 40, 188, 10, 181, 0, 26, 42, 16, 6]
abbrev dktX14_init_1 : List UInt8 := dkwX14_init_1 ++ dktX14_init_2
def dkwX14_init_0 : List UInt8 := [42, 183, 0, 1, 42, 16, 10, 181, 0, 7, 42, 8, 181, 0, 13, 42, 5, 181, 0, 16, 42, 16, 44]
abbrev dktX14_init_0 : List UInt8 := dkwX14_init_0 ++ dktX14_init_1
theorem dksX14_init_0 : cX14_init.data.toList.drop 0 = dktX14_init_0 := by decide +kernel
theorem dksX14_init_1 : cX14_init.data.toList.drop 23 = dktX14_init_1 := dk_seg dksX14_init_0 23 rfl rfl
theorem dksX14_init_2 : cX14_init.data.toList.drop 47 = dktX14_init_2 := dk_seg dksX14_init_1 24 rfl rfl
theorem dksX14_init_3 : cX14_init.data.toList.drop 71 = dktX14_init_3 := dk_seg dksX14_init_2 24 rfl rfl
theorem dksX14_init_4 : cX14_init.data.toList.drop 95 = dktX14_init_4 := dk_seg dksX14_init_3 24 rfl rfl
theorem dksX14_init_5 : cX14_init.data.toList.drop 119 = dktX14_init_5 := dk_seg dksX14_init_4 24 rfl rfl
theorem dksX14_init_6 : cX14_init.data.toList.drop 142 = dktX14_init_6 := dk_seg dksX14_init_5 23 rfl rfl
theorem dksX14_init_7 : cX14_init.data.toList.drop 164 = dktX14_init_7 := dk_seg dksX14_init_6 22 rfl rfl
theorem dksX14_init_8 : cX14_init.data.toList.drop 187 = dktX14_init_8 := dk_seg dksX14_init_7 23 rfl rfl
theorem dksX14_init_9 : cX14_init.data.toList.drop 210 = dktX14_init_9 := dk_seg dksX14_init_8 23 rfl rfl
theorem dksX14_init_10 : cX14_init.data.toList.drop 234 = dktX14_init_10 := dk_seg dksX14_init_9 24 rfl rfl
theorem dksX14_init_11 : cX14_init.data.toList.drop 258 = dktX14_init_11 := dk_seg dksX14_init_10 24 rfl rfl
theorem dksX14_init_12 : cX14_init.data.toList.drop 282 = dktX14_init_12 := dk_seg dksX14_init_11 24 rfl rfl
theorem dksX14_init_13 : cX14_init.data.toList.drop 305 = dktX14_init_13 := dk_seg dksX14_init_12 23 rfl rfl
theorem dksX14_init_14 : cX14_init.data.toList.drop 328 = dktX14_init_14 := dk_seg dksX14_init_13 23 rfl rfl
theorem dX14_init_0 : decode cX14_init 0 = .ok (.aload_n 0, 1) := dk_42 (dk_at dksX14_init_0 0 rfl rfl)
theorem dX14_init_1 : decode cX14_init 1 = .ok (.invokespecial 1, 3) := dk_183 0 1 (dk_at dksX14_init_0 1 rfl rfl)
theorem dX14_init_4 : decode cX14_init 4 = .ok (.aload_n 0, 1) := dk_42 (dk_at dksX14_init_0 4 rfl rfl)
theorem dX14_init_5 : decode cX14_init 5 = .ok (.bipush 10, 2) := dk_16 10 (dk_at dksX14_init_0 5 rfl rfl)
theorem dX14_init_7 : decode cX14_init 7 = .ok (.putfield 7, 3) := dk_181 0 7 (dk_at dksX14_init_0 7 rfl rfl)
theorem dX14_init_10 : decode cX14_init 10 = .ok (.aload_n 0, 1) := dk_42 (dk_at dksX14_init_0 10 rfl rfl)
theorem dX14_init_11 : decode cX14_init 11 = .ok (.iconst 5, 1) := dk_8 (dk_at dksX14_init_0 11 rfl rfl)
theorem dX14_init_12 : decode cX14_init 12 = .ok (.putfield 13, 3) := dk_181 0 13 (dk_at dksX14_init_0 12 rfl rfl)
theorem dX14_init_15 : decode cX14_init 15 = .ok (.aload_n 0, 1) := dk_42 (dk_at dksX14_init_0 15 rfl rfl)
theorem dX14_init_16 : decode cX14_init 16 = .ok (.iconst 2, 1) := dk_5 (dk_at dksX14_init_0 16 rfl rfl)
theorem dX14_init_17 : decode cX14_init 17 = .ok (.putfield 16, 3) := dk_181 0 16 (dk_at dksX14_init_0 17 rfl rfl)
theorem dX14_init_20 : decode cX14_init 20 = .ok (.aload_n 0, 1) := dk_42 (dk_at dksX14_init_0 20 rfl rfl)
theorem dX14_init_21 : decode cX14_init 21 = .ok (.bipush 44, 2) := dk_16 44 (dk_at dksX14_init_0 21 rfl rfl)
theorem dX14_init_23 : decode cX14_init 23 = .ok (.newarray .int, 2) := dk_188_10 (dk_at dksX14_init_1 0 rfl rfl)
theorem dX14_init_25 : decode cX14_init 25 = .ok (.putfield 19, 3) := dk_181 0 19 (dk_at dksX14_init_1 2 rfl rfl)
theorem dX14_init_28 : decode cX14_init 28 = .ok (.aload_n 0, 1) := dk_42 (dk_at dksX14_init_1 5 rfl rfl)
theorem dX14_init_29 : decode cX14_init 29 = .ok (.bipush 16, 2) := dk_16 16 (dk_at dksX14_init_1 6 rfl rfl)
theorem dX14_init_31 : decode cX14_init 31 = .ok (.newarray .int, 2) := dk_188_10 (dk_at dksX14_init_1 8 rfl rfl)
theorem dX14_init_33 : decode cX14_init 33 = .ok (.putfield 23, 3) := dk_181 0 23 (dk_at dksX14_init_1 10 rfl rfl)
theorem dX14_init_36 : decode cX14_init 36 = .ok (.aload_n 0, 1) := dk_42 (dk_at dksX14_init_1 13 rfl rfl)
theorem dX14_init_37 : decode cX14_init 37 = .ok (.bipush 40, 2) := dk_16 40 (dk_at dksX14_init_1 14 rfl rfl)
theorem dX14_init_39 : decode cX14_init 39 = .ok (.newarray .int, 2) := dk_188_10 (dk_at dksX14_init_1 16 rfl rfl)
theorem dX14_init_41 : decode cX14_init 41 = .ok (.putfield 26, 3) := dk_181 0 26 (dk_at dksX14_init_1 18 rfl rfl)
theorem dX14_init_44 : decode cX14_init 44 = .ok (.aload_n 0, 1) := dk_42 (dk_at dksX14_init_1 21 rfl rfl)
theorem dX14_init_45 : decode cX14_init 45 = .ok (.bipush 6, 2) := dk_16 6 (dk_at dksX14_init_1 22 rfl rfl)
theorem dX14_init_47 : decode cX14_init 47 = .ok (.newarray .int, 2) := dk_188_10 (dk_at dksX14_init_2 0 rfl rfl)
theorem dX14_init_49 : decode cX14_init 49 = .ok (.putfield 29, 3) := dk_181 0 29 (dk_at dksX14_init_2 2 rfl rfl)
theorem dX14_init_52 : decode cX14_init 52 = .ok (.aload_n 0, 1) := dk_42 (dk_at dksX14_init_2 5 rfl rfl)
theorem dX14_init_53 : decode cX14_init 53 = .ok (.bipush 6, 2) := dk_16 6 (dk_at dksX14_init_2 6 rfl rfl)
theorem dX14_init_55 : decode cX14_init 55 = .ok (.newarray .int, 2) := dk_188_10 (dk_at dksX14_init_2 8 rfl rfl)
theorem dX14_init_57 : decode cX14_init 57 = .ok (.putfield 32, 3) := dk_181 0 32 (dk_at dksX14_init_2 10 rfl rfl)
theorem dX14_init_60 : decode cX14_init 60 = .ok (.aload_n 0, 1) := dk_42 (dk_at dksX14_init_2 13 rfl rfl)
theorem dX14_init_61 : decode cX14_init 61 = .ok (.sipush 210, 3) := dk_17 0 210 (dk_at dksX14_init_2 14 rfl rfl)
theorem dX14_init_64 : decode cX14_init 64 = .ok (.newarray .int, 2) := dk_188_10 (dk_at dksX14_init_2 17 rfl rfl)
theorem dX14_init_66 : decode cX14_init 66 = .ok (.putfield 35, 3) := dk_181 0 35 (dk_at dksX14_init_2 19 rfl rfl)
theorem dX14_init_69 : decode cX14_init 69 = .ok (.aload_n 0, 1) := dk_42 (dk_at dksX14_init_2 22 rfl rfl)
theorem dX14_init_70 : decode cX14_init 70 = .ok (.iconst 1, 1) := dk_4 (dk_at dksX14_init_2 23 rfl rfl)
theorem dX14_init_71 : decode cX14_init 71 = .ok (.putfield 38, 3) := dk_181 0 38 (dk_at dksX14_init_3 0 rfl rfl)
theorem dX14_init_74 : decode cX14_init 74 = .ok (.aload_n 0, 1) := dk_42 (dk_at dksX14_init_3 3 rfl rfl)
theorem dX14_init_75 : decode cX14_init 75 = .ok (.ldc 41, 2) := dk_18 41 (dk_at dksX14_init_3 4 rfl rfl)
theorem dX14_init_77 : decode cX14_init 77 = .ok (.newarray .int, 2) := dk_188_10 (dk_at dksX14_init_3 6 rfl rfl)
theorem dX14_init_79 : decode cX14_init 79 = .ok (.putfield 42, 3) := dk_181 0 42 (dk_at dksX14_init_3 8 rfl rfl)
theorem dX14_init_82 : decode cX14_init 82 = .ok (.aload_n 0, 1) := dk_42 (dk_at dksX14_init_3 11 rfl rfl)
theorem dX14_init_83 : decode cX14_init 83 = .ok (.bipush 24, 2) := dk_16 24 (dk_at dksX14_init_3 12 rfl rfl)
theorem dX14_init_85 : decode cX14_init 85 = .ok (.newarray .int, 2) := dk_188_10 (dk_at dksX14_init_3 14 rfl rfl)
theorem dX14_init_87 : decode cX14_init 87 = .ok (.putfield 45, 3) := dk_181 0 45 (dk_at dksX14_init_3 16 rfl rfl)
theorem dX14_init_90 : decode cX14_init 90 = .ok (.aload_n 0, 1) := dk_42 (dk_at dksX14_init_3 19 rfl rfl)
theorem dX14_init_91 : decode cX14_init 91 = .ok (.bipush 24, 2) := dk_16 24 (dk_at dksX14_init_3 20 rfl rfl)
theorem dX14_init_93 : decode cX14_init 93 = .ok (.newarray .int, 2) := dk_188_10 (dk_at dksX14_init_3 22 rfl rfl)
theorem dX14_init_95 : decode cX14_init 95 = .ok (.putfield 48, 3) := dk_181 0 48 (dk_at dksX14_init_4 0 rfl rfl)
theorem dX14_init_98 : decode cX14_init 98 = .ok (.aload_n 0, 1) := dk_42 (dk_at dksX14_init_4 3 rfl rfl)
theorem dX14_init_99 : decode cX14_init 99 = .ok (.bipush 24, 2) := dk_16 24 (dk_at dksX14_init_4 4 rfl rfl)
theorem dX14_init_101 : decode cX14_init 101 = .ok (.newarray .int, 2) := dk_188_10 (dk_at dksX14_init_4 6 rfl rfl)
theorem dX14_init_103 : decode cX14_init 103 = .ok (.putfield 51, 3) := dk_181 0 51 (dk_at dksX14_init_4 8 rfl rfl)
theorem dX14_init_106 : decode cX14_init 106 = .ok (.aload_n 0, 1) := dk_42 (dk_at dksX14_init_4 11 rfl rfl)
theorem dX14_init_107 : decode cX14_init 107 = .ok (.bipush 24, 2) := dk_16 24 (dk_at dksX14_init_4 12 rfl rfl)
theorem dX14_init_109 : decode cX14_init 109 = .ok (.newarray .int, 2) := dk_188_10 (dk_at dksX14_init_4 14 rfl rfl)
theorem dX14_init_111 : decode cX14_init 111 = .ok (.putfield 54, 3) := dk_181 0 54 (dk_at dksX14_init_4 16 rfl rfl)
theorem dX14_init_114 : decode cX14_init 114 = .ok (.aload_n 0, 1) := dk_42 (dk_at dksX14_init_4 19 rfl rfl)
theorem dX14_init_115 : decode cX14_init 115 = .ok (.bipush 24, 2) := dk_16 24 (dk_at dksX14_init_4 20 rfl rfl)
theorem dX14_init_117 : decode cX14_init 117 = .ok (.newarray .int, 2) := dk_188_10 (dk_at dksX14_init_4 22 rfl rfl)
theorem dX14_init_119 : decode cX14_init 119 = .ok (.putfield 57, 3) := dk_181 0 57 (dk_at dksX14_init_5 0 rfl rfl)
theorem dX14_init_122 : decode cX14_init 122 = .ok (.aload_n 0, 1) := dk_42 (dk_at dksX14_init_5 3 rfl rfl)
theorem dX14_init_123 : decode cX14_init 123 = .ok (.iconst 4, 1) := dk_7 (dk_at dksX14_init_5 4 rfl rfl)
theorem dX14_init_124 : decode cX14_init 124 = .ok (.newarray .int, 2) := dk_188_10 (dk_at dksX14_init_5 5 rfl rfl)
theorem dX14_init_126 : decode cX14_init 126 = .ok (.putfield 60, 3) := dk_181 0 60 (dk_at dksX14_init_5 7 rfl rfl)
theorem dX14_init_129 : decode cX14_init 129 = .ok (.aload_n 0, 1) := dk_42 (dk_at dksX14_init_5 10 rfl rfl)
theorem dX14_init_130 : decode cX14_init 130 = .ok (.iconst 4, 1) := dk_7 (dk_at dksX14_init_5 11 rfl rfl)
theorem dX14_init_131 : decode cX14_init 131 = .ok (.newarray .int, 2) := dk_188_10 (dk_at dksX14_init_5 12 rfl rfl)
theorem dX14_init_133 : decode cX14_init 133 = .ok (.putfield 63, 3) := dk_181 0 63 (dk_at dksX14_init_5 14 rfl rfl)
theorem dX14_init_136 : decode cX14_init 136 = .ok (.aload_n 0, 1) := dk_42 (dk_at dksX14_init_5 17 rfl rfl)
theorem dX14_init_137 : decode cX14_init 137 = .ok (.sipush 3133, 3) := dk_17 12 61 (dk_at dksX14_init_5 18 rfl rfl)
theorem dX14_init_140 : decode cX14_init 140 = .ok (.newarray .long, 2) := dk_188_11 (dk_at dksX14_init_5 21 rfl rfl)
theorem dX14_init_142 : decode cX14_init 142 = .ok (.putfield 66, 3) := dk_181 0 66 (dk_at dksX14_init_6 0 rfl rfl)
theorem dX14_init_145 : decode cX14_init 145 = .ok (.aload_n 0, 1) := dk_42 (dk_at dksX14_init_6 3 rfl rfl)
theorem dX14_init_146 : decode cX14_init 146 = .ok (.iconst (-1), 1) := dk_2 (dk_at dksX14_init_6 4 rfl rfl)
theorem dX14_init_147 : decode cX14_init 147 = .ok (.putfield 70, 3) := dk_181 0 70 (dk_at dksX14_init_6 5 rfl rfl)
theorem dX14_init_150 : decode cX14_init 150 = .ok (.aload_n 0, 1) := dk_42 (dk_at dksX14_init_6 8 rfl rfl)
theorem dX14_init_151 : decode cX14_init 151 = .ok (.sipush 241, 3) := dk_17 0 241 (dk_at dksX14_init_6 9 rfl rfl)
theorem dX14_init_154 : decode cX14_init 154 = .ok (.newarray .long, 2) := dk_188_11 (dk_at dksX14_init_6 12 rfl rfl)
theorem dX14_init_156 : decode cX14_init 156 = .ok (.putfield 73, 3) := dk_181 0 73 (dk_at dksX14_init_6 14 rfl rfl)
theorem dX14_init_159 : decode cX14_init 159 = .ok (.aload_n 0, 1) := dk_42 (dk_at dksX14_init_6 17 rfl rfl)
theorem dX14_init_160 : decode cX14_init 160 = .ok (.bipush 8, 2) := dk_16 8 (dk_at dksX14_init_6 18 rfl rfl)
theorem dX14_init_162 : decode cX14_init 162 = .ok (.newarray .int, 2) := dk_188_10 (dk_at dksX14_init_6 20 rfl rfl)
theorem dX14_init_164 : decode cX14_init 164 = .ok (.putfield 76, 3) := dk_181 0 76 (dk_at dksX14_init_7 0 rfl rfl)
theorem dX14_init_167 : decode cX14_init 167 = .ok (.aload_n 0, 1) := dk_42 (dk_at dksX14_init_7 3 rfl rfl)
theorem dX14_init_168 : decode cX14_init 168 = .ok (.iconst 4, 1) := dk_7 (dk_at dksX14_init_7 4 rfl rfl)
theorem dX14_init_169 : decode cX14_init 169 = .ok (.newarray .int, 2) := dk_188_10 (dk_at dksX14_init_7 5 rfl rfl)
theorem dX14_init_171 : decode cX14_init 171 = .ok (.putfield 79, 3) := dk_181 0 79 (dk_at dksX14_init_7 7 rfl rfl)
theorem dX14_init_174 : decode cX14_init 174 = .ok (.aload_n 0, 1) := dk_42 (dk_at dksX14_init_7 10 rfl rfl)
theorem dX14_init_175 : decode cX14_init 175 = .ok (.sipush 200, 3) := dk_17 0 200 (dk_at dksX14_init_7 11 rfl rfl)
theorem dX14_init_178 : decode cX14_init 178 = .ok (.newarray .int, 2) := dk_188_10 (dk_at dksX14_init_7 14 rfl rfl)
theorem dX14_init_180 : decode cX14_init 180 = .ok (.putfield 82, 3) := dk_181 0 82 (dk_at dksX14_init_7 16 rfl rfl)
theorem dX14_init_183 : decode cX14_init 183 = .ok (.aload_n 0, 1) := dk_42 (dk_at dksX14_init_7 19 rfl rfl)
theorem dX14_init_184 : decode cX14_init 184 = .ok (.sipush 210, 3) := dk_17 0 210 (dk_at dksX14_init_7 20 rfl rfl)
theorem dX14_init_187 : decode cX14_init 187 = .ok (.newarray .int, 2) := dk_188_10 (dk_at dksX14_init_8 0 rfl rfl)
theorem dX14_init_189 : decode cX14_init 189 = .ok (.putfield 85, 3) := dk_181 0 85 (dk_at dksX14_init_8 2 rfl rfl)
theorem dX14_init_192 : decode cX14_init 192 = .ok (.aload_n 0, 1) := dk_42 (dk_at dksX14_init_8 5 rfl rfl)
theorem dX14_init_193 : decode cX14_init 193 = .ok (.sipush 210, 3) := dk_17 0 210 (dk_at dksX14_init_8 6 rfl rfl)
theorem dX14_init_196 : decode cX14_init 196 = .ok (.newarray .int, 2) := dk_188_10 (dk_at dksX14_init_8 9 rfl rfl)
theorem dX14_init_198 : decode cX14_init 198 = .ok (.putfield 88, 3) := dk_181 0 88 (dk_at dksX14_init_8 11 rfl rfl)
theorem dX14_init_201 : decode cX14_init 201 = .ok (.aload_n 0, 1) := dk_42 (dk_at dksX14_init_8 14 rfl rfl)
theorem dX14_init_202 : decode cX14_init 202 = .ok (.bipush 6, 2) := dk_16 6 (dk_at dksX14_init_8 15 rfl rfl)
theorem dX14_init_204 : decode cX14_init 204 = .ok (.newarray .int, 2) := dk_188_10 (dk_at dksX14_init_8 17 rfl rfl)
theorem dX14_init_206 : decode cX14_init 206 = .ok (.putfield 91, 3) := dk_181 0 91 (dk_at dksX14_init_8 19 rfl rfl)
theorem dX14_init_209 : decode cX14_init 209 = .ok (.aload_n 0, 1) := dk_42 (dk_at dksX14_init_8 22 rfl rfl)
theorem dX14_init_210 : decode cX14_init 210 = .ok (.bipush 6, 2) := dk_16 6 (dk_at dksX14_init_9 0 rfl rfl)
theorem dX14_init_212 : decode cX14_init 212 = .ok (.newarray .int, 2) := dk_188_10 (dk_at dksX14_init_9 2 rfl rfl)
theorem dX14_init_214 : decode cX14_init 214 = .ok (.putfield 94, 3) := dk_181 0 94 (dk_at dksX14_init_9 4 rfl rfl)
theorem dX14_init_217 : decode cX14_init 217 = .ok (.aload_n 0, 1) := dk_42 (dk_at dksX14_init_9 7 rfl rfl)
theorem dX14_init_218 : decode cX14_init 218 = .ok (.sipush 210, 3) := dk_17 0 210 (dk_at dksX14_init_9 8 rfl rfl)
theorem dX14_init_221 : decode cX14_init 221 = .ok (.newarray .int, 2) := dk_188_10 (dk_at dksX14_init_9 11 rfl rfl)
theorem dX14_init_223 : decode cX14_init 223 = .ok (.putfield 97, 3) := dk_181 0 97 (dk_at dksX14_init_9 13 rfl rfl)
theorem dX14_init_226 : decode cX14_init 226 = .ok (.aload_n 0, 1) := dk_42 (dk_at dksX14_init_9 16 rfl rfl)
theorem dX14_init_227 : decode cX14_init 227 = .ok (.bipush 40, 2) := dk_16 40 (dk_at dksX14_init_9 17 rfl rfl)
theorem dX14_init_229 : decode cX14_init 229 = .ok (.newarray .int, 2) := dk_188_10 (dk_at dksX14_init_9 19 rfl rfl)
theorem dX14_init_231 : decode cX14_init 231 = .ok (.putfield 100, 3) := dk_181 0 100 (dk_at dksX14_init_9 21 rfl rfl)
theorem dX14_init_234 : decode cX14_init 234 = .ok (.aload_n 0, 1) := dk_42 (dk_at dksX14_init_10 0 rfl rfl)
theorem dX14_init_235 : decode cX14_init 235 = .ok (.iconst 4, 1) := dk_7 (dk_at dksX14_init_10 1 rfl rfl)
theorem dX14_init_236 : decode cX14_init 236 = .ok (.newarray .int, 2) := dk_188_10 (dk_at dksX14_init_10 2 rfl rfl)
theorem dX14_init_238 : decode cX14_init 238 = .ok (.dup, 1) := dk_89 (dk_at dksX14_init_10 4 rfl rfl)
theorem dX14_init_239 : decode cX14_init 239 = .ok (.iconst 0, 1) := dk_3 (dk_at dksX14_init_10 5 rfl rfl)
theorem dX14_init_240 : decode cX14_init 240 = .ok (.iconst (-1), 1) := dk_2 (dk_at dksX14_init_10 6 rfl rfl)
theorem dX14_init_241 : decode cX14_init 241 = .ok (.iastore, 1) := dk_79 (dk_at dksX14_init_10 7 rfl rfl)
theorem dX14_init_242 : decode cX14_init 242 = .ok (.dup, 1) := dk_89 (dk_at dksX14_init_10 8 rfl rfl)
theorem dX14_init_243 : decode cX14_init 243 = .ok (.iconst 1, 1) := dk_4 (dk_at dksX14_init_10 9 rfl rfl)
theorem dX14_init_244 : decode cX14_init 244 = .ok (.iconst (-1), 1) := dk_2 (dk_at dksX14_init_10 10 rfl rfl)
theorem dX14_init_245 : decode cX14_init 245 = .ok (.iastore, 1) := dk_79 (dk_at dksX14_init_10 11 rfl rfl)
theorem dX14_init_246 : decode cX14_init 246 = .ok (.dup, 1) := dk_89 (dk_at dksX14_init_10 12 rfl rfl)
theorem dX14_init_247 : decode cX14_init 247 = .ok (.iconst 2, 1) := dk_5 (dk_at dksX14_init_10 13 rfl rfl)
theorem dX14_init_248 : decode cX14_init 248 = .ok (.iconst (-1), 1) := dk_2 (dk_at dksX14_init_10 14 rfl rfl)
theorem dX14_init_249 : decode cX14_init 249 = .ok (.iastore, 1) := dk_79 (dk_at dksX14_init_10 15 rfl rfl)
theorem dX14_init_250 : decode cX14_init 250 = .ok (.dup, 1) := dk_89 (dk_at dksX14_init_10 16 rfl rfl)
theorem dX14_init_251 : decode cX14_init 251 = .ok (.iconst 3, 1) := dk_6 (dk_at dksX14_init_10 17 rfl rfl)
theorem dX14_init_252 : decode cX14_init 252 = .ok (.iconst (-1), 1) := dk_2 (dk_at dksX14_init_10 18 rfl rfl)
theorem dX14_init_253 : decode cX14_init 253 = .ok (.iastore, 1) := dk_79 (dk_at dksX14_init_10 19 rfl rfl)
theorem dX14_init_254 : decode cX14_init 254 = .ok (.putfield 103, 3) := dk_181 0 103 (dk_at dksX14_init_10 20 rfl rfl)
theorem dX14_init_257 : decode cX14_init 257 = .ok (.aload_n 0, 1) := dk_42 (dk_at dksX14_init_10 23 rfl rfl)
theorem dX14_init_258 : decode cX14_init 258 = .ok (.iconst 4, 1) := dk_7 (dk_at dksX14_init_11 0 rfl rfl)
theorem dX14_init_259 : decode cX14_init 259 = .ok (.newarray .int, 2) := dk_188_10 (dk_at dksX14_init_11 1 rfl rfl)
theorem dX14_init_261 : decode cX14_init 261 = .ok (.putfield 106, 3) := dk_181 0 106 (dk_at dksX14_init_11 3 rfl rfl)
theorem dX14_init_264 : decode cX14_init 264 = .ok (.aload_n 0, 1) := dk_42 (dk_at dksX14_init_11 6 rfl rfl)
theorem dX14_init_265 : decode cX14_init 265 = .ok (.sipush 160, 3) := dk_17 0 160 (dk_at dksX14_init_11 7 rfl rfl)
theorem dX14_init_268 : decode cX14_init 268 = .ok (.newarray .long, 2) := dk_188_11 (dk_at dksX14_init_11 10 rfl rfl)
theorem dX14_init_270 : decode cX14_init 270 = .ok (.putfield 109, 3) := dk_181 0 109 (dk_at dksX14_init_11 12 rfl rfl)
theorem dX14_init_273 : decode cX14_init 273 = .ok (.aload_n 0, 1) := dk_42 (dk_at dksX14_init_11 15 rfl rfl)
theorem dX14_init_274 : decode cX14_init 274 = .ok (.iconst 4, 1) := dk_7 (dk_at dksX14_init_11 16 rfl rfl)
theorem dX14_init_275 : decode cX14_init 275 = .ok (.newarray .int, 2) := dk_188_10 (dk_at dksX14_init_11 17 rfl rfl)
theorem dX14_init_277 : decode cX14_init 277 = .ok (.dup, 1) := dk_89 (dk_at dksX14_init_11 19 rfl rfl)
theorem dX14_init_278 : decode cX14_init 278 = .ok (.iconst 0, 1) := dk_3 (dk_at dksX14_init_11 20 rfl rfl)
theorem dX14_init_279 : decode cX14_init 279 = .ok (.iconst (-1), 1) := dk_2 (dk_at dksX14_init_11 21 rfl rfl)
theorem dX14_init_280 : decode cX14_init 280 = .ok (.iastore, 1) := dk_79 (dk_at dksX14_init_11 22 rfl rfl)
theorem dX14_init_281 : decode cX14_init 281 = .ok (.dup, 1) := dk_89 (dk_at dksX14_init_11 23 rfl rfl)
theorem dX14_init_282 : decode cX14_init 282 = .ok (.iconst 1, 1) := dk_4 (dk_at dksX14_init_12 0 rfl rfl)
theorem dX14_init_283 : decode cX14_init 283 = .ok (.iconst (-1), 1) := dk_2 (dk_at dksX14_init_12 1 rfl rfl)
theorem dX14_init_284 : decode cX14_init 284 = .ok (.iastore, 1) := dk_79 (dk_at dksX14_init_12 2 rfl rfl)
theorem dX14_init_285 : decode cX14_init 285 = .ok (.dup, 1) := dk_89 (dk_at dksX14_init_12 3 rfl rfl)
theorem dX14_init_286 : decode cX14_init 286 = .ok (.iconst 2, 1) := dk_5 (dk_at dksX14_init_12 4 rfl rfl)
theorem dX14_init_287 : decode cX14_init 287 = .ok (.iconst (-1), 1) := dk_2 (dk_at dksX14_init_12 5 rfl rfl)
theorem dX14_init_288 : decode cX14_init 288 = .ok (.iastore, 1) := dk_79 (dk_at dksX14_init_12 6 rfl rfl)
theorem dX14_init_289 : decode cX14_init 289 = .ok (.dup, 1) := dk_89 (dk_at dksX14_init_12 7 rfl rfl)
theorem dX14_init_290 : decode cX14_init 290 = .ok (.iconst 3, 1) := dk_6 (dk_at dksX14_init_12 8 rfl rfl)
theorem dX14_init_291 : decode cX14_init 291 = .ok (.iconst (-1), 1) := dk_2 (dk_at dksX14_init_12 9 rfl rfl)
theorem dX14_init_292 : decode cX14_init 292 = .ok (.iastore, 1) := dk_79 (dk_at dksX14_init_12 10 rfl rfl)
theorem dX14_init_293 : decode cX14_init 293 = .ok (.putfield 112, 3) := dk_181 0 112 (dk_at dksX14_init_12 11 rfl rfl)
theorem dX14_init_296 : decode cX14_init 296 = .ok (.aload_n 0, 1) := dk_42 (dk_at dksX14_init_12 14 rfl rfl)
theorem dX14_init_297 : decode cX14_init 297 = .ok (.iconst 4, 1) := dk_7 (dk_at dksX14_init_12 15 rfl rfl)
theorem dX14_init_298 : decode cX14_init 298 = .ok (.newarray .int, 2) := dk_188_10 (dk_at dksX14_init_12 16 rfl rfl)
theorem dX14_init_300 : decode cX14_init 300 = .ok (.putfield 115, 3) := dk_181 0 115 (dk_at dksX14_init_12 18 rfl rfl)
theorem dX14_init_303 : decode cX14_init 303 = .ok (.aload_n 0, 1) := dk_42 (dk_at dksX14_init_12 21 rfl rfl)
theorem dX14_init_304 : decode cX14_init 304 = .ok (.iconst 4, 1) := dk_7 (dk_at dksX14_init_12 22 rfl rfl)
theorem dX14_init_305 : decode cX14_init 305 = .ok (.newarray .int, 2) := dk_188_10 (dk_at dksX14_init_13 0 rfl rfl)
theorem dX14_init_307 : decode cX14_init 307 = .ok (.putfield 118, 3) := dk_181 0 118 (dk_at dksX14_init_13 2 rfl rfl)
theorem dX14_init_310 : decode cX14_init 310 = .ok (.aload_n 0, 1) := dk_42 (dk_at dksX14_init_13 5 rfl rfl)
theorem dX14_init_311 : decode cX14_init 311 = .ok (.bipush 30, 2) := dk_16 30 (dk_at dksX14_init_13 6 rfl rfl)
theorem dX14_init_313 : decode cX14_init 313 = .ok (.newarray .int, 2) := dk_188_10 (dk_at dksX14_init_13 8 rfl rfl)
theorem dX14_init_315 : decode cX14_init 315 = .ok (.putfield 121, 3) := dk_181 0 121 (dk_at dksX14_init_13 10 rfl rfl)
theorem dX14_init_318 : decode cX14_init 318 = .ok (.aload_n 0, 1) := dk_42 (dk_at dksX14_init_13 13 rfl rfl)
theorem dX14_init_319 : decode cX14_init 319 = .ok (.sipush 400, 3) := dk_17 1 144 (dk_at dksX14_init_13 14 rfl rfl)
theorem dX14_init_322 : decode cX14_init 322 = .ok (.newarray .int, 2) := dk_188_10 (dk_at dksX14_init_13 17 rfl rfl)
theorem dX14_init_324 : decode cX14_init 324 = .ok (.putfield 124, 3) := dk_181 0 124 (dk_at dksX14_init_13 19 rfl rfl)
theorem dX14_init_327 : decode cX14_init 327 = .ok (.aload_n 0, 1) := dk_42 (dk_at dksX14_init_13 22 rfl rfl)
theorem dX14_init_328 : decode cX14_init 328 = .ok (.bipush 12, 2) := dk_16 12 (dk_at dksX14_init_14 0 rfl rfl)
theorem dX14_init_330 : decode cX14_init 330 = .ok (.newarray .int, 2) := dk_188_10 (dk_at dksX14_init_14 2 rfl rfl)
theorem dX14_init_332 : decode cX14_init 332 = .ok (.putfield 127, 3) := dk_181 0 127 (dk_at dksX14_init_14 4 rfl rfl)
theorem dX14_init_335 : decode cX14_init 335 = .ok (.return_, 1) := dk_177 (dk_at dksX14_init_14 7 rfl rfl)
abbrev cX14_patch : ByteArray := prog_33_method_9_code
def yX14_patch : MethodName := ⟨RX14, "patch", "(III)I"⟩
def dkwX14_patch_8 : List UInt8 := [96, 181, 0, 130, 42, 89, 180, 0, 38, 4, 96, 181, 0, 38, 21, 4, 172]
abbrev dktX14_patch_8 : List UInt8 := dkwX14_patch_8 ++ []
def dkwX14_patch_7 : List UInt8 := [180, 0, 23, 7, 21, 5, 104, 21, 4, 96, 3, 79, 132, 5, 1, 167, 255, 221, 42, 89, 180, 0, 130, 4]
abbrev dktX14_patch_7 : List UInt8 := dkwX14_patch_7 ++ dktX14_patch_8
def dkwX14_patch_6 : List UInt8 := [3, 54, 5, 21, 5, 7, 162, 0, 35, 42, 180, 0, 23, 7, 21, 4, 104, 21, 5, 96, 3, 79, 42]
abbrev dktX14_patch_6 : List UInt8 := dkwX14_patch_6 ++ dktX14_patch_7
def dkwX14_patch_5 : List UInt8 := [180, 0, 141, 28, 42, 180, 0, 141, 21, 4, 184, 0, 144, 100, 21, 4, 184, 0, 137, 104, 96, 181, 0, 141]
abbrev dktX14_patch_5 : List UInt8 := dkwX14_patch_5 ++ dktX14_patch_6
def dkwX14_patch_4 : List UInt8 := [16, 11, 21, 4, 104, 4, 96, 28, 79, 42, 180, 0, 19, 16, 11, 21, 4, 104, 5, 96, 29, 79, 42, 89]
abbrev dktX14_patch_4 : List UInt8 := dkwX14_patch_4 ++ dktX14_patch_5
def dkwX14_patch_3 : List UInt8 := [3, 79, 132, 5, 1, 167, 255, 232, 42, 180, 0, 19, 16, 11, 21, 4, 104, 27, 79, 42, 180, 0, 19]
abbrev dktX14_patch_3 : List UInt8 := dkwX14_patch_3 ++ dktX14_patch_4
def dkwX14_patch_2 : List UInt8 := [54, 4, 3, 54, 5, 21, 5, 16, 11, 162, 0, 23, 42, 180, 0, 19, 16, 11, 21, 4, 104, 21, 5, 96]
abbrev dktX14_patch_2 : List UInt8 := dkwX14_patch_2 ++ dktX14_patch_3
def dkwX14_patch_1 : List UInt8 := [184, 0, 133, 154, 0, 5, 2, 172, 42, 180, 0, 130, 7, 160, 0, 6, 16, 254, 172, 42, 180, 0, 130]
abbrev dktX14_patch_1 : List UInt8 := dkwX14_patch_1 ++ dktX14_patch_2
def dkwX14_patch_0 : List UInt8 := [27, 4, 7, 184, 0, 133, 153, 0, 23, 28, 4, 16, 6, 184, 0, 133, 153, 0, 13, 29, 3, 16, 9]
abbrev dktX14_patch_0 : List UInt8 := dkwX14_patch_0 ++ dktX14_patch_1
theorem dksX14_patch_0 : cX14_patch.data.toList.drop 0 = dktX14_patch_0 := by decide +kernel
theorem dksX14_patch_1 : cX14_patch.data.toList.drop 23 = dktX14_patch_1 := dk_seg dksX14_patch_0 23 rfl rfl
theorem dksX14_patch_2 : cX14_patch.data.toList.drop 46 = dktX14_patch_2 := dk_seg dksX14_patch_1 23 rfl rfl
theorem dksX14_patch_3 : cX14_patch.data.toList.drop 70 = dktX14_patch_3 := dk_seg dksX14_patch_2 24 rfl rfl
theorem dksX14_patch_4 : cX14_patch.data.toList.drop 93 = dktX14_patch_4 := dk_seg dksX14_patch_3 23 rfl rfl
theorem dksX14_patch_5 : cX14_patch.data.toList.drop 117 = dktX14_patch_5 := dk_seg dksX14_patch_4 24 rfl rfl
theorem dksX14_patch_6 : cX14_patch.data.toList.drop 141 = dktX14_patch_6 := dk_seg dksX14_patch_5 24 rfl rfl
theorem dksX14_patch_7 : cX14_patch.data.toList.drop 164 = dktX14_patch_7 := dk_seg dksX14_patch_6 23 rfl rfl
theorem dksX14_patch_8 : cX14_patch.data.toList.drop 188 = dktX14_patch_8 := dk_seg dksX14_patch_7 24 rfl rfl
theorem dX14_patch_0 : decode cX14_patch 0 = .ok (.iload_n 1, 1) := dk_27 (dk_at dksX14_patch_0 0 rfl rfl)
theorem dX14_patch_1 : decode cX14_patch 1 = .ok (.iconst 1, 1) := dk_4 (dk_at dksX14_patch_0 1 rfl rfl)
theorem dX14_patch_2 : decode cX14_patch 2 = .ok (.iconst 4, 1) := dk_7 (dk_at dksX14_patch_0 2 rfl rfl)
theorem dX14_patch_3 : decode cX14_patch 3 = .ok (.invokestatic 133, 3) := dk_184 0 133 (dk_at dksX14_patch_0 3 rfl rfl)
theorem dX14_patch_6 : decode cX14_patch 6 = .ok (.ifCond .eq 23, 3) := dk_153 0 23 (dk_at dksX14_patch_0 6 rfl rfl)
theorem dX14_patch_9 : decode cX14_patch 9 = .ok (.iload_n 2, 1) := dk_28 (dk_at dksX14_patch_0 9 rfl rfl)
theorem dX14_patch_10 : decode cX14_patch 10 = .ok (.iconst 1, 1) := dk_4 (dk_at dksX14_patch_0 10 rfl rfl)
theorem dX14_patch_11 : decode cX14_patch 11 = .ok (.bipush 6, 2) := dk_16 6 (dk_at dksX14_patch_0 11 rfl rfl)
theorem dX14_patch_13 : decode cX14_patch 13 = .ok (.invokestatic 133, 3) := dk_184 0 133 (dk_at dksX14_patch_0 13 rfl rfl)
theorem dX14_patch_16 : decode cX14_patch 16 = .ok (.ifCond .eq 13, 3) := dk_153 0 13 (dk_at dksX14_patch_0 16 rfl rfl)
theorem dX14_patch_19 : decode cX14_patch 19 = .ok (.iload_n 3, 1) := dk_29 (dk_at dksX14_patch_0 19 rfl rfl)
theorem dX14_patch_20 : decode cX14_patch 20 = .ok (.iconst 0, 1) := dk_3 (dk_at dksX14_patch_0 20 rfl rfl)
theorem dX14_patch_21 : decode cX14_patch 21 = .ok (.bipush 9, 2) := dk_16 9 (dk_at dksX14_patch_0 21 rfl rfl)
theorem dX14_patch_23 : decode cX14_patch 23 = .ok (.invokestatic 133, 3) := dk_184 0 133 (dk_at dksX14_patch_1 0 rfl rfl)
theorem dX14_patch_26 : decode cX14_patch 26 = .ok (.ifCond .ne 5, 3) := dk_154 0 5 (dk_at dksX14_patch_1 3 rfl rfl)
theorem dX14_patch_29 : decode cX14_patch 29 = .ok (.iconst (-1), 1) := dk_2 (dk_at dksX14_patch_1 6 rfl rfl)
theorem dX14_patch_30 : decode cX14_patch 30 = .ok (.ireturn, 1) := dk_172 (dk_at dksX14_patch_1 7 rfl rfl)
theorem dX14_patch_31 : decode cX14_patch 31 = .ok (.aload_n 0, 1) := dk_42 (dk_at dksX14_patch_1 8 rfl rfl)
theorem dX14_patch_32 : decode cX14_patch 32 = .ok (.getfield 130, 3) := dk_180 0 130 (dk_at dksX14_patch_1 9 rfl rfl)
theorem dX14_patch_35 : decode cX14_patch 35 = .ok (.iconst 4, 1) := dk_7 (dk_at dksX14_patch_1 12 rfl rfl)
theorem dX14_patch_36 : decode cX14_patch 36 = .ok (.if_icmp .ne 6, 3) := dk_160 0 6 (dk_at dksX14_patch_1 13 rfl rfl)
theorem dX14_patch_39 : decode cX14_patch 39 = .ok (.bipush (-2), 2) := dk_16 254 (dk_at dksX14_patch_1 16 rfl rfl)
theorem dX14_patch_41 : decode cX14_patch 41 = .ok (.ireturn, 1) := dk_172 (dk_at dksX14_patch_1 18 rfl rfl)
theorem dX14_patch_42 : decode cX14_patch 42 = .ok (.aload_n 0, 1) := dk_42 (dk_at dksX14_patch_1 19 rfl rfl)
theorem dX14_patch_43 : decode cX14_patch 43 = .ok (.getfield 130, 3) := dk_180 0 130 (dk_at dksX14_patch_1 20 rfl rfl)
theorem dX14_patch_46 : decode cX14_patch 46 = .ok (.istore 4, 2) := dk_54 4 (dk_at dksX14_patch_2 0 rfl rfl)
theorem dX14_patch_48 : decode cX14_patch 48 = .ok (.iconst 0, 1) := dk_3 (dk_at dksX14_patch_2 2 rfl rfl)
theorem dX14_patch_49 : decode cX14_patch 49 = .ok (.istore 5, 2) := dk_54 5 (dk_at dksX14_patch_2 3 rfl rfl)
theorem dX14_patch_51 : decode cX14_patch 51 = .ok (.iload 5, 2) := dk_21 5 (dk_at dksX14_patch_2 5 rfl rfl)
theorem dX14_patch_53 : decode cX14_patch 53 = .ok (.bipush 11, 2) := dk_16 11 (dk_at dksX14_patch_2 7 rfl rfl)
theorem dX14_patch_55 : decode cX14_patch 55 = .ok (.if_icmp .ge 23, 3) := dk_162 0 23 (dk_at dksX14_patch_2 9 rfl rfl)
theorem dX14_patch_58 : decode cX14_patch 58 = .ok (.aload_n 0, 1) := dk_42 (dk_at dksX14_patch_2 12 rfl rfl)
theorem dX14_patch_59 : decode cX14_patch 59 = .ok (.getfield 19, 3) := dk_180 0 19 (dk_at dksX14_patch_2 13 rfl rfl)
theorem dX14_patch_62 : decode cX14_patch 62 = .ok (.bipush 11, 2) := dk_16 11 (dk_at dksX14_patch_2 16 rfl rfl)
theorem dX14_patch_64 : decode cX14_patch 64 = .ok (.iload 4, 2) := dk_21 4 (dk_at dksX14_patch_2 18 rfl rfl)
theorem dX14_patch_66 : decode cX14_patch 66 = .ok (.imul, 1) := dk_104 (dk_at dksX14_patch_2 20 rfl rfl)
theorem dX14_patch_67 : decode cX14_patch 67 = .ok (.iload 5, 2) := dk_21 5 (dk_at dksX14_patch_2 21 rfl rfl)
theorem dX14_patch_69 : decode cX14_patch 69 = .ok (.iadd, 1) := dk_96 (dk_at dksX14_patch_2 23 rfl rfl)
theorem dX14_patch_70 : decode cX14_patch 70 = .ok (.iconst 0, 1) := dk_3 (dk_at dksX14_patch_3 0 rfl rfl)
theorem dX14_patch_71 : decode cX14_patch 71 = .ok (.iastore, 1) := dk_79 (dk_at dksX14_patch_3 1 rfl rfl)
theorem dX14_patch_72 : decode cX14_patch 72 = .ok (.iinc 5 1, 3) := dk_132 5 1 (dk_at dksX14_patch_3 2 rfl rfl)
theorem dX14_patch_75 : decode cX14_patch 75 = .ok (.goto (-24), 3) := dk_167 255 232 (dk_at dksX14_patch_3 5 rfl rfl)
theorem dX14_patch_78 : decode cX14_patch 78 = .ok (.aload_n 0, 1) := dk_42 (dk_at dksX14_patch_3 8 rfl rfl)
theorem dX14_patch_79 : decode cX14_patch 79 = .ok (.getfield 19, 3) := dk_180 0 19 (dk_at dksX14_patch_3 9 rfl rfl)
theorem dX14_patch_82 : decode cX14_patch 82 = .ok (.bipush 11, 2) := dk_16 11 (dk_at dksX14_patch_3 12 rfl rfl)
theorem dX14_patch_84 : decode cX14_patch 84 = .ok (.iload 4, 2) := dk_21 4 (dk_at dksX14_patch_3 14 rfl rfl)
theorem dX14_patch_86 : decode cX14_patch 86 = .ok (.imul, 1) := dk_104 (dk_at dksX14_patch_3 16 rfl rfl)
theorem dX14_patch_87 : decode cX14_patch 87 = .ok (.iload_n 1, 1) := dk_27 (dk_at dksX14_patch_3 17 rfl rfl)
theorem dX14_patch_88 : decode cX14_patch 88 = .ok (.iastore, 1) := dk_79 (dk_at dksX14_patch_3 18 rfl rfl)
theorem dX14_patch_89 : decode cX14_patch 89 = .ok (.aload_n 0, 1) := dk_42 (dk_at dksX14_patch_3 19 rfl rfl)
theorem dX14_patch_90 : decode cX14_patch 90 = .ok (.getfield 19, 3) := dk_180 0 19 (dk_at dksX14_patch_3 20 rfl rfl)
theorem dX14_patch_93 : decode cX14_patch 93 = .ok (.bipush 11, 2) := dk_16 11 (dk_at dksX14_patch_4 0 rfl rfl)
theorem dX14_patch_95 : decode cX14_patch 95 = .ok (.iload 4, 2) := dk_21 4 (dk_at dksX14_patch_4 2 rfl rfl)
theorem dX14_patch_97 : decode cX14_patch 97 = .ok (.imul, 1) := dk_104 (dk_at dksX14_patch_4 4 rfl rfl)
theorem dX14_patch_98 : decode cX14_patch 98 = .ok (.iconst 1, 1) := dk_4 (dk_at dksX14_patch_4 5 rfl rfl)
theorem dX14_patch_99 : decode cX14_patch 99 = .ok (.iadd, 1) := dk_96 (dk_at dksX14_patch_4 6 rfl rfl)
theorem dX14_patch_100 : decode cX14_patch 100 = .ok (.iload_n 2, 1) := dk_28 (dk_at dksX14_patch_4 7 rfl rfl)
theorem dX14_patch_101 : decode cX14_patch 101 = .ok (.iastore, 1) := dk_79 (dk_at dksX14_patch_4 8 rfl rfl)
theorem dX14_patch_102 : decode cX14_patch 102 = .ok (.aload_n 0, 1) := dk_42 (dk_at dksX14_patch_4 9 rfl rfl)
theorem dX14_patch_103 : decode cX14_patch 103 = .ok (.getfield 19, 3) := dk_180 0 19 (dk_at dksX14_patch_4 10 rfl rfl)
theorem dX14_patch_106 : decode cX14_patch 106 = .ok (.bipush 11, 2) := dk_16 11 (dk_at dksX14_patch_4 13 rfl rfl)
theorem dX14_patch_108 : decode cX14_patch 108 = .ok (.iload 4, 2) := dk_21 4 (dk_at dksX14_patch_4 15 rfl rfl)
theorem dX14_patch_110 : decode cX14_patch 110 = .ok (.imul, 1) := dk_104 (dk_at dksX14_patch_4 17 rfl rfl)
theorem dX14_patch_111 : decode cX14_patch 111 = .ok (.iconst 2, 1) := dk_5 (dk_at dksX14_patch_4 18 rfl rfl)
theorem dX14_patch_112 : decode cX14_patch 112 = .ok (.iadd, 1) := dk_96 (dk_at dksX14_patch_4 19 rfl rfl)
theorem dX14_patch_113 : decode cX14_patch 113 = .ok (.iload_n 3, 1) := dk_29 (dk_at dksX14_patch_4 20 rfl rfl)
theorem dX14_patch_114 : decode cX14_patch 114 = .ok (.iastore, 1) := dk_79 (dk_at dksX14_patch_4 21 rfl rfl)
theorem dX14_patch_115 : decode cX14_patch 115 = .ok (.aload_n 0, 1) := dk_42 (dk_at dksX14_patch_4 22 rfl rfl)
theorem dX14_patch_116 : decode cX14_patch 116 = .ok (.dup, 1) := dk_89 (dk_at dksX14_patch_4 23 rfl rfl)
theorem dX14_patch_117 : decode cX14_patch 117 = .ok (.getfield 141, 3) := dk_180 0 141 (dk_at dksX14_patch_5 0 rfl rfl)
theorem dX14_patch_120 : decode cX14_patch 120 = .ok (.iload_n 2, 1) := dk_28 (dk_at dksX14_patch_5 3 rfl rfl)
theorem dX14_patch_121 : decode cX14_patch 121 = .ok (.aload_n 0, 1) := dk_42 (dk_at dksX14_patch_5 4 rfl rfl)
theorem dX14_patch_122 : decode cX14_patch 122 = .ok (.getfield 141, 3) := dk_180 0 141 (dk_at dksX14_patch_5 5 rfl rfl)
theorem dX14_patch_125 : decode cX14_patch 125 = .ok (.iload 4, 2) := dk_21 4 (dk_at dksX14_patch_5 8 rfl rfl)
theorem dX14_patch_127 : decode cX14_patch 127 = .ok (.invokestatic 144, 3) := dk_184 0 144 (dk_at dksX14_patch_5 10 rfl rfl)
theorem dX14_patch_130 : decode cX14_patch 130 = .ok (.isub, 1) := dk_100 (dk_at dksX14_patch_5 13 rfl rfl)
theorem dX14_patch_131 : decode cX14_patch 131 = .ok (.iload 4, 2) := dk_21 4 (dk_at dksX14_patch_5 14 rfl rfl)
theorem dX14_patch_133 : decode cX14_patch 133 = .ok (.invokestatic 137, 3) := dk_184 0 137 (dk_at dksX14_patch_5 16 rfl rfl)
theorem dX14_patch_136 : decode cX14_patch 136 = .ok (.imul, 1) := dk_104 (dk_at dksX14_patch_5 19 rfl rfl)
theorem dX14_patch_137 : decode cX14_patch 137 = .ok (.iadd, 1) := dk_96 (dk_at dksX14_patch_5 20 rfl rfl)
theorem dX14_patch_138 : decode cX14_patch 138 = .ok (.putfield 141, 3) := dk_181 0 141 (dk_at dksX14_patch_5 21 rfl rfl)
theorem dX14_patch_141 : decode cX14_patch 141 = .ok (.iconst 0, 1) := dk_3 (dk_at dksX14_patch_6 0 rfl rfl)
theorem dX14_patch_142 : decode cX14_patch 142 = .ok (.istore 5, 2) := dk_54 5 (dk_at dksX14_patch_6 1 rfl rfl)
theorem dX14_patch_144 : decode cX14_patch 144 = .ok (.iload 5, 2) := dk_21 5 (dk_at dksX14_patch_6 3 rfl rfl)
theorem dX14_patch_146 : decode cX14_patch 146 = .ok (.iconst 4, 1) := dk_7 (dk_at dksX14_patch_6 5 rfl rfl)
theorem dX14_patch_147 : decode cX14_patch 147 = .ok (.if_icmp .ge 35, 3) := dk_162 0 35 (dk_at dksX14_patch_6 6 rfl rfl)
theorem dX14_patch_150 : decode cX14_patch 150 = .ok (.aload_n 0, 1) := dk_42 (dk_at dksX14_patch_6 9 rfl rfl)
theorem dX14_patch_151 : decode cX14_patch 151 = .ok (.getfield 23, 3) := dk_180 0 23 (dk_at dksX14_patch_6 10 rfl rfl)
theorem dX14_patch_154 : decode cX14_patch 154 = .ok (.iconst 4, 1) := dk_7 (dk_at dksX14_patch_6 13 rfl rfl)
theorem dX14_patch_155 : decode cX14_patch 155 = .ok (.iload 4, 2) := dk_21 4 (dk_at dksX14_patch_6 14 rfl rfl)
theorem dX14_patch_157 : decode cX14_patch 157 = .ok (.imul, 1) := dk_104 (dk_at dksX14_patch_6 16 rfl rfl)
theorem dX14_patch_158 : decode cX14_patch 158 = .ok (.iload 5, 2) := dk_21 5 (dk_at dksX14_patch_6 17 rfl rfl)
theorem dX14_patch_160 : decode cX14_patch 160 = .ok (.iadd, 1) := dk_96 (dk_at dksX14_patch_6 19 rfl rfl)
theorem dX14_patch_161 : decode cX14_patch 161 = .ok (.iconst 0, 1) := dk_3 (dk_at dksX14_patch_6 20 rfl rfl)
theorem dX14_patch_162 : decode cX14_patch 162 = .ok (.iastore, 1) := dk_79 (dk_at dksX14_patch_6 21 rfl rfl)
theorem dX14_patch_163 : decode cX14_patch 163 = .ok (.aload_n 0, 1) := dk_42 (dk_at dksX14_patch_6 22 rfl rfl)
theorem dX14_patch_164 : decode cX14_patch 164 = .ok (.getfield 23, 3) := dk_180 0 23 (dk_at dksX14_patch_7 0 rfl rfl)
theorem dX14_patch_167 : decode cX14_patch 167 = .ok (.iconst 4, 1) := dk_7 (dk_at dksX14_patch_7 3 rfl rfl)
theorem dX14_patch_168 : decode cX14_patch 168 = .ok (.iload 5, 2) := dk_21 5 (dk_at dksX14_patch_7 4 rfl rfl)
theorem dX14_patch_170 : decode cX14_patch 170 = .ok (.imul, 1) := dk_104 (dk_at dksX14_patch_7 6 rfl rfl)
theorem dX14_patch_171 : decode cX14_patch 171 = .ok (.iload 4, 2) := dk_21 4 (dk_at dksX14_patch_7 7 rfl rfl)
theorem dX14_patch_173 : decode cX14_patch 173 = .ok (.iadd, 1) := dk_96 (dk_at dksX14_patch_7 9 rfl rfl)
theorem dX14_patch_174 : decode cX14_patch 174 = .ok (.iconst 0, 1) := dk_3 (dk_at dksX14_patch_7 10 rfl rfl)
theorem dX14_patch_175 : decode cX14_patch 175 = .ok (.iastore, 1) := dk_79 (dk_at dksX14_patch_7 11 rfl rfl)
theorem dX14_patch_176 : decode cX14_patch 176 = .ok (.iinc 5 1, 3) := dk_132 5 1 (dk_at dksX14_patch_7 12 rfl rfl)
theorem dX14_patch_179 : decode cX14_patch 179 = .ok (.goto (-35), 3) := dk_167 255 221 (dk_at dksX14_patch_7 15 rfl rfl)
theorem dX14_patch_182 : decode cX14_patch 182 = .ok (.aload_n 0, 1) := dk_42 (dk_at dksX14_patch_7 18 rfl rfl)
theorem dX14_patch_183 : decode cX14_patch 183 = .ok (.dup, 1) := dk_89 (dk_at dksX14_patch_7 19 rfl rfl)
theorem dX14_patch_184 : decode cX14_patch 184 = .ok (.getfield 130, 3) := dk_180 0 130 (dk_at dksX14_patch_7 20 rfl rfl)
theorem dX14_patch_187 : decode cX14_patch 187 = .ok (.iconst 1, 1) := dk_4 (dk_at dksX14_patch_7 23 rfl rfl)
theorem dX14_patch_188 : decode cX14_patch 188 = .ok (.iadd, 1) := dk_96 (dk_at dksX14_patch_8 0 rfl rfl)
theorem dX14_patch_189 : decode cX14_patch 189 = .ok (.putfield 130, 3) := dk_181 0 130 (dk_at dksX14_patch_8 1 rfl rfl)
theorem dX14_patch_192 : decode cX14_patch 192 = .ok (.aload_n 0, 1) := dk_42 (dk_at dksX14_patch_8 4 rfl rfl)
theorem dX14_patch_193 : decode cX14_patch 193 = .ok (.dup, 1) := dk_89 (dk_at dksX14_patch_8 5 rfl rfl)
theorem dX14_patch_194 : decode cX14_patch 194 = .ok (.getfield 38, 3) := dk_180 0 38 (dk_at dksX14_patch_8 6 rfl rfl)
theorem dX14_patch_197 : decode cX14_patch 197 = .ok (.iconst 1, 1) := dk_4 (dk_at dksX14_patch_8 9 rfl rfl)
theorem dX14_patch_198 : decode cX14_patch 198 = .ok (.iadd, 1) := dk_96 (dk_at dksX14_patch_8 10 rfl rfl)
theorem dX14_patch_199 : decode cX14_patch 199 = .ok (.putfield 38, 3) := dk_181 0 38 (dk_at dksX14_patch_8 11 rfl rfl)
theorem dX14_patch_202 : decode cX14_patch 202 = .ok (.iload 4, 2) := dk_21 4 (dk_at dksX14_patch_8 14 rfl rfl)
theorem dX14_patch_204 : decode cX14_patch 204 = .ok (.ireturn, 1) := dk_172 (dk_at dksX14_patch_8 16 rfl rfl)
abbrev cX14_in : ByteArray := prog_33_method_2_code
def yX14_in : MethodName := ⟨RX14, "in", "(III)Z"⟩
def dkwX14_in_0 : List UInt8 := [26, 27, 161, 0, 12, 26, 28, 163, 0, 7, 4, 167, 0, 4, 3, 172]
abbrev dktX14_in_0 : List UInt8 := dkwX14_in_0 ++ []
theorem dksX14_in_0 : cX14_in.data.toList.drop 0 = dktX14_in_0 := by decide +kernel
theorem dX14_in_0 : decode cX14_in 0 = .ok (.iload_n 0, 1) := dk_26 (dk_at dksX14_in_0 0 rfl rfl)
theorem dX14_in_1 : decode cX14_in 1 = .ok (.iload_n 1, 1) := dk_27 (dk_at dksX14_in_0 1 rfl rfl)
theorem dX14_in_2 : decode cX14_in 2 = .ok (.if_icmp .lt 12, 3) := dk_161 0 12 (dk_at dksX14_in_0 2 rfl rfl)
theorem dX14_in_5 : decode cX14_in 5 = .ok (.iload_n 0, 1) := dk_26 (dk_at dksX14_in_0 5 rfl rfl)
theorem dX14_in_6 : decode cX14_in 6 = .ok (.iload_n 2, 1) := dk_28 (dk_at dksX14_in_0 6 rfl rfl)
theorem dX14_in_7 : decode cX14_in 7 = .ok (.if_icmp .gt 7, 3) := dk_163 0 7 (dk_at dksX14_in_0 7 rfl rfl)
theorem dX14_in_10 : decode cX14_in 10 = .ok (.iconst 1, 1) := dk_4 (dk_at dksX14_in_0 10 rfl rfl)
theorem dX14_in_11 : decode cX14_in 11 = .ok (.goto 4, 3) := dk_167 0 4 (dk_at dksX14_in_0 11 rfl rfl)
theorem dX14_in_14 : decode cX14_in 14 = .ok (.iconst 0, 1) := dk_3 (dk_at dksX14_in_0 14 rfl rfl)
theorem dX14_in_15 : decode cX14_in 15 = .ok (.ireturn, 1) := dk_172 (dk_at dksX14_in_0 15 rfl rfl)
abbrev cX14_foodIn : ByteArray := prog_33_method_5_code
def yX14_foodIn : MethodName := ⟨RX14, "foodIn", "(II)I"⟩
def dkwX14_foodIn_0 : List UInt8 := [26, 27, 184, 0, 137, 108, 16, 7, 112, 172]
abbrev dktX14_foodIn_0 : List UInt8 := dkwX14_foodIn_0 ++ []
theorem dksX14_foodIn_0 : cX14_foodIn.data.toList.drop 0 = dktX14_foodIn_0 := by decide +kernel
theorem dX14_foodIn_0 : decode cX14_foodIn 0 = .ok (.iload_n 0, 1) := dk_26 (dk_at dksX14_foodIn_0 0 rfl rfl)
theorem dX14_foodIn_1 : decode cX14_foodIn 1 = .ok (.iload_n 1, 1) := dk_27 (dk_at dksX14_foodIn_0 1 rfl rfl)
theorem dX14_foodIn_2 : decode cX14_foodIn 2 = .ok (.invokestatic 137, 3) := dk_184 0 137 (dk_at dksX14_foodIn_0 2 rfl rfl)
theorem dX14_foodIn_5 : decode cX14_foodIn 5 = .ok (.idiv, 1) := dk_108 (dk_at dksX14_foodIn_0 5 rfl rfl)
theorem dX14_foodIn_6 : decode cX14_foodIn 6 = .ok (.bipush 7, 2) := dk_16 7 (dk_at dksX14_foodIn_0 6 rfl rfl)
theorem dX14_foodIn_8 : decode cX14_foodIn 8 = .ok (.irem, 1) := dk_112 (dk_at dksX14_foodIn_0 8 rfl rfl)
theorem dX14_foodIn_9 : decode cX14_foodIn 9 = .ok (.ireturn, 1) := dk_172 (dk_at dksX14_foodIn_0 9 rfl rfl)
abbrev cX14_unit : ByteArray := prog_33_method_4_code
def yX14_unit : MethodName := ⟨RX14, "unit", "(I)I"⟩
def dkwX14_unit_1 : List UInt8 := [16, 49, 167, 0, 6, 17, 1, 87, 172]
abbrev dktX14_unit_1 : List UInt8 := dkwX14_unit_1 ++ []
def dkwX14_unit_0 : List UInt8 := [26, 154, 0, 7, 4, 167, 0, 26, 26, 4, 160, 0, 8, 16, 7, 167, 0, 16, 26, 5, 160, 0, 8]
abbrev dktX14_unit_0 : List UInt8 := dkwX14_unit_0 ++ dktX14_unit_1
theorem dksX14_unit_0 : cX14_unit.data.toList.drop 0 = dktX14_unit_0 := by decide +kernel
theorem dksX14_unit_1 : cX14_unit.data.toList.drop 23 = dktX14_unit_1 := dk_seg dksX14_unit_0 23 rfl rfl
theorem dX14_unit_0 : decode cX14_unit 0 = .ok (.iload_n 0, 1) := dk_26 (dk_at dksX14_unit_0 0 rfl rfl)
theorem dX14_unit_1 : decode cX14_unit 1 = .ok (.ifCond .ne 7, 3) := dk_154 0 7 (dk_at dksX14_unit_0 1 rfl rfl)
theorem dX14_unit_4 : decode cX14_unit 4 = .ok (.iconst 1, 1) := dk_4 (dk_at dksX14_unit_0 4 rfl rfl)
theorem dX14_unit_5 : decode cX14_unit 5 = .ok (.goto 26, 3) := dk_167 0 26 (dk_at dksX14_unit_0 5 rfl rfl)
theorem dX14_unit_8 : decode cX14_unit 8 = .ok (.iload_n 0, 1) := dk_26 (dk_at dksX14_unit_0 8 rfl rfl)
theorem dX14_unit_9 : decode cX14_unit 9 = .ok (.iconst 1, 1) := dk_4 (dk_at dksX14_unit_0 9 rfl rfl)
theorem dX14_unit_10 : decode cX14_unit 10 = .ok (.if_icmp .ne 8, 3) := dk_160 0 8 (dk_at dksX14_unit_0 10 rfl rfl)
theorem dX14_unit_13 : decode cX14_unit 13 = .ok (.bipush 7, 2) := dk_16 7 (dk_at dksX14_unit_0 13 rfl rfl)
theorem dX14_unit_15 : decode cX14_unit 15 = .ok (.goto 16, 3) := dk_167 0 16 (dk_at dksX14_unit_0 15 rfl rfl)
theorem dX14_unit_18 : decode cX14_unit 18 = .ok (.iload_n 0, 1) := dk_26 (dk_at dksX14_unit_0 18 rfl rfl)
theorem dX14_unit_19 : decode cX14_unit 19 = .ok (.iconst 2, 1) := dk_5 (dk_at dksX14_unit_0 19 rfl rfl)
theorem dX14_unit_20 : decode cX14_unit 20 = .ok (.if_icmp .ne 8, 3) := dk_160 0 8 (dk_at dksX14_unit_0 20 rfl rfl)
theorem dX14_unit_23 : decode cX14_unit 23 = .ok (.bipush 49, 2) := dk_16 49 (dk_at dksX14_unit_1 0 rfl rfl)
theorem dX14_unit_25 : decode cX14_unit 25 = .ok (.goto 6, 3) := dk_167 0 6 (dk_at dksX14_unit_1 2 rfl rfl)
theorem dX14_unit_28 : decode cX14_unit 28 = .ok (.sipush 343, 3) := dk_17 1 87 (dk_at dksX14_unit_1 5 rfl rfl)
theorem dX14_unit_31 : decode cX14_unit 31 = .ok (.ireturn, 1) := dk_172 (dk_at dksX14_unit_1 8 rfl rfl)
abbrev cX14_patchOf : ByteArray := prog_33_method_10_code
def yX14_patchOf : MethodName := ⟨RX14, "patchOf", "(II)I"⟩
def dkwX14_patchOf_3 : List UInt8 := [180, 0, 19, 16, 11, 27, 104, 28, 96, 4, 100, 46, 172, 2, 172]
abbrev dktX14_patchOf_3 : List UInt8 := dkwX14_patchOf_3 ++ []
def dkwX14_patchOf_2 : List UInt8 := [42, 180, 0, 19, 16, 11, 27, 104, 28, 96, 46, 172, 42, 180, 0, 141, 27, 184, 0, 144, 172, 42]
abbrev dktX14_patchOf_2 : List UInt8 := dkwX14_patchOf_2 ++ dktX14_patchOf_3
def dkwX14_patchOf_1 : List UInt8 := [170, 0, 0, 0, 68, 0, 0, 0, 0, 0, 0, 0, 4, 0, 0, 0, 33, 0, 0, 0, 33, 0, 0, 0, 45, 0, 0, 0, 54, 0, 0, 0, 54]
abbrev dktX14_patchOf_1 : List UInt8 := dkwX14_patchOf_1 ++ dktX14_patchOf_2
def dkwX14_patchOf_0 : List UInt8 := [42, 27, 182, 0, 148, 154, 0, 5, 2, 172, 28]
abbrev dktX14_patchOf_0 : List UInt8 := dkwX14_patchOf_0 ++ dktX14_patchOf_1
theorem dksX14_patchOf_0 : cX14_patchOf.data.toList.drop 0 = dktX14_patchOf_0 := by decide +kernel
theorem dksX14_patchOf_1 : cX14_patchOf.data.toList.drop 11 = dktX14_patchOf_1 := dk_seg dksX14_patchOf_0 11 rfl rfl
theorem dksX14_patchOf_2 : cX14_patchOf.data.toList.drop 44 = dktX14_patchOf_2 := dk_seg dksX14_patchOf_1 33 rfl rfl
theorem dksX14_patchOf_3 : cX14_patchOf.data.toList.drop 66 = dktX14_patchOf_3 := dk_seg dksX14_patchOf_2 22 rfl rfl
theorem dX14_patchOf_0 : decode cX14_patchOf 0 = .ok (.aload_n 0, 1) := dk_42 (dk_at dksX14_patchOf_0 0 rfl rfl)
theorem dX14_patchOf_1 : decode cX14_patchOf 1 = .ok (.iload_n 1, 1) := dk_27 (dk_at dksX14_patchOf_0 1 rfl rfl)
theorem dX14_patchOf_2 : decode cX14_patchOf 2 = .ok (.invokevirtual 148, 3) := dk_182 0 148 (dk_at dksX14_patchOf_0 2 rfl rfl)
theorem dX14_patchOf_5 : decode cX14_patchOf 5 = .ok (.ifCond .ne 5, 3) := dk_154 0 5 (dk_at dksX14_patchOf_0 5 rfl rfl)
theorem dX14_patchOf_8 : decode cX14_patchOf 8 = .ok (.iconst (-1), 1) := dk_2 (dk_at dksX14_patchOf_0 8 rfl rfl)
theorem dX14_patchOf_9 : decode cX14_patchOf 9 = .ok (.ireturn, 1) := dk_172 (dk_at dksX14_patchOf_0 9 rfl rfl)
theorem dX14_patchOf_10 : decode cX14_patchOf 10 = .ok (.iload_n 2, 1) := dk_28 (dk_at dksX14_patchOf_0 10 rfl rfl)
theorem dX14_patchOf_11 : decode cX14_patchOf 11 = .ok (.tableswitch 68 0 4 #[33, 33, 45, 54, 54], 33) := by decide +kernel
theorem dX14_patchOf_44 : decode cX14_patchOf 44 = .ok (.aload_n 0, 1) := dk_42 (dk_at dksX14_patchOf_2 0 rfl rfl)
theorem dX14_patchOf_45 : decode cX14_patchOf 45 = .ok (.getfield 19, 3) := dk_180 0 19 (dk_at dksX14_patchOf_2 1 rfl rfl)
theorem dX14_patchOf_48 : decode cX14_patchOf 48 = .ok (.bipush 11, 2) := dk_16 11 (dk_at dksX14_patchOf_2 4 rfl rfl)
theorem dX14_patchOf_50 : decode cX14_patchOf 50 = .ok (.iload_n 1, 1) := dk_27 (dk_at dksX14_patchOf_2 6 rfl rfl)
theorem dX14_patchOf_51 : decode cX14_patchOf 51 = .ok (.imul, 1) := dk_104 (dk_at dksX14_patchOf_2 7 rfl rfl)
theorem dX14_patchOf_52 : decode cX14_patchOf 52 = .ok (.iload_n 2, 1) := dk_28 (dk_at dksX14_patchOf_2 8 rfl rfl)
theorem dX14_patchOf_53 : decode cX14_patchOf 53 = .ok (.iadd, 1) := dk_96 (dk_at dksX14_patchOf_2 9 rfl rfl)
theorem dX14_patchOf_54 : decode cX14_patchOf 54 = .ok (.iaload, 1) := dk_46 (dk_at dksX14_patchOf_2 10 rfl rfl)
theorem dX14_patchOf_55 : decode cX14_patchOf 55 = .ok (.ireturn, 1) := dk_172 (dk_at dksX14_patchOf_2 11 rfl rfl)
theorem dX14_patchOf_56 : decode cX14_patchOf 56 = .ok (.aload_n 0, 1) := dk_42 (dk_at dksX14_patchOf_2 12 rfl rfl)
theorem dX14_patchOf_57 : decode cX14_patchOf 57 = .ok (.getfield 141, 3) := dk_180 0 141 (dk_at dksX14_patchOf_2 13 rfl rfl)
theorem dX14_patchOf_60 : decode cX14_patchOf 60 = .ok (.iload_n 1, 1) := dk_27 (dk_at dksX14_patchOf_2 16 rfl rfl)
theorem dX14_patchOf_61 : decode cX14_patchOf 61 = .ok (.invokestatic 144, 3) := dk_184 0 144 (dk_at dksX14_patchOf_2 17 rfl rfl)
theorem dX14_patchOf_64 : decode cX14_patchOf 64 = .ok (.ireturn, 1) := dk_172 (dk_at dksX14_patchOf_2 20 rfl rfl)
theorem dX14_patchOf_65 : decode cX14_patchOf 65 = .ok (.aload_n 0, 1) := dk_42 (dk_at dksX14_patchOf_2 21 rfl rfl)
theorem dX14_patchOf_66 : decode cX14_patchOf 66 = .ok (.getfield 19, 3) := dk_180 0 19 (dk_at dksX14_patchOf_3 0 rfl rfl)
theorem dX14_patchOf_69 : decode cX14_patchOf 69 = .ok (.bipush 11, 2) := dk_16 11 (dk_at dksX14_patchOf_3 3 rfl rfl)
theorem dX14_patchOf_71 : decode cX14_patchOf 71 = .ok (.iload_n 1, 1) := dk_27 (dk_at dksX14_patchOf_3 5 rfl rfl)
theorem dX14_patchOf_72 : decode cX14_patchOf 72 = .ok (.imul, 1) := dk_104 (dk_at dksX14_patchOf_3 6 rfl rfl)
theorem dX14_patchOf_73 : decode cX14_patchOf 73 = .ok (.iload_n 2, 1) := dk_28 (dk_at dksX14_patchOf_3 7 rfl rfl)
theorem dX14_patchOf_74 : decode cX14_patchOf 74 = .ok (.iadd, 1) := dk_96 (dk_at dksX14_patchOf_3 8 rfl rfl)
theorem dX14_patchOf_75 : decode cX14_patchOf 75 = .ok (.iconst 1, 1) := dk_4 (dk_at dksX14_patchOf_3 9 rfl rfl)
theorem dX14_patchOf_76 : decode cX14_patchOf 76 = .ok (.isub, 1) := dk_100 (dk_at dksX14_patchOf_3 10 rfl rfl)
theorem dX14_patchOf_77 : decode cX14_patchOf 77 = .ok (.iaload, 1) := dk_46 (dk_at dksX14_patchOf_3 11 rfl rfl)
theorem dX14_patchOf_78 : decode cX14_patchOf 78 = .ok (.ireturn, 1) := dk_172 (dk_at dksX14_patchOf_3 12 rfl rfl)
theorem dX14_patchOf_79 : decode cX14_patchOf 79 = .ok (.iconst (-1), 1) := dk_2 (dk_at dksX14_patchOf_3 13 rfl rfl)
theorem dX14_patchOf_80 : decode cX14_patchOf 80 = .ok (.ireturn, 1) := dk_172 (dk_at dksX14_patchOf_3 14 rfl rfl)
abbrev cX14_isPatch : ByteArray := prog_33_method_3_code
def yX14_isPatch : MethodName := ⟨RX14, "isPatch", "(I)Z"⟩
def dkwX14_isPatch_0 : List UInt8 := [27, 3, 42, 180, 0, 130, 4, 100, 184, 0, 133, 172]
abbrev dktX14_isPatch_0 : List UInt8 := dkwX14_isPatch_0 ++ []
theorem dksX14_isPatch_0 : cX14_isPatch.data.toList.drop 0 = dktX14_isPatch_0 := by decide +kernel
theorem dX14_isPatch_0 : decode cX14_isPatch 0 = .ok (.iload_n 1, 1) := dk_27 (dk_at dksX14_isPatch_0 0 rfl rfl)
theorem dX14_isPatch_1 : decode cX14_isPatch 1 = .ok (.iconst 0, 1) := dk_3 (dk_at dksX14_isPatch_0 1 rfl rfl)
theorem dX14_isPatch_2 : decode cX14_isPatch 2 = .ok (.aload_n 0, 1) := dk_42 (dk_at dksX14_isPatch_0 2 rfl rfl)
theorem dX14_isPatch_3 : decode cX14_isPatch 3 = .ok (.getfield 130, 3) := dk_180 0 130 (dk_at dksX14_isPatch_0 3 rfl rfl)
theorem dX14_isPatch_6 : decode cX14_isPatch 6 = .ok (.iconst 1, 1) := dk_4 (dk_at dksX14_isPatch_0 6 rfl rfl)
theorem dX14_isPatch_7 : decode cX14_isPatch 7 = .ok (.isub, 1) := dk_100 (dk_at dksX14_isPatch_0 7 rfl rfl)
theorem dX14_isPatch_8 : decode cX14_isPatch 8 = .ok (.invokestatic 133, 3) := dk_184 0 133 (dk_at dksX14_isPatch_0 8 rfl rfl)
theorem dX14_isPatch_11 : decode cX14_isPatch 11 = .ok (.ireturn, 1) := dk_172 (dk_at dksX14_isPatch_0 11 rfl rfl)
abbrev cX14_yields : ByteArray := prog_33_method_11_code
def yX14_yields : MethodName := ⟨RX14, "yields", "(II)I"⟩
def dkwX14_yields_7 : List UInt8 := [180, 0, 38, 4, 96, 181, 0, 38, 4, 172]
abbrev dktX14_yields_7 : List UInt8 := dkwX14_yields_7 ++ []
def dkwX14_yields_6 : List UInt8 := [42, 180, 0, 109, 16, 40, 28, 104, 21, 5, 96, 47, 136, 79, 132, 5, 1, 167, 255, 219, 42, 89]
abbrev dktX14_yields_6 : List UInt8 := dkwX14_yields_6 ++ dktX14_yields_7
def dkwX14_yields_5 : List UInt8 := [172, 3, 54, 5, 21, 5, 16, 7, 162, 0, 36, 42, 180, 0, 19, 16, 11, 27, 104, 7, 96, 21, 5, 96]
abbrev dktX14_yields_5 : List UInt8 := dkwX14_yields_5 ++ dktX14_yields_6
def dkwX14_yields_4 : List UInt8 := [148, 157, 0, 7, 4, 167, 0, 4, 3, 54, 4, 132, 5, 1, 167, 255, 198, 21, 4, 154, 0, 6, 16, 252]
abbrev dktX14_yields_4 : List UInt8 := dkwX14_yields_4 ++ dktX14_yields_5
def dkwX14_yields_3 : List UInt8 := [21, 5, 96, 47, 9, 148, 155, 0, 26, 42, 180, 0, 109, 16, 40, 28, 104, 21, 5, 96, 47, 20, 0, 158]
abbrev dktX14_yields_3 : List UInt8 := dkwX14_yields_3 ++ dktX14_yields_4
def dkwX14_yields_2 : List UInt8 := [3, 54, 5, 21, 5, 16, 7, 162, 0, 57, 21, 4, 153, 0, 43, 42, 180, 0, 109, 16, 40, 28, 104]
abbrev dktX14_yields_2 : List UInt8 := dkwX14_yields_2 ++ dktX14_yields_3
def dkwX14_yields_1 : List UInt8 := [29, 153, 0, 5, 29, 172, 42, 180, 0, 106, 28, 46, 16, 7, 160, 0, 7, 4, 167, 0, 4, 3, 54, 4]
abbrev dktX14_yields_1 : List UInt8 := dkwX14_yields_1 ++ dktX14_yields_2
def dkwX14_yields_0 : List UInt8 := [42, 27, 182, 0, 148, 153, 0, 10, 28, 184, 0, 152, 154, 0, 5, 2, 172, 42, 28, 3, 182, 0, 155, 62]
abbrev dktX14_yields_0 : List UInt8 := dkwX14_yields_0 ++ dktX14_yields_1
theorem dksX14_yields_0 : cX14_yields.data.toList.drop 0 = dktX14_yields_0 := by decide +kernel
theorem dksX14_yields_1 : cX14_yields.data.toList.drop 24 = dktX14_yields_1 := dk_seg dksX14_yields_0 24 rfl rfl
theorem dksX14_yields_2 : cX14_yields.data.toList.drop 48 = dktX14_yields_2 := dk_seg dksX14_yields_1 24 rfl rfl
theorem dksX14_yields_3 : cX14_yields.data.toList.drop 71 = dktX14_yields_3 := dk_seg dksX14_yields_2 23 rfl rfl
theorem dksX14_yields_4 : cX14_yields.data.toList.drop 95 = dktX14_yields_4 := dk_seg dksX14_yields_3 24 rfl rfl
theorem dksX14_yields_5 : cX14_yields.data.toList.drop 119 = dktX14_yields_5 := dk_seg dksX14_yields_4 24 rfl rfl
theorem dksX14_yields_6 : cX14_yields.data.toList.drop 143 = dktX14_yields_6 := dk_seg dksX14_yields_5 24 rfl rfl
theorem dksX14_yields_7 : cX14_yields.data.toList.drop 165 = dktX14_yields_7 := dk_seg dksX14_yields_6 22 rfl rfl
theorem dX14_yields_0 : decode cX14_yields 0 = .ok (.aload_n 0, 1) := dk_42 (dk_at dksX14_yields_0 0 rfl rfl)
theorem dX14_yields_1 : decode cX14_yields 1 = .ok (.iload_n 1, 1) := dk_27 (dk_at dksX14_yields_0 1 rfl rfl)
theorem dX14_yields_2 : decode cX14_yields 2 = .ok (.invokevirtual 148, 3) := dk_182 0 148 (dk_at dksX14_yields_0 2 rfl rfl)
theorem dX14_yields_5 : decode cX14_yields 5 = .ok (.ifCond .eq 10, 3) := dk_153 0 10 (dk_at dksX14_yields_0 5 rfl rfl)
theorem dX14_yields_8 : decode cX14_yields 8 = .ok (.iload_n 2, 1) := dk_28 (dk_at dksX14_yields_0 8 rfl rfl)
theorem dX14_yields_9 : decode cX14_yields 9 = .ok (.invokestatic 152, 3) := dk_184 0 152 (dk_at dksX14_yields_0 9 rfl rfl)
theorem dX14_yields_12 : decode cX14_yields 12 = .ok (.ifCond .ne 5, 3) := dk_154 0 5 (dk_at dksX14_yields_0 12 rfl rfl)
theorem dX14_yields_15 : decode cX14_yields 15 = .ok (.iconst (-1), 1) := dk_2 (dk_at dksX14_yields_0 15 rfl rfl)
theorem dX14_yields_16 : decode cX14_yields 16 = .ok (.ireturn, 1) := dk_172 (dk_at dksX14_yields_0 16 rfl rfl)
theorem dX14_yields_17 : decode cX14_yields 17 = .ok (.aload_n 0, 1) := dk_42 (dk_at dksX14_yields_0 17 rfl rfl)
theorem dX14_yields_18 : decode cX14_yields 18 = .ok (.iload_n 2, 1) := dk_28 (dk_at dksX14_yields_0 18 rfl rfl)
theorem dX14_yields_19 : decode cX14_yields 19 = .ok (.iconst 0, 1) := dk_3 (dk_at dksX14_yields_0 19 rfl rfl)
theorem dX14_yields_20 : decode cX14_yields 20 = .ok (.invokevirtual 155, 3) := dk_182 0 155 (dk_at dksX14_yields_0 20 rfl rfl)
theorem dX14_yields_23 : decode cX14_yields 23 = .ok (.istore_n 3, 1) := dk_62 (dk_at dksX14_yields_0 23 rfl rfl)
theorem dX14_yields_24 : decode cX14_yields 24 = .ok (.iload_n 3, 1) := dk_29 (dk_at dksX14_yields_1 0 rfl rfl)
theorem dX14_yields_25 : decode cX14_yields 25 = .ok (.ifCond .eq 5, 3) := dk_153 0 5 (dk_at dksX14_yields_1 1 rfl rfl)
theorem dX14_yields_28 : decode cX14_yields 28 = .ok (.iload_n 3, 1) := dk_29 (dk_at dksX14_yields_1 4 rfl rfl)
theorem dX14_yields_29 : decode cX14_yields 29 = .ok (.ireturn, 1) := dk_172 (dk_at dksX14_yields_1 5 rfl rfl)
theorem dX14_yields_30 : decode cX14_yields 30 = .ok (.aload_n 0, 1) := dk_42 (dk_at dksX14_yields_1 6 rfl rfl)
theorem dX14_yields_31 : decode cX14_yields 31 = .ok (.getfield 106, 3) := dk_180 0 106 (dk_at dksX14_yields_1 7 rfl rfl)
theorem dX14_yields_34 : decode cX14_yields 34 = .ok (.iload_n 2, 1) := dk_28 (dk_at dksX14_yields_1 10 rfl rfl)
theorem dX14_yields_35 : decode cX14_yields 35 = .ok (.iaload, 1) := dk_46 (dk_at dksX14_yields_1 11 rfl rfl)
theorem dX14_yields_36 : decode cX14_yields 36 = .ok (.bipush 7, 2) := dk_16 7 (dk_at dksX14_yields_1 12 rfl rfl)
theorem dX14_yields_38 : decode cX14_yields 38 = .ok (.if_icmp .ne 7, 3) := dk_160 0 7 (dk_at dksX14_yields_1 14 rfl rfl)
theorem dX14_yields_41 : decode cX14_yields 41 = .ok (.iconst 1, 1) := dk_4 (dk_at dksX14_yields_1 17 rfl rfl)
theorem dX14_yields_42 : decode cX14_yields 42 = .ok (.goto 4, 3) := dk_167 0 4 (dk_at dksX14_yields_1 18 rfl rfl)
theorem dX14_yields_45 : decode cX14_yields 45 = .ok (.iconst 0, 1) := dk_3 (dk_at dksX14_yields_1 21 rfl rfl)
theorem dX14_yields_46 : decode cX14_yields 46 = .ok (.istore 4, 2) := dk_54 4 (dk_at dksX14_yields_1 22 rfl rfl)
theorem dX14_yields_48 : decode cX14_yields 48 = .ok (.iconst 0, 1) := dk_3 (dk_at dksX14_yields_2 0 rfl rfl)
theorem dX14_yields_49 : decode cX14_yields 49 = .ok (.istore 5, 2) := dk_54 5 (dk_at dksX14_yields_2 1 rfl rfl)
theorem dX14_yields_51 : decode cX14_yields 51 = .ok (.iload 5, 2) := dk_21 5 (dk_at dksX14_yields_2 3 rfl rfl)
theorem dX14_yields_53 : decode cX14_yields 53 = .ok (.bipush 7, 2) := dk_16 7 (dk_at dksX14_yields_2 5 rfl rfl)
theorem dX14_yields_55 : decode cX14_yields 55 = .ok (.if_icmp .ge 57, 3) := dk_162 0 57 (dk_at dksX14_yields_2 7 rfl rfl)
theorem dX14_yields_58 : decode cX14_yields 58 = .ok (.iload 4, 2) := dk_21 4 (dk_at dksX14_yields_2 10 rfl rfl)
theorem dX14_yields_60 : decode cX14_yields 60 = .ok (.ifCond .eq 43, 3) := dk_153 0 43 (dk_at dksX14_yields_2 12 rfl rfl)
theorem dX14_yields_63 : decode cX14_yields 63 = .ok (.aload_n 0, 1) := dk_42 (dk_at dksX14_yields_2 15 rfl rfl)
theorem dX14_yields_64 : decode cX14_yields 64 = .ok (.getfield 109, 3) := dk_180 0 109 (dk_at dksX14_yields_2 16 rfl rfl)
theorem dX14_yields_67 : decode cX14_yields 67 = .ok (.bipush 40, 2) := dk_16 40 (dk_at dksX14_yields_2 19 rfl rfl)
theorem dX14_yields_69 : decode cX14_yields 69 = .ok (.iload_n 2, 1) := dk_28 (dk_at dksX14_yields_2 21 rfl rfl)
theorem dX14_yields_70 : decode cX14_yields 70 = .ok (.imul, 1) := dk_104 (dk_at dksX14_yields_2 22 rfl rfl)
theorem dX14_yields_71 : decode cX14_yields 71 = .ok (.iload 5, 2) := dk_21 5 (dk_at dksX14_yields_3 0 rfl rfl)
theorem dX14_yields_73 : decode cX14_yields 73 = .ok (.iadd, 1) := dk_96 (dk_at dksX14_yields_3 2 rfl rfl)
theorem dX14_yields_74 : decode cX14_yields 74 = .ok (.laload, 1) := dk_47 (dk_at dksX14_yields_3 3 rfl rfl)
theorem dX14_yields_75 : decode cX14_yields 75 = .ok (.lconst 0, 1) := dk_9 (dk_at dksX14_yields_3 4 rfl rfl)
theorem dX14_yields_76 : decode cX14_yields 76 = .ok (.lcmp, 1) := dk_148 (dk_at dksX14_yields_3 5 rfl rfl)
theorem dX14_yields_77 : decode cX14_yields 77 = .ok (.ifCond .lt 26, 3) := dk_155 0 26 (dk_at dksX14_yields_3 6 rfl rfl)
theorem dX14_yields_80 : decode cX14_yields 80 = .ok (.aload_n 0, 1) := dk_42 (dk_at dksX14_yields_3 9 rfl rfl)
theorem dX14_yields_81 : decode cX14_yields 81 = .ok (.getfield 109, 3) := dk_180 0 109 (dk_at dksX14_yields_3 10 rfl rfl)
theorem dX14_yields_84 : decode cX14_yields 84 = .ok (.bipush 40, 2) := dk_16 40 (dk_at dksX14_yields_3 13 rfl rfl)
theorem dX14_yields_86 : decode cX14_yields 86 = .ok (.iload_n 2, 1) := dk_28 (dk_at dksX14_yields_3 15 rfl rfl)
theorem dX14_yields_87 : decode cX14_yields 87 = .ok (.imul, 1) := dk_104 (dk_at dksX14_yields_3 16 rfl rfl)
theorem dX14_yields_88 : decode cX14_yields 88 = .ok (.iload 5, 2) := dk_21 5 (dk_at dksX14_yields_3 17 rfl rfl)
theorem dX14_yields_90 : decode cX14_yields 90 = .ok (.iadd, 1) := dk_96 (dk_at dksX14_yields_3 19 rfl rfl)
theorem dX14_yields_91 : decode cX14_yields 91 = .ok (.laload, 1) := dk_47 (dk_at dksX14_yields_3 20 rfl rfl)
theorem dX14_yields_92 : decode cX14_yields 92 = .ok (.ldc2_w 158, 3) := dk_20 0 158 (dk_at dksX14_yields_3 21 rfl rfl)
theorem dX14_yields_95 : decode cX14_yields 95 = .ok (.lcmp, 1) := dk_148 (dk_at dksX14_yields_4 0 rfl rfl)
theorem dX14_yields_96 : decode cX14_yields 96 = .ok (.ifCond .gt 7, 3) := dk_157 0 7 (dk_at dksX14_yields_4 1 rfl rfl)
theorem dX14_yields_99 : decode cX14_yields 99 = .ok (.iconst 1, 1) := dk_4 (dk_at dksX14_yields_4 4 rfl rfl)
theorem dX14_yields_100 : decode cX14_yields 100 = .ok (.goto 4, 3) := dk_167 0 4 (dk_at dksX14_yields_4 5 rfl rfl)
theorem dX14_yields_103 : decode cX14_yields 103 = .ok (.iconst 0, 1) := dk_3 (dk_at dksX14_yields_4 8 rfl rfl)
theorem dX14_yields_104 : decode cX14_yields 104 = .ok (.istore 4, 2) := dk_54 4 (dk_at dksX14_yields_4 9 rfl rfl)
theorem dX14_yields_106 : decode cX14_yields 106 = .ok (.iinc 5 1, 3) := dk_132 5 1 (dk_at dksX14_yields_4 11 rfl rfl)
theorem dX14_yields_109 : decode cX14_yields 109 = .ok (.goto (-58), 3) := dk_167 255 198 (dk_at dksX14_yields_4 14 rfl rfl)
theorem dX14_yields_112 : decode cX14_yields 112 = .ok (.iload 4, 2) := dk_21 4 (dk_at dksX14_yields_4 17 rfl rfl)
theorem dX14_yields_114 : decode cX14_yields 114 = .ok (.ifCond .ne 6, 3) := dk_154 0 6 (dk_at dksX14_yields_4 19 rfl rfl)
theorem dX14_yields_117 : decode cX14_yields 117 = .ok (.bipush (-4), 2) := dk_16 252 (dk_at dksX14_yields_4 22 rfl rfl)
theorem dX14_yields_119 : decode cX14_yields 119 = .ok (.ireturn, 1) := dk_172 (dk_at dksX14_yields_5 0 rfl rfl)
theorem dX14_yields_120 : decode cX14_yields 120 = .ok (.iconst 0, 1) := dk_3 (dk_at dksX14_yields_5 1 rfl rfl)
theorem dX14_yields_121 : decode cX14_yields 121 = .ok (.istore 5, 2) := dk_54 5 (dk_at dksX14_yields_5 2 rfl rfl)
theorem dX14_yields_123 : decode cX14_yields 123 = .ok (.iload 5, 2) := dk_21 5 (dk_at dksX14_yields_5 4 rfl rfl)
theorem dX14_yields_125 : decode cX14_yields 125 = .ok (.bipush 7, 2) := dk_16 7 (dk_at dksX14_yields_5 6 rfl rfl)
theorem dX14_yields_127 : decode cX14_yields 127 = .ok (.if_icmp .ge 36, 3) := dk_162 0 36 (dk_at dksX14_yields_5 8 rfl rfl)
theorem dX14_yields_130 : decode cX14_yields 130 = .ok (.aload_n 0, 1) := dk_42 (dk_at dksX14_yields_5 11 rfl rfl)
theorem dX14_yields_131 : decode cX14_yields 131 = .ok (.getfield 19, 3) := dk_180 0 19 (dk_at dksX14_yields_5 12 rfl rfl)
theorem dX14_yields_134 : decode cX14_yields 134 = .ok (.bipush 11, 2) := dk_16 11 (dk_at dksX14_yields_5 15 rfl rfl)
theorem dX14_yields_136 : decode cX14_yields 136 = .ok (.iload_n 1, 1) := dk_27 (dk_at dksX14_yields_5 17 rfl rfl)
theorem dX14_yields_137 : decode cX14_yields 137 = .ok (.imul, 1) := dk_104 (dk_at dksX14_yields_5 18 rfl rfl)
theorem dX14_yields_138 : decode cX14_yields 138 = .ok (.iconst 4, 1) := dk_7 (dk_at dksX14_yields_5 19 rfl rfl)
theorem dX14_yields_139 : decode cX14_yields 139 = .ok (.iadd, 1) := dk_96 (dk_at dksX14_yields_5 20 rfl rfl)
theorem dX14_yields_140 : decode cX14_yields 140 = .ok (.iload 5, 2) := dk_21 5 (dk_at dksX14_yields_5 21 rfl rfl)
theorem dX14_yields_142 : decode cX14_yields 142 = .ok (.iadd, 1) := dk_96 (dk_at dksX14_yields_5 23 rfl rfl)
theorem dX14_yields_143 : decode cX14_yields 143 = .ok (.aload_n 0, 1) := dk_42 (dk_at dksX14_yields_6 0 rfl rfl)
theorem dX14_yields_144 : decode cX14_yields 144 = .ok (.getfield 109, 3) := dk_180 0 109 (dk_at dksX14_yields_6 1 rfl rfl)
theorem dX14_yields_147 : decode cX14_yields 147 = .ok (.bipush 40, 2) := dk_16 40 (dk_at dksX14_yields_6 4 rfl rfl)
theorem dX14_yields_149 : decode cX14_yields 149 = .ok (.iload_n 2, 1) := dk_28 (dk_at dksX14_yields_6 6 rfl rfl)
theorem dX14_yields_150 : decode cX14_yields 150 = .ok (.imul, 1) := dk_104 (dk_at dksX14_yields_6 7 rfl rfl)
theorem dX14_yields_151 : decode cX14_yields 151 = .ok (.iload 5, 2) := dk_21 5 (dk_at dksX14_yields_6 8 rfl rfl)
theorem dX14_yields_153 : decode cX14_yields 153 = .ok (.iadd, 1) := dk_96 (dk_at dksX14_yields_6 10 rfl rfl)
theorem dX14_yields_154 : decode cX14_yields 154 = .ok (.laload, 1) := dk_47 (dk_at dksX14_yields_6 11 rfl rfl)
theorem dX14_yields_155 : decode cX14_yields 155 = .ok (.l2i, 1) := dk_136 (dk_at dksX14_yields_6 12 rfl rfl)
theorem dX14_yields_156 : decode cX14_yields 156 = .ok (.iastore, 1) := dk_79 (dk_at dksX14_yields_6 13 rfl rfl)
theorem dX14_yields_157 : decode cX14_yields 157 = .ok (.iinc 5 1, 3) := dk_132 5 1 (dk_at dksX14_yields_6 14 rfl rfl)
theorem dX14_yields_160 : decode cX14_yields 160 = .ok (.goto (-37), 3) := dk_167 255 219 (dk_at dksX14_yields_6 17 rfl rfl)
theorem dX14_yields_163 : decode cX14_yields 163 = .ok (.aload_n 0, 1) := dk_42 (dk_at dksX14_yields_6 20 rfl rfl)
theorem dX14_yields_164 : decode cX14_yields 164 = .ok (.dup, 1) := dk_89 (dk_at dksX14_yields_6 21 rfl rfl)
theorem dX14_yields_165 : decode cX14_yields 165 = .ok (.getfield 38, 3) := dk_180 0 38 (dk_at dksX14_yields_7 0 rfl rfl)
theorem dX14_yields_168 : decode cX14_yields 168 = .ok (.iconst 1, 1) := dk_4 (dk_at dksX14_yields_7 3 rfl rfl)
theorem dX14_yields_169 : decode cX14_yields 169 = .ok (.iadd, 1) := dk_96 (dk_at dksX14_yields_7 4 rfl rfl)
theorem dX14_yields_170 : decode cX14_yields 170 = .ok (.putfield 38, 3) := dk_181 0 38 (dk_at dksX14_yields_7 5 rfl rfl)
theorem dX14_yields_173 : decode cX14_yields 173 = .ok (.iconst 1, 1) := dk_4 (dk_at dksX14_yields_7 8 rfl rfl)
theorem dX14_yields_174 : decode cX14_yields 174 = .ok (.ireturn, 1) := dk_172 (dk_at dksX14_yields_7 9 rfl rfl)
abbrev cX14_isShelf : ByteArray := prog_33_method_90_code
def yX14_isShelf : MethodName := ⟨RX14, "isShelf", "(I)Z"⟩
def dkwX14_isShelf_0 : List UInt8 := [26, 3, 6, 184, 0, 133, 172]
abbrev dktX14_isShelf_0 : List UInt8 := dkwX14_isShelf_0 ++ []
theorem dksX14_isShelf_0 : cX14_isShelf.data.toList.drop 0 = dktX14_isShelf_0 := by decide +kernel
theorem dX14_isShelf_0 : decode cX14_isShelf 0 = .ok (.iload_n 0, 1) := dk_26 (dk_at dksX14_isShelf_0 0 rfl rfl)
theorem dX14_isShelf_1 : decode cX14_isShelf 1 = .ok (.iconst 0, 1) := dk_3 (dk_at dksX14_isShelf_0 1 rfl rfl)
theorem dX14_isShelf_2 : decode cX14_isShelf 2 = .ok (.iconst 3, 1) := dk_6 (dk_at dksX14_isShelf_0 2 rfl rfl)
theorem dX14_isShelf_3 : decode cX14_isShelf 3 = .ok (.invokestatic 133, 3) := dk_184 0 133 (dk_at dksX14_isShelf_0 3 rfl rfl)
theorem dX14_isShelf_6 : decode cX14_isShelf 6 = .ok (.ireturn, 1) := dk_172 (dk_at dksX14_isShelf_0 6 rfl rfl)
abbrev cX14_lacksSort : ByteArray := prog_33_method_93_code
def yX14_lacksSort : MethodName := ⟨RX14, "lacksSort", "(II)I"⟩
def dkwX14_lacksSort_1 : List UInt8 := [16, 243, 167, 0, 4, 3, 172]
abbrev dktX14_lacksSort_1 : List UInt8 := dkwX14_lacksSort_1 ++ []
def dkwX14_lacksSort_0 : List UInt8 := [42, 180, 0, 103, 27, 46, 156, 0, 8, 16, 245, 167, 0, 19, 42, 180, 0, 103, 27, 46, 28, 159, 0, 8]
abbrev dktX14_lacksSort_0 : List UInt8 := dkwX14_lacksSort_0 ++ dktX14_lacksSort_1
theorem dksX14_lacksSort_0 : cX14_lacksSort.data.toList.drop 0 = dktX14_lacksSort_0 := by decide +kernel
theorem dksX14_lacksSort_1 : cX14_lacksSort.data.toList.drop 24 = dktX14_lacksSort_1 := dk_seg dksX14_lacksSort_0 24 rfl rfl
theorem dX14_lacksSort_0 : decode cX14_lacksSort 0 = .ok (.aload_n 0, 1) := dk_42 (dk_at dksX14_lacksSort_0 0 rfl rfl)
theorem dX14_lacksSort_1 : decode cX14_lacksSort 1 = .ok (.getfield 103, 3) := dk_180 0 103 (dk_at dksX14_lacksSort_0 1 rfl rfl)
theorem dX14_lacksSort_4 : decode cX14_lacksSort 4 = .ok (.iload_n 1, 1) := dk_27 (dk_at dksX14_lacksSort_0 4 rfl rfl)
theorem dX14_lacksSort_5 : decode cX14_lacksSort 5 = .ok (.iaload, 1) := dk_46 (dk_at dksX14_lacksSort_0 5 rfl rfl)
theorem dX14_lacksSort_6 : decode cX14_lacksSort 6 = .ok (.ifCond .ge 8, 3) := dk_156 0 8 (dk_at dksX14_lacksSort_0 6 rfl rfl)
theorem dX14_lacksSort_9 : decode cX14_lacksSort 9 = .ok (.bipush (-11), 2) := dk_16 245 (dk_at dksX14_lacksSort_0 9 rfl rfl)
theorem dX14_lacksSort_11 : decode cX14_lacksSort 11 = .ok (.goto 19, 3) := dk_167 0 19 (dk_at dksX14_lacksSort_0 11 rfl rfl)
theorem dX14_lacksSort_14 : decode cX14_lacksSort 14 = .ok (.aload_n 0, 1) := dk_42 (dk_at dksX14_lacksSort_0 14 rfl rfl)
theorem dX14_lacksSort_15 : decode cX14_lacksSort 15 = .ok (.getfield 103, 3) := dk_180 0 103 (dk_at dksX14_lacksSort_0 15 rfl rfl)
theorem dX14_lacksSort_18 : decode cX14_lacksSort 18 = .ok (.iload_n 1, 1) := dk_27 (dk_at dksX14_lacksSort_0 18 rfl rfl)
theorem dX14_lacksSort_19 : decode cX14_lacksSort 19 = .ok (.iaload, 1) := dk_46 (dk_at dksX14_lacksSort_0 19 rfl rfl)
theorem dX14_lacksSort_20 : decode cX14_lacksSort 20 = .ok (.iload_n 2, 1) := dk_28 (dk_at dksX14_lacksSort_0 20 rfl rfl)
theorem dX14_lacksSort_21 : decode cX14_lacksSort 21 = .ok (.if_icmp .eq 8, 3) := dk_159 0 8 (dk_at dksX14_lacksSort_0 21 rfl rfl)
theorem dX14_lacksSort_24 : decode cX14_lacksSort 24 = .ok (.bipush (-13), 2) := dk_16 243 (dk_at dksX14_lacksSort_1 0 rfl rfl)
theorem dX14_lacksSort_26 : decode cX14_lacksSort 26 = .ok (.goto 4, 3) := dk_167 0 4 (dk_at dksX14_lacksSort_1 2 rfl rfl)
theorem dX14_lacksSort_29 : decode cX14_lacksSort 29 = .ok (.iconst 0, 1) := dk_3 (dk_at dksX14_lacksSort_1 5 rfl rfl)
theorem dX14_lacksSort_30 : decode cX14_lacksSort 30 = .ok (.ireturn, 1) := dk_172 (dk_at dksX14_lacksSort_1 6 rfl rfl)
abbrev cX14_yieldOf : ByteArray := prog_33_method_12_code
def yX14_yieldOf : MethodName := ⟨RX14, "yieldOf", "(II)I"⟩
def dkwX14_yieldOf_1 : List UInt8 := [167, 0, 4, 2, 172]
abbrev dktX14_yieldOf_1 : List UInt8 := dkwX14_yieldOf_1 ++ []
def dkwX14_yieldOf_0 : List UInt8 := [42, 27, 182, 0, 148, 153, 0, 22, 28, 3, 16, 6, 184, 0, 133, 153, 0, 12, 42, 27, 28, 182, 0, 160]
abbrev dktX14_yieldOf_0 : List UInt8 := dkwX14_yieldOf_0 ++ dktX14_yieldOf_1
theorem dksX14_yieldOf_0 : cX14_yieldOf.data.toList.drop 0 = dktX14_yieldOf_0 := by decide +kernel
theorem dksX14_yieldOf_1 : cX14_yieldOf.data.toList.drop 24 = dktX14_yieldOf_1 := dk_seg dksX14_yieldOf_0 24 rfl rfl
theorem dX14_yieldOf_0 : decode cX14_yieldOf 0 = .ok (.aload_n 0, 1) := dk_42 (dk_at dksX14_yieldOf_0 0 rfl rfl)
theorem dX14_yieldOf_1 : decode cX14_yieldOf 1 = .ok (.iload_n 1, 1) := dk_27 (dk_at dksX14_yieldOf_0 1 rfl rfl)
theorem dX14_yieldOf_2 : decode cX14_yieldOf 2 = .ok (.invokevirtual 148, 3) := dk_182 0 148 (dk_at dksX14_yieldOf_0 2 rfl rfl)
theorem dX14_yieldOf_5 : decode cX14_yieldOf 5 = .ok (.ifCond .eq 22, 3) := dk_153 0 22 (dk_at dksX14_yieldOf_0 5 rfl rfl)
theorem dX14_yieldOf_8 : decode cX14_yieldOf 8 = .ok (.iload_n 2, 1) := dk_28 (dk_at dksX14_yieldOf_0 8 rfl rfl)
theorem dX14_yieldOf_9 : decode cX14_yieldOf 9 = .ok (.iconst 0, 1) := dk_3 (dk_at dksX14_yieldOf_0 9 rfl rfl)
theorem dX14_yieldOf_10 : decode cX14_yieldOf 10 = .ok (.bipush 6, 2) := dk_16 6 (dk_at dksX14_yieldOf_0 10 rfl rfl)
theorem dX14_yieldOf_12 : decode cX14_yieldOf 12 = .ok (.invokestatic 133, 3) := dk_184 0 133 (dk_at dksX14_yieldOf_0 12 rfl rfl)
theorem dX14_yieldOf_15 : decode cX14_yieldOf 15 = .ok (.ifCond .eq 12, 3) := dk_153 0 12 (dk_at dksX14_yieldOf_0 15 rfl rfl)
theorem dX14_yieldOf_18 : decode cX14_yieldOf 18 = .ok (.aload_n 0, 1) := dk_42 (dk_at dksX14_yieldOf_0 18 rfl rfl)
theorem dX14_yieldOf_19 : decode cX14_yieldOf 19 = .ok (.iload_n 1, 1) := dk_27 (dk_at dksX14_yieldOf_0 19 rfl rfl)
theorem dX14_yieldOf_20 : decode cX14_yieldOf 20 = .ok (.iload_n 2, 1) := dk_28 (dk_at dksX14_yieldOf_0 20 rfl rfl)
theorem dX14_yieldOf_21 : decode cX14_yieldOf 21 = .ok (.invokevirtual 160, 3) := dk_182 0 160 (dk_at dksX14_yieldOf_0 21 rfl rfl)
theorem dX14_yieldOf_24 : decode cX14_yieldOf 24 = .ok (.goto 4, 3) := dk_167 0 4 (dk_at dksX14_yieldOf_1 0 rfl rfl)
theorem dX14_yieldOf_27 : decode cX14_yieldOf 27 = .ok (.iconst (-1), 1) := dk_2 (dk_at dksX14_yieldOf_1 3 rfl rfl)
theorem dX14_yieldOf_28 : decode cX14_yieldOf 28 = .ok (.ireturn, 1) := dk_172 (dk_at dksX14_yieldOf_1 4 rfl rfl)
abbrev cX14_yieldIn : ByteArray := prog_33_method_8_code
def yX14_yieldIn : MethodName := ⟨RX14, "yieldIn", "(II)I"⟩
def dkwX14_yieldIn_0 : List UInt8 := [42, 180, 0, 19, 16, 11, 27, 104, 7, 96, 28, 96, 46, 172]
abbrev dktX14_yieldIn_0 : List UInt8 := dkwX14_yieldIn_0 ++ []
theorem dksX14_yieldIn_0 : cX14_yieldIn.data.toList.drop 0 = dktX14_yieldIn_0 := by decide +kernel
theorem dX14_yieldIn_0 : decode cX14_yieldIn 0 = .ok (.aload_n 0, 1) := dk_42 (dk_at dksX14_yieldIn_0 0 rfl rfl)
theorem dX14_yieldIn_1 : decode cX14_yieldIn 1 = .ok (.getfield 19, 3) := dk_180 0 19 (dk_at dksX14_yieldIn_0 1 rfl rfl)
theorem dX14_yieldIn_4 : decode cX14_yieldIn 4 = .ok (.bipush 11, 2) := dk_16 11 (dk_at dksX14_yieldIn_0 4 rfl rfl)
theorem dX14_yieldIn_6 : decode cX14_yieldIn 6 = .ok (.iload_n 1, 1) := dk_27 (dk_at dksX14_yieldIn_0 6 rfl rfl)
theorem dX14_yieldIn_7 : decode cX14_yieldIn 7 = .ok (.imul, 1) := dk_104 (dk_at dksX14_yieldIn_0 7 rfl rfl)
theorem dX14_yieldIn_8 : decode cX14_yieldIn 8 = .ok (.iconst 4, 1) := dk_7 (dk_at dksX14_yieldIn_0 8 rfl rfl)
theorem dX14_yieldIn_9 : decode cX14_yieldIn 9 = .ok (.iadd, 1) := dk_96 (dk_at dksX14_yieldIn_0 9 rfl rfl)
theorem dX14_yieldIn_10 : decode cX14_yieldIn 10 = .ok (.iload_n 2, 1) := dk_28 (dk_at dksX14_yieldIn_0 10 rfl rfl)
theorem dX14_yieldIn_11 : decode cX14_yieldIn 11 = .ok (.iadd, 1) := dk_96 (dk_at dksX14_yieldIn_0 11 rfl rfl)
theorem dX14_yieldIn_12 : decode cX14_yieldIn 12 = .ok (.iaload, 1) := dk_46 (dk_at dksX14_yieldIn_0 12 rfl rfl)
theorem dX14_yieldIn_13 : decode cX14_yieldIn 13 = .ok (.ireturn, 1) := dk_172 (dk_at dksX14_yieldIn_0 13 rfl rfl)
abbrev cX14_lay : ByteArray := prog_33_method_13_code
def yX14_lay : MethodName := ⟨RX14, "lay", "(III)I"⟩
def dkwX14_lay_5 : List UInt8 := [181, 0, 141, 21, 4, 172]
abbrev dktX14_lay_5 : List UInt8 := dkwX14_lay_5 ++ []
def dkwX14_lay_4 : List UInt8 := [27, 104, 6, 96, 29, 79, 167, 0, 21, 42, 89, 180, 0, 141, 29, 21, 4, 100, 27, 184, 0, 137, 104, 96]
abbrev dktX14_lay_4 : List UInt8 := dkwX14_lay_4 ++ dktX14_lay_5
def dkwX14_lay_3 : List UInt8 := [167, 0, 11, 42, 180, 0, 141, 27, 184, 0, 144, 54, 4, 28, 4, 160, 0, 18, 42, 180, 0, 19, 16, 11]
abbrev dktX14_lay_3 : List UInt8 := dkwX14_lay_3 ++ dktX14_lay_4
def dkwX14_lay_2 : List UInt8 := [184, 0, 133, 154, 0, 5, 2, 172, 28, 4, 160, 0, 17, 42, 180, 0, 19, 16, 11, 27, 104, 6, 96, 46]
abbrev dktX14_lay_2 : List UInt8 := dkwX14_lay_2 ++ dktX14_lay_3
def dkwX14_lay_1 : List UInt8 := [16, 60, 167, 0, 20, 42, 42, 27, 182, 0, 148, 153, 0, 7, 27, 167, 0, 4, 3, 182, 0, 163]
abbrev dktX14_lay_1 : List UInt8 := dkwX14_lay_1 ++ dktX14_lay_2
def dkwX14_lay_0 : List UInt8 := [42, 27, 182, 0, 148, 153, 0, 47, 28, 3, 4, 184, 0, 133, 153, 0, 38, 29, 3, 28, 4, 160, 0, 8]
abbrev dktX14_lay_0 : List UInt8 := dkwX14_lay_0 ++ dktX14_lay_1
theorem dksX14_lay_0 : cX14_lay.data.toList.drop 0 = dktX14_lay_0 := by decide +kernel
theorem dksX14_lay_1 : cX14_lay.data.toList.drop 24 = dktX14_lay_1 := dk_seg dksX14_lay_0 24 rfl rfl
theorem dksX14_lay_2 : cX14_lay.data.toList.drop 46 = dktX14_lay_2 := dk_seg dksX14_lay_1 22 rfl rfl
theorem dksX14_lay_3 : cX14_lay.data.toList.drop 70 = dktX14_lay_3 := dk_seg dksX14_lay_2 24 rfl rfl
theorem dksX14_lay_4 : cX14_lay.data.toList.drop 94 = dktX14_lay_4 := dk_seg dksX14_lay_3 24 rfl rfl
theorem dksX14_lay_5 : cX14_lay.data.toList.drop 118 = dktX14_lay_5 := dk_seg dksX14_lay_4 24 rfl rfl
theorem dX14_lay_0 : decode cX14_lay 0 = .ok (.aload_n 0, 1) := dk_42 (dk_at dksX14_lay_0 0 rfl rfl)
theorem dX14_lay_1 : decode cX14_lay 1 = .ok (.iload_n 1, 1) := dk_27 (dk_at dksX14_lay_0 1 rfl rfl)
theorem dX14_lay_2 : decode cX14_lay 2 = .ok (.invokevirtual 148, 3) := dk_182 0 148 (dk_at dksX14_lay_0 2 rfl rfl)
theorem dX14_lay_5 : decode cX14_lay 5 = .ok (.ifCond .eq 47, 3) := dk_153 0 47 (dk_at dksX14_lay_0 5 rfl rfl)
theorem dX14_lay_8 : decode cX14_lay 8 = .ok (.iload_n 2, 1) := dk_28 (dk_at dksX14_lay_0 8 rfl rfl)
theorem dX14_lay_9 : decode cX14_lay 9 = .ok (.iconst 0, 1) := dk_3 (dk_at dksX14_lay_0 9 rfl rfl)
theorem dX14_lay_10 : decode cX14_lay 10 = .ok (.iconst 1, 1) := dk_4 (dk_at dksX14_lay_0 10 rfl rfl)
theorem dX14_lay_11 : decode cX14_lay 11 = .ok (.invokestatic 133, 3) := dk_184 0 133 (dk_at dksX14_lay_0 11 rfl rfl)
theorem dX14_lay_14 : decode cX14_lay 14 = .ok (.ifCond .eq 38, 3) := dk_153 0 38 (dk_at dksX14_lay_0 14 rfl rfl)
theorem dX14_lay_17 : decode cX14_lay 17 = .ok (.iload_n 3, 1) := dk_29 (dk_at dksX14_lay_0 17 rfl rfl)
theorem dX14_lay_18 : decode cX14_lay 18 = .ok (.iconst 0, 1) := dk_3 (dk_at dksX14_lay_0 18 rfl rfl)
theorem dX14_lay_19 : decode cX14_lay 19 = .ok (.iload_n 2, 1) := dk_28 (dk_at dksX14_lay_0 19 rfl rfl)
theorem dX14_lay_20 : decode cX14_lay 20 = .ok (.iconst 1, 1) := dk_4 (dk_at dksX14_lay_0 20 rfl rfl)
theorem dX14_lay_21 : decode cX14_lay 21 = .ok (.if_icmp .ne 8, 3) := dk_160 0 8 (dk_at dksX14_lay_0 21 rfl rfl)
theorem dX14_lay_24 : decode cX14_lay 24 = .ok (.bipush 60, 2) := dk_16 60 (dk_at dksX14_lay_1 0 rfl rfl)
theorem dX14_lay_26 : decode cX14_lay 26 = .ok (.goto 20, 3) := dk_167 0 20 (dk_at dksX14_lay_1 2 rfl rfl)
theorem dX14_lay_29 : decode cX14_lay 29 = .ok (.aload_n 0, 1) := dk_42 (dk_at dksX14_lay_1 5 rfl rfl)
theorem dX14_lay_30 : decode cX14_lay 30 = .ok (.aload_n 0, 1) := dk_42 (dk_at dksX14_lay_1 6 rfl rfl)
theorem dX14_lay_31 : decode cX14_lay 31 = .ok (.iload_n 1, 1) := dk_27 (dk_at dksX14_lay_1 7 rfl rfl)
theorem dX14_lay_32 : decode cX14_lay 32 = .ok (.invokevirtual 148, 3) := dk_182 0 148 (dk_at dksX14_lay_1 8 rfl rfl)
theorem dX14_lay_35 : decode cX14_lay 35 = .ok (.ifCond .eq 7, 3) := dk_153 0 7 (dk_at dksX14_lay_1 11 rfl rfl)
theorem dX14_lay_38 : decode cX14_lay 38 = .ok (.iload_n 1, 1) := dk_27 (dk_at dksX14_lay_1 14 rfl rfl)
theorem dX14_lay_39 : decode cX14_lay 39 = .ok (.goto 4, 3) := dk_167 0 4 (dk_at dksX14_lay_1 15 rfl rfl)
theorem dX14_lay_42 : decode cX14_lay 42 = .ok (.iconst 0, 1) := dk_3 (dk_at dksX14_lay_1 18 rfl rfl)
theorem dX14_lay_43 : decode cX14_lay 43 = .ok (.invokevirtual 163, 3) := dk_182 0 163 (dk_at dksX14_lay_1 19 rfl rfl)
theorem dX14_lay_46 : decode cX14_lay 46 = .ok (.invokestatic 133, 3) := dk_184 0 133 (dk_at dksX14_lay_2 0 rfl rfl)
theorem dX14_lay_49 : decode cX14_lay 49 = .ok (.ifCond .ne 5, 3) := dk_154 0 5 (dk_at dksX14_lay_2 3 rfl rfl)
theorem dX14_lay_52 : decode cX14_lay 52 = .ok (.iconst (-1), 1) := dk_2 (dk_at dksX14_lay_2 6 rfl rfl)
theorem dX14_lay_53 : decode cX14_lay 53 = .ok (.ireturn, 1) := dk_172 (dk_at dksX14_lay_2 7 rfl rfl)
theorem dX14_lay_54 : decode cX14_lay 54 = .ok (.iload_n 2, 1) := dk_28 (dk_at dksX14_lay_2 8 rfl rfl)
theorem dX14_lay_55 : decode cX14_lay 55 = .ok (.iconst 1, 1) := dk_4 (dk_at dksX14_lay_2 9 rfl rfl)
theorem dX14_lay_56 : decode cX14_lay 56 = .ok (.if_icmp .ne 17, 3) := dk_160 0 17 (dk_at dksX14_lay_2 10 rfl rfl)
theorem dX14_lay_59 : decode cX14_lay 59 = .ok (.aload_n 0, 1) := dk_42 (dk_at dksX14_lay_2 13 rfl rfl)
theorem dX14_lay_60 : decode cX14_lay 60 = .ok (.getfield 19, 3) := dk_180 0 19 (dk_at dksX14_lay_2 14 rfl rfl)
theorem dX14_lay_63 : decode cX14_lay 63 = .ok (.bipush 11, 2) := dk_16 11 (dk_at dksX14_lay_2 17 rfl rfl)
theorem dX14_lay_65 : decode cX14_lay 65 = .ok (.iload_n 1, 1) := dk_27 (dk_at dksX14_lay_2 19 rfl rfl)
theorem dX14_lay_66 : decode cX14_lay 66 = .ok (.imul, 1) := dk_104 (dk_at dksX14_lay_2 20 rfl rfl)
theorem dX14_lay_67 : decode cX14_lay 67 = .ok (.iconst 3, 1) := dk_6 (dk_at dksX14_lay_2 21 rfl rfl)
theorem dX14_lay_68 : decode cX14_lay 68 = .ok (.iadd, 1) := dk_96 (dk_at dksX14_lay_2 22 rfl rfl)
theorem dX14_lay_69 : decode cX14_lay 69 = .ok (.iaload, 1) := dk_46 (dk_at dksX14_lay_2 23 rfl rfl)
theorem dX14_lay_70 : decode cX14_lay 70 = .ok (.goto 11, 3) := dk_167 0 11 (dk_at dksX14_lay_3 0 rfl rfl)
theorem dX14_lay_73 : decode cX14_lay 73 = .ok (.aload_n 0, 1) := dk_42 (dk_at dksX14_lay_3 3 rfl rfl)
theorem dX14_lay_74 : decode cX14_lay 74 = .ok (.getfield 141, 3) := dk_180 0 141 (dk_at dksX14_lay_3 4 rfl rfl)
theorem dX14_lay_77 : decode cX14_lay 77 = .ok (.iload_n 1, 1) := dk_27 (dk_at dksX14_lay_3 7 rfl rfl)
theorem dX14_lay_78 : decode cX14_lay 78 = .ok (.invokestatic 144, 3) := dk_184 0 144 (dk_at dksX14_lay_3 8 rfl rfl)
theorem dX14_lay_81 : decode cX14_lay 81 = .ok (.istore 4, 2) := dk_54 4 (dk_at dksX14_lay_3 11 rfl rfl)
theorem dX14_lay_83 : decode cX14_lay 83 = .ok (.iload_n 2, 1) := dk_28 (dk_at dksX14_lay_3 13 rfl rfl)
theorem dX14_lay_84 : decode cX14_lay 84 = .ok (.iconst 1, 1) := dk_4 (dk_at dksX14_lay_3 14 rfl rfl)
theorem dX14_lay_85 : decode cX14_lay 85 = .ok (.if_icmp .ne 18, 3) := dk_160 0 18 (dk_at dksX14_lay_3 15 rfl rfl)
theorem dX14_lay_88 : decode cX14_lay 88 = .ok (.aload_n 0, 1) := dk_42 (dk_at dksX14_lay_3 18 rfl rfl)
theorem dX14_lay_89 : decode cX14_lay 89 = .ok (.getfield 19, 3) := dk_180 0 19 (dk_at dksX14_lay_3 19 rfl rfl)
theorem dX14_lay_92 : decode cX14_lay 92 = .ok (.bipush 11, 2) := dk_16 11 (dk_at dksX14_lay_3 22 rfl rfl)
theorem dX14_lay_94 : decode cX14_lay 94 = .ok (.iload_n 1, 1) := dk_27 (dk_at dksX14_lay_4 0 rfl rfl)
theorem dX14_lay_95 : decode cX14_lay 95 = .ok (.imul, 1) := dk_104 (dk_at dksX14_lay_4 1 rfl rfl)
theorem dX14_lay_96 : decode cX14_lay 96 = .ok (.iconst 3, 1) := dk_6 (dk_at dksX14_lay_4 2 rfl rfl)
theorem dX14_lay_97 : decode cX14_lay 97 = .ok (.iadd, 1) := dk_96 (dk_at dksX14_lay_4 3 rfl rfl)
theorem dX14_lay_98 : decode cX14_lay 98 = .ok (.iload_n 3, 1) := dk_29 (dk_at dksX14_lay_4 4 rfl rfl)
theorem dX14_lay_99 : decode cX14_lay 99 = .ok (.iastore, 1) := dk_79 (dk_at dksX14_lay_4 5 rfl rfl)
theorem dX14_lay_100 : decode cX14_lay 100 = .ok (.goto 21, 3) := dk_167 0 21 (dk_at dksX14_lay_4 6 rfl rfl)
theorem dX14_lay_103 : decode cX14_lay 103 = .ok (.aload_n 0, 1) := dk_42 (dk_at dksX14_lay_4 9 rfl rfl)
theorem dX14_lay_104 : decode cX14_lay 104 = .ok (.dup, 1) := dk_89 (dk_at dksX14_lay_4 10 rfl rfl)
theorem dX14_lay_105 : decode cX14_lay 105 = .ok (.getfield 141, 3) := dk_180 0 141 (dk_at dksX14_lay_4 11 rfl rfl)
theorem dX14_lay_108 : decode cX14_lay 108 = .ok (.iload_n 3, 1) := dk_29 (dk_at dksX14_lay_4 14 rfl rfl)
theorem dX14_lay_109 : decode cX14_lay 109 = .ok (.iload 4, 2) := dk_21 4 (dk_at dksX14_lay_4 15 rfl rfl)
theorem dX14_lay_111 : decode cX14_lay 111 = .ok (.isub, 1) := dk_100 (dk_at dksX14_lay_4 17 rfl rfl)
theorem dX14_lay_112 : decode cX14_lay 112 = .ok (.iload_n 1, 1) := dk_27 (dk_at dksX14_lay_4 18 rfl rfl)
theorem dX14_lay_113 : decode cX14_lay 113 = .ok (.invokestatic 137, 3) := dk_184 0 137 (dk_at dksX14_lay_4 19 rfl rfl)
theorem dX14_lay_116 : decode cX14_lay 116 = .ok (.imul, 1) := dk_104 (dk_at dksX14_lay_4 22 rfl rfl)
theorem dX14_lay_117 : decode cX14_lay 117 = .ok (.iadd, 1) := dk_96 (dk_at dksX14_lay_4 23 rfl rfl)
theorem dX14_lay_118 : decode cX14_lay 118 = .ok (.putfield 141, 3) := dk_181 0 141 (dk_at dksX14_lay_5 0 rfl rfl)
theorem dX14_lay_121 : decode cX14_lay 121 = .ok (.iload 4, 2) := dk_21 4 (dk_at dksX14_lay_5 3 rfl rfl)
theorem dX14_lay_123 : decode cX14_lay 123 = .ok (.ireturn, 1) := dk_172 (dk_at dksX14_lay_5 5 rfl rfl)
abbrev cX14_topOf : ByteArray := prog_33_method_7_code
def yX14_topOf : MethodName := ⟨RX14, "topOf", "(I)I"⟩
def dkwX14_topOf_0 : List UInt8 := [42, 180, 0, 19, 16, 11, 27, 104, 4, 96, 46, 172]
abbrev dktX14_topOf_0 : List UInt8 := dkwX14_topOf_0 ++ []
theorem dksX14_topOf_0 : cX14_topOf.data.toList.drop 0 = dktX14_topOf_0 := by decide +kernel
theorem dX14_topOf_0 : decode cX14_topOf 0 = .ok (.aload_n 0, 1) := dk_42 (dk_at dksX14_topOf_0 0 rfl rfl)
theorem dX14_topOf_1 : decode cX14_topOf 1 = .ok (.getfield 19, 3) := dk_180 0 19 (dk_at dksX14_topOf_0 1 rfl rfl)
theorem dX14_topOf_4 : decode cX14_topOf 4 = .ok (.bipush 11, 2) := dk_16 11 (dk_at dksX14_topOf_0 4 rfl rfl)
theorem dX14_topOf_6 : decode cX14_topOf 6 = .ok (.iload_n 1, 1) := dk_27 (dk_at dksX14_topOf_0 6 rfl rfl)
theorem dX14_topOf_7 : decode cX14_topOf 7 = .ok (.imul, 1) := dk_104 (dk_at dksX14_topOf_0 7 rfl rfl)
theorem dX14_topOf_8 : decode cX14_topOf 8 = .ok (.iconst 1, 1) := dk_4 (dk_at dksX14_topOf_0 8 rfl rfl)
theorem dX14_topOf_9 : decode cX14_topOf 9 = .ok (.iadd, 1) := dk_96 (dk_at dksX14_topOf_0 9 rfl rfl)
theorem dX14_topOf_10 : decode cX14_topOf 10 = .ok (.iaload, 1) := dk_46 (dk_at dksX14_topOf_0 10 rfl rfl)
theorem dX14_topOf_11 : decode cX14_topOf 11 = .ok (.ireturn, 1) := dk_172 (dk_at dksX14_topOf_0 11 rfl rfl)
abbrev cX14_way : ByteArray := prog_33_method_14_code
def yX14_way : MethodName := ⟨RX14, "way", "(III)I"⟩
def dkwX14_way_3 : List UInt8 := [96, 181, 0, 38, 21, 4, 172]
abbrev dktX14_way_3 : List UInt8 := dkwX14_way_3 ++ []
def dkwX14_way_2 : List UInt8 := [7, 27, 104, 28, 96, 29, 79, 42, 180, 0, 23, 7, 28, 104, 27, 96, 29, 79, 42, 89, 180, 0, 38, 4]
abbrev dktX14_way_2 : List UInt8 := dkwX14_way_2 ++ dktX14_way_3
def dkwX14_way_1 : List UInt8 := [184, 0, 133, 154, 0, 5, 2, 172, 42, 180, 0, 23, 7, 27, 104, 28, 96, 46, 54, 4, 42, 180, 0, 23]
abbrev dktX14_way_1 : List UInt8 := dkwX14_way_1 ++ dktX14_way_2
def dkwX14_way_0 : List UInt8 := [42, 27, 182, 0, 148, 153, 0, 25, 42, 28, 182, 0, 148, 153, 0, 17, 27, 28, 159, 0, 12, 29, 3, 8]
abbrev dktX14_way_0 : List UInt8 := dkwX14_way_0 ++ dktX14_way_1
theorem dksX14_way_0 : cX14_way.data.toList.drop 0 = dktX14_way_0 := by decide +kernel
theorem dksX14_way_1 : cX14_way.data.toList.drop 24 = dktX14_way_1 := dk_seg dksX14_way_0 24 rfl rfl
theorem dksX14_way_2 : cX14_way.data.toList.drop 48 = dktX14_way_2 := dk_seg dksX14_way_1 24 rfl rfl
theorem dksX14_way_3 : cX14_way.data.toList.drop 72 = dktX14_way_3 := dk_seg dksX14_way_2 24 rfl rfl
theorem dX14_way_0 : decode cX14_way 0 = .ok (.aload_n 0, 1) := dk_42 (dk_at dksX14_way_0 0 rfl rfl)
theorem dX14_way_1 : decode cX14_way 1 = .ok (.iload_n 1, 1) := dk_27 (dk_at dksX14_way_0 1 rfl rfl)
theorem dX14_way_2 : decode cX14_way 2 = .ok (.invokevirtual 148, 3) := dk_182 0 148 (dk_at dksX14_way_0 2 rfl rfl)
theorem dX14_way_5 : decode cX14_way 5 = .ok (.ifCond .eq 25, 3) := dk_153 0 25 (dk_at dksX14_way_0 5 rfl rfl)
theorem dX14_way_8 : decode cX14_way 8 = .ok (.aload_n 0, 1) := dk_42 (dk_at dksX14_way_0 8 rfl rfl)
theorem dX14_way_9 : decode cX14_way 9 = .ok (.iload_n 2, 1) := dk_28 (dk_at dksX14_way_0 9 rfl rfl)
theorem dX14_way_10 : decode cX14_way 10 = .ok (.invokevirtual 148, 3) := dk_182 0 148 (dk_at dksX14_way_0 10 rfl rfl)
theorem dX14_way_13 : decode cX14_way 13 = .ok (.ifCond .eq 17, 3) := dk_153 0 17 (dk_at dksX14_way_0 13 rfl rfl)
theorem dX14_way_16 : decode cX14_way 16 = .ok (.iload_n 1, 1) := dk_27 (dk_at dksX14_way_0 16 rfl rfl)
theorem dX14_way_17 : decode cX14_way 17 = .ok (.iload_n 2, 1) := dk_28 (dk_at dksX14_way_0 17 rfl rfl)
theorem dX14_way_18 : decode cX14_way 18 = .ok (.if_icmp .eq 12, 3) := dk_159 0 12 (dk_at dksX14_way_0 18 rfl rfl)
theorem dX14_way_21 : decode cX14_way 21 = .ok (.iload_n 3, 1) := dk_29 (dk_at dksX14_way_0 21 rfl rfl)
theorem dX14_way_22 : decode cX14_way 22 = .ok (.iconst 0, 1) := dk_3 (dk_at dksX14_way_0 22 rfl rfl)
theorem dX14_way_23 : decode cX14_way 23 = .ok (.iconst 5, 1) := dk_8 (dk_at dksX14_way_0 23 rfl rfl)
theorem dX14_way_24 : decode cX14_way 24 = .ok (.invokestatic 133, 3) := dk_184 0 133 (dk_at dksX14_way_1 0 rfl rfl)
theorem dX14_way_27 : decode cX14_way 27 = .ok (.ifCond .ne 5, 3) := dk_154 0 5 (dk_at dksX14_way_1 3 rfl rfl)
theorem dX14_way_30 : decode cX14_way 30 = .ok (.iconst (-1), 1) := dk_2 (dk_at dksX14_way_1 6 rfl rfl)
theorem dX14_way_31 : decode cX14_way 31 = .ok (.ireturn, 1) := dk_172 (dk_at dksX14_way_1 7 rfl rfl)
theorem dX14_way_32 : decode cX14_way 32 = .ok (.aload_n 0, 1) := dk_42 (dk_at dksX14_way_1 8 rfl rfl)
theorem dX14_way_33 : decode cX14_way 33 = .ok (.getfield 23, 3) := dk_180 0 23 (dk_at dksX14_way_1 9 rfl rfl)
theorem dX14_way_36 : decode cX14_way 36 = .ok (.iconst 4, 1) := dk_7 (dk_at dksX14_way_1 12 rfl rfl)
theorem dX14_way_37 : decode cX14_way 37 = .ok (.iload_n 1, 1) := dk_27 (dk_at dksX14_way_1 13 rfl rfl)
theorem dX14_way_38 : decode cX14_way 38 = .ok (.imul, 1) := dk_104 (dk_at dksX14_way_1 14 rfl rfl)
theorem dX14_way_39 : decode cX14_way 39 = .ok (.iload_n 2, 1) := dk_28 (dk_at dksX14_way_1 15 rfl rfl)
theorem dX14_way_40 : decode cX14_way 40 = .ok (.iadd, 1) := dk_96 (dk_at dksX14_way_1 16 rfl rfl)
theorem dX14_way_41 : decode cX14_way 41 = .ok (.iaload, 1) := dk_46 (dk_at dksX14_way_1 17 rfl rfl)
theorem dX14_way_42 : decode cX14_way 42 = .ok (.istore 4, 2) := dk_54 4 (dk_at dksX14_way_1 18 rfl rfl)
theorem dX14_way_44 : decode cX14_way 44 = .ok (.aload_n 0, 1) := dk_42 (dk_at dksX14_way_1 20 rfl rfl)
theorem dX14_way_45 : decode cX14_way 45 = .ok (.getfield 23, 3) := dk_180 0 23 (dk_at dksX14_way_1 21 rfl rfl)
theorem dX14_way_48 : decode cX14_way 48 = .ok (.iconst 4, 1) := dk_7 (dk_at dksX14_way_2 0 rfl rfl)
theorem dX14_way_49 : decode cX14_way 49 = .ok (.iload_n 1, 1) := dk_27 (dk_at dksX14_way_2 1 rfl rfl)
theorem dX14_way_50 : decode cX14_way 50 = .ok (.imul, 1) := dk_104 (dk_at dksX14_way_2 2 rfl rfl)
theorem dX14_way_51 : decode cX14_way 51 = .ok (.iload_n 2, 1) := dk_28 (dk_at dksX14_way_2 3 rfl rfl)
theorem dX14_way_52 : decode cX14_way 52 = .ok (.iadd, 1) := dk_96 (dk_at dksX14_way_2 4 rfl rfl)
theorem dX14_way_53 : decode cX14_way 53 = .ok (.iload_n 3, 1) := dk_29 (dk_at dksX14_way_2 5 rfl rfl)
theorem dX14_way_54 : decode cX14_way 54 = .ok (.iastore, 1) := dk_79 (dk_at dksX14_way_2 6 rfl rfl)
theorem dX14_way_55 : decode cX14_way 55 = .ok (.aload_n 0, 1) := dk_42 (dk_at dksX14_way_2 7 rfl rfl)
theorem dX14_way_56 : decode cX14_way 56 = .ok (.getfield 23, 3) := dk_180 0 23 (dk_at dksX14_way_2 8 rfl rfl)
theorem dX14_way_59 : decode cX14_way 59 = .ok (.iconst 4, 1) := dk_7 (dk_at dksX14_way_2 11 rfl rfl)
theorem dX14_way_60 : decode cX14_way 60 = .ok (.iload_n 2, 1) := dk_28 (dk_at dksX14_way_2 12 rfl rfl)
theorem dX14_way_61 : decode cX14_way 61 = .ok (.imul, 1) := dk_104 (dk_at dksX14_way_2 13 rfl rfl)
theorem dX14_way_62 : decode cX14_way 62 = .ok (.iload_n 1, 1) := dk_27 (dk_at dksX14_way_2 14 rfl rfl)
theorem dX14_way_63 : decode cX14_way 63 = .ok (.iadd, 1) := dk_96 (dk_at dksX14_way_2 15 rfl rfl)
theorem dX14_way_64 : decode cX14_way 64 = .ok (.iload_n 3, 1) := dk_29 (dk_at dksX14_way_2 16 rfl rfl)
theorem dX14_way_65 : decode cX14_way 65 = .ok (.iastore, 1) := dk_79 (dk_at dksX14_way_2 17 rfl rfl)
theorem dX14_way_66 : decode cX14_way 66 = .ok (.aload_n 0, 1) := dk_42 (dk_at dksX14_way_2 18 rfl rfl)
theorem dX14_way_67 : decode cX14_way 67 = .ok (.dup, 1) := dk_89 (dk_at dksX14_way_2 19 rfl rfl)
theorem dX14_way_68 : decode cX14_way 68 = .ok (.getfield 38, 3) := dk_180 0 38 (dk_at dksX14_way_2 20 rfl rfl)
theorem dX14_way_71 : decode cX14_way 71 = .ok (.iconst 1, 1) := dk_4 (dk_at dksX14_way_2 23 rfl rfl)
theorem dX14_way_72 : decode cX14_way 72 = .ok (.iadd, 1) := dk_96 (dk_at dksX14_way_3 0 rfl rfl)
theorem dX14_way_73 : decode cX14_way 73 = .ok (.putfield 38, 3) := dk_181 0 38 (dk_at dksX14_way_3 1 rfl rfl)
theorem dX14_way_76 : decode cX14_way 76 = .ok (.iload 4, 2) := dk_21 4 (dk_at dksX14_way_3 4 rfl rfl)
theorem dX14_way_78 : decode cX14_way 78 = .ok (.ireturn, 1) := dk_172 (dk_at dksX14_way_3 6 rfl rfl)
abbrev cX14_dusk : ByteArray := prog_33_method_15_code
def yX14_dusk : MethodName := ⟨RX14, "dusk", "(I)I"⟩
def dkwX14_dusk_1 : List UInt8 := [180, 0, 7, 61, 42, 27, 181, 0, 7, 42, 89, 180, 0, 38, 4, 96, 181, 0, 38, 28, 172]
abbrev dktX14_dusk_1 : List UInt8 := dkwX14_dusk_1 ++ []
def dkwX14_dusk_0 : List UInt8 := [27, 4, 16, 20, 184, 0, 133, 154, 0, 5, 2, 172, 42, 180, 0, 166, 27, 164, 0, 6, 16, 252, 172, 42]
abbrev dktX14_dusk_0 : List UInt8 := dkwX14_dusk_0 ++ dktX14_dusk_1
theorem dksX14_dusk_0 : cX14_dusk.data.toList.drop 0 = dktX14_dusk_0 := by decide +kernel
theorem dksX14_dusk_1 : cX14_dusk.data.toList.drop 24 = dktX14_dusk_1 := dk_seg dksX14_dusk_0 24 rfl rfl
theorem dX14_dusk_0 : decode cX14_dusk 0 = .ok (.iload_n 1, 1) := dk_27 (dk_at dksX14_dusk_0 0 rfl rfl)
theorem dX14_dusk_1 : decode cX14_dusk 1 = .ok (.iconst 1, 1) := dk_4 (dk_at dksX14_dusk_0 1 rfl rfl)
theorem dX14_dusk_2 : decode cX14_dusk 2 = .ok (.bipush 20, 2) := dk_16 20 (dk_at dksX14_dusk_0 2 rfl rfl)
theorem dX14_dusk_4 : decode cX14_dusk 4 = .ok (.invokestatic 133, 3) := dk_184 0 133 (dk_at dksX14_dusk_0 4 rfl rfl)
theorem dX14_dusk_7 : decode cX14_dusk 7 = .ok (.ifCond .ne 5, 3) := dk_154 0 5 (dk_at dksX14_dusk_0 7 rfl rfl)
theorem dX14_dusk_10 : decode cX14_dusk 10 = .ok (.iconst (-1), 1) := dk_2 (dk_at dksX14_dusk_0 10 rfl rfl)
theorem dX14_dusk_11 : decode cX14_dusk 11 = .ok (.ireturn, 1) := dk_172 (dk_at dksX14_dusk_0 11 rfl rfl)
theorem dX14_dusk_12 : decode cX14_dusk 12 = .ok (.aload_n 0, 1) := dk_42 (dk_at dksX14_dusk_0 12 rfl rfl)
theorem dX14_dusk_13 : decode cX14_dusk 13 = .ok (.getfield 166, 3) := dk_180 0 166 (dk_at dksX14_dusk_0 13 rfl rfl)
theorem dX14_dusk_16 : decode cX14_dusk 16 = .ok (.iload_n 1, 1) := dk_27 (dk_at dksX14_dusk_0 16 rfl rfl)
theorem dX14_dusk_17 : decode cX14_dusk 17 = .ok (.if_icmp .le 6, 3) := dk_164 0 6 (dk_at dksX14_dusk_0 17 rfl rfl)
theorem dX14_dusk_20 : decode cX14_dusk 20 = .ok (.bipush (-4), 2) := dk_16 252 (dk_at dksX14_dusk_0 20 rfl rfl)
theorem dX14_dusk_22 : decode cX14_dusk 22 = .ok (.ireturn, 1) := dk_172 (dk_at dksX14_dusk_0 22 rfl rfl)
theorem dX14_dusk_23 : decode cX14_dusk 23 = .ok (.aload_n 0, 1) := dk_42 (dk_at dksX14_dusk_0 23 rfl rfl)
theorem dX14_dusk_24 : decode cX14_dusk 24 = .ok (.getfield 7, 3) := dk_180 0 7 (dk_at dksX14_dusk_1 0 rfl rfl)
theorem dX14_dusk_27 : decode cX14_dusk 27 = .ok (.istore_n 2, 1) := dk_61 (dk_at dksX14_dusk_1 3 rfl rfl)
theorem dX14_dusk_28 : decode cX14_dusk 28 = .ok (.aload_n 0, 1) := dk_42 (dk_at dksX14_dusk_1 4 rfl rfl)
theorem dX14_dusk_29 : decode cX14_dusk 29 = .ok (.iload_n 1, 1) := dk_27 (dk_at dksX14_dusk_1 5 rfl rfl)
theorem dX14_dusk_30 : decode cX14_dusk 30 = .ok (.putfield 7, 3) := dk_181 0 7 (dk_at dksX14_dusk_1 6 rfl rfl)
theorem dX14_dusk_33 : decode cX14_dusk 33 = .ok (.aload_n 0, 1) := dk_42 (dk_at dksX14_dusk_1 9 rfl rfl)
theorem dX14_dusk_34 : decode cX14_dusk 34 = .ok (.dup, 1) := dk_89 (dk_at dksX14_dusk_1 10 rfl rfl)
theorem dX14_dusk_35 : decode cX14_dusk 35 = .ok (.getfield 38, 3) := dk_180 0 38 (dk_at dksX14_dusk_1 11 rfl rfl)
theorem dX14_dusk_38 : decode cX14_dusk 38 = .ok (.iconst 1, 1) := dk_4 (dk_at dksX14_dusk_1 14 rfl rfl)
theorem dX14_dusk_39 : decode cX14_dusk 39 = .ok (.iadd, 1) := dk_96 (dk_at dksX14_dusk_1 15 rfl rfl)
theorem dX14_dusk_40 : decode cX14_dusk 40 = .ok (.putfield 38, 3) := dk_181 0 38 (dk_at dksX14_dusk_1 16 rfl rfl)
theorem dX14_dusk_43 : decode cX14_dusk 43 = .ok (.iload_n 2, 1) := dk_28 (dk_at dksX14_dusk_1 19 rfl rfl)
theorem dX14_dusk_44 : decode cX14_dusk 44 = .ok (.ireturn, 1) := dk_172 (dk_at dksX14_dusk_1 20 rfl rfl)
abbrev cX14_perch : ByteArray := prog_33_method_16_code
def yX14_perch : MethodName := ⟨RX14, "perch", "(I)I"⟩
def dkwX14_perch_0 : List UInt8 := [42, 27, 182, 0, 148, 154, 0, 5, 2, 172, 42, 180, 0, 169, 61, 42, 27, 181, 0, 169, 28, 172]
abbrev dktX14_perch_0 : List UInt8 := dkwX14_perch_0 ++ []
theorem dksX14_perch_0 : cX14_perch.data.toList.drop 0 = dktX14_perch_0 := by decide +kernel
theorem dX14_perch_0 : decode cX14_perch 0 = .ok (.aload_n 0, 1) := dk_42 (dk_at dksX14_perch_0 0 rfl rfl)
theorem dX14_perch_1 : decode cX14_perch 1 = .ok (.iload_n 1, 1) := dk_27 (dk_at dksX14_perch_0 1 rfl rfl)
theorem dX14_perch_2 : decode cX14_perch 2 = .ok (.invokevirtual 148, 3) := dk_182 0 148 (dk_at dksX14_perch_0 2 rfl rfl)
theorem dX14_perch_5 : decode cX14_perch 5 = .ok (.ifCond .ne 5, 3) := dk_154 0 5 (dk_at dksX14_perch_0 5 rfl rfl)
theorem dX14_perch_8 : decode cX14_perch 8 = .ok (.iconst (-1), 1) := dk_2 (dk_at dksX14_perch_0 8 rfl rfl)
theorem dX14_perch_9 : decode cX14_perch 9 = .ok (.ireturn, 1) := dk_172 (dk_at dksX14_perch_0 9 rfl rfl)
theorem dX14_perch_10 : decode cX14_perch 10 = .ok (.aload_n 0, 1) := dk_42 (dk_at dksX14_perch_0 10 rfl rfl)
theorem dX14_perch_11 : decode cX14_perch 11 = .ok (.getfield 169, 3) := dk_180 0 169 (dk_at dksX14_perch_0 11 rfl rfl)
theorem dX14_perch_14 : decode cX14_perch 14 = .ok (.istore_n 2, 1) := dk_61 (dk_at dksX14_perch_0 14 rfl rfl)
theorem dX14_perch_15 : decode cX14_perch 15 = .ok (.aload_n 0, 1) := dk_42 (dk_at dksX14_perch_0 15 rfl rfl)
theorem dX14_perch_16 : decode cX14_perch 16 = .ok (.iload_n 1, 1) := dk_27 (dk_at dksX14_perch_0 16 rfl rfl)
theorem dX14_perch_17 : decode cX14_perch 17 = .ok (.putfield 169, 3) := dk_181 0 169 (dk_at dksX14_perch_0 17 rfl rfl)
theorem dX14_perch_20 : decode cX14_perch 20 = .ok (.iload_n 2, 1) := dk_28 (dk_at dksX14_perch_0 20 rfl rfl)
theorem dX14_perch_21 : decode cX14_perch 21 = .ok (.ireturn, 1) := dk_172 (dk_at dksX14_perch_0 21 rfl rfl)
abbrev cX14_dawn : ByteArray := prog_33_method_17_code
def yX14_dawn : MethodName := ⟨RX14, "dawn", "()I"⟩
def dkwX14_dawn_2 : List UInt8 := [184, 0, 137, 104, 96, 181, 0, 141, 132, 2, 1, 167, 255, 217, 27, 172]
abbrev dktX14_dawn_2 : List UInt8 := dkwX14_dawn_2 ++ []
def dkwX14_dawn_1 : List UInt8 := [162, 0, 37, 42, 89, 180, 0, 141, 42, 28, 182, 0, 163, 42, 180, 0, 141, 28, 184, 0, 144, 100, 28]
abbrev dktX14_dawn_1 : List UInt8 := dkwX14_dawn_1 ++ dktX14_dawn_2
def dkwX14_dawn_0 : List UInt8 := [42, 180, 0, 172, 60, 42, 3, 181, 0, 172, 42, 3, 181, 0, 166, 3, 61, 28, 42, 180, 0, 130]
abbrev dktX14_dawn_0 : List UInt8 := dkwX14_dawn_0 ++ dktX14_dawn_1
theorem dksX14_dawn_0 : cX14_dawn.data.toList.drop 0 = dktX14_dawn_0 := by decide +kernel
theorem dksX14_dawn_1 : cX14_dawn.data.toList.drop 22 = dktX14_dawn_1 := dk_seg dksX14_dawn_0 22 rfl rfl
theorem dksX14_dawn_2 : cX14_dawn.data.toList.drop 45 = dktX14_dawn_2 := dk_seg dksX14_dawn_1 23 rfl rfl
theorem dX14_dawn_0 : decode cX14_dawn 0 = .ok (.aload_n 0, 1) := dk_42 (dk_at dksX14_dawn_0 0 rfl rfl)
theorem dX14_dawn_1 : decode cX14_dawn 1 = .ok (.getfield 172, 3) := dk_180 0 172 (dk_at dksX14_dawn_0 1 rfl rfl)
theorem dX14_dawn_4 : decode cX14_dawn 4 = .ok (.istore_n 1, 1) := dk_60 (dk_at dksX14_dawn_0 4 rfl rfl)
theorem dX14_dawn_5 : decode cX14_dawn 5 = .ok (.aload_n 0, 1) := dk_42 (dk_at dksX14_dawn_0 5 rfl rfl)
theorem dX14_dawn_6 : decode cX14_dawn 6 = .ok (.iconst 0, 1) := dk_3 (dk_at dksX14_dawn_0 6 rfl rfl)
theorem dX14_dawn_7 : decode cX14_dawn 7 = .ok (.putfield 172, 3) := dk_181 0 172 (dk_at dksX14_dawn_0 7 rfl rfl)
theorem dX14_dawn_10 : decode cX14_dawn 10 = .ok (.aload_n 0, 1) := dk_42 (dk_at dksX14_dawn_0 10 rfl rfl)
theorem dX14_dawn_11 : decode cX14_dawn 11 = .ok (.iconst 0, 1) := dk_3 (dk_at dksX14_dawn_0 11 rfl rfl)
theorem dX14_dawn_12 : decode cX14_dawn 12 = .ok (.putfield 166, 3) := dk_181 0 166 (dk_at dksX14_dawn_0 12 rfl rfl)
theorem dX14_dawn_15 : decode cX14_dawn 15 = .ok (.iconst 0, 1) := dk_3 (dk_at dksX14_dawn_0 15 rfl rfl)
theorem dX14_dawn_16 : decode cX14_dawn 16 = .ok (.istore_n 2, 1) := dk_61 (dk_at dksX14_dawn_0 16 rfl rfl)
theorem dX14_dawn_17 : decode cX14_dawn 17 = .ok (.iload_n 2, 1) := dk_28 (dk_at dksX14_dawn_0 17 rfl rfl)
theorem dX14_dawn_18 : decode cX14_dawn 18 = .ok (.aload_n 0, 1) := dk_42 (dk_at dksX14_dawn_0 18 rfl rfl)
theorem dX14_dawn_19 : decode cX14_dawn 19 = .ok (.getfield 130, 3) := dk_180 0 130 (dk_at dksX14_dawn_0 19 rfl rfl)
theorem dX14_dawn_22 : decode cX14_dawn 22 = .ok (.if_icmp .ge 37, 3) := dk_162 0 37 (dk_at dksX14_dawn_1 0 rfl rfl)
theorem dX14_dawn_25 : decode cX14_dawn 25 = .ok (.aload_n 0, 1) := dk_42 (dk_at dksX14_dawn_1 3 rfl rfl)
theorem dX14_dawn_26 : decode cX14_dawn 26 = .ok (.dup, 1) := dk_89 (dk_at dksX14_dawn_1 4 rfl rfl)
theorem dX14_dawn_27 : decode cX14_dawn 27 = .ok (.getfield 141, 3) := dk_180 0 141 (dk_at dksX14_dawn_1 5 rfl rfl)
theorem dX14_dawn_30 : decode cX14_dawn 30 = .ok (.aload_n 0, 1) := dk_42 (dk_at dksX14_dawn_1 8 rfl rfl)
theorem dX14_dawn_31 : decode cX14_dawn 31 = .ok (.iload_n 2, 1) := dk_28 (dk_at dksX14_dawn_1 9 rfl rfl)
theorem dX14_dawn_32 : decode cX14_dawn 32 = .ok (.invokevirtual 163, 3) := dk_182 0 163 (dk_at dksX14_dawn_1 10 rfl rfl)
theorem dX14_dawn_35 : decode cX14_dawn 35 = .ok (.aload_n 0, 1) := dk_42 (dk_at dksX14_dawn_1 13 rfl rfl)
theorem dX14_dawn_36 : decode cX14_dawn 36 = .ok (.getfield 141, 3) := dk_180 0 141 (dk_at dksX14_dawn_1 14 rfl rfl)
theorem dX14_dawn_39 : decode cX14_dawn 39 = .ok (.iload_n 2, 1) := dk_28 (dk_at dksX14_dawn_1 17 rfl rfl)
theorem dX14_dawn_40 : decode cX14_dawn 40 = .ok (.invokestatic 144, 3) := dk_184 0 144 (dk_at dksX14_dawn_1 18 rfl rfl)
theorem dX14_dawn_43 : decode cX14_dawn 43 = .ok (.isub, 1) := dk_100 (dk_at dksX14_dawn_1 21 rfl rfl)
theorem dX14_dawn_44 : decode cX14_dawn 44 = .ok (.iload_n 2, 1) := dk_28 (dk_at dksX14_dawn_1 22 rfl rfl)
theorem dX14_dawn_45 : decode cX14_dawn 45 = .ok (.invokestatic 137, 3) := dk_184 0 137 (dk_at dksX14_dawn_2 0 rfl rfl)
theorem dX14_dawn_48 : decode cX14_dawn 48 = .ok (.imul, 1) := dk_104 (dk_at dksX14_dawn_2 3 rfl rfl)
theorem dX14_dawn_49 : decode cX14_dawn 49 = .ok (.iadd, 1) := dk_96 (dk_at dksX14_dawn_2 4 rfl rfl)
theorem dX14_dawn_50 : decode cX14_dawn 50 = .ok (.putfield 141, 3) := dk_181 0 141 (dk_at dksX14_dawn_2 5 rfl rfl)
theorem dX14_dawn_53 : decode cX14_dawn 53 = .ok (.iinc 2 1, 3) := dk_132 2 1 (dk_at dksX14_dawn_2 8 rfl rfl)
theorem dX14_dawn_56 : decode cX14_dawn 56 = .ok (.goto (-39), 3) := dk_167 255 217 (dk_at dksX14_dawn_2 11 rfl rfl)
theorem dX14_dawn_59 : decode cX14_dawn 59 = .ok (.iload_n 1, 1) := dk_27 (dk_at dksX14_dawn_2 14 rfl rfl)
theorem dX14_dawn_60 : decode cX14_dawn 60 = .ok (.ireturn, 1) := dk_172 (dk_at dksX14_dawn_2 15 rfl rfl)
abbrev cX14_does : ByteArray := prog_33_method_26_code
def yX14_does : MethodName := ⟨RX14, "does", "(I)I"⟩
def dkwX14_does_1 : List UInt8 := [182, 0, 201, 154, 0, 6, 16, 252, 172, 42, 182, 0, 208, 42, 180, 0, 172, 172]
abbrev dktX14_does_1 : List UInt8 := dkwX14_does_1 ++ []
def dkwX14_does_0 : List UInt8 := [27, 184, 0, 205, 154, 0, 5, 2, 172, 42, 42, 180, 0, 166, 42, 180, 0, 169, 42, 180, 0, 141, 27]
abbrev dktX14_does_0 : List UInt8 := dkwX14_does_0 ++ dktX14_does_1
theorem dksX14_does_0 : cX14_does.data.toList.drop 0 = dktX14_does_0 := by decide +kernel
theorem dksX14_does_1 : cX14_does.data.toList.drop 23 = dktX14_does_1 := dk_seg dksX14_does_0 23 rfl rfl
theorem dX14_does_0 : decode cX14_does 0 = .ok (.iload_n 1, 1) := dk_27 (dk_at dksX14_does_0 0 rfl rfl)
theorem dX14_does_1 : decode cX14_does 1 = .ok (.invokestatic 205, 3) := dk_184 0 205 (dk_at dksX14_does_0 1 rfl rfl)
theorem dX14_does_4 : decode cX14_does 4 = .ok (.ifCond .ne 5, 3) := dk_154 0 5 (dk_at dksX14_does_0 4 rfl rfl)
theorem dX14_does_7 : decode cX14_does 7 = .ok (.iconst (-1), 1) := dk_2 (dk_at dksX14_does_0 7 rfl rfl)
theorem dX14_does_8 : decode cX14_does 8 = .ok (.ireturn, 1) := dk_172 (dk_at dksX14_does_0 8 rfl rfl)
theorem dX14_does_9 : decode cX14_does 9 = .ok (.aload_n 0, 1) := dk_42 (dk_at dksX14_does_0 9 rfl rfl)
theorem dX14_does_10 : decode cX14_does 10 = .ok (.aload_n 0, 1) := dk_42 (dk_at dksX14_does_0 10 rfl rfl)
theorem dX14_does_11 : decode cX14_does 11 = .ok (.getfield 166, 3) := dk_180 0 166 (dk_at dksX14_does_0 11 rfl rfl)
theorem dX14_does_14 : decode cX14_does 14 = .ok (.aload_n 0, 1) := dk_42 (dk_at dksX14_does_0 14 rfl rfl)
theorem dX14_does_15 : decode cX14_does 15 = .ok (.getfield 169, 3) := dk_180 0 169 (dk_at dksX14_does_0 15 rfl rfl)
theorem dX14_does_18 : decode cX14_does 18 = .ok (.aload_n 0, 1) := dk_42 (dk_at dksX14_does_0 18 rfl rfl)
theorem dX14_does_19 : decode cX14_does 19 = .ok (.getfield 141, 3) := dk_180 0 141 (dk_at dksX14_does_0 19 rfl rfl)
theorem dX14_does_22 : decode cX14_does 22 = .ok (.iload_n 1, 1) := dk_27 (dk_at dksX14_does_0 22 rfl rfl)
theorem dX14_does_23 : decode cX14_does 23 = .ok (.invokevirtual 201, 3) := dk_182 0 201 (dk_at dksX14_does_1 0 rfl rfl)
theorem dX14_does_26 : decode cX14_does 26 = .ok (.ifCond .ne 6, 3) := dk_154 0 6 (dk_at dksX14_does_1 3 rfl rfl)
theorem dX14_does_29 : decode cX14_does 29 = .ok (.bipush (-4), 2) := dk_16 252 (dk_at dksX14_does_1 6 rfl rfl)
theorem dX14_does_31 : decode cX14_does 31 = .ok (.ireturn, 1) := dk_172 (dk_at dksX14_does_1 8 rfl rfl)
theorem dX14_does_32 : decode cX14_does 32 = .ok (.aload_n 0, 1) := dk_42 (dk_at dksX14_does_1 9 rfl rfl)
theorem dX14_does_33 : decode cX14_does 33 = .ok (.invokevirtual 208, 3) := dk_182 0 208 (dk_at dksX14_does_1 10 rfl rfl)
theorem dX14_does_36 : decode cX14_does 36 = .ok (.aload_n 0, 1) := dk_42 (dk_at dksX14_does_1 13 rfl rfl)
theorem dX14_does_37 : decode cX14_does 37 = .ok (.getfield 172, 3) := dk_180 0 172 (dk_at dksX14_does_1 14 rfl rfl)
theorem dX14_does_40 : decode cX14_does 40 = .ok (.ireturn, 1) := dk_172 (dk_at dksX14_does_1 17 rfl rfl)
abbrev cX14_isAct : ByteArray := prog_33_method_24_code
def yX14_isAct : MethodName := ⟨RX14, "isAct", "(I)Z"⟩
def dkwX14_isAct_0 : List UInt8 := [26, 2, 6, 184, 0, 133, 172]
abbrev dktX14_isAct_0 : List UInt8 := dkwX14_isAct_0 ++ []
theorem dksX14_isAct_0 : cX14_isAct.data.toList.drop 0 = dktX14_isAct_0 := by decide +kernel
theorem dX14_isAct_0 : decode cX14_isAct 0 = .ok (.iload_n 0, 1) := dk_26 (dk_at dksX14_isAct_0 0 rfl rfl)
theorem dX14_isAct_1 : decode cX14_isAct 1 = .ok (.iconst (-1), 1) := dk_2 (dk_at dksX14_isAct_0 1 rfl rfl)
theorem dX14_isAct_2 : decode cX14_isAct 2 = .ok (.iconst 3, 1) := dk_6 (dk_at dksX14_isAct_0 2 rfl rfl)
theorem dX14_isAct_3 : decode cX14_isAct 3 = .ok (.invokestatic 133, 3) := dk_184 0 133 (dk_at dksX14_isAct_0 3 rfl rfl)
theorem dX14_isAct_6 : decode cX14_isAct 6 = .ok (.ireturn, 1) := dk_172 (dk_at dksX14_isAct_0 6 rfl rfl)
abbrev cX14_leads : ByteArray := prog_33_method_19_code
def yX14_leads : MethodName := ⟨RX14, "leads", "(IIII)Z"⟩
def dkwX14_leads_7 : List UInt8 := [132, 6, 1, 167, 255, 230, 42, 27, 21, 5, 96, 181, 0, 187, 4, 172]
abbrev dktX14_leads_7 : List UInt8 := dkwX14_leads_7 ++ []
def dkwX14_leads_6 : List UInt8 := [21, 6, 21, 5, 163, 0, 25, 42, 42, 42, 180, 0, 178, 27, 21, 6, 96, 182, 0, 184, 181, 0, 178]
abbrev dktX14_leads_6 : List UInt8 := dkwX14_leads_6 ++ dktX14_leads_7
def dkwX14_leads_5 : List UInt8 := [180, 0, 178, 21, 6, 158, 0, 10, 28, 184, 0, 137, 167, 0, 4, 3, 100, 181, 0, 178, 4, 54, 6]
abbrev dktX14_leads_5 : List UInt8 := dkwX14_leads_5 ++ dktX14_leads_6
def dkwX14_leads_4 : List UInt8 := [160, 0, 43, 29, 28, 184, 0, 144, 54, 6, 42, 42, 28, 21, 6, 182, 0, 160, 181, 0, 175, 42, 89]
abbrev dktX14_leads_4 : List UInt8 := dkwX14_leads_4 ++ dktX14_leads_5
def dkwX14_leads_3 : List UInt8 := [29, 181, 0, 178, 42, 21, 4, 2, 160, 0, 7, 28, 167, 0, 5, 21, 4, 181, 0, 181, 21, 4, 2]
abbrev dktX14_leads_3 : List UInt8 := dkwX14_leads_3 ++ dktX14_leads_4
def dkwX14_leads_2 : List UInt8 := [21, 5, 153, 0, 14, 27, 21, 5, 96, 42, 180, 0, 7, 164, 0, 5, 3, 172, 42, 3, 181, 0, 175, 42]
abbrev dktX14_leads_2 : List UInt8 := dkwX14_leads_2 ++ dktX14_leads_3
def dkwX14_leads_1 : List UInt8 := [21, 4, 2, 160, 0, 7, 4, 167, 0, 14, 42, 180, 0, 23, 7, 28, 104, 21, 4, 96, 46, 54, 5]
abbrev dktX14_leads_1 : List UInt8 := dkwX14_leads_1 ++ dktX14_leads_2
def dkwX14_leads_0 : List UInt8 := [42, 180, 0, 130, 153, 0, 18, 21, 4, 42, 180, 0, 130, 162, 0, 9, 21, 4, 28, 160, 0, 5, 3, 172]
abbrev dktX14_leads_0 : List UInt8 := dkwX14_leads_0 ++ dktX14_leads_1
theorem dksX14_leads_0 : cX14_leads.data.toList.drop 0 = dktX14_leads_0 := by decide +kernel
theorem dksX14_leads_1 : cX14_leads.data.toList.drop 24 = dktX14_leads_1 := dk_seg dksX14_leads_0 24 rfl rfl
theorem dksX14_leads_2 : cX14_leads.data.toList.drop 47 = dktX14_leads_2 := dk_seg dksX14_leads_1 23 rfl rfl
theorem dksX14_leads_3 : cX14_leads.data.toList.drop 71 = dktX14_leads_3 := dk_seg dksX14_leads_2 24 rfl rfl
theorem dksX14_leads_4 : cX14_leads.data.toList.drop 94 = dktX14_leads_4 := dk_seg dksX14_leads_3 23 rfl rfl
theorem dksX14_leads_5 : cX14_leads.data.toList.drop 117 = dktX14_leads_5 := dk_seg dksX14_leads_4 23 rfl rfl
theorem dksX14_leads_6 : cX14_leads.data.toList.drop 140 = dktX14_leads_6 := dk_seg dksX14_leads_5 23 rfl rfl
theorem dksX14_leads_7 : cX14_leads.data.toList.drop 163 = dktX14_leads_7 := dk_seg dksX14_leads_6 23 rfl rfl
theorem dX14_leads_0 : decode cX14_leads 0 = .ok (.aload_n 0, 1) := dk_42 (dk_at dksX14_leads_0 0 rfl rfl)
theorem dX14_leads_1 : decode cX14_leads 1 = .ok (.getfield 130, 3) := dk_180 0 130 (dk_at dksX14_leads_0 1 rfl rfl)
theorem dX14_leads_4 : decode cX14_leads 4 = .ok (.ifCond .eq 18, 3) := dk_153 0 18 (dk_at dksX14_leads_0 4 rfl rfl)
theorem dX14_leads_7 : decode cX14_leads 7 = .ok (.iload 4, 2) := dk_21 4 (dk_at dksX14_leads_0 7 rfl rfl)
theorem dX14_leads_9 : decode cX14_leads 9 = .ok (.aload_n 0, 1) := dk_42 (dk_at dksX14_leads_0 9 rfl rfl)
theorem dX14_leads_10 : decode cX14_leads 10 = .ok (.getfield 130, 3) := dk_180 0 130 (dk_at dksX14_leads_0 10 rfl rfl)
theorem dX14_leads_13 : decode cX14_leads 13 = .ok (.if_icmp .ge 9, 3) := dk_162 0 9 (dk_at dksX14_leads_0 13 rfl rfl)
theorem dX14_leads_16 : decode cX14_leads 16 = .ok (.iload 4, 2) := dk_21 4 (dk_at dksX14_leads_0 16 rfl rfl)
theorem dX14_leads_18 : decode cX14_leads 18 = .ok (.iload_n 2, 1) := dk_28 (dk_at dksX14_leads_0 18 rfl rfl)
theorem dX14_leads_19 : decode cX14_leads 19 = .ok (.if_icmp .ne 5, 3) := dk_160 0 5 (dk_at dksX14_leads_0 19 rfl rfl)
theorem dX14_leads_22 : decode cX14_leads 22 = .ok (.iconst 0, 1) := dk_3 (dk_at dksX14_leads_0 22 rfl rfl)
theorem dX14_leads_23 : decode cX14_leads 23 = .ok (.ireturn, 1) := dk_172 (dk_at dksX14_leads_0 23 rfl rfl)
theorem dX14_leads_24 : decode cX14_leads 24 = .ok (.iload 4, 2) := dk_21 4 (dk_at dksX14_leads_1 0 rfl rfl)
theorem dX14_leads_26 : decode cX14_leads 26 = .ok (.iconst (-1), 1) := dk_2 (dk_at dksX14_leads_1 2 rfl rfl)
theorem dX14_leads_27 : decode cX14_leads 27 = .ok (.if_icmp .ne 7, 3) := dk_160 0 7 (dk_at dksX14_leads_1 3 rfl rfl)
theorem dX14_leads_30 : decode cX14_leads 30 = .ok (.iconst 1, 1) := dk_4 (dk_at dksX14_leads_1 6 rfl rfl)
theorem dX14_leads_31 : decode cX14_leads 31 = .ok (.goto 14, 3) := dk_167 0 14 (dk_at dksX14_leads_1 7 rfl rfl)
theorem dX14_leads_34 : decode cX14_leads 34 = .ok (.aload_n 0, 1) := dk_42 (dk_at dksX14_leads_1 10 rfl rfl)
theorem dX14_leads_35 : decode cX14_leads 35 = .ok (.getfield 23, 3) := dk_180 0 23 (dk_at dksX14_leads_1 11 rfl rfl)
theorem dX14_leads_38 : decode cX14_leads 38 = .ok (.iconst 4, 1) := dk_7 (dk_at dksX14_leads_1 14 rfl rfl)
theorem dX14_leads_39 : decode cX14_leads 39 = .ok (.iload_n 2, 1) := dk_28 (dk_at dksX14_leads_1 15 rfl rfl)
theorem dX14_leads_40 : decode cX14_leads 40 = .ok (.imul, 1) := dk_104 (dk_at dksX14_leads_1 16 rfl rfl)
theorem dX14_leads_41 : decode cX14_leads 41 = .ok (.iload 4, 2) := dk_21 4 (dk_at dksX14_leads_1 17 rfl rfl)
theorem dX14_leads_43 : decode cX14_leads 43 = .ok (.iadd, 1) := dk_96 (dk_at dksX14_leads_1 19 rfl rfl)
theorem dX14_leads_44 : decode cX14_leads 44 = .ok (.iaload, 1) := dk_46 (dk_at dksX14_leads_1 20 rfl rfl)
theorem dX14_leads_45 : decode cX14_leads 45 = .ok (.istore 5, 2) := dk_54 5 (dk_at dksX14_leads_1 21 rfl rfl)
theorem dX14_leads_47 : decode cX14_leads 47 = .ok (.iload 5, 2) := dk_21 5 (dk_at dksX14_leads_2 0 rfl rfl)
theorem dX14_leads_49 : decode cX14_leads 49 = .ok (.ifCond .eq 14, 3) := dk_153 0 14 (dk_at dksX14_leads_2 2 rfl rfl)
theorem dX14_leads_52 : decode cX14_leads 52 = .ok (.iload_n 1, 1) := dk_27 (dk_at dksX14_leads_2 5 rfl rfl)
theorem dX14_leads_53 : decode cX14_leads 53 = .ok (.iload 5, 2) := dk_21 5 (dk_at dksX14_leads_2 6 rfl rfl)
theorem dX14_leads_55 : decode cX14_leads 55 = .ok (.iadd, 1) := dk_96 (dk_at dksX14_leads_2 8 rfl rfl)
theorem dX14_leads_56 : decode cX14_leads 56 = .ok (.aload_n 0, 1) := dk_42 (dk_at dksX14_leads_2 9 rfl rfl)
theorem dX14_leads_57 : decode cX14_leads 57 = .ok (.getfield 7, 3) := dk_180 0 7 (dk_at dksX14_leads_2 10 rfl rfl)
theorem dX14_leads_60 : decode cX14_leads 60 = .ok (.if_icmp .le 5, 3) := dk_164 0 5 (dk_at dksX14_leads_2 13 rfl rfl)
theorem dX14_leads_63 : decode cX14_leads 63 = .ok (.iconst 0, 1) := dk_3 (dk_at dksX14_leads_2 16 rfl rfl)
theorem dX14_leads_64 : decode cX14_leads 64 = .ok (.ireturn, 1) := dk_172 (dk_at dksX14_leads_2 17 rfl rfl)
theorem dX14_leads_65 : decode cX14_leads 65 = .ok (.aload_n 0, 1) := dk_42 (dk_at dksX14_leads_2 18 rfl rfl)
theorem dX14_leads_66 : decode cX14_leads 66 = .ok (.iconst 0, 1) := dk_3 (dk_at dksX14_leads_2 19 rfl rfl)
theorem dX14_leads_67 : decode cX14_leads 67 = .ok (.putfield 175, 3) := dk_181 0 175 (dk_at dksX14_leads_2 20 rfl rfl)
theorem dX14_leads_70 : decode cX14_leads 70 = .ok (.aload_n 0, 1) := dk_42 (dk_at dksX14_leads_2 23 rfl rfl)
theorem dX14_leads_71 : decode cX14_leads 71 = .ok (.iload_n 3, 1) := dk_29 (dk_at dksX14_leads_3 0 rfl rfl)
theorem dX14_leads_72 : decode cX14_leads 72 = .ok (.putfield 178, 3) := dk_181 0 178 (dk_at dksX14_leads_3 1 rfl rfl)
theorem dX14_leads_75 : decode cX14_leads 75 = .ok (.aload_n 0, 1) := dk_42 (dk_at dksX14_leads_3 4 rfl rfl)
theorem dX14_leads_76 : decode cX14_leads 76 = .ok (.iload 4, 2) := dk_21 4 (dk_at dksX14_leads_3 5 rfl rfl)
theorem dX14_leads_78 : decode cX14_leads 78 = .ok (.iconst (-1), 1) := dk_2 (dk_at dksX14_leads_3 7 rfl rfl)
theorem dX14_leads_79 : decode cX14_leads 79 = .ok (.if_icmp .ne 7, 3) := dk_160 0 7 (dk_at dksX14_leads_3 8 rfl rfl)
theorem dX14_leads_82 : decode cX14_leads 82 = .ok (.iload_n 2, 1) := dk_28 (dk_at dksX14_leads_3 11 rfl rfl)
theorem dX14_leads_83 : decode cX14_leads 83 = .ok (.goto 5, 3) := dk_167 0 5 (dk_at dksX14_leads_3 12 rfl rfl)
theorem dX14_leads_86 : decode cX14_leads 86 = .ok (.iload 4, 2) := dk_21 4 (dk_at dksX14_leads_3 15 rfl rfl)
theorem dX14_leads_88 : decode cX14_leads 88 = .ok (.putfield 181, 3) := dk_181 0 181 (dk_at dksX14_leads_3 17 rfl rfl)
theorem dX14_leads_91 : decode cX14_leads 91 = .ok (.iload 4, 2) := dk_21 4 (dk_at dksX14_leads_3 20 rfl rfl)
theorem dX14_leads_93 : decode cX14_leads 93 = .ok (.iconst (-1), 1) := dk_2 (dk_at dksX14_leads_3 22 rfl rfl)
theorem dX14_leads_94 : decode cX14_leads 94 = .ok (.if_icmp .ne 43, 3) := dk_160 0 43 (dk_at dksX14_leads_4 0 rfl rfl)
theorem dX14_leads_97 : decode cX14_leads 97 = .ok (.iload_n 3, 1) := dk_29 (dk_at dksX14_leads_4 3 rfl rfl)
theorem dX14_leads_98 : decode cX14_leads 98 = .ok (.iload_n 2, 1) := dk_28 (dk_at dksX14_leads_4 4 rfl rfl)
theorem dX14_leads_99 : decode cX14_leads 99 = .ok (.invokestatic 144, 3) := dk_184 0 144 (dk_at dksX14_leads_4 5 rfl rfl)
theorem dX14_leads_102 : decode cX14_leads 102 = .ok (.istore 6, 2) := dk_54 6 (dk_at dksX14_leads_4 8 rfl rfl)
theorem dX14_leads_104 : decode cX14_leads 104 = .ok (.aload_n 0, 1) := dk_42 (dk_at dksX14_leads_4 10 rfl rfl)
theorem dX14_leads_105 : decode cX14_leads 105 = .ok (.aload_n 0, 1) := dk_42 (dk_at dksX14_leads_4 11 rfl rfl)
theorem dX14_leads_106 : decode cX14_leads 106 = .ok (.iload_n 2, 1) := dk_28 (dk_at dksX14_leads_4 12 rfl rfl)
theorem dX14_leads_107 : decode cX14_leads 107 = .ok (.iload 6, 2) := dk_21 6 (dk_at dksX14_leads_4 13 rfl rfl)
theorem dX14_leads_109 : decode cX14_leads 109 = .ok (.invokevirtual 160, 3) := dk_182 0 160 (dk_at dksX14_leads_4 15 rfl rfl)
theorem dX14_leads_112 : decode cX14_leads 112 = .ok (.putfield 175, 3) := dk_181 0 175 (dk_at dksX14_leads_4 18 rfl rfl)
theorem dX14_leads_115 : decode cX14_leads 115 = .ok (.aload_n 0, 1) := dk_42 (dk_at dksX14_leads_4 21 rfl rfl)
theorem dX14_leads_116 : decode cX14_leads 116 = .ok (.dup, 1) := dk_89 (dk_at dksX14_leads_4 22 rfl rfl)
theorem dX14_leads_117 : decode cX14_leads 117 = .ok (.getfield 178, 3) := dk_180 0 178 (dk_at dksX14_leads_5 0 rfl rfl)
theorem dX14_leads_120 : decode cX14_leads 120 = .ok (.iload 6, 2) := dk_21 6 (dk_at dksX14_leads_5 3 rfl rfl)
theorem dX14_leads_122 : decode cX14_leads 122 = .ok (.ifCond .le 10, 3) := dk_158 0 10 (dk_at dksX14_leads_5 5 rfl rfl)
theorem dX14_leads_125 : decode cX14_leads 125 = .ok (.iload_n 2, 1) := dk_28 (dk_at dksX14_leads_5 8 rfl rfl)
theorem dX14_leads_126 : decode cX14_leads 126 = .ok (.invokestatic 137, 3) := dk_184 0 137 (dk_at dksX14_leads_5 9 rfl rfl)
theorem dX14_leads_129 : decode cX14_leads 129 = .ok (.goto 4, 3) := dk_167 0 4 (dk_at dksX14_leads_5 12 rfl rfl)
theorem dX14_leads_132 : decode cX14_leads 132 = .ok (.iconst 0, 1) := dk_3 (dk_at dksX14_leads_5 15 rfl rfl)
theorem dX14_leads_133 : decode cX14_leads 133 = .ok (.isub, 1) := dk_100 (dk_at dksX14_leads_5 16 rfl rfl)
theorem dX14_leads_134 : decode cX14_leads 134 = .ok (.putfield 178, 3) := dk_181 0 178 (dk_at dksX14_leads_5 17 rfl rfl)
theorem dX14_leads_137 : decode cX14_leads 137 = .ok (.iconst 1, 1) := dk_4 (dk_at dksX14_leads_5 20 rfl rfl)
theorem dX14_leads_138 : decode cX14_leads 138 = .ok (.istore 6, 2) := dk_54 6 (dk_at dksX14_leads_5 21 rfl rfl)
theorem dX14_leads_140 : decode cX14_leads 140 = .ok (.iload 6, 2) := dk_21 6 (dk_at dksX14_leads_6 0 rfl rfl)
theorem dX14_leads_142 : decode cX14_leads 142 = .ok (.iload 5, 2) := dk_21 5 (dk_at dksX14_leads_6 2 rfl rfl)
theorem dX14_leads_144 : decode cX14_leads 144 = .ok (.if_icmp .gt 25, 3) := dk_163 0 25 (dk_at dksX14_leads_6 4 rfl rfl)
theorem dX14_leads_147 : decode cX14_leads 147 = .ok (.aload_n 0, 1) := dk_42 (dk_at dksX14_leads_6 7 rfl rfl)
theorem dX14_leads_148 : decode cX14_leads 148 = .ok (.aload_n 0, 1) := dk_42 (dk_at dksX14_leads_6 8 rfl rfl)
theorem dX14_leads_149 : decode cX14_leads 149 = .ok (.aload_n 0, 1) := dk_42 (dk_at dksX14_leads_6 9 rfl rfl)
theorem dX14_leads_150 : decode cX14_leads 150 = .ok (.getfield 178, 3) := dk_180 0 178 (dk_at dksX14_leads_6 10 rfl rfl)
theorem dX14_leads_153 : decode cX14_leads 153 = .ok (.iload_n 1, 1) := dk_27 (dk_at dksX14_leads_6 13 rfl rfl)
theorem dX14_leads_154 : decode cX14_leads 154 = .ok (.iload 6, 2) := dk_21 6 (dk_at dksX14_leads_6 14 rfl rfl)
theorem dX14_leads_156 : decode cX14_leads 156 = .ok (.iadd, 1) := dk_96 (dk_at dksX14_leads_6 16 rfl rfl)
theorem dX14_leads_157 : decode cX14_leads 157 = .ok (.invokevirtual 184, 3) := dk_182 0 184 (dk_at dksX14_leads_6 17 rfl rfl)
theorem dX14_leads_160 : decode cX14_leads 160 = .ok (.putfield 178, 3) := dk_181 0 178 (dk_at dksX14_leads_6 20 rfl rfl)
theorem dX14_leads_163 : decode cX14_leads 163 = .ok (.iinc 6 1, 3) := dk_132 6 1 (dk_at dksX14_leads_7 0 rfl rfl)
theorem dX14_leads_166 : decode cX14_leads 166 = .ok (.goto (-26), 3) := dk_167 255 230 (dk_at dksX14_leads_7 3 rfl rfl)
theorem dX14_leads_169 : decode cX14_leads 169 = .ok (.aload_n 0, 1) := dk_42 (dk_at dksX14_leads_7 6 rfl rfl)
theorem dX14_leads_170 : decode cX14_leads 170 = .ok (.iload_n 1, 1) := dk_27 (dk_at dksX14_leads_7 7 rfl rfl)
theorem dX14_leads_171 : decode cX14_leads 171 = .ok (.iload 5, 2) := dk_21 5 (dk_at dksX14_leads_7 8 rfl rfl)
theorem dX14_leads_173 : decode cX14_leads 173 = .ok (.iadd, 1) := dk_96 (dk_at dksX14_leads_7 10 rfl rfl)
theorem dX14_leads_174 : decode cX14_leads 174 = .ok (.putfield 187, 3) := dk_181 0 187 (dk_at dksX14_leads_7 11 rfl rfl)
theorem dX14_leads_177 : decode cX14_leads 177 = .ok (.iconst 1, 1) := dk_4 (dk_at dksX14_leads_7 14 rfl rfl)
theorem dX14_leads_178 : decode cX14_leads 178 = .ok (.ireturn, 1) := dk_172 (dk_at dksX14_leads_7 15 rfl rfl)
abbrev cX14_filled : ByteArray := prog_33_method_18_code
def yX14_filled : MethodName := ⟨RX14, "filled", "(II)I"⟩
def dkwX14_filled_3 : List UInt8 := [167, 255, 191, 29, 172]
abbrev dktX14_filled_3 : List UInt8 := dkwX14_filled_3 ++ []
def dkwX14_filled_2 : List UInt8 := [21, 4, 182, 0, 163, 162, 0, 11, 21, 4, 184, 0, 137, 167, 0, 4, 3, 96, 62, 132, 4, 1]
abbrev dktX14_filled_2 : List UInt8 := dkwX14_filled_2 ++ dktX14_filled_3
def dkwX14_filled_1 : List UInt8 := [96, 46, 54, 5, 29, 21, 5, 158, 0, 33, 28, 21, 5, 112, 154, 0, 26, 29, 21, 4, 184, 0, 144, 42]
abbrev dktX14_filled_1 : List UInt8 := dkwX14_filled_1 ++ dktX14_filled_2
def dkwX14_filled_0 : List UInt8 := [27, 62, 3, 54, 4, 21, 4, 42, 180, 0, 130, 162, 0, 62, 42, 180, 0, 19, 16, 11, 21, 4, 104, 5]
abbrev dktX14_filled_0 : List UInt8 := dkwX14_filled_0 ++ dktX14_filled_1
theorem dksX14_filled_0 : cX14_filled.data.toList.drop 0 = dktX14_filled_0 := by decide +kernel
theorem dksX14_filled_1 : cX14_filled.data.toList.drop 24 = dktX14_filled_1 := dk_seg dksX14_filled_0 24 rfl rfl
theorem dksX14_filled_2 : cX14_filled.data.toList.drop 48 = dktX14_filled_2 := dk_seg dksX14_filled_1 24 rfl rfl
theorem dksX14_filled_3 : cX14_filled.data.toList.drop 70 = dktX14_filled_3 := dk_seg dksX14_filled_2 22 rfl rfl
theorem dX14_filled_0 : decode cX14_filled 0 = .ok (.iload_n 1, 1) := dk_27 (dk_at dksX14_filled_0 0 rfl rfl)
theorem dX14_filled_1 : decode cX14_filled 1 = .ok (.istore_n 3, 1) := dk_62 (dk_at dksX14_filled_0 1 rfl rfl)
theorem dX14_filled_2 : decode cX14_filled 2 = .ok (.iconst 0, 1) := dk_3 (dk_at dksX14_filled_0 2 rfl rfl)
theorem dX14_filled_3 : decode cX14_filled 3 = .ok (.istore 4, 2) := dk_54 4 (dk_at dksX14_filled_0 3 rfl rfl)
theorem dX14_filled_5 : decode cX14_filled 5 = .ok (.iload 4, 2) := dk_21 4 (dk_at dksX14_filled_0 5 rfl rfl)
theorem dX14_filled_7 : decode cX14_filled 7 = .ok (.aload_n 0, 1) := dk_42 (dk_at dksX14_filled_0 7 rfl rfl)
theorem dX14_filled_8 : decode cX14_filled 8 = .ok (.getfield 130, 3) := dk_180 0 130 (dk_at dksX14_filled_0 8 rfl rfl)
theorem dX14_filled_11 : decode cX14_filled 11 = .ok (.if_icmp .ge 62, 3) := dk_162 0 62 (dk_at dksX14_filled_0 11 rfl rfl)
theorem dX14_filled_14 : decode cX14_filled 14 = .ok (.aload_n 0, 1) := dk_42 (dk_at dksX14_filled_0 14 rfl rfl)
theorem dX14_filled_15 : decode cX14_filled 15 = .ok (.getfield 19, 3) := dk_180 0 19 (dk_at dksX14_filled_0 15 rfl rfl)
theorem dX14_filled_18 : decode cX14_filled 18 = .ok (.bipush 11, 2) := dk_16 11 (dk_at dksX14_filled_0 18 rfl rfl)
theorem dX14_filled_20 : decode cX14_filled 20 = .ok (.iload 4, 2) := dk_21 4 (dk_at dksX14_filled_0 20 rfl rfl)
theorem dX14_filled_22 : decode cX14_filled 22 = .ok (.imul, 1) := dk_104 (dk_at dksX14_filled_0 22 rfl rfl)
theorem dX14_filled_23 : decode cX14_filled 23 = .ok (.iconst 2, 1) := dk_5 (dk_at dksX14_filled_0 23 rfl rfl)
theorem dX14_filled_24 : decode cX14_filled 24 = .ok (.iadd, 1) := dk_96 (dk_at dksX14_filled_1 0 rfl rfl)
theorem dX14_filled_25 : decode cX14_filled 25 = .ok (.iaload, 1) := dk_46 (dk_at dksX14_filled_1 1 rfl rfl)
theorem dX14_filled_26 : decode cX14_filled 26 = .ok (.istore 5, 2) := dk_54 5 (dk_at dksX14_filled_1 2 rfl rfl)
theorem dX14_filled_28 : decode cX14_filled 28 = .ok (.iload_n 3, 1) := dk_29 (dk_at dksX14_filled_1 4 rfl rfl)
theorem dX14_filled_29 : decode cX14_filled 29 = .ok (.iload 5, 2) := dk_21 5 (dk_at dksX14_filled_1 5 rfl rfl)
theorem dX14_filled_31 : decode cX14_filled 31 = .ok (.ifCond .le 33, 3) := dk_158 0 33 (dk_at dksX14_filled_1 7 rfl rfl)
theorem dX14_filled_34 : decode cX14_filled 34 = .ok (.iload_n 2, 1) := dk_28 (dk_at dksX14_filled_1 10 rfl rfl)
theorem dX14_filled_35 : decode cX14_filled 35 = .ok (.iload 5, 2) := dk_21 5 (dk_at dksX14_filled_1 11 rfl rfl)
theorem dX14_filled_37 : decode cX14_filled 37 = .ok (.irem, 1) := dk_112 (dk_at dksX14_filled_1 13 rfl rfl)
theorem dX14_filled_38 : decode cX14_filled 38 = .ok (.ifCond .ne 26, 3) := dk_154 0 26 (dk_at dksX14_filled_1 14 rfl rfl)
theorem dX14_filled_41 : decode cX14_filled 41 = .ok (.iload_n 3, 1) := dk_29 (dk_at dksX14_filled_1 17 rfl rfl)
theorem dX14_filled_42 : decode cX14_filled 42 = .ok (.iload 4, 2) := dk_21 4 (dk_at dksX14_filled_1 18 rfl rfl)
theorem dX14_filled_44 : decode cX14_filled 44 = .ok (.invokestatic 144, 3) := dk_184 0 144 (dk_at dksX14_filled_1 20 rfl rfl)
theorem dX14_filled_47 : decode cX14_filled 47 = .ok (.aload_n 0, 1) := dk_42 (dk_at dksX14_filled_1 23 rfl rfl)
theorem dX14_filled_48 : decode cX14_filled 48 = .ok (.iload 4, 2) := dk_21 4 (dk_at dksX14_filled_2 0 rfl rfl)
theorem dX14_filled_50 : decode cX14_filled 50 = .ok (.invokevirtual 163, 3) := dk_182 0 163 (dk_at dksX14_filled_2 2 rfl rfl)
theorem dX14_filled_53 : decode cX14_filled 53 = .ok (.if_icmp .ge 11, 3) := dk_162 0 11 (dk_at dksX14_filled_2 5 rfl rfl)
theorem dX14_filled_56 : decode cX14_filled 56 = .ok (.iload 4, 2) := dk_21 4 (dk_at dksX14_filled_2 8 rfl rfl)
theorem dX14_filled_58 : decode cX14_filled 58 = .ok (.invokestatic 137, 3) := dk_184 0 137 (dk_at dksX14_filled_2 10 rfl rfl)
theorem dX14_filled_61 : decode cX14_filled 61 = .ok (.goto 4, 3) := dk_167 0 4 (dk_at dksX14_filled_2 13 rfl rfl)
theorem dX14_filled_64 : decode cX14_filled 64 = .ok (.iconst 0, 1) := dk_3 (dk_at dksX14_filled_2 16 rfl rfl)
theorem dX14_filled_65 : decode cX14_filled 65 = .ok (.iadd, 1) := dk_96 (dk_at dksX14_filled_2 17 rfl rfl)
theorem dX14_filled_66 : decode cX14_filled 66 = .ok (.istore_n 3, 1) := dk_62 (dk_at dksX14_filled_2 18 rfl rfl)
theorem dX14_filled_67 : decode cX14_filled 67 = .ok (.iinc 4 1, 3) := dk_132 4 1 (dk_at dksX14_filled_2 19 rfl rfl)
theorem dX14_filled_70 : decode cX14_filled 70 = .ok (.goto (-65), 3) := dk_167 255 191 (dk_at dksX14_filled_3 0 rfl rfl)
theorem dX14_filled_73 : decode cX14_filled 73 = .ok (.iload_n 3, 1) := dk_29 (dk_at dksX14_filled_3 3 rfl rfl)
theorem dX14_filled_74 : decode cX14_filled 74 = .ok (.ireturn, 1) := dk_172 (dk_at dksX14_filled_3 4 rfl rfl)
abbrev cX14_goes : ByteArray := prog_33_method_25_code
def yX14_goes : MethodName := ⟨RX14, "goes", "()V"⟩
def dkwX14_goes_1 : List UInt8 := [42, 89, 180, 0, 172, 42, 180, 0, 175, 96, 181, 0, 172, 177]
abbrev dktX14_goes_1 : List UInt8 := dkwX14_goes_1 ++ []
def dkwX14_goes_0 : List UInt8 := [42, 42, 180, 0, 187, 181, 0, 166, 42, 42, 180, 0, 181, 181, 0, 169, 42, 42, 180, 0, 178, 181, 0, 141]
abbrev dktX14_goes_0 : List UInt8 := dkwX14_goes_0 ++ dktX14_goes_1
theorem dksX14_goes_0 : cX14_goes.data.toList.drop 0 = dktX14_goes_0 := by decide +kernel
theorem dksX14_goes_1 : cX14_goes.data.toList.drop 24 = dktX14_goes_1 := dk_seg dksX14_goes_0 24 rfl rfl
theorem dX14_goes_0 : decode cX14_goes 0 = .ok (.aload_n 0, 1) := dk_42 (dk_at dksX14_goes_0 0 rfl rfl)
theorem dX14_goes_1 : decode cX14_goes 1 = .ok (.aload_n 0, 1) := dk_42 (dk_at dksX14_goes_0 1 rfl rfl)
theorem dX14_goes_2 : decode cX14_goes 2 = .ok (.getfield 187, 3) := dk_180 0 187 (dk_at dksX14_goes_0 2 rfl rfl)
theorem dX14_goes_5 : decode cX14_goes 5 = .ok (.putfield 166, 3) := dk_181 0 166 (dk_at dksX14_goes_0 5 rfl rfl)
theorem dX14_goes_8 : decode cX14_goes 8 = .ok (.aload_n 0, 1) := dk_42 (dk_at dksX14_goes_0 8 rfl rfl)
theorem dX14_goes_9 : decode cX14_goes 9 = .ok (.aload_n 0, 1) := dk_42 (dk_at dksX14_goes_0 9 rfl rfl)
theorem dX14_goes_10 : decode cX14_goes 10 = .ok (.getfield 181, 3) := dk_180 0 181 (dk_at dksX14_goes_0 10 rfl rfl)
theorem dX14_goes_13 : decode cX14_goes 13 = .ok (.putfield 169, 3) := dk_181 0 169 (dk_at dksX14_goes_0 13 rfl rfl)
theorem dX14_goes_16 : decode cX14_goes 16 = .ok (.aload_n 0, 1) := dk_42 (dk_at dksX14_goes_0 16 rfl rfl)
theorem dX14_goes_17 : decode cX14_goes 17 = .ok (.aload_n 0, 1) := dk_42 (dk_at dksX14_goes_0 17 rfl rfl)
theorem dX14_goes_18 : decode cX14_goes 18 = .ok (.getfield 178, 3) := dk_180 0 178 (dk_at dksX14_goes_0 18 rfl rfl)
theorem dX14_goes_21 : decode cX14_goes 21 = .ok (.putfield 141, 3) := dk_181 0 141 (dk_at dksX14_goes_0 21 rfl rfl)
theorem dX14_goes_24 : decode cX14_goes 24 = .ok (.aload_n 0, 1) := dk_42 (dk_at dksX14_goes_1 0 rfl rfl)
theorem dX14_goes_25 : decode cX14_goes 25 = .ok (.dup, 1) := dk_89 (dk_at dksX14_goes_1 1 rfl rfl)
theorem dX14_goes_26 : decode cX14_goes 26 = .ok (.getfield 172, 3) := dk_180 0 172 (dk_at dksX14_goes_1 2 rfl rfl)
theorem dX14_goes_29 : decode cX14_goes 29 = .ok (.aload_n 0, 1) := dk_42 (dk_at dksX14_goes_1 5 rfl rfl)
theorem dX14_goes_30 : decode cX14_goes 30 = .ok (.getfield 175, 3) := dk_180 0 175 (dk_at dksX14_goes_1 6 rfl rfl)
theorem dX14_goes_33 : decode cX14_goes 33 = .ok (.iadd, 1) := dk_96 (dk_at dksX14_goes_1 9 rfl rfl)
theorem dX14_goes_34 : decode cX14_goes 34 = .ok (.putfield 172, 3) := dk_181 0 172 (dk_at dksX14_goes_1 10 rfl rfl)
theorem dX14_goes_37 : decode cX14_goes 37 = .ok (.return_, 1) := dk_177 (dk_at dksX14_goes_1 13 rfl rfl)
abbrev cX14_best : ByteArray := prog_33_method_27_code
def yX14_best : MethodName := ⟨RX14, "best", "()I"⟩
def dkwX14_best_0 : List UInt8 := [42, 42, 180, 0, 166, 42, 180, 0, 169, 42, 180, 0, 141, 182, 0, 211, 172]
abbrev dktX14_best_0 : List UInt8 := dkwX14_best_0 ++ []
theorem dksX14_best_0 : cX14_best.data.toList.drop 0 = dktX14_best_0 := by decide +kernel
theorem dX14_best_0 : decode cX14_best 0 = .ok (.aload_n 0, 1) := dk_42 (dk_at dksX14_best_0 0 rfl rfl)
theorem dX14_best_1 : decode cX14_best 1 = .ok (.aload_n 0, 1) := dk_42 (dk_at dksX14_best_0 1 rfl rfl)
theorem dX14_best_2 : decode cX14_best 2 = .ok (.getfield 166, 3) := dk_180 0 166 (dk_at dksX14_best_0 2 rfl rfl)
theorem dX14_best_5 : decode cX14_best 5 = .ok (.aload_n 0, 1) := dk_42 (dk_at dksX14_best_0 5 rfl rfl)
theorem dX14_best_6 : decode cX14_best 6 = .ok (.getfield 169, 3) := dk_180 0 169 (dk_at dksX14_best_0 6 rfl rfl)
theorem dX14_best_9 : decode cX14_best 9 = .ok (.aload_n 0, 1) := dk_42 (dk_at dksX14_best_0 9 rfl rfl)
theorem dX14_best_10 : decode cX14_best 10 = .ok (.getfield 141, 3) := dk_180 0 141 (dk_at dksX14_best_0 10 rfl rfl)
theorem dX14_best_13 : decode cX14_best 13 = .ok (.invokevirtual 211, 3) := dk_182 0 211 (dk_at dksX14_best_0 13 rfl rfl)
theorem dX14_best_16 : decode cX14_best 16 = .ok (.ireturn, 1) := dk_172 (dk_at dksX14_best_0 16 rfl rfl)
abbrev cX14_most : ByteArray := prog_33_method_23_code
def yX14_most : MethodName := ⟨RX14, "most", "(III)I"⟩
def dkwX14_most_13 : List UInt8 := [46, 17, 4, 0, 112, 172]
abbrev dktX14_most_13 : List UInt8 := dkwX14_most_13 ++ []
def dkwX14_most_12 : List UInt8 := [180, 0, 57, 21, 4, 46, 96, 79, 132, 4, 255, 167, 254, 253, 42, 180, 0, 42, 27, 28, 29, 184, 0, 190]
abbrev dktX14_most_12 : List UInt8 := dkwX14_most_12 ++ dktX14_most_13
def dkwX14_most_11 : List UInt8 := [21, 4, 46, 42, 180, 0, 51, 21, 4, 46, 184, 0, 190, 17, 4, 0, 42, 180, 0, 38, 104, 42]
abbrev dktX14_most_11 : List UInt8 := dkwX14_most_11 ++ dktX14_most_12
def dkwX14_most_10 : List UInt8 := [180, 0, 178, 182, 0, 197, 167, 0, 51, 42, 180, 0, 42, 42, 180, 0, 45, 21, 4, 46, 42, 180, 0, 48]
abbrev dktX14_most_10 : List UInt8 := dkwX14_most_10 ++ dktX14_most_11
def dkwX14_most_9 : List UInt8 := [167, 255, 85, 21, 5, 153, 0, 27, 132, 4, 1, 42, 21, 4, 42, 180, 0, 187, 42, 180, 0, 181, 42]
abbrev dktX14_most_9 : List UInt8 := dkwX14_most_9 ++ dktX14_most_10
def dkwX14_most_8 : List UInt8 := [167, 0, 10, 42, 180, 0, 57, 21, 4, 46, 79, 42, 180, 0, 54, 21, 4, 92, 46, 4, 96, 79]
abbrev dktX14_most_8 : List UInt8 := dkwX14_most_8 ++ dktX14_most_9
def dkwX14_most_7 : List UInt8 := [54, 8, 42, 180, 0, 57, 21, 4, 21, 8, 42, 180, 0, 57, 21, 4, 46, 164, 0, 8, 21, 8]
abbrev dktX14_most_7 : List UInt8 := dkwX14_most_7 ++ dktX14_most_8
def dkwX14_most_6 : List UInt8 := [153, 0, 22, 42, 180, 0, 175, 42, 180, 0, 42, 21, 7, 46, 17, 4, 0, 112, 96, 167, 0, 4, 3]
abbrev dktX14_most_6 : List UInt8 := dkwX14_most_6 ++ dktX14_most_7
def dkwX14_most_5 : List UInt8 := [21, 7, 182, 0, 194, 154, 0, 7, 4, 167, 0, 4, 3, 54, 5, 21, 5, 154, 0, 72, 21, 6]
abbrev dktX14_most_5 : List UInt8 := dkwX14_most_5 ++ dktX14_most_6
def dkwX14_most_4 : List UInt8 := [42, 180, 0, 181, 42, 180, 0, 178, 184, 0, 190, 167, 0, 4, 3, 54, 7, 21, 6, 153, 0, 16, 42]
abbrev dktX14_most_4 : List UInt8 := dkwX14_most_4 ++ dktX14_most_5
def dkwX14_most_3 : List UInt8 := [21, 4, 46, 42, 180, 0, 54, 21, 4, 46, 182, 0, 201, 54, 6, 21, 6, 153, 0, 21, 42, 180, 0, 187]
abbrev dktX14_most_3 : List UInt8 := dkwX14_most_3 ++ dktX14_most_4
def dkwX14_most_2 : List UInt8 := [6, 163, 0, 161, 42, 42, 180, 0, 45, 21, 4, 46, 42, 180, 0, 48, 21, 4, 46, 42, 180, 0, 51]
abbrev dktX14_most_2 : List UInt8 := dkwX14_most_2 ++ dktX14_most_3
def dkwX14_most_1 : List UInt8 := [29, 182, 0, 197, 21, 4, 155, 1, 4, 3, 54, 5, 21, 5, 154, 0, 172, 42, 180, 0, 54, 21, 4, 46]
abbrev dktX14_most_1 : List UInt8 := dkwX14_most_1 ++ dktX14_most_2
def dkwX14_most_0 : List UInt8 := [42, 27, 28, 29, 184, 0, 190, 182, 0, 194, 153, 0, 7, 2, 167, 0, 4, 3, 54, 4, 42, 3, 27, 28]
abbrev dktX14_most_0 : List UInt8 := dkwX14_most_0 ++ dktX14_most_1
theorem dksX14_most_0 : cX14_most.data.toList.drop 0 = dktX14_most_0 := by decide +kernel
theorem dksX14_most_1 : cX14_most.data.toList.drop 24 = dktX14_most_1 := dk_seg dksX14_most_0 24 rfl rfl
theorem dksX14_most_2 : cX14_most.data.toList.drop 48 = dktX14_most_2 := dk_seg dksX14_most_1 24 rfl rfl
theorem dksX14_most_3 : cX14_most.data.toList.drop 71 = dktX14_most_3 := dk_seg dksX14_most_2 23 rfl rfl
theorem dksX14_most_4 : cX14_most.data.toList.drop 95 = dktX14_most_4 := dk_seg dksX14_most_3 24 rfl rfl
theorem dksX14_most_5 : cX14_most.data.toList.drop 118 = dktX14_most_5 := dk_seg dksX14_most_4 23 rfl rfl
theorem dksX14_most_6 : cX14_most.data.toList.drop 140 = dktX14_most_6 := dk_seg dksX14_most_5 22 rfl rfl
theorem dksX14_most_7 : cX14_most.data.toList.drop 163 = dktX14_most_7 := dk_seg dksX14_most_6 23 rfl rfl
theorem dksX14_most_8 : cX14_most.data.toList.drop 185 = dktX14_most_8 := dk_seg dksX14_most_7 22 rfl rfl
theorem dksX14_most_9 : cX14_most.data.toList.drop 207 = dktX14_most_9 := dk_seg dksX14_most_8 22 rfl rfl
theorem dksX14_most_10 : cX14_most.data.toList.drop 230 = dktX14_most_10 := dk_seg dksX14_most_9 23 rfl rfl
theorem dksX14_most_11 : cX14_most.data.toList.drop 254 = dktX14_most_11 := dk_seg dksX14_most_10 24 rfl rfl
theorem dksX14_most_12 : cX14_most.data.toList.drop 276 = dktX14_most_12 := dk_seg dksX14_most_11 22 rfl rfl
theorem dksX14_most_13 : cX14_most.data.toList.drop 300 = dktX14_most_13 := dk_seg dksX14_most_12 24 rfl rfl
theorem dX14_most_0 : decode cX14_most 0 = .ok (.aload_n 0, 1) := dk_42 (dk_at dksX14_most_0 0 rfl rfl)
theorem dX14_most_1 : decode cX14_most 1 = .ok (.iload_n 1, 1) := dk_27 (dk_at dksX14_most_0 1 rfl rfl)
theorem dX14_most_2 : decode cX14_most 2 = .ok (.iload_n 2, 1) := dk_28 (dk_at dksX14_most_0 2 rfl rfl)
theorem dX14_most_3 : decode cX14_most 3 = .ok (.iload_n 3, 1) := dk_29 (dk_at dksX14_most_0 3 rfl rfl)
theorem dX14_most_4 : decode cX14_most 4 = .ok (.invokestatic 190, 3) := dk_184 0 190 (dk_at dksX14_most_0 4 rfl rfl)
theorem dX14_most_7 : decode cX14_most 7 = .ok (.invokevirtual 194, 3) := dk_182 0 194 (dk_at dksX14_most_0 7 rfl rfl)
theorem dX14_most_10 : decode cX14_most 10 = .ok (.ifCond .eq 7, 3) := dk_153 0 7 (dk_at dksX14_most_0 10 rfl rfl)
theorem dX14_most_13 : decode cX14_most 13 = .ok (.iconst (-1), 1) := dk_2 (dk_at dksX14_most_0 13 rfl rfl)
theorem dX14_most_14 : decode cX14_most 14 = .ok (.goto 4, 3) := dk_167 0 4 (dk_at dksX14_most_0 14 rfl rfl)
theorem dX14_most_17 : decode cX14_most 17 = .ok (.iconst 0, 1) := dk_3 (dk_at dksX14_most_0 17 rfl rfl)
theorem dX14_most_18 : decode cX14_most 18 = .ok (.istore 4, 2) := dk_54 4 (dk_at dksX14_most_0 18 rfl rfl)
theorem dX14_most_20 : decode cX14_most 20 = .ok (.aload_n 0, 1) := dk_42 (dk_at dksX14_most_0 20 rfl rfl)
theorem dX14_most_21 : decode cX14_most 21 = .ok (.iconst 0, 1) := dk_3 (dk_at dksX14_most_0 21 rfl rfl)
theorem dX14_most_22 : decode cX14_most 22 = .ok (.iload_n 1, 1) := dk_27 (dk_at dksX14_most_0 22 rfl rfl)
theorem dX14_most_23 : decode cX14_most 23 = .ok (.iload_n 2, 1) := dk_28 (dk_at dksX14_most_0 23 rfl rfl)
theorem dX14_most_24 : decode cX14_most 24 = .ok (.iload_n 3, 1) := dk_29 (dk_at dksX14_most_1 0 rfl rfl)
theorem dX14_most_25 : decode cX14_most 25 = .ok (.invokevirtual 197, 3) := dk_182 0 197 (dk_at dksX14_most_1 1 rfl rfl)
theorem dX14_most_28 : decode cX14_most 28 = .ok (.iload 4, 2) := dk_21 4 (dk_at dksX14_most_1 4 rfl rfl)
theorem dX14_most_30 : decode cX14_most 30 = .ok (.ifCond .lt 260, 3) := dk_155 1 4 (dk_at dksX14_most_1 6 rfl rfl)
theorem dX14_most_33 : decode cX14_most 33 = .ok (.iconst 0, 1) := dk_3 (dk_at dksX14_most_1 9 rfl rfl)
theorem dX14_most_34 : decode cX14_most 34 = .ok (.istore 5, 2) := dk_54 5 (dk_at dksX14_most_1 10 rfl rfl)
theorem dX14_most_36 : decode cX14_most 36 = .ok (.iload 5, 2) := dk_21 5 (dk_at dksX14_most_1 12 rfl rfl)
theorem dX14_most_38 : decode cX14_most 38 = .ok (.ifCond .ne 172, 3) := dk_154 0 172 (dk_at dksX14_most_1 14 rfl rfl)
theorem dX14_most_41 : decode cX14_most 41 = .ok (.aload_n 0, 1) := dk_42 (dk_at dksX14_most_1 17 rfl rfl)
theorem dX14_most_42 : decode cX14_most 42 = .ok (.getfield 54, 3) := dk_180 0 54 (dk_at dksX14_most_1 18 rfl rfl)
theorem dX14_most_45 : decode cX14_most 45 = .ok (.iload 4, 2) := dk_21 4 (dk_at dksX14_most_1 21 rfl rfl)
theorem dX14_most_47 : decode cX14_most 47 = .ok (.iaload, 1) := dk_46 (dk_at dksX14_most_1 23 rfl rfl)
theorem dX14_most_48 : decode cX14_most 48 = .ok (.iconst 3, 1) := dk_6 (dk_at dksX14_most_2 0 rfl rfl)
theorem dX14_most_49 : decode cX14_most 49 = .ok (.if_icmp .gt 161, 3) := dk_163 0 161 (dk_at dksX14_most_2 1 rfl rfl)
theorem dX14_most_52 : decode cX14_most 52 = .ok (.aload_n 0, 1) := dk_42 (dk_at dksX14_most_2 4 rfl rfl)
theorem dX14_most_53 : decode cX14_most 53 = .ok (.aload_n 0, 1) := dk_42 (dk_at dksX14_most_2 5 rfl rfl)
theorem dX14_most_54 : decode cX14_most 54 = .ok (.getfield 45, 3) := dk_180 0 45 (dk_at dksX14_most_2 6 rfl rfl)
theorem dX14_most_57 : decode cX14_most 57 = .ok (.iload 4, 2) := dk_21 4 (dk_at dksX14_most_2 9 rfl rfl)
theorem dX14_most_59 : decode cX14_most 59 = .ok (.iaload, 1) := dk_46 (dk_at dksX14_most_2 11 rfl rfl)
theorem dX14_most_60 : decode cX14_most 60 = .ok (.aload_n 0, 1) := dk_42 (dk_at dksX14_most_2 12 rfl rfl)
theorem dX14_most_61 : decode cX14_most 61 = .ok (.getfield 48, 3) := dk_180 0 48 (dk_at dksX14_most_2 13 rfl rfl)
theorem dX14_most_64 : decode cX14_most 64 = .ok (.iload 4, 2) := dk_21 4 (dk_at dksX14_most_2 16 rfl rfl)
theorem dX14_most_66 : decode cX14_most 66 = .ok (.iaload, 1) := dk_46 (dk_at dksX14_most_2 18 rfl rfl)
theorem dX14_most_67 : decode cX14_most 67 = .ok (.aload_n 0, 1) := dk_42 (dk_at dksX14_most_2 19 rfl rfl)
theorem dX14_most_68 : decode cX14_most 68 = .ok (.getfield 51, 3) := dk_180 0 51 (dk_at dksX14_most_2 20 rfl rfl)
theorem dX14_most_71 : decode cX14_most 71 = .ok (.iload 4, 2) := dk_21 4 (dk_at dksX14_most_3 0 rfl rfl)
theorem dX14_most_73 : decode cX14_most 73 = .ok (.iaload, 1) := dk_46 (dk_at dksX14_most_3 2 rfl rfl)
theorem dX14_most_74 : decode cX14_most 74 = .ok (.aload_n 0, 1) := dk_42 (dk_at dksX14_most_3 3 rfl rfl)
theorem dX14_most_75 : decode cX14_most 75 = .ok (.getfield 54, 3) := dk_180 0 54 (dk_at dksX14_most_3 4 rfl rfl)
theorem dX14_most_78 : decode cX14_most 78 = .ok (.iload 4, 2) := dk_21 4 (dk_at dksX14_most_3 7 rfl rfl)
theorem dX14_most_80 : decode cX14_most 80 = .ok (.iaload, 1) := dk_46 (dk_at dksX14_most_3 9 rfl rfl)
theorem dX14_most_81 : decode cX14_most 81 = .ok (.invokevirtual 201, 3) := dk_182 0 201 (dk_at dksX14_most_3 10 rfl rfl)
theorem dX14_most_84 : decode cX14_most 84 = .ok (.istore 6, 2) := dk_54 6 (dk_at dksX14_most_3 13 rfl rfl)
theorem dX14_most_86 : decode cX14_most 86 = .ok (.iload 6, 2) := dk_21 6 (dk_at dksX14_most_3 15 rfl rfl)
theorem dX14_most_88 : decode cX14_most 88 = .ok (.ifCond .eq 21, 3) := dk_153 0 21 (dk_at dksX14_most_3 17 rfl rfl)
theorem dX14_most_91 : decode cX14_most 91 = .ok (.aload_n 0, 1) := dk_42 (dk_at dksX14_most_3 20 rfl rfl)
theorem dX14_most_92 : decode cX14_most 92 = .ok (.getfield 187, 3) := dk_180 0 187 (dk_at dksX14_most_3 21 rfl rfl)
theorem dX14_most_95 : decode cX14_most 95 = .ok (.aload_n 0, 1) := dk_42 (dk_at dksX14_most_4 0 rfl rfl)
theorem dX14_most_96 : decode cX14_most 96 = .ok (.getfield 181, 3) := dk_180 0 181 (dk_at dksX14_most_4 1 rfl rfl)
theorem dX14_most_99 : decode cX14_most 99 = .ok (.aload_n 0, 1) := dk_42 (dk_at dksX14_most_4 4 rfl rfl)
theorem dX14_most_100 : decode cX14_most 100 = .ok (.getfield 178, 3) := dk_180 0 178 (dk_at dksX14_most_4 5 rfl rfl)
theorem dX14_most_103 : decode cX14_most 103 = .ok (.invokestatic 190, 3) := dk_184 0 190 (dk_at dksX14_most_4 8 rfl rfl)
theorem dX14_most_106 : decode cX14_most 106 = .ok (.goto 4, 3) := dk_167 0 4 (dk_at dksX14_most_4 11 rfl rfl)
theorem dX14_most_109 : decode cX14_most 109 = .ok (.iconst 0, 1) := dk_3 (dk_at dksX14_most_4 14 rfl rfl)
theorem dX14_most_110 : decode cX14_most 110 = .ok (.istore 7, 2) := dk_54 7 (dk_at dksX14_most_4 15 rfl rfl)
theorem dX14_most_112 : decode cX14_most 112 = .ok (.iload 6, 2) := dk_21 6 (dk_at dksX14_most_4 17 rfl rfl)
theorem dX14_most_114 : decode cX14_most 114 = .ok (.ifCond .eq 16, 3) := dk_153 0 16 (dk_at dksX14_most_4 19 rfl rfl)
theorem dX14_most_117 : decode cX14_most 117 = .ok (.aload_n 0, 1) := dk_42 (dk_at dksX14_most_4 22 rfl rfl)
theorem dX14_most_118 : decode cX14_most 118 = .ok (.iload 7, 2) := dk_21 7 (dk_at dksX14_most_5 0 rfl rfl)
theorem dX14_most_120 : decode cX14_most 120 = .ok (.invokevirtual 194, 3) := dk_182 0 194 (dk_at dksX14_most_5 2 rfl rfl)
theorem dX14_most_123 : decode cX14_most 123 = .ok (.ifCond .ne 7, 3) := dk_154 0 7 (dk_at dksX14_most_5 5 rfl rfl)
theorem dX14_most_126 : decode cX14_most 126 = .ok (.iconst 1, 1) := dk_4 (dk_at dksX14_most_5 8 rfl rfl)
theorem dX14_most_127 : decode cX14_most 127 = .ok (.goto 4, 3) := dk_167 0 4 (dk_at dksX14_most_5 9 rfl rfl)
theorem dX14_most_130 : decode cX14_most 130 = .ok (.iconst 0, 1) := dk_3 (dk_at dksX14_most_5 12 rfl rfl)
theorem dX14_most_131 : decode cX14_most 131 = .ok (.istore 5, 2) := dk_54 5 (dk_at dksX14_most_5 13 rfl rfl)
theorem dX14_most_133 : decode cX14_most 133 = .ok (.iload 5, 2) := dk_21 5 (dk_at dksX14_most_5 15 rfl rfl)
theorem dX14_most_135 : decode cX14_most 135 = .ok (.ifCond .ne 72, 3) := dk_154 0 72 (dk_at dksX14_most_5 17 rfl rfl)
theorem dX14_most_138 : decode cX14_most 138 = .ok (.iload 6, 2) := dk_21 6 (dk_at dksX14_most_5 20 rfl rfl)
theorem dX14_most_140 : decode cX14_most 140 = .ok (.ifCond .eq 22, 3) := dk_153 0 22 (dk_at dksX14_most_6 0 rfl rfl)
theorem dX14_most_143 : decode cX14_most 143 = .ok (.aload_n 0, 1) := dk_42 (dk_at dksX14_most_6 3 rfl rfl)
theorem dX14_most_144 : decode cX14_most 144 = .ok (.getfield 175, 3) := dk_180 0 175 (dk_at dksX14_most_6 4 rfl rfl)
theorem dX14_most_147 : decode cX14_most 147 = .ok (.aload_n 0, 1) := dk_42 (dk_at dksX14_most_6 7 rfl rfl)
theorem dX14_most_148 : decode cX14_most 148 = .ok (.getfield 42, 3) := dk_180 0 42 (dk_at dksX14_most_6 8 rfl rfl)
theorem dX14_most_151 : decode cX14_most 151 = .ok (.iload 7, 2) := dk_21 7 (dk_at dksX14_most_6 11 rfl rfl)
theorem dX14_most_153 : decode cX14_most 153 = .ok (.iaload, 1) := dk_46 (dk_at dksX14_most_6 13 rfl rfl)
theorem dX14_most_154 : decode cX14_most 154 = .ok (.sipush 1024, 3) := dk_17 4 0 (dk_at dksX14_most_6 14 rfl rfl)
theorem dX14_most_157 : decode cX14_most 157 = .ok (.irem, 1) := dk_112 (dk_at dksX14_most_6 17 rfl rfl)
theorem dX14_most_158 : decode cX14_most 158 = .ok (.iadd, 1) := dk_96 (dk_at dksX14_most_6 18 rfl rfl)
theorem dX14_most_159 : decode cX14_most 159 = .ok (.goto 4, 3) := dk_167 0 4 (dk_at dksX14_most_6 19 rfl rfl)
theorem dX14_most_162 : decode cX14_most 162 = .ok (.iconst 0, 1) := dk_3 (dk_at dksX14_most_6 22 rfl rfl)
theorem dX14_most_163 : decode cX14_most 163 = .ok (.istore 8, 2) := dk_54 8 (dk_at dksX14_most_7 0 rfl rfl)
theorem dX14_most_165 : decode cX14_most 165 = .ok (.aload_n 0, 1) := dk_42 (dk_at dksX14_most_7 2 rfl rfl)
theorem dX14_most_166 : decode cX14_most 166 = .ok (.getfield 57, 3) := dk_180 0 57 (dk_at dksX14_most_7 3 rfl rfl)
theorem dX14_most_169 : decode cX14_most 169 = .ok (.iload 4, 2) := dk_21 4 (dk_at dksX14_most_7 6 rfl rfl)
theorem dX14_most_171 : decode cX14_most 171 = .ok (.iload 8, 2) := dk_21 8 (dk_at dksX14_most_7 8 rfl rfl)
theorem dX14_most_173 : decode cX14_most 173 = .ok (.aload_n 0, 1) := dk_42 (dk_at dksX14_most_7 10 rfl rfl)
theorem dX14_most_174 : decode cX14_most 174 = .ok (.getfield 57, 3) := dk_180 0 57 (dk_at dksX14_most_7 11 rfl rfl)
theorem dX14_most_177 : decode cX14_most 177 = .ok (.iload 4, 2) := dk_21 4 (dk_at dksX14_most_7 14 rfl rfl)
theorem dX14_most_179 : decode cX14_most 179 = .ok (.iaload, 1) := dk_46 (dk_at dksX14_most_7 16 rfl rfl)
theorem dX14_most_180 : decode cX14_most 180 = .ok (.if_icmp .le 8, 3) := dk_164 0 8 (dk_at dksX14_most_7 17 rfl rfl)
theorem dX14_most_183 : decode cX14_most 183 = .ok (.iload 8, 2) := dk_21 8 (dk_at dksX14_most_7 20 rfl rfl)
theorem dX14_most_185 : decode cX14_most 185 = .ok (.goto 10, 3) := dk_167 0 10 (dk_at dksX14_most_8 0 rfl rfl)
theorem dX14_most_188 : decode cX14_most 188 = .ok (.aload_n 0, 1) := dk_42 (dk_at dksX14_most_8 3 rfl rfl)
theorem dX14_most_189 : decode cX14_most 189 = .ok (.getfield 57, 3) := dk_180 0 57 (dk_at dksX14_most_8 4 rfl rfl)
theorem dX14_most_192 : decode cX14_most 192 = .ok (.iload 4, 2) := dk_21 4 (dk_at dksX14_most_8 7 rfl rfl)
theorem dX14_most_194 : decode cX14_most 194 = .ok (.iaload, 1) := dk_46 (dk_at dksX14_most_8 9 rfl rfl)
theorem dX14_most_195 : decode cX14_most 195 = .ok (.iastore, 1) := dk_79 (dk_at dksX14_most_8 10 rfl rfl)
theorem dX14_most_196 : decode cX14_most 196 = .ok (.aload_n 0, 1) := dk_42 (dk_at dksX14_most_8 11 rfl rfl)
theorem dX14_most_197 : decode cX14_most 197 = .ok (.getfield 54, 3) := dk_180 0 54 (dk_at dksX14_most_8 12 rfl rfl)
theorem dX14_most_200 : decode cX14_most 200 = .ok (.iload 4, 2) := dk_21 4 (dk_at dksX14_most_8 15 rfl rfl)
theorem dX14_most_202 : decode cX14_most 202 = .ok (.dup2, 1) := dk_92 (dk_at dksX14_most_8 17 rfl rfl)
theorem dX14_most_203 : decode cX14_most 203 = .ok (.iaload, 1) := dk_46 (dk_at dksX14_most_8 18 rfl rfl)
theorem dX14_most_204 : decode cX14_most 204 = .ok (.iconst 1, 1) := dk_4 (dk_at dksX14_most_8 19 rfl rfl)
theorem dX14_most_205 : decode cX14_most 205 = .ok (.iadd, 1) := dk_96 (dk_at dksX14_most_8 20 rfl rfl)
theorem dX14_most_206 : decode cX14_most 206 = .ok (.iastore, 1) := dk_79 (dk_at dksX14_most_8 21 rfl rfl)
theorem dX14_most_207 : decode cX14_most 207 = .ok (.goto (-171), 3) := dk_167 255 85 (dk_at dksX14_most_9 0 rfl rfl)
theorem dX14_most_210 : decode cX14_most 210 = .ok (.iload 5, 2) := dk_21 5 (dk_at dksX14_most_9 3 rfl rfl)
theorem dX14_most_212 : decode cX14_most 212 = .ok (.ifCond .eq 27, 3) := dk_153 0 27 (dk_at dksX14_most_9 5 rfl rfl)
theorem dX14_most_215 : decode cX14_most 215 = .ok (.iinc 4 1, 3) := dk_132 4 1 (dk_at dksX14_most_9 8 rfl rfl)
theorem dX14_most_218 : decode cX14_most 218 = .ok (.aload_n 0, 1) := dk_42 (dk_at dksX14_most_9 11 rfl rfl)
theorem dX14_most_219 : decode cX14_most 219 = .ok (.iload 4, 2) := dk_21 4 (dk_at dksX14_most_9 12 rfl rfl)
theorem dX14_most_221 : decode cX14_most 221 = .ok (.aload_n 0, 1) := dk_42 (dk_at dksX14_most_9 14 rfl rfl)
theorem dX14_most_222 : decode cX14_most 222 = .ok (.getfield 187, 3) := dk_180 0 187 (dk_at dksX14_most_9 15 rfl rfl)
theorem dX14_most_225 : decode cX14_most 225 = .ok (.aload_n 0, 1) := dk_42 (dk_at dksX14_most_9 18 rfl rfl)
theorem dX14_most_226 : decode cX14_most 226 = .ok (.getfield 181, 3) := dk_180 0 181 (dk_at dksX14_most_9 19 rfl rfl)
theorem dX14_most_229 : decode cX14_most 229 = .ok (.aload_n 0, 1) := dk_42 (dk_at dksX14_most_9 22 rfl rfl)
theorem dX14_most_230 : decode cX14_most 230 = .ok (.getfield 178, 3) := dk_180 0 178 (dk_at dksX14_most_10 0 rfl rfl)
theorem dX14_most_233 : decode cX14_most 233 = .ok (.invokevirtual 197, 3) := dk_182 0 197 (dk_at dksX14_most_10 3 rfl rfl)
theorem dX14_most_236 : decode cX14_most 236 = .ok (.goto 51, 3) := dk_167 0 51 (dk_at dksX14_most_10 6 rfl rfl)
theorem dX14_most_239 : decode cX14_most 239 = .ok (.aload_n 0, 1) := dk_42 (dk_at dksX14_most_10 9 rfl rfl)
theorem dX14_most_240 : decode cX14_most 240 = .ok (.getfield 42, 3) := dk_180 0 42 (dk_at dksX14_most_10 10 rfl rfl)
theorem dX14_most_243 : decode cX14_most 243 = .ok (.aload_n 0, 1) := dk_42 (dk_at dksX14_most_10 13 rfl rfl)
theorem dX14_most_244 : decode cX14_most 244 = .ok (.getfield 45, 3) := dk_180 0 45 (dk_at dksX14_most_10 14 rfl rfl)
theorem dX14_most_247 : decode cX14_most 247 = .ok (.iload 4, 2) := dk_21 4 (dk_at dksX14_most_10 17 rfl rfl)
theorem dX14_most_249 : decode cX14_most 249 = .ok (.iaload, 1) := dk_46 (dk_at dksX14_most_10 19 rfl rfl)
theorem dX14_most_250 : decode cX14_most 250 = .ok (.aload_n 0, 1) := dk_42 (dk_at dksX14_most_10 20 rfl rfl)
theorem dX14_most_251 : decode cX14_most 251 = .ok (.getfield 48, 3) := dk_180 0 48 (dk_at dksX14_most_10 21 rfl rfl)
theorem dX14_most_254 : decode cX14_most 254 = .ok (.iload 4, 2) := dk_21 4 (dk_at dksX14_most_11 0 rfl rfl)
theorem dX14_most_256 : decode cX14_most 256 = .ok (.iaload, 1) := dk_46 (dk_at dksX14_most_11 2 rfl rfl)
theorem dX14_most_257 : decode cX14_most 257 = .ok (.aload_n 0, 1) := dk_42 (dk_at dksX14_most_11 3 rfl rfl)
theorem dX14_most_258 : decode cX14_most 258 = .ok (.getfield 51, 3) := dk_180 0 51 (dk_at dksX14_most_11 4 rfl rfl)
theorem dX14_most_261 : decode cX14_most 261 = .ok (.iload 4, 2) := dk_21 4 (dk_at dksX14_most_11 7 rfl rfl)
theorem dX14_most_263 : decode cX14_most 263 = .ok (.iaload, 1) := dk_46 (dk_at dksX14_most_11 9 rfl rfl)
theorem dX14_most_264 : decode cX14_most 264 = .ok (.invokestatic 190, 3) := dk_184 0 190 (dk_at dksX14_most_11 10 rfl rfl)
theorem dX14_most_267 : decode cX14_most 267 = .ok (.sipush 1024, 3) := dk_17 4 0 (dk_at dksX14_most_11 13 rfl rfl)
theorem dX14_most_270 : decode cX14_most 270 = .ok (.aload_n 0, 1) := dk_42 (dk_at dksX14_most_11 16 rfl rfl)
theorem dX14_most_271 : decode cX14_most 271 = .ok (.getfield 38, 3) := dk_180 0 38 (dk_at dksX14_most_11 17 rfl rfl)
theorem dX14_most_274 : decode cX14_most 274 = .ok (.imul, 1) := dk_104 (dk_at dksX14_most_11 20 rfl rfl)
theorem dX14_most_275 : decode cX14_most 275 = .ok (.aload_n 0, 1) := dk_42 (dk_at dksX14_most_11 21 rfl rfl)
theorem dX14_most_276 : decode cX14_most 276 = .ok (.getfield 57, 3) := dk_180 0 57 (dk_at dksX14_most_12 0 rfl rfl)
theorem dX14_most_279 : decode cX14_most 279 = .ok (.iload 4, 2) := dk_21 4 (dk_at dksX14_most_12 3 rfl rfl)
theorem dX14_most_281 : decode cX14_most 281 = .ok (.iaload, 1) := dk_46 (dk_at dksX14_most_12 5 rfl rfl)
theorem dX14_most_282 : decode cX14_most 282 = .ok (.iadd, 1) := dk_96 (dk_at dksX14_most_12 6 rfl rfl)
theorem dX14_most_283 : decode cX14_most 283 = .ok (.iastore, 1) := dk_79 (dk_at dksX14_most_12 7 rfl rfl)
theorem dX14_most_284 : decode cX14_most 284 = .ok (.iinc 4 (-1), 3) := dk_132 4 255 (dk_at dksX14_most_12 8 rfl rfl)
theorem dX14_most_287 : decode cX14_most 287 = .ok (.goto (-259), 3) := dk_167 254 253 (dk_at dksX14_most_12 11 rfl rfl)
theorem dX14_most_290 : decode cX14_most 290 = .ok (.aload_n 0, 1) := dk_42 (dk_at dksX14_most_12 14 rfl rfl)
theorem dX14_most_291 : decode cX14_most 291 = .ok (.getfield 42, 3) := dk_180 0 42 (dk_at dksX14_most_12 15 rfl rfl)
theorem dX14_most_294 : decode cX14_most 294 = .ok (.iload_n 1, 1) := dk_27 (dk_at dksX14_most_12 18 rfl rfl)
theorem dX14_most_295 : decode cX14_most 295 = .ok (.iload_n 2, 1) := dk_28 (dk_at dksX14_most_12 19 rfl rfl)
theorem dX14_most_296 : decode cX14_most 296 = .ok (.iload_n 3, 1) := dk_29 (dk_at dksX14_most_12 20 rfl rfl)
theorem dX14_most_297 : decode cX14_most 297 = .ok (.invokestatic 190, 3) := dk_184 0 190 (dk_at dksX14_most_12 21 rfl rfl)
theorem dX14_most_300 : decode cX14_most 300 = .ok (.iaload, 1) := dk_46 (dk_at dksX14_most_13 0 rfl rfl)
theorem dX14_most_301 : decode cX14_most 301 = .ok (.sipush 1024, 3) := dk_17 4 0 (dk_at dksX14_most_13 1 rfl rfl)
theorem dX14_most_304 : decode cX14_most 304 = .ok (.irem, 1) := dk_112 (dk_at dksX14_most_13 4 rfl rfl)
theorem dX14_most_305 : decode cX14_most 305 = .ok (.ireturn, 1) := dk_172 (dk_at dksX14_most_13 5 rfl rfl)
abbrev cX14_keyOf : ByteArray := prog_33_method_20_code
def yX14_keyOf : MethodName := ⟨RX14, "keyOf", "(III)I"⟩
def dkwX14_keyOf_0 : List UInt8 := [17, 9, 97, 7, 26, 104, 27, 96, 104, 28, 96, 172]
abbrev dktX14_keyOf_0 : List UInt8 := dkwX14_keyOf_0 ++ []
theorem dksX14_keyOf_0 : cX14_keyOf.data.toList.drop 0 = dktX14_keyOf_0 := by decide +kernel
theorem dX14_keyOf_0 : decode cX14_keyOf 0 = .ok (.sipush 2401, 3) := dk_17 9 97 (dk_at dksX14_keyOf_0 0 rfl rfl)
theorem dX14_keyOf_3 : decode cX14_keyOf 3 = .ok (.iconst 4, 1) := dk_7 (dk_at dksX14_keyOf_0 3 rfl rfl)
theorem dX14_keyOf_4 : decode cX14_keyOf 4 = .ok (.iload_n 0, 1) := dk_26 (dk_at dksX14_keyOf_0 4 rfl rfl)
theorem dX14_keyOf_5 : decode cX14_keyOf 5 = .ok (.imul, 1) := dk_104 (dk_at dksX14_keyOf_0 5 rfl rfl)
theorem dX14_keyOf_6 : decode cX14_keyOf 6 = .ok (.iload_n 1, 1) := dk_27 (dk_at dksX14_keyOf_0 6 rfl rfl)
theorem dX14_keyOf_7 : decode cX14_keyOf 7 = .ok (.iadd, 1) := dk_96 (dk_at dksX14_keyOf_0 7 rfl rfl)
theorem dX14_keyOf_8 : decode cX14_keyOf 8 = .ok (.imul, 1) := dk_104 (dk_at dksX14_keyOf_0 8 rfl rfl)
theorem dX14_keyOf_9 : decode cX14_keyOf 9 = .ok (.iload_n 2, 1) := dk_28 (dk_at dksX14_keyOf_0 9 rfl rfl)
theorem dX14_keyOf_10 : decode cX14_keyOf 10 = .ok (.iadd, 1) := dk_96 (dk_at dksX14_keyOf_0 10 rfl rfl)
theorem dX14_keyOf_11 : decode cX14_keyOf 11 = .ok (.ireturn, 1) := dk_172 (dk_at dksX14_keyOf_0 11 rfl rfl)
abbrev cX14_isFound : ByteArray := prog_33_method_21_code
def yX14_isFound : MethodName := ⟨RX14, "isFound", "(I)Z"⟩
def dkwX14_isFound_0 : List UInt8 := [42, 180, 0, 42, 27, 46, 17, 4, 0, 108, 42, 180, 0, 38, 160, 0, 7, 4, 167, 0, 4, 3, 172]
abbrev dktX14_isFound_0 : List UInt8 := dkwX14_isFound_0 ++ []
theorem dksX14_isFound_0 : cX14_isFound.data.toList.drop 0 = dktX14_isFound_0 := by decide +kernel
theorem dX14_isFound_0 : decode cX14_isFound 0 = .ok (.aload_n 0, 1) := dk_42 (dk_at dksX14_isFound_0 0 rfl rfl)
theorem dX14_isFound_1 : decode cX14_isFound 1 = .ok (.getfield 42, 3) := dk_180 0 42 (dk_at dksX14_isFound_0 1 rfl rfl)
theorem dX14_isFound_4 : decode cX14_isFound 4 = .ok (.iload_n 1, 1) := dk_27 (dk_at dksX14_isFound_0 4 rfl rfl)
theorem dX14_isFound_5 : decode cX14_isFound 5 = .ok (.iaload, 1) := dk_46 (dk_at dksX14_isFound_0 5 rfl rfl)
theorem dX14_isFound_6 : decode cX14_isFound 6 = .ok (.sipush 1024, 3) := dk_17 4 0 (dk_at dksX14_isFound_0 6 rfl rfl)
theorem dX14_isFound_9 : decode cX14_isFound 9 = .ok (.idiv, 1) := dk_108 (dk_at dksX14_isFound_0 9 rfl rfl)
theorem dX14_isFound_10 : decode cX14_isFound 10 = .ok (.aload_n 0, 1) := dk_42 (dk_at dksX14_isFound_0 10 rfl rfl)
theorem dX14_isFound_11 : decode cX14_isFound 11 = .ok (.getfield 38, 3) := dk_180 0 38 (dk_at dksX14_isFound_0 11 rfl rfl)
theorem dX14_isFound_14 : decode cX14_isFound 14 = .ok (.if_icmp .ne 7, 3) := dk_160 0 7 (dk_at dksX14_isFound_0 14 rfl rfl)
theorem dX14_isFound_17 : decode cX14_isFound 17 = .ok (.iconst 1, 1) := dk_4 (dk_at dksX14_isFound_0 17 rfl rfl)
theorem dX14_isFound_18 : decode cX14_isFound 18 = .ok (.goto 4, 3) := dk_167 0 4 (dk_at dksX14_isFound_0 18 rfl rfl)
theorem dX14_isFound_21 : decode cX14_isFound 21 = .ok (.iconst 0, 1) := dk_3 (dk_at dksX14_isFound_0 21 rfl rfl)
theorem dX14_isFound_22 : decode cX14_isFound 22 = .ok (.ireturn, 1) := dk_172 (dk_at dksX14_isFound_0 22 rfl rfl)
abbrev cX14_pile : ByteArray := prog_33_method_22_code
def yX14_pile : MethodName := ⟨RX14, "pile", "(IIII)V"⟩
def dkwX14_pile_1 : List UInt8 := [180, 0, 54, 27, 2, 79, 42, 180, 0, 57, 27, 3, 79, 177]
abbrev dktX14_pile_1 : List UInt8 := dkwX14_pile_1 ++ []
def dkwX14_pile_0 : List UInt8 := [42, 180, 0, 45, 27, 28, 79, 42, 180, 0, 48, 27, 29, 79, 42, 180, 0, 51, 27, 21, 4, 79, 42]
abbrev dktX14_pile_0 : List UInt8 := dkwX14_pile_0 ++ dktX14_pile_1
theorem dksX14_pile_0 : cX14_pile.data.toList.drop 0 = dktX14_pile_0 := by decide +kernel
theorem dksX14_pile_1 : cX14_pile.data.toList.drop 23 = dktX14_pile_1 := dk_seg dksX14_pile_0 23 rfl rfl
theorem dX14_pile_0 : decode cX14_pile 0 = .ok (.aload_n 0, 1) := dk_42 (dk_at dksX14_pile_0 0 rfl rfl)
theorem dX14_pile_1 : decode cX14_pile 1 = .ok (.getfield 45, 3) := dk_180 0 45 (dk_at dksX14_pile_0 1 rfl rfl)
theorem dX14_pile_4 : decode cX14_pile 4 = .ok (.iload_n 1, 1) := dk_27 (dk_at dksX14_pile_0 4 rfl rfl)
theorem dX14_pile_5 : decode cX14_pile 5 = .ok (.iload_n 2, 1) := dk_28 (dk_at dksX14_pile_0 5 rfl rfl)
theorem dX14_pile_6 : decode cX14_pile 6 = .ok (.iastore, 1) := dk_79 (dk_at dksX14_pile_0 6 rfl rfl)
theorem dX14_pile_7 : decode cX14_pile 7 = .ok (.aload_n 0, 1) := dk_42 (dk_at dksX14_pile_0 7 rfl rfl)
theorem dX14_pile_8 : decode cX14_pile 8 = .ok (.getfield 48, 3) := dk_180 0 48 (dk_at dksX14_pile_0 8 rfl rfl)
theorem dX14_pile_11 : decode cX14_pile 11 = .ok (.iload_n 1, 1) := dk_27 (dk_at dksX14_pile_0 11 rfl rfl)
theorem dX14_pile_12 : decode cX14_pile 12 = .ok (.iload_n 3, 1) := dk_29 (dk_at dksX14_pile_0 12 rfl rfl)
theorem dX14_pile_13 : decode cX14_pile 13 = .ok (.iastore, 1) := dk_79 (dk_at dksX14_pile_0 13 rfl rfl)
theorem dX14_pile_14 : decode cX14_pile 14 = .ok (.aload_n 0, 1) := dk_42 (dk_at dksX14_pile_0 14 rfl rfl)
theorem dX14_pile_15 : decode cX14_pile 15 = .ok (.getfield 51, 3) := dk_180 0 51 (dk_at dksX14_pile_0 15 rfl rfl)
theorem dX14_pile_18 : decode cX14_pile 18 = .ok (.iload_n 1, 1) := dk_27 (dk_at dksX14_pile_0 18 rfl rfl)
theorem dX14_pile_19 : decode cX14_pile 19 = .ok (.iload 4, 2) := dk_21 4 (dk_at dksX14_pile_0 19 rfl rfl)
theorem dX14_pile_21 : decode cX14_pile 21 = .ok (.iastore, 1) := dk_79 (dk_at dksX14_pile_0 21 rfl rfl)
theorem dX14_pile_22 : decode cX14_pile 22 = .ok (.aload_n 0, 1) := dk_42 (dk_at dksX14_pile_0 22 rfl rfl)
theorem dX14_pile_23 : decode cX14_pile 23 = .ok (.getfield 54, 3) := dk_180 0 54 (dk_at dksX14_pile_1 0 rfl rfl)
theorem dX14_pile_26 : decode cX14_pile 26 = .ok (.iload_n 1, 1) := dk_27 (dk_at dksX14_pile_1 3 rfl rfl)
theorem dX14_pile_27 : decode cX14_pile 27 = .ok (.iconst (-1), 1) := dk_2 (dk_at dksX14_pile_1 4 rfl rfl)
theorem dX14_pile_28 : decode cX14_pile 28 = .ok (.iastore, 1) := dk_79 (dk_at dksX14_pile_1 5 rfl rfl)
theorem dX14_pile_29 : decode cX14_pile 29 = .ok (.aload_n 0, 1) := dk_42 (dk_at dksX14_pile_1 6 rfl rfl)
theorem dX14_pile_30 : decode cX14_pile 30 = .ok (.getfield 57, 3) := dk_180 0 57 (dk_at dksX14_pile_1 7 rfl rfl)
theorem dX14_pile_33 : decode cX14_pile 33 = .ok (.iload_n 1, 1) := dk_27 (dk_at dksX14_pile_1 10 rfl rfl)
theorem dX14_pile_34 : decode cX14_pile 34 = .ok (.iconst 0, 1) := dk_3 (dk_at dksX14_pile_1 11 rfl rfl)
theorem dX14_pile_35 : decode cX14_pile 35 = .ok (.iastore, 1) := dk_79 (dk_at dksX14_pile_1 12 rfl rfl)
theorem dX14_pile_36 : decode cX14_pile 36 = .ok (.return_, 1) := dk_177 (dk_at dksX14_pile_1 13 rfl rfl)
abbrev cX14_first : ByteArray := prog_33_method_30_code
def yX14_first : MethodName := ⟨RX14, "first", "()I"⟩
def dkwX14_first_0 : List UInt8 := [42, 42, 180, 0, 166, 42, 180, 0, 169, 42, 180, 0, 141, 182, 0, 218, 172]
abbrev dktX14_first_0 : List UInt8 := dkwX14_first_0 ++ []
theorem dksX14_first_0 : cX14_first.data.toList.drop 0 = dktX14_first_0 := by decide +kernel
theorem dX14_first_0 : decode cX14_first 0 = .ok (.aload_n 0, 1) := dk_42 (dk_at dksX14_first_0 0 rfl rfl)
theorem dX14_first_1 : decode cX14_first 1 = .ok (.aload_n 0, 1) := dk_42 (dk_at dksX14_first_0 1 rfl rfl)
theorem dX14_first_2 : decode cX14_first 2 = .ok (.getfield 166, 3) := dk_180 0 166 (dk_at dksX14_first_0 2 rfl rfl)
theorem dX14_first_5 : decode cX14_first 5 = .ok (.aload_n 0, 1) := dk_42 (dk_at dksX14_first_0 5 rfl rfl)
theorem dX14_first_6 : decode cX14_first 6 = .ok (.getfield 169, 3) := dk_180 0 169 (dk_at dksX14_first_0 6 rfl rfl)
theorem dX14_first_9 : decode cX14_first 9 = .ok (.aload_n 0, 1) := dk_42 (dk_at dksX14_first_0 9 rfl rfl)
theorem dX14_first_10 : decode cX14_first 10 = .ok (.getfield 141, 3) := dk_180 0 141 (dk_at dksX14_first_0 10 rfl rfl)
theorem dX14_first_13 : decode cX14_first 13 = .ok (.invokevirtual 218, 3) := dk_182 0 218 (dk_at dksX14_first_0 13 rfl rfl)
theorem dX14_first_16 : decode cX14_first 16 = .ok (.ireturn, 1) := dk_172 (dk_at dksX14_first_0 16 rfl rfl)
abbrev cX14_firstOf : ByteArray := prog_33_method_29_code
def yX14_firstOf : MethodName := ⟨RX14, "firstOf", "(III)I"⟩
def dkwX14_firstOf_1 : List UInt8 := [182, 0, 214, 21, 4, 160, 0, 6, 21, 5, 172, 132, 5, 1, 167, 255, 230, 16, 247, 172]
abbrev dktX14_firstOf_1 : List UInt8 := dkwX14_firstOf_1 ++ []
def dkwX14_firstOf_0 : List UInt8 := [42, 27, 28, 29, 182, 0, 211, 54, 4, 2, 54, 5, 21, 5, 6, 163, 0, 26, 42, 27, 28, 29, 21, 5]
abbrev dktX14_firstOf_0 : List UInt8 := dkwX14_firstOf_0 ++ dktX14_firstOf_1
theorem dksX14_firstOf_0 : cX14_firstOf.data.toList.drop 0 = dktX14_firstOf_0 := by decide +kernel
theorem dksX14_firstOf_1 : cX14_firstOf.data.toList.drop 24 = dktX14_firstOf_1 := dk_seg dksX14_firstOf_0 24 rfl rfl
theorem dX14_firstOf_0 : decode cX14_firstOf 0 = .ok (.aload_n 0, 1) := dk_42 (dk_at dksX14_firstOf_0 0 rfl rfl)
theorem dX14_firstOf_1 : decode cX14_firstOf 1 = .ok (.iload_n 1, 1) := dk_27 (dk_at dksX14_firstOf_0 1 rfl rfl)
theorem dX14_firstOf_2 : decode cX14_firstOf 2 = .ok (.iload_n 2, 1) := dk_28 (dk_at dksX14_firstOf_0 2 rfl rfl)
theorem dX14_firstOf_3 : decode cX14_firstOf 3 = .ok (.iload_n 3, 1) := dk_29 (dk_at dksX14_firstOf_0 3 rfl rfl)
theorem dX14_firstOf_4 : decode cX14_firstOf 4 = .ok (.invokevirtual 211, 3) := dk_182 0 211 (dk_at dksX14_firstOf_0 4 rfl rfl)
theorem dX14_firstOf_7 : decode cX14_firstOf 7 = .ok (.istore 4, 2) := dk_54 4 (dk_at dksX14_firstOf_0 7 rfl rfl)
theorem dX14_firstOf_9 : decode cX14_firstOf 9 = .ok (.iconst (-1), 1) := dk_2 (dk_at dksX14_firstOf_0 9 rfl rfl)
theorem dX14_firstOf_10 : decode cX14_firstOf 10 = .ok (.istore 5, 2) := dk_54 5 (dk_at dksX14_firstOf_0 10 rfl rfl)
theorem dX14_firstOf_12 : decode cX14_firstOf 12 = .ok (.iload 5, 2) := dk_21 5 (dk_at dksX14_firstOf_0 12 rfl rfl)
theorem dX14_firstOf_14 : decode cX14_firstOf 14 = .ok (.iconst 3, 1) := dk_6 (dk_at dksX14_firstOf_0 14 rfl rfl)
theorem dX14_firstOf_15 : decode cX14_firstOf 15 = .ok (.if_icmp .gt 26, 3) := dk_163 0 26 (dk_at dksX14_firstOf_0 15 rfl rfl)
theorem dX14_firstOf_18 : decode cX14_firstOf 18 = .ok (.aload_n 0, 1) := dk_42 (dk_at dksX14_firstOf_0 18 rfl rfl)
theorem dX14_firstOf_19 : decode cX14_firstOf 19 = .ok (.iload_n 1, 1) := dk_27 (dk_at dksX14_firstOf_0 19 rfl rfl)
theorem dX14_firstOf_20 : decode cX14_firstOf 20 = .ok (.iload_n 2, 1) := dk_28 (dk_at dksX14_firstOf_0 20 rfl rfl)
theorem dX14_firstOf_21 : decode cX14_firstOf 21 = .ok (.iload_n 3, 1) := dk_29 (dk_at dksX14_firstOf_0 21 rfl rfl)
theorem dX14_firstOf_22 : decode cX14_firstOf 22 = .ok (.iload 5, 2) := dk_21 5 (dk_at dksX14_firstOf_0 22 rfl rfl)
theorem dX14_firstOf_24 : decode cX14_firstOf 24 = .ok (.invokevirtual 214, 3) := dk_182 0 214 (dk_at dksX14_firstOf_1 0 rfl rfl)
theorem dX14_firstOf_27 : decode cX14_firstOf 27 = .ok (.iload 4, 2) := dk_21 4 (dk_at dksX14_firstOf_1 3 rfl rfl)
theorem dX14_firstOf_29 : decode cX14_firstOf 29 = .ok (.if_icmp .ne 6, 3) := dk_160 0 6 (dk_at dksX14_firstOf_1 5 rfl rfl)
theorem dX14_firstOf_32 : decode cX14_firstOf 32 = .ok (.iload 5, 2) := dk_21 5 (dk_at dksX14_firstOf_1 8 rfl rfl)
theorem dX14_firstOf_34 : decode cX14_firstOf 34 = .ok (.ireturn, 1) := dk_172 (dk_at dksX14_firstOf_1 10 rfl rfl)
theorem dX14_firstOf_35 : decode cX14_firstOf 35 = .ok (.iinc 5 1, 3) := dk_132 5 1 (dk_at dksX14_firstOf_1 11 rfl rfl)
theorem dX14_firstOf_38 : decode cX14_firstOf 38 = .ok (.goto (-26), 3) := dk_167 255 230 (dk_at dksX14_firstOf_1 14 rfl rfl)
theorem dX14_firstOf_41 : decode cX14_firstOf 41 = .ok (.bipush (-9), 2) := dk_16 247 (dk_at dksX14_firstOf_1 17 rfl rfl)
theorem dX14_firstOf_43 : decode cX14_firstOf 43 = .ok (.ireturn, 1) := dk_172 (dk_at dksX14_firstOf_1 19 rfl rfl)
abbrev cX14_mostBy : ByteArray := prog_33_method_28_code
def yX14_mostBy : MethodName := ⟨RX14, "mostBy", "(IIII)I"⟩
def dkwX14_mostBy_1 : List UInt8 := [180, 0, 187, 42, 180, 0, 181, 42, 180, 0, 178, 182, 0, 211, 96, 172]
abbrev dktX14_mostBy_1 : List UInt8 := dkwX14_mostBy_1 ++ []
def dkwX14_mostBy_0 : List UInt8 := [42, 27, 28, 29, 21, 4, 182, 0, 201, 154, 0, 5, 2, 172, 42, 180, 0, 175, 54, 5, 21, 5, 42, 42]
abbrev dktX14_mostBy_0 : List UInt8 := dkwX14_mostBy_0 ++ dktX14_mostBy_1
theorem dksX14_mostBy_0 : cX14_mostBy.data.toList.drop 0 = dktX14_mostBy_0 := by decide +kernel
theorem dksX14_mostBy_1 : cX14_mostBy.data.toList.drop 24 = dktX14_mostBy_1 := dk_seg dksX14_mostBy_0 24 rfl rfl
theorem dX14_mostBy_0 : decode cX14_mostBy 0 = .ok (.aload_n 0, 1) := dk_42 (dk_at dksX14_mostBy_0 0 rfl rfl)
theorem dX14_mostBy_1 : decode cX14_mostBy 1 = .ok (.iload_n 1, 1) := dk_27 (dk_at dksX14_mostBy_0 1 rfl rfl)
theorem dX14_mostBy_2 : decode cX14_mostBy 2 = .ok (.iload_n 2, 1) := dk_28 (dk_at dksX14_mostBy_0 2 rfl rfl)
theorem dX14_mostBy_3 : decode cX14_mostBy 3 = .ok (.iload_n 3, 1) := dk_29 (dk_at dksX14_mostBy_0 3 rfl rfl)
theorem dX14_mostBy_4 : decode cX14_mostBy 4 = .ok (.iload 4, 2) := dk_21 4 (dk_at dksX14_mostBy_0 4 rfl rfl)
theorem dX14_mostBy_6 : decode cX14_mostBy 6 = .ok (.invokevirtual 201, 3) := dk_182 0 201 (dk_at dksX14_mostBy_0 6 rfl rfl)
theorem dX14_mostBy_9 : decode cX14_mostBy 9 = .ok (.ifCond .ne 5, 3) := dk_154 0 5 (dk_at dksX14_mostBy_0 9 rfl rfl)
theorem dX14_mostBy_12 : decode cX14_mostBy 12 = .ok (.iconst (-1), 1) := dk_2 (dk_at dksX14_mostBy_0 12 rfl rfl)
theorem dX14_mostBy_13 : decode cX14_mostBy 13 = .ok (.ireturn, 1) := dk_172 (dk_at dksX14_mostBy_0 13 rfl rfl)
theorem dX14_mostBy_14 : decode cX14_mostBy 14 = .ok (.aload_n 0, 1) := dk_42 (dk_at dksX14_mostBy_0 14 rfl rfl)
theorem dX14_mostBy_15 : decode cX14_mostBy 15 = .ok (.getfield 175, 3) := dk_180 0 175 (dk_at dksX14_mostBy_0 15 rfl rfl)
theorem dX14_mostBy_18 : decode cX14_mostBy 18 = .ok (.istore 5, 2) := dk_54 5 (dk_at dksX14_mostBy_0 18 rfl rfl)
theorem dX14_mostBy_20 : decode cX14_mostBy 20 = .ok (.iload 5, 2) := dk_21 5 (dk_at dksX14_mostBy_0 20 rfl rfl)
theorem dX14_mostBy_22 : decode cX14_mostBy 22 = .ok (.aload_n 0, 1) := dk_42 (dk_at dksX14_mostBy_0 22 rfl rfl)
theorem dX14_mostBy_23 : decode cX14_mostBy 23 = .ok (.aload_n 0, 1) := dk_42 (dk_at dksX14_mostBy_0 23 rfl rfl)
theorem dX14_mostBy_24 : decode cX14_mostBy 24 = .ok (.getfield 187, 3) := dk_180 0 187 (dk_at dksX14_mostBy_1 0 rfl rfl)
theorem dX14_mostBy_27 : decode cX14_mostBy 27 = .ok (.aload_n 0, 1) := dk_42 (dk_at dksX14_mostBy_1 3 rfl rfl)
theorem dX14_mostBy_28 : decode cX14_mostBy 28 = .ok (.getfield 181, 3) := dk_180 0 181 (dk_at dksX14_mostBy_1 4 rfl rfl)
theorem dX14_mostBy_31 : decode cX14_mostBy 31 = .ok (.aload_n 0, 1) := dk_42 (dk_at dksX14_mostBy_1 7 rfl rfl)
theorem dX14_mostBy_32 : decode cX14_mostBy 32 = .ok (.getfield 178, 3) := dk_180 0 178 (dk_at dksX14_mostBy_1 8 rfl rfl)
theorem dX14_mostBy_35 : decode cX14_mostBy 35 = .ok (.invokevirtual 211, 3) := dk_182 0 211 (dk_at dksX14_mostBy_1 11 rfl rfl)
theorem dX14_mostBy_38 : decode cX14_mostBy 38 = .ok (.iadd, 1) := dk_96 (dk_at dksX14_mostBy_1 14 rfl rfl)
theorem dX14_mostBy_39 : decode cX14_mostBy 39 = .ok (.ireturn, 1) := dk_172 (dk_at dksX14_mostBy_1 15 rfl rfl)
abbrev cX14_with : ByteArray := prog_33_method_31_code
def yX14_with : MethodName := ⟨RX14, "with", "(I)I"⟩
def dkwX14_with_1 : List UInt8 := [182, 0, 214, 61, 28, 156, 0, 8, 16, 252, 167, 0, 4, 28, 172]
abbrev dktX14_with_1 : List UInt8 := dkwX14_with_1 ++ []
def dkwX14_with_0 : List UInt8 := [27, 184, 0, 205, 154, 0, 5, 2, 172, 42, 42, 180, 0, 166, 42, 180, 0, 169, 42, 180, 0, 141, 27]
abbrev dktX14_with_0 : List UInt8 := dkwX14_with_0 ++ dktX14_with_1
theorem dksX14_with_0 : cX14_with.data.toList.drop 0 = dktX14_with_0 := by decide +kernel
theorem dksX14_with_1 : cX14_with.data.toList.drop 23 = dktX14_with_1 := dk_seg dksX14_with_0 23 rfl rfl
theorem dX14_with_0 : decode cX14_with 0 = .ok (.iload_n 1, 1) := dk_27 (dk_at dksX14_with_0 0 rfl rfl)
theorem dX14_with_1 : decode cX14_with 1 = .ok (.invokestatic 205, 3) := dk_184 0 205 (dk_at dksX14_with_0 1 rfl rfl)
theorem dX14_with_4 : decode cX14_with 4 = .ok (.ifCond .ne 5, 3) := dk_154 0 5 (dk_at dksX14_with_0 4 rfl rfl)
theorem dX14_with_7 : decode cX14_with 7 = .ok (.iconst (-1), 1) := dk_2 (dk_at dksX14_with_0 7 rfl rfl)
theorem dX14_with_8 : decode cX14_with 8 = .ok (.ireturn, 1) := dk_172 (dk_at dksX14_with_0 8 rfl rfl)
theorem dX14_with_9 : decode cX14_with 9 = .ok (.aload_n 0, 1) := dk_42 (dk_at dksX14_with_0 9 rfl rfl)
theorem dX14_with_10 : decode cX14_with 10 = .ok (.aload_n 0, 1) := dk_42 (dk_at dksX14_with_0 10 rfl rfl)
theorem dX14_with_11 : decode cX14_with 11 = .ok (.getfield 166, 3) := dk_180 0 166 (dk_at dksX14_with_0 11 rfl rfl)
theorem dX14_with_14 : decode cX14_with 14 = .ok (.aload_n 0, 1) := dk_42 (dk_at dksX14_with_0 14 rfl rfl)
theorem dX14_with_15 : decode cX14_with 15 = .ok (.getfield 169, 3) := dk_180 0 169 (dk_at dksX14_with_0 15 rfl rfl)
theorem dX14_with_18 : decode cX14_with 18 = .ok (.aload_n 0, 1) := dk_42 (dk_at dksX14_with_0 18 rfl rfl)
theorem dX14_with_19 : decode cX14_with 19 = .ok (.getfield 141, 3) := dk_180 0 141 (dk_at dksX14_with_0 19 rfl rfl)
theorem dX14_with_22 : decode cX14_with 22 = .ok (.iload_n 1, 1) := dk_27 (dk_at dksX14_with_0 22 rfl rfl)
theorem dX14_with_23 : decode cX14_with 23 = .ok (.invokevirtual 214, 3) := dk_182 0 214 (dk_at dksX14_with_1 0 rfl rfl)
theorem dX14_with_26 : decode cX14_with 26 = .ok (.istore_n 2, 1) := dk_61 (dk_at dksX14_with_1 3 rfl rfl)
theorem dX14_with_27 : decode cX14_with 27 = .ok (.iload_n 2, 1) := dk_28 (dk_at dksX14_with_1 4 rfl rfl)
theorem dX14_with_28 : decode cX14_with 28 = .ok (.ifCond .ge 8, 3) := dk_156 0 8 (dk_at dksX14_with_1 5 rfl rfl)
theorem dX14_with_31 : decode cX14_with 31 = .ok (.bipush (-4), 2) := dk_16 252 (dk_at dksX14_with_1 8 rfl rfl)
theorem dX14_with_33 : decode cX14_with 33 = .ok (.goto 4, 3) := dk_167 0 4 (dk_at dksX14_with_1 10 rfl rfl)
theorem dX14_with_36 : decode cX14_with 36 = .ok (.iload_n 2, 1) := dk_28 (dk_at dksX14_with_1 13 rfl rfl)
theorem dX14_with_37 : decode cX14_with 37 = .ok (.ireturn, 1) := dk_172 (dk_at dksX14_with_1 14 rfl rfl)
abbrev cX14_journey : ByteArray := prog_33_method_32_code
def yX14_journey : MethodName := ⟨RX14, "journey", "(I)I"⟩
def dkwX14_journey_0 : List UInt8 := [27, 4, 16, 60, 184, 0, 133, 154, 0, 5, 2, 172, 42, 180, 0, 13, 61, 42, 27, 181, 0, 13, 28, 172]
abbrev dktX14_journey_0 : List UInt8 := dkwX14_journey_0 ++ []
theorem dksX14_journey_0 : cX14_journey.data.toList.drop 0 = dktX14_journey_0 := by decide +kernel
theorem dX14_journey_0 : decode cX14_journey 0 = .ok (.iload_n 1, 1) := dk_27 (dk_at dksX14_journey_0 0 rfl rfl)
theorem dX14_journey_1 : decode cX14_journey 1 = .ok (.iconst 1, 1) := dk_4 (dk_at dksX14_journey_0 1 rfl rfl)
theorem dX14_journey_2 : decode cX14_journey 2 = .ok (.bipush 60, 2) := dk_16 60 (dk_at dksX14_journey_0 2 rfl rfl)
theorem dX14_journey_4 : decode cX14_journey 4 = .ok (.invokestatic 133, 3) := dk_184 0 133 (dk_at dksX14_journey_0 4 rfl rfl)
theorem dX14_journey_7 : decode cX14_journey 7 = .ok (.ifCond .ne 5, 3) := dk_154 0 5 (dk_at dksX14_journey_0 7 rfl rfl)
theorem dX14_journey_10 : decode cX14_journey 10 = .ok (.iconst (-1), 1) := dk_2 (dk_at dksX14_journey_0 10 rfl rfl)
theorem dX14_journey_11 : decode cX14_journey 11 = .ok (.ireturn, 1) := dk_172 (dk_at dksX14_journey_0 11 rfl rfl)
theorem dX14_journey_12 : decode cX14_journey 12 = .ok (.aload_n 0, 1) := dk_42 (dk_at dksX14_journey_0 12 rfl rfl)
theorem dX14_journey_13 : decode cX14_journey 13 = .ok (.getfield 13, 3) := dk_180 0 13 (dk_at dksX14_journey_0 13 rfl rfl)
theorem dX14_journey_16 : decode cX14_journey 16 = .ok (.istore_n 2, 1) := dk_61 (dk_at dksX14_journey_0 16 rfl rfl)
theorem dX14_journey_17 : decode cX14_journey 17 = .ok (.aload_n 0, 1) := dk_42 (dk_at dksX14_journey_0 17 rfl rfl)
theorem dX14_journey_18 : decode cX14_journey 18 = .ok (.iload_n 1, 1) := dk_27 (dk_at dksX14_journey_0 18 rfl rfl)
theorem dX14_journey_19 : decode cX14_journey 19 = .ok (.putfield 13, 3) := dk_181 0 13 (dk_at dksX14_journey_0 19 rfl rfl)
theorem dX14_journey_22 : decode cX14_journey 22 = .ok (.iload_n 2, 1) := dk_28 (dk_at dksX14_journey_0 22 rfl rfl)
theorem dX14_journey_23 : decode cX14_journey 23 = .ok (.ireturn, 1) := dk_172 (dk_at dksX14_journey_0 23 rfl rfl)
abbrev cX14_rate : ByteArray := prog_33_method_37_code
def yX14_rate : MethodName := ⟨RX14, "rate", "(I)I"⟩
def dkwX14_rate_2 : List UInt8 := [180, 0, 224, 184, 0, 237, 108, 172]
abbrev dktX14_rate_2 : List UInt8 := dkwX14_rate_2 ++ []
def dkwX14_rate_1 : List UInt8 := [182, 0, 234, 27, 154, 0, 10, 42, 180, 0, 221, 167, 0, 7, 42, 180, 0, 224, 42, 180, 0, 221, 42]
abbrev dktX14_rate_1 : List UInt8 := dkwX14_rate_1 ++ dktX14_rate_2
def dkwX14_rate_0 : List UInt8 := [27, 3, 4, 184, 0, 133, 154, 0, 5, 2, 172, 42, 180, 0, 130, 154, 0, 6, 16, 253, 172, 42]
abbrev dktX14_rate_0 : List UInt8 := dkwX14_rate_0 ++ dktX14_rate_1
theorem dksX14_rate_0 : cX14_rate.data.toList.drop 0 = dktX14_rate_0 := by decide +kernel
theorem dksX14_rate_1 : cX14_rate.data.toList.drop 22 = dktX14_rate_1 := dk_seg dksX14_rate_0 22 rfl rfl
theorem dksX14_rate_2 : cX14_rate.data.toList.drop 45 = dktX14_rate_2 := dk_seg dksX14_rate_1 23 rfl rfl
theorem dX14_rate_0 : decode cX14_rate 0 = .ok (.iload_n 1, 1) := dk_27 (dk_at dksX14_rate_0 0 rfl rfl)
theorem dX14_rate_1 : decode cX14_rate 1 = .ok (.iconst 0, 1) := dk_3 (dk_at dksX14_rate_0 1 rfl rfl)
theorem dX14_rate_2 : decode cX14_rate 2 = .ok (.iconst 1, 1) := dk_4 (dk_at dksX14_rate_0 2 rfl rfl)
theorem dX14_rate_3 : decode cX14_rate 3 = .ok (.invokestatic 133, 3) := dk_184 0 133 (dk_at dksX14_rate_0 3 rfl rfl)
theorem dX14_rate_6 : decode cX14_rate 6 = .ok (.ifCond .ne 5, 3) := dk_154 0 5 (dk_at dksX14_rate_0 6 rfl rfl)
theorem dX14_rate_9 : decode cX14_rate 9 = .ok (.iconst (-1), 1) := dk_2 (dk_at dksX14_rate_0 9 rfl rfl)
theorem dX14_rate_10 : decode cX14_rate 10 = .ok (.ireturn, 1) := dk_172 (dk_at dksX14_rate_0 10 rfl rfl)
theorem dX14_rate_11 : decode cX14_rate 11 = .ok (.aload_n 0, 1) := dk_42 (dk_at dksX14_rate_0 11 rfl rfl)
theorem dX14_rate_12 : decode cX14_rate 12 = .ok (.getfield 130, 3) := dk_180 0 130 (dk_at dksX14_rate_0 12 rfl rfl)
theorem dX14_rate_15 : decode cX14_rate 15 = .ok (.ifCond .ne 6, 3) := dk_154 0 6 (dk_at dksX14_rate_0 15 rfl rfl)
theorem dX14_rate_18 : decode cX14_rate 18 = .ok (.bipush (-3), 2) := dk_16 253 (dk_at dksX14_rate_0 18 rfl rfl)
theorem dX14_rate_20 : decode cX14_rate 20 = .ok (.ireturn, 1) := dk_172 (dk_at dksX14_rate_0 20 rfl rfl)
theorem dX14_rate_21 : decode cX14_rate 21 = .ok (.aload_n 0, 1) := dk_42 (dk_at dksX14_rate_0 21 rfl rfl)
theorem dX14_rate_22 : decode cX14_rate 22 = .ok (.invokevirtual 234, 3) := dk_182 0 234 (dk_at dksX14_rate_1 0 rfl rfl)
theorem dX14_rate_25 : decode cX14_rate 25 = .ok (.iload_n 1, 1) := dk_27 (dk_at dksX14_rate_1 3 rfl rfl)
theorem dX14_rate_26 : decode cX14_rate 26 = .ok (.ifCond .ne 10, 3) := dk_154 0 10 (dk_at dksX14_rate_1 4 rfl rfl)
theorem dX14_rate_29 : decode cX14_rate 29 = .ok (.aload_n 0, 1) := dk_42 (dk_at dksX14_rate_1 7 rfl rfl)
theorem dX14_rate_30 : decode cX14_rate 30 = .ok (.getfield 221, 3) := dk_180 0 221 (dk_at dksX14_rate_1 8 rfl rfl)
theorem dX14_rate_33 : decode cX14_rate 33 = .ok (.goto 7, 3) := dk_167 0 7 (dk_at dksX14_rate_1 11 rfl rfl)
theorem dX14_rate_36 : decode cX14_rate 36 = .ok (.aload_n 0, 1) := dk_42 (dk_at dksX14_rate_1 14 rfl rfl)
theorem dX14_rate_37 : decode cX14_rate 37 = .ok (.getfield 224, 3) := dk_180 0 224 (dk_at dksX14_rate_1 15 rfl rfl)
theorem dX14_rate_40 : decode cX14_rate 40 = .ok (.aload_n 0, 1) := dk_42 (dk_at dksX14_rate_1 18 rfl rfl)
theorem dX14_rate_41 : decode cX14_rate 41 = .ok (.getfield 221, 3) := dk_180 0 221 (dk_at dksX14_rate_1 19 rfl rfl)
theorem dX14_rate_44 : decode cX14_rate 44 = .ok (.aload_n 0, 1) := dk_42 (dk_at dksX14_rate_1 22 rfl rfl)
theorem dX14_rate_45 : decode cX14_rate 45 = .ok (.getfield 224, 3) := dk_180 0 224 (dk_at dksX14_rate_2 0 rfl rfl)
theorem dX14_rate_48 : decode cX14_rate 48 = .ok (.invokestatic 237, 3) := dk_184 0 237 (dk_at dksX14_rate_2 3 rfl rfl)
theorem dX14_rate_51 : decode cX14_rate 51 = .ok (.idiv, 1) := dk_108 (dk_at dksX14_rate_2 6 rfl rfl)
theorem dX14_rate_52 : decode cX14_rate 52 = .ok (.ireturn, 1) := dk_172 (dk_at dksX14_rate_2 7 rfl rfl)
abbrev cX14_findRound : ByteArray := prog_33_method_36_code
def yX14_findRound : MethodName := ⟨RX14, "findRound", "()V"⟩
def dkwX14_findRound_7 : List UInt8 := [60, 167, 255, 142, 177]
abbrev dktX14_findRound_7 : List UInt8 := dkwX14_findRound_7 ++ []
def dkwX14_findRound_6 : List UInt8 := [42, 180, 0, 63, 21, 4, 42, 180, 0, 60, 21, 4, 46, 79, 132, 4, 1, 167, 255, 233, 42, 182, 0, 230]
abbrev dktX14_findRound_6 : List UInt8 := dkwX14_findRound_6 ++ dktX14_findRound_7
def dkwX14_findRound_5 : List UInt8 := [29, 104, 164, 0, 42, 42, 28, 181, 0, 221, 42, 29, 181, 0, 224, 3, 54, 4, 21, 4, 7, 162, 0, 23]
abbrev dktX14_findRound_5 : List UInt8 := dkwX14_findRound_5 ++ dktX14_findRound_6
def dkwX14_findRound_4 : List UInt8 := [180, 0, 60, 21, 4, 46, 96, 62, 132, 4, 1, 167, 255, 218, 28, 42, 180, 0, 224, 104, 42, 180, 0, 221]
abbrev dktX14_findRound_4 : List UInt8 := dkwX14_findRound_4 ++ dktX14_findRound_5
def dkwX14_findRound_3 : List UInt8 := [180, 0, 130, 162, 0, 35, 28, 42, 21, 4, 42, 180, 0, 60, 21, 4, 46, 182, 0, 227, 96, 61, 29, 42]
abbrev dktX14_findRound_3 : List UInt8 := dkwX14_findRound_3 ++ dktX14_findRound_4
def dkwX14_findRound_2 : List UInt8 := [167, 0, 4, 3, 60, 27, 153, 0, 116, 3, 61, 42, 180, 0, 13, 62, 3, 54, 4, 21, 4, 42]
abbrev dktX14_findRound_2 : List UInt8 := dkwX14_findRound_2 ++ dktX14_findRound_3
def dkwX14_findRound_1 : List UInt8 := [167, 255, 234, 42, 3, 181, 0, 221, 42, 42, 180, 0, 13, 181, 0, 224, 42, 180, 0, 130, 158, 0, 7, 4]
abbrev dktX14_findRound_1 : List UInt8 := dkwX14_findRound_1 ++ dktX14_findRound_2
def dkwX14_findRound_0 : List UInt8 := [3, 60, 27, 7, 162, 0, 23, 42, 180, 0, 60, 27, 3, 79, 42, 180, 0, 63, 27, 3, 79, 132, 1, 1]
abbrev dktX14_findRound_0 : List UInt8 := dkwX14_findRound_0 ++ dktX14_findRound_1
theorem dksX14_findRound_0 : cX14_findRound.data.toList.drop 0 = dktX14_findRound_0 := by decide +kernel
theorem dksX14_findRound_1 : cX14_findRound.data.toList.drop 24 = dktX14_findRound_1 := dk_seg dksX14_findRound_0 24 rfl rfl
theorem dksX14_findRound_2 : cX14_findRound.data.toList.drop 48 = dktX14_findRound_2 := dk_seg dksX14_findRound_1 24 rfl rfl
theorem dksX14_findRound_3 : cX14_findRound.data.toList.drop 70 = dktX14_findRound_3 := dk_seg dksX14_findRound_2 22 rfl rfl
theorem dksX14_findRound_4 : cX14_findRound.data.toList.drop 94 = dktX14_findRound_4 := dk_seg dksX14_findRound_3 24 rfl rfl
theorem dksX14_findRound_5 : cX14_findRound.data.toList.drop 118 = dktX14_findRound_5 := dk_seg dksX14_findRound_4 24 rfl rfl
theorem dksX14_findRound_6 : cX14_findRound.data.toList.drop 142 = dktX14_findRound_6 := dk_seg dksX14_findRound_5 24 rfl rfl
theorem dksX14_findRound_7 : cX14_findRound.data.toList.drop 166 = dktX14_findRound_7 := dk_seg dksX14_findRound_6 24 rfl rfl
theorem dX14_findRound_0 : decode cX14_findRound 0 = .ok (.iconst 0, 1) := dk_3 (dk_at dksX14_findRound_0 0 rfl rfl)
theorem dX14_findRound_1 : decode cX14_findRound 1 = .ok (.istore_n 1, 1) := dk_60 (dk_at dksX14_findRound_0 1 rfl rfl)
theorem dX14_findRound_2 : decode cX14_findRound 2 = .ok (.iload_n 1, 1) := dk_27 (dk_at dksX14_findRound_0 2 rfl rfl)
theorem dX14_findRound_3 : decode cX14_findRound 3 = .ok (.iconst 4, 1) := dk_7 (dk_at dksX14_findRound_0 3 rfl rfl)
theorem dX14_findRound_4 : decode cX14_findRound 4 = .ok (.if_icmp .ge 23, 3) := dk_162 0 23 (dk_at dksX14_findRound_0 4 rfl rfl)
theorem dX14_findRound_7 : decode cX14_findRound 7 = .ok (.aload_n 0, 1) := dk_42 (dk_at dksX14_findRound_0 7 rfl rfl)
theorem dX14_findRound_8 : decode cX14_findRound 8 = .ok (.getfield 60, 3) := dk_180 0 60 (dk_at dksX14_findRound_0 8 rfl rfl)
theorem dX14_findRound_11 : decode cX14_findRound 11 = .ok (.iload_n 1, 1) := dk_27 (dk_at dksX14_findRound_0 11 rfl rfl)
theorem dX14_findRound_12 : decode cX14_findRound 12 = .ok (.iconst 0, 1) := dk_3 (dk_at dksX14_findRound_0 12 rfl rfl)
theorem dX14_findRound_13 : decode cX14_findRound 13 = .ok (.iastore, 1) := dk_79 (dk_at dksX14_findRound_0 13 rfl rfl)
theorem dX14_findRound_14 : decode cX14_findRound 14 = .ok (.aload_n 0, 1) := dk_42 (dk_at dksX14_findRound_0 14 rfl rfl)
theorem dX14_findRound_15 : decode cX14_findRound 15 = .ok (.getfield 63, 3) := dk_180 0 63 (dk_at dksX14_findRound_0 15 rfl rfl)
theorem dX14_findRound_18 : decode cX14_findRound 18 = .ok (.iload_n 1, 1) := dk_27 (dk_at dksX14_findRound_0 18 rfl rfl)
theorem dX14_findRound_19 : decode cX14_findRound 19 = .ok (.iconst 0, 1) := dk_3 (dk_at dksX14_findRound_0 19 rfl rfl)
theorem dX14_findRound_20 : decode cX14_findRound 20 = .ok (.iastore, 1) := dk_79 (dk_at dksX14_findRound_0 20 rfl rfl)
theorem dX14_findRound_21 : decode cX14_findRound 21 = .ok (.iinc 1 1, 3) := dk_132 1 1 (dk_at dksX14_findRound_0 21 rfl rfl)
theorem dX14_findRound_24 : decode cX14_findRound 24 = .ok (.goto (-22), 3) := dk_167 255 234 (dk_at dksX14_findRound_1 0 rfl rfl)
theorem dX14_findRound_27 : decode cX14_findRound 27 = .ok (.aload_n 0, 1) := dk_42 (dk_at dksX14_findRound_1 3 rfl rfl)
theorem dX14_findRound_28 : decode cX14_findRound 28 = .ok (.iconst 0, 1) := dk_3 (dk_at dksX14_findRound_1 4 rfl rfl)
theorem dX14_findRound_29 : decode cX14_findRound 29 = .ok (.putfield 221, 3) := dk_181 0 221 (dk_at dksX14_findRound_1 5 rfl rfl)
theorem dX14_findRound_32 : decode cX14_findRound 32 = .ok (.aload_n 0, 1) := dk_42 (dk_at dksX14_findRound_1 8 rfl rfl)
theorem dX14_findRound_33 : decode cX14_findRound 33 = .ok (.aload_n 0, 1) := dk_42 (dk_at dksX14_findRound_1 9 rfl rfl)
theorem dX14_findRound_34 : decode cX14_findRound 34 = .ok (.getfield 13, 3) := dk_180 0 13 (dk_at dksX14_findRound_1 10 rfl rfl)
theorem dX14_findRound_37 : decode cX14_findRound 37 = .ok (.putfield 224, 3) := dk_181 0 224 (dk_at dksX14_findRound_1 13 rfl rfl)
theorem dX14_findRound_40 : decode cX14_findRound 40 = .ok (.aload_n 0, 1) := dk_42 (dk_at dksX14_findRound_1 16 rfl rfl)
theorem dX14_findRound_41 : decode cX14_findRound 41 = .ok (.getfield 130, 3) := dk_180 0 130 (dk_at dksX14_findRound_1 17 rfl rfl)
theorem dX14_findRound_44 : decode cX14_findRound 44 = .ok (.ifCond .le 7, 3) := dk_158 0 7 (dk_at dksX14_findRound_1 20 rfl rfl)
theorem dX14_findRound_47 : decode cX14_findRound 47 = .ok (.iconst 1, 1) := dk_4 (dk_at dksX14_findRound_1 23 rfl rfl)
theorem dX14_findRound_48 : decode cX14_findRound 48 = .ok (.goto 4, 3) := dk_167 0 4 (dk_at dksX14_findRound_2 0 rfl rfl)
theorem dX14_findRound_51 : decode cX14_findRound 51 = .ok (.iconst 0, 1) := dk_3 (dk_at dksX14_findRound_2 3 rfl rfl)
theorem dX14_findRound_52 : decode cX14_findRound 52 = .ok (.istore_n 1, 1) := dk_60 (dk_at dksX14_findRound_2 4 rfl rfl)
theorem dX14_findRound_53 : decode cX14_findRound 53 = .ok (.iload_n 1, 1) := dk_27 (dk_at dksX14_findRound_2 5 rfl rfl)
theorem dX14_findRound_54 : decode cX14_findRound 54 = .ok (.ifCond .eq 116, 3) := dk_153 0 116 (dk_at dksX14_findRound_2 6 rfl rfl)
theorem dX14_findRound_57 : decode cX14_findRound 57 = .ok (.iconst 0, 1) := dk_3 (dk_at dksX14_findRound_2 9 rfl rfl)
theorem dX14_findRound_58 : decode cX14_findRound 58 = .ok (.istore_n 2, 1) := dk_61 (dk_at dksX14_findRound_2 10 rfl rfl)
theorem dX14_findRound_59 : decode cX14_findRound 59 = .ok (.aload_n 0, 1) := dk_42 (dk_at dksX14_findRound_2 11 rfl rfl)
theorem dX14_findRound_60 : decode cX14_findRound 60 = .ok (.getfield 13, 3) := dk_180 0 13 (dk_at dksX14_findRound_2 12 rfl rfl)
theorem dX14_findRound_63 : decode cX14_findRound 63 = .ok (.istore_n 3, 1) := dk_62 (dk_at dksX14_findRound_2 15 rfl rfl)
theorem dX14_findRound_64 : decode cX14_findRound 64 = .ok (.iconst 0, 1) := dk_3 (dk_at dksX14_findRound_2 16 rfl rfl)
theorem dX14_findRound_65 : decode cX14_findRound 65 = .ok (.istore 4, 2) := dk_54 4 (dk_at dksX14_findRound_2 17 rfl rfl)
theorem dX14_findRound_67 : decode cX14_findRound 67 = .ok (.iload 4, 2) := dk_21 4 (dk_at dksX14_findRound_2 19 rfl rfl)
theorem dX14_findRound_69 : decode cX14_findRound 69 = .ok (.aload_n 0, 1) := dk_42 (dk_at dksX14_findRound_2 21 rfl rfl)
theorem dX14_findRound_70 : decode cX14_findRound 70 = .ok (.getfield 130, 3) := dk_180 0 130 (dk_at dksX14_findRound_3 0 rfl rfl)
theorem dX14_findRound_73 : decode cX14_findRound 73 = .ok (.if_icmp .ge 35, 3) := dk_162 0 35 (dk_at dksX14_findRound_3 3 rfl rfl)
theorem dX14_findRound_76 : decode cX14_findRound 76 = .ok (.iload_n 2, 1) := dk_28 (dk_at dksX14_findRound_3 6 rfl rfl)
theorem dX14_findRound_77 : decode cX14_findRound 77 = .ok (.aload_n 0, 1) := dk_42 (dk_at dksX14_findRound_3 7 rfl rfl)
theorem dX14_findRound_78 : decode cX14_findRound 78 = .ok (.iload 4, 2) := dk_21 4 (dk_at dksX14_findRound_3 8 rfl rfl)
theorem dX14_findRound_80 : decode cX14_findRound 80 = .ok (.aload_n 0, 1) := dk_42 (dk_at dksX14_findRound_3 10 rfl rfl)
theorem dX14_findRound_81 : decode cX14_findRound 81 = .ok (.getfield 60, 3) := dk_180 0 60 (dk_at dksX14_findRound_3 11 rfl rfl)
theorem dX14_findRound_84 : decode cX14_findRound 84 = .ok (.iload 4, 2) := dk_21 4 (dk_at dksX14_findRound_3 14 rfl rfl)
theorem dX14_findRound_86 : decode cX14_findRound 86 = .ok (.iaload, 1) := dk_46 (dk_at dksX14_findRound_3 16 rfl rfl)
theorem dX14_findRound_87 : decode cX14_findRound 87 = .ok (.invokevirtual 227, 3) := dk_182 0 227 (dk_at dksX14_findRound_3 17 rfl rfl)
theorem dX14_findRound_90 : decode cX14_findRound 90 = .ok (.iadd, 1) := dk_96 (dk_at dksX14_findRound_3 20 rfl rfl)
theorem dX14_findRound_91 : decode cX14_findRound 91 = .ok (.istore_n 2, 1) := dk_61 (dk_at dksX14_findRound_3 21 rfl rfl)
theorem dX14_findRound_92 : decode cX14_findRound 92 = .ok (.iload_n 3, 1) := dk_29 (dk_at dksX14_findRound_3 22 rfl rfl)
theorem dX14_findRound_93 : decode cX14_findRound 93 = .ok (.aload_n 0, 1) := dk_42 (dk_at dksX14_findRound_3 23 rfl rfl)
theorem dX14_findRound_94 : decode cX14_findRound 94 = .ok (.getfield 60, 3) := dk_180 0 60 (dk_at dksX14_findRound_4 0 rfl rfl)
theorem dX14_findRound_97 : decode cX14_findRound 97 = .ok (.iload 4, 2) := dk_21 4 (dk_at dksX14_findRound_4 3 rfl rfl)
theorem dX14_findRound_99 : decode cX14_findRound 99 = .ok (.iaload, 1) := dk_46 (dk_at dksX14_findRound_4 5 rfl rfl)
theorem dX14_findRound_100 : decode cX14_findRound 100 = .ok (.iadd, 1) := dk_96 (dk_at dksX14_findRound_4 6 rfl rfl)
theorem dX14_findRound_101 : decode cX14_findRound 101 = .ok (.istore_n 3, 1) := dk_62 (dk_at dksX14_findRound_4 7 rfl rfl)
theorem dX14_findRound_102 : decode cX14_findRound 102 = .ok (.iinc 4 1, 3) := dk_132 4 1 (dk_at dksX14_findRound_4 8 rfl rfl)
theorem dX14_findRound_105 : decode cX14_findRound 105 = .ok (.goto (-38), 3) := dk_167 255 218 (dk_at dksX14_findRound_4 11 rfl rfl)
theorem dX14_findRound_108 : decode cX14_findRound 108 = .ok (.iload_n 2, 1) := dk_28 (dk_at dksX14_findRound_4 14 rfl rfl)
theorem dX14_findRound_109 : decode cX14_findRound 109 = .ok (.aload_n 0, 1) := dk_42 (dk_at dksX14_findRound_4 15 rfl rfl)
theorem dX14_findRound_110 : decode cX14_findRound 110 = .ok (.getfield 224, 3) := dk_180 0 224 (dk_at dksX14_findRound_4 16 rfl rfl)
theorem dX14_findRound_113 : decode cX14_findRound 113 = .ok (.imul, 1) := dk_104 (dk_at dksX14_findRound_4 19 rfl rfl)
theorem dX14_findRound_114 : decode cX14_findRound 114 = .ok (.aload_n 0, 1) := dk_42 (dk_at dksX14_findRound_4 20 rfl rfl)
theorem dX14_findRound_115 : decode cX14_findRound 115 = .ok (.getfield 221, 3) := dk_180 0 221 (dk_at dksX14_findRound_4 21 rfl rfl)
theorem dX14_findRound_118 : decode cX14_findRound 118 = .ok (.iload_n 3, 1) := dk_29 (dk_at dksX14_findRound_5 0 rfl rfl)
theorem dX14_findRound_119 : decode cX14_findRound 119 = .ok (.imul, 1) := dk_104 (dk_at dksX14_findRound_5 1 rfl rfl)
theorem dX14_findRound_120 : decode cX14_findRound 120 = .ok (.if_icmp .le 42, 3) := dk_164 0 42 (dk_at dksX14_findRound_5 2 rfl rfl)
theorem dX14_findRound_123 : decode cX14_findRound 123 = .ok (.aload_n 0, 1) := dk_42 (dk_at dksX14_findRound_5 5 rfl rfl)
theorem dX14_findRound_124 : decode cX14_findRound 124 = .ok (.iload_n 2, 1) := dk_28 (dk_at dksX14_findRound_5 6 rfl rfl)
theorem dX14_findRound_125 : decode cX14_findRound 125 = .ok (.putfield 221, 3) := dk_181 0 221 (dk_at dksX14_findRound_5 7 rfl rfl)
theorem dX14_findRound_128 : decode cX14_findRound 128 = .ok (.aload_n 0, 1) := dk_42 (dk_at dksX14_findRound_5 10 rfl rfl)
theorem dX14_findRound_129 : decode cX14_findRound 129 = .ok (.iload_n 3, 1) := dk_29 (dk_at dksX14_findRound_5 11 rfl rfl)
theorem dX14_findRound_130 : decode cX14_findRound 130 = .ok (.putfield 224, 3) := dk_181 0 224 (dk_at dksX14_findRound_5 12 rfl rfl)
theorem dX14_findRound_133 : decode cX14_findRound 133 = .ok (.iconst 0, 1) := dk_3 (dk_at dksX14_findRound_5 15 rfl rfl)
theorem dX14_findRound_134 : decode cX14_findRound 134 = .ok (.istore 4, 2) := dk_54 4 (dk_at dksX14_findRound_5 16 rfl rfl)
theorem dX14_findRound_136 : decode cX14_findRound 136 = .ok (.iload 4, 2) := dk_21 4 (dk_at dksX14_findRound_5 18 rfl rfl)
theorem dX14_findRound_138 : decode cX14_findRound 138 = .ok (.iconst 4, 1) := dk_7 (dk_at dksX14_findRound_5 20 rfl rfl)
theorem dX14_findRound_139 : decode cX14_findRound 139 = .ok (.if_icmp .ge 23, 3) := dk_162 0 23 (dk_at dksX14_findRound_5 21 rfl rfl)
theorem dX14_findRound_142 : decode cX14_findRound 142 = .ok (.aload_n 0, 1) := dk_42 (dk_at dksX14_findRound_6 0 rfl rfl)
theorem dX14_findRound_143 : decode cX14_findRound 143 = .ok (.getfield 63, 3) := dk_180 0 63 (dk_at dksX14_findRound_6 1 rfl rfl)
theorem dX14_findRound_146 : decode cX14_findRound 146 = .ok (.iload 4, 2) := dk_21 4 (dk_at dksX14_findRound_6 4 rfl rfl)
theorem dX14_findRound_148 : decode cX14_findRound 148 = .ok (.aload_n 0, 1) := dk_42 (dk_at dksX14_findRound_6 6 rfl rfl)
theorem dX14_findRound_149 : decode cX14_findRound 149 = .ok (.getfield 60, 3) := dk_180 0 60 (dk_at dksX14_findRound_6 7 rfl rfl)
theorem dX14_findRound_152 : decode cX14_findRound 152 = .ok (.iload 4, 2) := dk_21 4 (dk_at dksX14_findRound_6 10 rfl rfl)
theorem dX14_findRound_154 : decode cX14_findRound 154 = .ok (.iaload, 1) := dk_46 (dk_at dksX14_findRound_6 12 rfl rfl)
theorem dX14_findRound_155 : decode cX14_findRound 155 = .ok (.iastore, 1) := dk_79 (dk_at dksX14_findRound_6 13 rfl rfl)
theorem dX14_findRound_156 : decode cX14_findRound 156 = .ok (.iinc 4 1, 3) := dk_132 4 1 (dk_at dksX14_findRound_6 14 rfl rfl)
theorem dX14_findRound_159 : decode cX14_findRound 159 = .ok (.goto (-23), 3) := dk_167 255 233 (dk_at dksX14_findRound_6 17 rfl rfl)
theorem dX14_findRound_162 : decode cX14_findRound 162 = .ok (.aload_n 0, 1) := dk_42 (dk_at dksX14_findRound_6 20 rfl rfl)
theorem dX14_findRound_163 : decode cX14_findRound 163 = .ok (.invokevirtual 230, 3) := dk_182 0 230 (dk_at dksX14_findRound_6 21 rfl rfl)
theorem dX14_findRound_166 : decode cX14_findRound 166 = .ok (.istore_n 1, 1) := dk_60 (dk_at dksX14_findRound_7 0 rfl rfl)
theorem dX14_findRound_167 : decode cX14_findRound 167 = .ok (.goto (-114), 3) := dk_167 255 142 (dk_at dksX14_findRound_7 1 rfl rfl)
theorem dX14_findRound_170 : decode cX14_findRound 170 = .ok (.return_, 1) := dk_177 (dk_at dksX14_findRound_7 4 rfl rfl)
abbrev cX14_brings : ByteArray := prog_33_method_33_code
def yX14_brings : MethodName := ⟨RX14, "brings", "(II)I"⟩
def dkwX14_brings_1 : List UInt8 := [182, 0, 160, 96, 62, 132, 4, 1, 167, 255, 231, 29, 172]
abbrev dktX14_brings_1 : List UInt8 := dkwX14_brings_1 ++ []
def dkwX14_brings_0 : List UInt8 := [3, 62, 3, 54, 4, 21, 4, 28, 162, 0, 25, 29, 42, 27, 42, 27, 182, 0, 163, 21, 4, 100]
abbrev dktX14_brings_0 : List UInt8 := dkwX14_brings_0 ++ dktX14_brings_1
theorem dksX14_brings_0 : cX14_brings.data.toList.drop 0 = dktX14_brings_0 := by decide +kernel
theorem dksX14_brings_1 : cX14_brings.data.toList.drop 22 = dktX14_brings_1 := dk_seg dksX14_brings_0 22 rfl rfl
theorem dX14_brings_0 : decode cX14_brings 0 = .ok (.iconst 0, 1) := dk_3 (dk_at dksX14_brings_0 0 rfl rfl)
theorem dX14_brings_1 : decode cX14_brings 1 = .ok (.istore_n 3, 1) := dk_62 (dk_at dksX14_brings_0 1 rfl rfl)
theorem dX14_brings_2 : decode cX14_brings 2 = .ok (.iconst 0, 1) := dk_3 (dk_at dksX14_brings_0 2 rfl rfl)
theorem dX14_brings_3 : decode cX14_brings 3 = .ok (.istore 4, 2) := dk_54 4 (dk_at dksX14_brings_0 3 rfl rfl)
theorem dX14_brings_5 : decode cX14_brings 5 = .ok (.iload 4, 2) := dk_21 4 (dk_at dksX14_brings_0 5 rfl rfl)
theorem dX14_brings_7 : decode cX14_brings 7 = .ok (.iload_n 2, 1) := dk_28 (dk_at dksX14_brings_0 7 rfl rfl)
theorem dX14_brings_8 : decode cX14_brings 8 = .ok (.if_icmp .ge 25, 3) := dk_162 0 25 (dk_at dksX14_brings_0 8 rfl rfl)
theorem dX14_brings_11 : decode cX14_brings 11 = .ok (.iload_n 3, 1) := dk_29 (dk_at dksX14_brings_0 11 rfl rfl)
theorem dX14_brings_12 : decode cX14_brings 12 = .ok (.aload_n 0, 1) := dk_42 (dk_at dksX14_brings_0 12 rfl rfl)
theorem dX14_brings_13 : decode cX14_brings 13 = .ok (.iload_n 1, 1) := dk_27 (dk_at dksX14_brings_0 13 rfl rfl)
theorem dX14_brings_14 : decode cX14_brings 14 = .ok (.aload_n 0, 1) := dk_42 (dk_at dksX14_brings_0 14 rfl rfl)
theorem dX14_brings_15 : decode cX14_brings 15 = .ok (.iload_n 1, 1) := dk_27 (dk_at dksX14_brings_0 15 rfl rfl)
theorem dX14_brings_16 : decode cX14_brings 16 = .ok (.invokevirtual 163, 3) := dk_182 0 163 (dk_at dksX14_brings_0 16 rfl rfl)
theorem dX14_brings_19 : decode cX14_brings 19 = .ok (.iload 4, 2) := dk_21 4 (dk_at dksX14_brings_0 19 rfl rfl)
theorem dX14_brings_21 : decode cX14_brings 21 = .ok (.isub, 1) := dk_100 (dk_at dksX14_brings_0 21 rfl rfl)
theorem dX14_brings_22 : decode cX14_brings 22 = .ok (.invokevirtual 160, 3) := dk_182 0 160 (dk_at dksX14_brings_1 0 rfl rfl)
theorem dX14_brings_25 : decode cX14_brings 25 = .ok (.iadd, 1) := dk_96 (dk_at dksX14_brings_1 3 rfl rfl)
theorem dX14_brings_26 : decode cX14_brings 26 = .ok (.istore_n 3, 1) := dk_62 (dk_at dksX14_brings_1 4 rfl rfl)
theorem dX14_brings_27 : decode cX14_brings 27 = .ok (.iinc 4 1, 3) := dk_132 4 1 (dk_at dksX14_brings_1 5 rfl rfl)
theorem dX14_brings_30 : decode cX14_brings 30 = .ok (.goto (-25), 3) := dk_167 255 231 (dk_at dksX14_brings_1 8 rfl rfl)
theorem dX14_brings_33 : decode cX14_brings 33 = .ok (.iload_n 3, 1) := dk_29 (dk_at dksX14_brings_1 11 rfl rfl)
theorem dX14_brings_34 : decode cX14_brings 34 = .ok (.ireturn, 1) := dk_172 (dk_at dksX14_brings_1 12 rfl rfl)
abbrev cX14_goesOn : ByteArray := prog_33_method_35_code
def yX14_goesOn : MethodName := ⟨RX14, "goesOn", "()Z"⟩
def dkwX14_goesOn_2 : List UInt8 := [180, 0, 60, 27, 92, 46, 4, 96, 79, 4, 172]
abbrev dktX14_goesOn_2 : List UInt8 := dkwX14_goesOn_2 ++ []
def dkwX14_goesOn_1 : List UInt8 := [160, 0, 16, 42, 180, 0, 60, 27, 3, 79, 132, 1, 255, 167, 255, 228, 27, 156, 0, 5, 3, 172, 42]
abbrev dktX14_goesOn_1 : List UInt8 := dkwX14_goesOn_1 ++ dktX14_goesOn_2
def dkwX14_goesOn_0 : List UInt8 := [42, 180, 0, 130, 4, 100, 60, 27, 155, 0, 30, 42, 180, 0, 60, 27, 46, 42, 27, 182, 0, 163]
abbrev dktX14_goesOn_0 : List UInt8 := dkwX14_goesOn_0 ++ dktX14_goesOn_1
theorem dksX14_goesOn_0 : cX14_goesOn.data.toList.drop 0 = dktX14_goesOn_0 := by decide +kernel
theorem dksX14_goesOn_1 : cX14_goesOn.data.toList.drop 22 = dktX14_goesOn_1 := dk_seg dksX14_goesOn_0 22 rfl rfl
theorem dksX14_goesOn_2 : cX14_goesOn.data.toList.drop 45 = dktX14_goesOn_2 := dk_seg dksX14_goesOn_1 23 rfl rfl
theorem dX14_goesOn_0 : decode cX14_goesOn 0 = .ok (.aload_n 0, 1) := dk_42 (dk_at dksX14_goesOn_0 0 rfl rfl)
theorem dX14_goesOn_1 : decode cX14_goesOn 1 = .ok (.getfield 130, 3) := dk_180 0 130 (dk_at dksX14_goesOn_0 1 rfl rfl)
theorem dX14_goesOn_4 : decode cX14_goesOn 4 = .ok (.iconst 1, 1) := dk_4 (dk_at dksX14_goesOn_0 4 rfl rfl)
theorem dX14_goesOn_5 : decode cX14_goesOn 5 = .ok (.isub, 1) := dk_100 (dk_at dksX14_goesOn_0 5 rfl rfl)
theorem dX14_goesOn_6 : decode cX14_goesOn 6 = .ok (.istore_n 1, 1) := dk_60 (dk_at dksX14_goesOn_0 6 rfl rfl)
theorem dX14_goesOn_7 : decode cX14_goesOn 7 = .ok (.iload_n 1, 1) := dk_27 (dk_at dksX14_goesOn_0 7 rfl rfl)
theorem dX14_goesOn_8 : decode cX14_goesOn 8 = .ok (.ifCond .lt 30, 3) := dk_155 0 30 (dk_at dksX14_goesOn_0 8 rfl rfl)
theorem dX14_goesOn_11 : decode cX14_goesOn 11 = .ok (.aload_n 0, 1) := dk_42 (dk_at dksX14_goesOn_0 11 rfl rfl)
theorem dX14_goesOn_12 : decode cX14_goesOn 12 = .ok (.getfield 60, 3) := dk_180 0 60 (dk_at dksX14_goesOn_0 12 rfl rfl)
theorem dX14_goesOn_15 : decode cX14_goesOn 15 = .ok (.iload_n 1, 1) := dk_27 (dk_at dksX14_goesOn_0 15 rfl rfl)
theorem dX14_goesOn_16 : decode cX14_goesOn 16 = .ok (.iaload, 1) := dk_46 (dk_at dksX14_goesOn_0 16 rfl rfl)
theorem dX14_goesOn_17 : decode cX14_goesOn 17 = .ok (.aload_n 0, 1) := dk_42 (dk_at dksX14_goesOn_0 17 rfl rfl)
theorem dX14_goesOn_18 : decode cX14_goesOn 18 = .ok (.iload_n 1, 1) := dk_27 (dk_at dksX14_goesOn_0 18 rfl rfl)
theorem dX14_goesOn_19 : decode cX14_goesOn 19 = .ok (.invokevirtual 163, 3) := dk_182 0 163 (dk_at dksX14_goesOn_0 19 rfl rfl)
theorem dX14_goesOn_22 : decode cX14_goesOn 22 = .ok (.if_icmp .ne 16, 3) := dk_160 0 16 (dk_at dksX14_goesOn_1 0 rfl rfl)
theorem dX14_goesOn_25 : decode cX14_goesOn 25 = .ok (.aload_n 0, 1) := dk_42 (dk_at dksX14_goesOn_1 3 rfl rfl)
theorem dX14_goesOn_26 : decode cX14_goesOn 26 = .ok (.getfield 60, 3) := dk_180 0 60 (dk_at dksX14_goesOn_1 4 rfl rfl)
theorem dX14_goesOn_29 : decode cX14_goesOn 29 = .ok (.iload_n 1, 1) := dk_27 (dk_at dksX14_goesOn_1 7 rfl rfl)
theorem dX14_goesOn_30 : decode cX14_goesOn 30 = .ok (.iconst 0, 1) := dk_3 (dk_at dksX14_goesOn_1 8 rfl rfl)
theorem dX14_goesOn_31 : decode cX14_goesOn 31 = .ok (.iastore, 1) := dk_79 (dk_at dksX14_goesOn_1 9 rfl rfl)
theorem dX14_goesOn_32 : decode cX14_goesOn 32 = .ok (.iinc 1 (-1), 3) := dk_132 1 255 (dk_at dksX14_goesOn_1 10 rfl rfl)
theorem dX14_goesOn_35 : decode cX14_goesOn 35 = .ok (.goto (-28), 3) := dk_167 255 228 (dk_at dksX14_goesOn_1 13 rfl rfl)
theorem dX14_goesOn_38 : decode cX14_goesOn 38 = .ok (.iload_n 1, 1) := dk_27 (dk_at dksX14_goesOn_1 16 rfl rfl)
theorem dX14_goesOn_39 : decode cX14_goesOn 39 = .ok (.ifCond .ge 5, 3) := dk_156 0 5 (dk_at dksX14_goesOn_1 17 rfl rfl)
theorem dX14_goesOn_42 : decode cX14_goesOn 42 = .ok (.iconst 0, 1) := dk_3 (dk_at dksX14_goesOn_1 20 rfl rfl)
theorem dX14_goesOn_43 : decode cX14_goesOn 43 = .ok (.ireturn, 1) := dk_172 (dk_at dksX14_goesOn_1 21 rfl rfl)
theorem dX14_goesOn_44 : decode cX14_goesOn 44 = .ok (.aload_n 0, 1) := dk_42 (dk_at dksX14_goesOn_1 22 rfl rfl)
theorem dX14_goesOn_45 : decode cX14_goesOn 45 = .ok (.getfield 60, 3) := dk_180 0 60 (dk_at dksX14_goesOn_2 0 rfl rfl)
theorem dX14_goesOn_48 : decode cX14_goesOn 48 = .ok (.iload_n 1, 1) := dk_27 (dk_at dksX14_goesOn_2 3 rfl rfl)
theorem dX14_goesOn_49 : decode cX14_goesOn 49 = .ok (.dup2, 1) := dk_92 (dk_at dksX14_goesOn_2 4 rfl rfl)
theorem dX14_goesOn_50 : decode cX14_goesOn 50 = .ok (.iaload, 1) := dk_46 (dk_at dksX14_goesOn_2 5 rfl rfl)
theorem dX14_goesOn_51 : decode cX14_goesOn 51 = .ok (.iconst 1, 1) := dk_4 (dk_at dksX14_goesOn_2 6 rfl rfl)
theorem dX14_goesOn_52 : decode cX14_goesOn 52 = .ok (.iadd, 1) := dk_96 (dk_at dksX14_goesOn_2 7 rfl rfl)
theorem dX14_goesOn_53 : decode cX14_goesOn 53 = .ok (.iastore, 1) := dk_79 (dk_at dksX14_goesOn_2 8 rfl rfl)
theorem dX14_goesOn_54 : decode cX14_goesOn 54 = .ok (.iconst 1, 1) := dk_4 (dk_at dksX14_goesOn_2 9 rfl rfl)
theorem dX14_goesOn_55 : decode cX14_goesOn 55 = .ok (.ireturn, 1) := dk_172 (dk_at dksX14_goesOn_2 10 rfl rfl)
abbrev cX14_divisor : ByteArray := prog_33_method_34_code
def yX14_divisor : MethodName := ⟨RX14, "divisor", "(II)I"⟩
def dkwX14_divisor_0 : List UInt8 := [26, 61, 27, 62, 29, 153, 0, 16, 28, 29, 112, 54, 4, 29, 61, 21, 4, 62, 167, 255, 242, 28, 172]
abbrev dktX14_divisor_0 : List UInt8 := dkwX14_divisor_0 ++ []
theorem dksX14_divisor_0 : cX14_divisor.data.toList.drop 0 = dktX14_divisor_0 := by decide +kernel
theorem dX14_divisor_0 : decode cX14_divisor 0 = .ok (.iload_n 0, 1) := dk_26 (dk_at dksX14_divisor_0 0 rfl rfl)
theorem dX14_divisor_1 : decode cX14_divisor 1 = .ok (.istore_n 2, 1) := dk_61 (dk_at dksX14_divisor_0 1 rfl rfl)
theorem dX14_divisor_2 : decode cX14_divisor 2 = .ok (.iload_n 1, 1) := dk_27 (dk_at dksX14_divisor_0 2 rfl rfl)
theorem dX14_divisor_3 : decode cX14_divisor 3 = .ok (.istore_n 3, 1) := dk_62 (dk_at dksX14_divisor_0 3 rfl rfl)
theorem dX14_divisor_4 : decode cX14_divisor 4 = .ok (.iload_n 3, 1) := dk_29 (dk_at dksX14_divisor_0 4 rfl rfl)
theorem dX14_divisor_5 : decode cX14_divisor 5 = .ok (.ifCond .eq 16, 3) := dk_153 0 16 (dk_at dksX14_divisor_0 5 rfl rfl)
theorem dX14_divisor_8 : decode cX14_divisor 8 = .ok (.iload_n 2, 1) := dk_28 (dk_at dksX14_divisor_0 8 rfl rfl)
theorem dX14_divisor_9 : decode cX14_divisor 9 = .ok (.iload_n 3, 1) := dk_29 (dk_at dksX14_divisor_0 9 rfl rfl)
theorem dX14_divisor_10 : decode cX14_divisor 10 = .ok (.irem, 1) := dk_112 (dk_at dksX14_divisor_0 10 rfl rfl)
theorem dX14_divisor_11 : decode cX14_divisor 11 = .ok (.istore 4, 2) := dk_54 4 (dk_at dksX14_divisor_0 11 rfl rfl)
theorem dX14_divisor_13 : decode cX14_divisor 13 = .ok (.iload_n 3, 1) := dk_29 (dk_at dksX14_divisor_0 13 rfl rfl)
theorem dX14_divisor_14 : decode cX14_divisor 14 = .ok (.istore_n 2, 1) := dk_61 (dk_at dksX14_divisor_0 14 rfl rfl)
theorem dX14_divisor_15 : decode cX14_divisor 15 = .ok (.iload 4, 2) := dk_21 4 (dk_at dksX14_divisor_0 15 rfl rfl)
theorem dX14_divisor_17 : decode cX14_divisor 17 = .ok (.istore_n 3, 1) := dk_62 (dk_at dksX14_divisor_0 17 rfl rfl)
theorem dX14_divisor_18 : decode cX14_divisor 18 = .ok (.goto (-14), 3) := dk_167 255 242 (dk_at dksX14_divisor_0 18 rfl rfl)
theorem dX14_divisor_21 : decode cX14_divisor 21 = .ok (.iload_n 2, 1) := dk_28 (dk_at dksX14_divisor_0 21 rfl rfl)
theorem dX14_divisor_22 : decode cX14_divisor 22 = .ok (.ireturn, 1) := dk_172 (dk_at dksX14_divisor_0 22 rfl rfl)
abbrev cX14_stay : ByteArray := prog_33_method_38_code
def yX14_stay : MethodName := ⟨RX14, "stay", "(I)I"⟩
def dkwX14_stay_0 : List UInt8 := [42, 27, 182, 0, 148, 154, 0, 5, 2, 172, 42, 182, 0, 234, 42, 180, 0, 63, 27, 46, 172]
abbrev dktX14_stay_0 : List UInt8 := dkwX14_stay_0 ++ []
theorem dksX14_stay_0 : cX14_stay.data.toList.drop 0 = dktX14_stay_0 := by decide +kernel
theorem dX14_stay_0 : decode cX14_stay 0 = .ok (.aload_n 0, 1) := dk_42 (dk_at dksX14_stay_0 0 rfl rfl)
theorem dX14_stay_1 : decode cX14_stay 1 = .ok (.iload_n 1, 1) := dk_27 (dk_at dksX14_stay_0 1 rfl rfl)
theorem dX14_stay_2 : decode cX14_stay 2 = .ok (.invokevirtual 148, 3) := dk_182 0 148 (dk_at dksX14_stay_0 2 rfl rfl)
theorem dX14_stay_5 : decode cX14_stay 5 = .ok (.ifCond .ne 5, 3) := dk_154 0 5 (dk_at dksX14_stay_0 5 rfl rfl)
theorem dX14_stay_8 : decode cX14_stay 8 = .ok (.iconst (-1), 1) := dk_2 (dk_at dksX14_stay_0 8 rfl rfl)
theorem dX14_stay_9 : decode cX14_stay 9 = .ok (.ireturn, 1) := dk_172 (dk_at dksX14_stay_0 9 rfl rfl)
theorem dX14_stay_10 : decode cX14_stay 10 = .ok (.aload_n 0, 1) := dk_42 (dk_at dksX14_stay_0 10 rfl rfl)
theorem dX14_stay_11 : decode cX14_stay 11 = .ok (.invokevirtual 234, 3) := dk_182 0 234 (dk_at dksX14_stay_0 11 rfl rfl)
theorem dX14_stay_14 : decode cX14_stay 14 = .ok (.aload_n 0, 1) := dk_42 (dk_at dksX14_stay_0 14 rfl rfl)
theorem dX14_stay_15 : decode cX14_stay 15 = .ok (.getfield 63, 3) := dk_180 0 63 (dk_at dksX14_stay_0 15 rfl rfl)
theorem dX14_stay_18 : decode cX14_stay 18 = .ok (.iload_n 1, 1) := dk_27 (dk_at dksX14_stay_0 18 rfl rfl)
theorem dX14_stay_19 : decode cX14_stay 19 = .ok (.iaload, 1) := dk_46 (dk_at dksX14_stay_0 19 rfl rfl)
theorem dX14_stay_20 : decode cX14_stay 20 = .ok (.ireturn, 1) := dk_172 (dk_at dksX14_stay_0 20 rfl rfl)
abbrev cX14_load : ByteArray := prog_33_method_39_code
def yX14_load : MethodName := ⟨RX14, "load", "(III)I"⟩
def dkwX14_load_5 : List UInt8 := [160, 0, 8, 21, 5, 167, 0, 5, 21, 6, 21, 5, 21, 6, 184, 0, 237, 108, 172]
abbrev dktX14_load_5 : List UInt8 := dkwX14_load_5 ++ []
def dkwX14_load_4 : List UInt8 := [182, 0, 227, 54, 5, 21, 4, 5, 28, 104, 96, 54, 6, 29, 154, 0, 8, 21, 4, 167, 0, 23, 29, 4]
abbrev dktX14_load_4 : List UInt8 := dkwX14_load_4 ++ dktX14_load_5
def dkwX14_load_3 : List UInt8 := [96, 104, 164, 0, 8, 21, 5, 167, 0, 5, 21, 4, 54, 4, 132, 5, 1, 167, 255, 203, 42, 27, 21, 4]
abbrev dktX14_load_3 : List UInt8 := dkwX14_load_3 ++ dktX14_load_4
def dkwX14_load_2 : List UInt8 := [21, 5, 182, 0, 227, 21, 4, 5, 28, 104, 96, 104, 42, 27, 21, 4, 182, 0, 227, 21, 5, 5, 28, 104]
abbrev dktX14_load_2 : List UInt8 := dkwX14_load_2 ++ dktX14_load_3
def dkwX14_load_1 : List UInt8 := [154, 0, 5, 2, 172, 4, 54, 4, 5, 54, 5, 21, 5, 42, 27, 182, 0, 163, 163, 0, 49, 42, 27]
abbrev dktX14_load_1 : List UInt8 := dkwX14_load_1 ++ dktX14_load_2
def dkwX14_load_0 : List UInt8 := [42, 27, 182, 0, 148, 153, 0, 22, 28, 4, 16, 30, 184, 0, 133, 153, 0, 12, 29, 3, 5, 184, 0, 133]
abbrev dktX14_load_0 : List UInt8 := dkwX14_load_0 ++ dktX14_load_1
theorem dksX14_load_0 : cX14_load.data.toList.drop 0 = dktX14_load_0 := by decide +kernel
theorem dksX14_load_1 : cX14_load.data.toList.drop 24 = dktX14_load_1 := dk_seg dksX14_load_0 24 rfl rfl
theorem dksX14_load_2 : cX14_load.data.toList.drop 47 = dktX14_load_2 := dk_seg dksX14_load_1 23 rfl rfl
theorem dksX14_load_3 : cX14_load.data.toList.drop 71 = dktX14_load_3 := dk_seg dksX14_load_2 24 rfl rfl
theorem dksX14_load_4 : cX14_load.data.toList.drop 95 = dktX14_load_4 := dk_seg dksX14_load_3 24 rfl rfl
theorem dksX14_load_5 : cX14_load.data.toList.drop 119 = dktX14_load_5 := dk_seg dksX14_load_4 24 rfl rfl
theorem dX14_load_0 : decode cX14_load 0 = .ok (.aload_n 0, 1) := dk_42 (dk_at dksX14_load_0 0 rfl rfl)
theorem dX14_load_1 : decode cX14_load 1 = .ok (.iload_n 1, 1) := dk_27 (dk_at dksX14_load_0 1 rfl rfl)
theorem dX14_load_2 : decode cX14_load 2 = .ok (.invokevirtual 148, 3) := dk_182 0 148 (dk_at dksX14_load_0 2 rfl rfl)
theorem dX14_load_5 : decode cX14_load 5 = .ok (.ifCond .eq 22, 3) := dk_153 0 22 (dk_at dksX14_load_0 5 rfl rfl)
theorem dX14_load_8 : decode cX14_load 8 = .ok (.iload_n 2, 1) := dk_28 (dk_at dksX14_load_0 8 rfl rfl)
theorem dX14_load_9 : decode cX14_load 9 = .ok (.iconst 1, 1) := dk_4 (dk_at dksX14_load_0 9 rfl rfl)
theorem dX14_load_10 : decode cX14_load 10 = .ok (.bipush 30, 2) := dk_16 30 (dk_at dksX14_load_0 10 rfl rfl)
theorem dX14_load_12 : decode cX14_load 12 = .ok (.invokestatic 133, 3) := dk_184 0 133 (dk_at dksX14_load_0 12 rfl rfl)
theorem dX14_load_15 : decode cX14_load 15 = .ok (.ifCond .eq 12, 3) := dk_153 0 12 (dk_at dksX14_load_0 15 rfl rfl)
theorem dX14_load_18 : decode cX14_load 18 = .ok (.iload_n 3, 1) := dk_29 (dk_at dksX14_load_0 18 rfl rfl)
theorem dX14_load_19 : decode cX14_load 19 = .ok (.iconst 0, 1) := dk_3 (dk_at dksX14_load_0 19 rfl rfl)
theorem dX14_load_20 : decode cX14_load 20 = .ok (.iconst 2, 1) := dk_5 (dk_at dksX14_load_0 20 rfl rfl)
theorem dX14_load_21 : decode cX14_load 21 = .ok (.invokestatic 133, 3) := dk_184 0 133 (dk_at dksX14_load_0 21 rfl rfl)
theorem dX14_load_24 : decode cX14_load 24 = .ok (.ifCond .ne 5, 3) := dk_154 0 5 (dk_at dksX14_load_1 0 rfl rfl)
theorem dX14_load_27 : decode cX14_load 27 = .ok (.iconst (-1), 1) := dk_2 (dk_at dksX14_load_1 3 rfl rfl)
theorem dX14_load_28 : decode cX14_load 28 = .ok (.ireturn, 1) := dk_172 (dk_at dksX14_load_1 4 rfl rfl)
theorem dX14_load_29 : decode cX14_load 29 = .ok (.iconst 1, 1) := dk_4 (dk_at dksX14_load_1 5 rfl rfl)
theorem dX14_load_30 : decode cX14_load 30 = .ok (.istore 4, 2) := dk_54 4 (dk_at dksX14_load_1 6 rfl rfl)
theorem dX14_load_32 : decode cX14_load 32 = .ok (.iconst 2, 1) := dk_5 (dk_at dksX14_load_1 8 rfl rfl)
theorem dX14_load_33 : decode cX14_load 33 = .ok (.istore 5, 2) := dk_54 5 (dk_at dksX14_load_1 9 rfl rfl)
theorem dX14_load_35 : decode cX14_load 35 = .ok (.iload 5, 2) := dk_21 5 (dk_at dksX14_load_1 11 rfl rfl)
theorem dX14_load_37 : decode cX14_load 37 = .ok (.aload_n 0, 1) := dk_42 (dk_at dksX14_load_1 13 rfl rfl)
theorem dX14_load_38 : decode cX14_load 38 = .ok (.iload_n 1, 1) := dk_27 (dk_at dksX14_load_1 14 rfl rfl)
theorem dX14_load_39 : decode cX14_load 39 = .ok (.invokevirtual 163, 3) := dk_182 0 163 (dk_at dksX14_load_1 15 rfl rfl)
theorem dX14_load_42 : decode cX14_load 42 = .ok (.if_icmp .gt 49, 3) := dk_163 0 49 (dk_at dksX14_load_1 18 rfl rfl)
theorem dX14_load_45 : decode cX14_load 45 = .ok (.aload_n 0, 1) := dk_42 (dk_at dksX14_load_1 21 rfl rfl)
theorem dX14_load_46 : decode cX14_load 46 = .ok (.iload_n 1, 1) := dk_27 (dk_at dksX14_load_1 22 rfl rfl)
theorem dX14_load_47 : decode cX14_load 47 = .ok (.iload 5, 2) := dk_21 5 (dk_at dksX14_load_2 0 rfl rfl)
theorem dX14_load_49 : decode cX14_load 49 = .ok (.invokevirtual 227, 3) := dk_182 0 227 (dk_at dksX14_load_2 2 rfl rfl)
theorem dX14_load_52 : decode cX14_load 52 = .ok (.iload 4, 2) := dk_21 4 (dk_at dksX14_load_2 5 rfl rfl)
theorem dX14_load_54 : decode cX14_load 54 = .ok (.iconst 2, 1) := dk_5 (dk_at dksX14_load_2 7 rfl rfl)
theorem dX14_load_55 : decode cX14_load 55 = .ok (.iload_n 2, 1) := dk_28 (dk_at dksX14_load_2 8 rfl rfl)
theorem dX14_load_56 : decode cX14_load 56 = .ok (.imul, 1) := dk_104 (dk_at dksX14_load_2 9 rfl rfl)
theorem dX14_load_57 : decode cX14_load 57 = .ok (.iadd, 1) := dk_96 (dk_at dksX14_load_2 10 rfl rfl)
theorem dX14_load_58 : decode cX14_load 58 = .ok (.imul, 1) := dk_104 (dk_at dksX14_load_2 11 rfl rfl)
theorem dX14_load_59 : decode cX14_load 59 = .ok (.aload_n 0, 1) := dk_42 (dk_at dksX14_load_2 12 rfl rfl)
theorem dX14_load_60 : decode cX14_load 60 = .ok (.iload_n 1, 1) := dk_27 (dk_at dksX14_load_2 13 rfl rfl)
theorem dX14_load_61 : decode cX14_load 61 = .ok (.iload 4, 2) := dk_21 4 (dk_at dksX14_load_2 14 rfl rfl)
theorem dX14_load_63 : decode cX14_load 63 = .ok (.invokevirtual 227, 3) := dk_182 0 227 (dk_at dksX14_load_2 16 rfl rfl)
theorem dX14_load_66 : decode cX14_load 66 = .ok (.iload 5, 2) := dk_21 5 (dk_at dksX14_load_2 19 rfl rfl)
theorem dX14_load_68 : decode cX14_load 68 = .ok (.iconst 2, 1) := dk_5 (dk_at dksX14_load_2 21 rfl rfl)
theorem dX14_load_69 : decode cX14_load 69 = .ok (.iload_n 2, 1) := dk_28 (dk_at dksX14_load_2 22 rfl rfl)
theorem dX14_load_70 : decode cX14_load 70 = .ok (.imul, 1) := dk_104 (dk_at dksX14_load_2 23 rfl rfl)
theorem dX14_load_71 : decode cX14_load 71 = .ok (.iadd, 1) := dk_96 (dk_at dksX14_load_3 0 rfl rfl)
theorem dX14_load_72 : decode cX14_load 72 = .ok (.imul, 1) := dk_104 (dk_at dksX14_load_3 1 rfl rfl)
theorem dX14_load_73 : decode cX14_load 73 = .ok (.if_icmp .le 8, 3) := dk_164 0 8 (dk_at dksX14_load_3 2 rfl rfl)
theorem dX14_load_76 : decode cX14_load 76 = .ok (.iload 5, 2) := dk_21 5 (dk_at dksX14_load_3 5 rfl rfl)
theorem dX14_load_78 : decode cX14_load 78 = .ok (.goto 5, 3) := dk_167 0 5 (dk_at dksX14_load_3 7 rfl rfl)
theorem dX14_load_81 : decode cX14_load 81 = .ok (.iload 4, 2) := dk_21 4 (dk_at dksX14_load_3 10 rfl rfl)
theorem dX14_load_83 : decode cX14_load 83 = .ok (.istore 4, 2) := dk_54 4 (dk_at dksX14_load_3 12 rfl rfl)
theorem dX14_load_85 : decode cX14_load 85 = .ok (.iinc 5 1, 3) := dk_132 5 1 (dk_at dksX14_load_3 14 rfl rfl)
theorem dX14_load_88 : decode cX14_load 88 = .ok (.goto (-53), 3) := dk_167 255 203 (dk_at dksX14_load_3 17 rfl rfl)
theorem dX14_load_91 : decode cX14_load 91 = .ok (.aload_n 0, 1) := dk_42 (dk_at dksX14_load_3 20 rfl rfl)
theorem dX14_load_92 : decode cX14_load 92 = .ok (.iload_n 1, 1) := dk_27 (dk_at dksX14_load_3 21 rfl rfl)
theorem dX14_load_93 : decode cX14_load 93 = .ok (.iload 4, 2) := dk_21 4 (dk_at dksX14_load_3 22 rfl rfl)
theorem dX14_load_95 : decode cX14_load 95 = .ok (.invokevirtual 227, 3) := dk_182 0 227 (dk_at dksX14_load_4 0 rfl rfl)
theorem dX14_load_98 : decode cX14_load 98 = .ok (.istore 5, 2) := dk_54 5 (dk_at dksX14_load_4 3 rfl rfl)
theorem dX14_load_100 : decode cX14_load 100 = .ok (.iload 4, 2) := dk_21 4 (dk_at dksX14_load_4 5 rfl rfl)
theorem dX14_load_102 : decode cX14_load 102 = .ok (.iconst 2, 1) := dk_5 (dk_at dksX14_load_4 7 rfl rfl)
theorem dX14_load_103 : decode cX14_load 103 = .ok (.iload_n 2, 1) := dk_28 (dk_at dksX14_load_4 8 rfl rfl)
theorem dX14_load_104 : decode cX14_load 104 = .ok (.imul, 1) := dk_104 (dk_at dksX14_load_4 9 rfl rfl)
theorem dX14_load_105 : decode cX14_load 105 = .ok (.iadd, 1) := dk_96 (dk_at dksX14_load_4 10 rfl rfl)
theorem dX14_load_106 : decode cX14_load 106 = .ok (.istore 6, 2) := dk_54 6 (dk_at dksX14_load_4 11 rfl rfl)
theorem dX14_load_108 : decode cX14_load 108 = .ok (.iload_n 3, 1) := dk_29 (dk_at dksX14_load_4 13 rfl rfl)
theorem dX14_load_109 : decode cX14_load 109 = .ok (.ifCond .ne 8, 3) := dk_154 0 8 (dk_at dksX14_load_4 14 rfl rfl)
theorem dX14_load_112 : decode cX14_load 112 = .ok (.iload 4, 2) := dk_21 4 (dk_at dksX14_load_4 17 rfl rfl)
theorem dX14_load_114 : decode cX14_load 114 = .ok (.goto 23, 3) := dk_167 0 23 (dk_at dksX14_load_4 19 rfl rfl)
theorem dX14_load_117 : decode cX14_load 117 = .ok (.iload_n 3, 1) := dk_29 (dk_at dksX14_load_4 22 rfl rfl)
theorem dX14_load_118 : decode cX14_load 118 = .ok (.iconst 1, 1) := dk_4 (dk_at dksX14_load_4 23 rfl rfl)
theorem dX14_load_119 : decode cX14_load 119 = .ok (.if_icmp .ne 8, 3) := dk_160 0 8 (dk_at dksX14_load_5 0 rfl rfl)
theorem dX14_load_122 : decode cX14_load 122 = .ok (.iload 5, 2) := dk_21 5 (dk_at dksX14_load_5 3 rfl rfl)
theorem dX14_load_124 : decode cX14_load 124 = .ok (.goto 5, 3) := dk_167 0 5 (dk_at dksX14_load_5 5 rfl rfl)
theorem dX14_load_127 : decode cX14_load 127 = .ok (.iload 6, 2) := dk_21 6 (dk_at dksX14_load_5 8 rfl rfl)
theorem dX14_load_129 : decode cX14_load 129 = .ok (.iload 5, 2) := dk_21 5 (dk_at dksX14_load_5 10 rfl rfl)
theorem dX14_load_131 : decode cX14_load 131 = .ok (.iload 6, 2) := dk_21 6 (dk_at dksX14_load_5 12 rfl rfl)
theorem dX14_load_133 : decode cX14_load 133 = .ok (.invokestatic 237, 3) := dk_184 0 237 (dk_at dksX14_load_5 14 rfl rfl)
theorem dX14_load_136 : decode cX14_load 136 = .ok (.idiv, 1) := dk_108 (dk_at dksX14_load_5 17 rfl rfl)
theorem dX14_load_137 : decode cX14_load 137 = .ok (.ireturn, 1) := dk_172 (dk_at dksX14_load_5 18 rfl rfl)
abbrev cX14_risk : ByteArray := prog_33_method_40_code
def yX14_risk : MethodName := ⟨RX14, "risk", "(I)I"⟩
def dkwX14_risk_7 : List UInt8 := [180, 0, 242, 4, 96, 181, 0, 242, 42, 2, 181, 0, 70, 42, 180, 0, 242, 4, 100, 172]
abbrev dktX14_risk_7 : List UInt8 := dkwX14_risk_7 ++ []
def dkwX14_risk_6 : List UInt8 := [96, 42, 180, 0, 109, 16, 40, 27, 104, 21, 4, 96, 47, 136, 79, 132, 4, 1, 167, 255, 218, 42, 89]
abbrev dktX14_risk_6 : List UInt8 := dkwX14_risk_6 ++ dktX14_risk_7
def dkwX14_risk_5 : List UInt8 := [172, 3, 54, 4, 21, 4, 16, 10, 162, 0, 37, 42, 180, 0, 26, 16, 10, 42, 180, 0, 242, 104, 21, 4]
abbrev dktX14_risk_5 : List UInt8 := dkwX14_risk_5 ++ dktX14_risk_6
def dkwX14_risk_4 : List UInt8 := [62, 132, 4, 1, 167, 255, 200, 29, 154, 0, 6, 16, 252, 172, 42, 180, 0, 242, 7, 160, 0, 6, 16, 254]
abbrev dktX14_risk_4 : List UInt8 := dkwX14_risk_4 ++ dktX14_risk_5
def dkwX14_risk_3 : List UInt8 := [42, 180, 0, 109, 16, 40, 27, 104, 21, 4, 96, 47, 20, 0, 240, 148, 157, 0, 7, 4, 167, 0, 4, 3]
abbrev dktX14_risk_3 : List UInt8 := dkwX14_risk_3 ++ dktX14_risk_4
def dkwX14_risk_2 : List UInt8 := [162, 0, 55, 29, 153, 0, 43, 42, 180, 0, 109, 16, 40, 27, 104, 21, 4, 96, 47, 9, 148, 155, 0, 26]
abbrev dktX14_risk_2 : List UInt8 := dkwX14_risk_2 ++ dktX14_risk_3
def dkwX14_risk_1 : List UInt8 := [180, 0, 106, 27, 46, 16, 10, 160, 0, 7, 4, 167, 0, 4, 3, 62, 3, 54, 4, 21, 4, 16, 10]
abbrev dktX14_risk_1 : List UInt8 := dkwX14_risk_1 ++ dktX14_risk_2
def dkwX14_risk_0 : List UInt8 := [27, 184, 0, 152, 154, 0, 5, 2, 172, 42, 27, 4, 182, 0, 155, 61, 28, 153, 0, 5, 28, 172, 42]
abbrev dktX14_risk_0 : List UInt8 := dkwX14_risk_0 ++ dktX14_risk_1
theorem dksX14_risk_0 : cX14_risk.data.toList.drop 0 = dktX14_risk_0 := by decide +kernel
theorem dksX14_risk_1 : cX14_risk.data.toList.drop 23 = dktX14_risk_1 := dk_seg dksX14_risk_0 23 rfl rfl
theorem dksX14_risk_2 : cX14_risk.data.toList.drop 46 = dktX14_risk_2 := dk_seg dksX14_risk_1 23 rfl rfl
theorem dksX14_risk_3 : cX14_risk.data.toList.drop 70 = dktX14_risk_3 := dk_seg dksX14_risk_2 24 rfl rfl
theorem dksX14_risk_4 : cX14_risk.data.toList.drop 94 = dktX14_risk_4 := dk_seg dksX14_risk_3 24 rfl rfl
theorem dksX14_risk_5 : cX14_risk.data.toList.drop 118 = dktX14_risk_5 := dk_seg dksX14_risk_4 24 rfl rfl
theorem dksX14_risk_6 : cX14_risk.data.toList.drop 142 = dktX14_risk_6 := dk_seg dksX14_risk_5 24 rfl rfl
theorem dksX14_risk_7 : cX14_risk.data.toList.drop 165 = dktX14_risk_7 := dk_seg dksX14_risk_6 23 rfl rfl
theorem dX14_risk_0 : decode cX14_risk 0 = .ok (.iload_n 1, 1) := dk_27 (dk_at dksX14_risk_0 0 rfl rfl)
theorem dX14_risk_1 : decode cX14_risk 1 = .ok (.invokestatic 152, 3) := dk_184 0 152 (dk_at dksX14_risk_0 1 rfl rfl)
theorem dX14_risk_4 : decode cX14_risk 4 = .ok (.ifCond .ne 5, 3) := dk_154 0 5 (dk_at dksX14_risk_0 4 rfl rfl)
theorem dX14_risk_7 : decode cX14_risk 7 = .ok (.iconst (-1), 1) := dk_2 (dk_at dksX14_risk_0 7 rfl rfl)
theorem dX14_risk_8 : decode cX14_risk 8 = .ok (.ireturn, 1) := dk_172 (dk_at dksX14_risk_0 8 rfl rfl)
theorem dX14_risk_9 : decode cX14_risk 9 = .ok (.aload_n 0, 1) := dk_42 (dk_at dksX14_risk_0 9 rfl rfl)
theorem dX14_risk_10 : decode cX14_risk 10 = .ok (.iload_n 1, 1) := dk_27 (dk_at dksX14_risk_0 10 rfl rfl)
theorem dX14_risk_11 : decode cX14_risk 11 = .ok (.iconst 1, 1) := dk_4 (dk_at dksX14_risk_0 11 rfl rfl)
theorem dX14_risk_12 : decode cX14_risk 12 = .ok (.invokevirtual 155, 3) := dk_182 0 155 (dk_at dksX14_risk_0 12 rfl rfl)
theorem dX14_risk_15 : decode cX14_risk 15 = .ok (.istore_n 2, 1) := dk_61 (dk_at dksX14_risk_0 15 rfl rfl)
theorem dX14_risk_16 : decode cX14_risk 16 = .ok (.iload_n 2, 1) := dk_28 (dk_at dksX14_risk_0 16 rfl rfl)
theorem dX14_risk_17 : decode cX14_risk 17 = .ok (.ifCond .eq 5, 3) := dk_153 0 5 (dk_at dksX14_risk_0 17 rfl rfl)
theorem dX14_risk_20 : decode cX14_risk 20 = .ok (.iload_n 2, 1) := dk_28 (dk_at dksX14_risk_0 20 rfl rfl)
theorem dX14_risk_21 : decode cX14_risk 21 = .ok (.ireturn, 1) := dk_172 (dk_at dksX14_risk_0 21 rfl rfl)
theorem dX14_risk_22 : decode cX14_risk 22 = .ok (.aload_n 0, 1) := dk_42 (dk_at dksX14_risk_0 22 rfl rfl)
theorem dX14_risk_23 : decode cX14_risk 23 = .ok (.getfield 106, 3) := dk_180 0 106 (dk_at dksX14_risk_1 0 rfl rfl)
theorem dX14_risk_26 : decode cX14_risk 26 = .ok (.iload_n 1, 1) := dk_27 (dk_at dksX14_risk_1 3 rfl rfl)
theorem dX14_risk_27 : decode cX14_risk 27 = .ok (.iaload, 1) := dk_46 (dk_at dksX14_risk_1 4 rfl rfl)
theorem dX14_risk_28 : decode cX14_risk 28 = .ok (.bipush 10, 2) := dk_16 10 (dk_at dksX14_risk_1 5 rfl rfl)
theorem dX14_risk_30 : decode cX14_risk 30 = .ok (.if_icmp .ne 7, 3) := dk_160 0 7 (dk_at dksX14_risk_1 7 rfl rfl)
theorem dX14_risk_33 : decode cX14_risk 33 = .ok (.iconst 1, 1) := dk_4 (dk_at dksX14_risk_1 10 rfl rfl)
theorem dX14_risk_34 : decode cX14_risk 34 = .ok (.goto 4, 3) := dk_167 0 4 (dk_at dksX14_risk_1 11 rfl rfl)
theorem dX14_risk_37 : decode cX14_risk 37 = .ok (.iconst 0, 1) := dk_3 (dk_at dksX14_risk_1 14 rfl rfl)
theorem dX14_risk_38 : decode cX14_risk 38 = .ok (.istore_n 3, 1) := dk_62 (dk_at dksX14_risk_1 15 rfl rfl)
theorem dX14_risk_39 : decode cX14_risk 39 = .ok (.iconst 0, 1) := dk_3 (dk_at dksX14_risk_1 16 rfl rfl)
theorem dX14_risk_40 : decode cX14_risk 40 = .ok (.istore 4, 2) := dk_54 4 (dk_at dksX14_risk_1 17 rfl rfl)
theorem dX14_risk_42 : decode cX14_risk 42 = .ok (.iload 4, 2) := dk_21 4 (dk_at dksX14_risk_1 19 rfl rfl)
theorem dX14_risk_44 : decode cX14_risk 44 = .ok (.bipush 10, 2) := dk_16 10 (dk_at dksX14_risk_1 21 rfl rfl)
theorem dX14_risk_46 : decode cX14_risk 46 = .ok (.if_icmp .ge 55, 3) := dk_162 0 55 (dk_at dksX14_risk_2 0 rfl rfl)
theorem dX14_risk_49 : decode cX14_risk 49 = .ok (.iload_n 3, 1) := dk_29 (dk_at dksX14_risk_2 3 rfl rfl)
theorem dX14_risk_50 : decode cX14_risk 50 = .ok (.ifCond .eq 43, 3) := dk_153 0 43 (dk_at dksX14_risk_2 4 rfl rfl)
theorem dX14_risk_53 : decode cX14_risk 53 = .ok (.aload_n 0, 1) := dk_42 (dk_at dksX14_risk_2 7 rfl rfl)
theorem dX14_risk_54 : decode cX14_risk 54 = .ok (.getfield 109, 3) := dk_180 0 109 (dk_at dksX14_risk_2 8 rfl rfl)
theorem dX14_risk_57 : decode cX14_risk 57 = .ok (.bipush 40, 2) := dk_16 40 (dk_at dksX14_risk_2 11 rfl rfl)
theorem dX14_risk_59 : decode cX14_risk 59 = .ok (.iload_n 1, 1) := dk_27 (dk_at dksX14_risk_2 13 rfl rfl)
theorem dX14_risk_60 : decode cX14_risk 60 = .ok (.imul, 1) := dk_104 (dk_at dksX14_risk_2 14 rfl rfl)
theorem dX14_risk_61 : decode cX14_risk 61 = .ok (.iload 4, 2) := dk_21 4 (dk_at dksX14_risk_2 15 rfl rfl)
theorem dX14_risk_63 : decode cX14_risk 63 = .ok (.iadd, 1) := dk_96 (dk_at dksX14_risk_2 17 rfl rfl)
theorem dX14_risk_64 : decode cX14_risk 64 = .ok (.laload, 1) := dk_47 (dk_at dksX14_risk_2 18 rfl rfl)
theorem dX14_risk_65 : decode cX14_risk 65 = .ok (.lconst 0, 1) := dk_9 (dk_at dksX14_risk_2 19 rfl rfl)
theorem dX14_risk_66 : decode cX14_risk 66 = .ok (.lcmp, 1) := dk_148 (dk_at dksX14_risk_2 20 rfl rfl)
theorem dX14_risk_67 : decode cX14_risk 67 = .ok (.ifCond .lt 26, 3) := dk_155 0 26 (dk_at dksX14_risk_2 21 rfl rfl)
theorem dX14_risk_70 : decode cX14_risk 70 = .ok (.aload_n 0, 1) := dk_42 (dk_at dksX14_risk_3 0 rfl rfl)
theorem dX14_risk_71 : decode cX14_risk 71 = .ok (.getfield 109, 3) := dk_180 0 109 (dk_at dksX14_risk_3 1 rfl rfl)
theorem dX14_risk_74 : decode cX14_risk 74 = .ok (.bipush 40, 2) := dk_16 40 (dk_at dksX14_risk_3 4 rfl rfl)
theorem dX14_risk_76 : decode cX14_risk 76 = .ok (.iload_n 1, 1) := dk_27 (dk_at dksX14_risk_3 6 rfl rfl)
theorem dX14_risk_77 : decode cX14_risk 77 = .ok (.imul, 1) := dk_104 (dk_at dksX14_risk_3 7 rfl rfl)
theorem dX14_risk_78 : decode cX14_risk 78 = .ok (.iload 4, 2) := dk_21 4 (dk_at dksX14_risk_3 8 rfl rfl)
theorem dX14_risk_80 : decode cX14_risk 80 = .ok (.iadd, 1) := dk_96 (dk_at dksX14_risk_3 10 rfl rfl)
theorem dX14_risk_81 : decode cX14_risk 81 = .ok (.laload, 1) := dk_47 (dk_at dksX14_risk_3 11 rfl rfl)
theorem dX14_risk_82 : decode cX14_risk 82 = .ok (.ldc2_w 240, 3) := dk_20 0 240 (dk_at dksX14_risk_3 12 rfl rfl)
theorem dX14_risk_85 : decode cX14_risk 85 = .ok (.lcmp, 1) := dk_148 (dk_at dksX14_risk_3 15 rfl rfl)
theorem dX14_risk_86 : decode cX14_risk 86 = .ok (.ifCond .gt 7, 3) := dk_157 0 7 (dk_at dksX14_risk_3 16 rfl rfl)
theorem dX14_risk_89 : decode cX14_risk 89 = .ok (.iconst 1, 1) := dk_4 (dk_at dksX14_risk_3 19 rfl rfl)
theorem dX14_risk_90 : decode cX14_risk 90 = .ok (.goto 4, 3) := dk_167 0 4 (dk_at dksX14_risk_3 20 rfl rfl)
theorem dX14_risk_93 : decode cX14_risk 93 = .ok (.iconst 0, 1) := dk_3 (dk_at dksX14_risk_3 23 rfl rfl)
theorem dX14_risk_94 : decode cX14_risk 94 = .ok (.istore_n 3, 1) := dk_62 (dk_at dksX14_risk_4 0 rfl rfl)
theorem dX14_risk_95 : decode cX14_risk 95 = .ok (.iinc 4 1, 3) := dk_132 4 1 (dk_at dksX14_risk_4 1 rfl rfl)
theorem dX14_risk_98 : decode cX14_risk 98 = .ok (.goto (-56), 3) := dk_167 255 200 (dk_at dksX14_risk_4 4 rfl rfl)
theorem dX14_risk_101 : decode cX14_risk 101 = .ok (.iload_n 3, 1) := dk_29 (dk_at dksX14_risk_4 7 rfl rfl)
theorem dX14_risk_102 : decode cX14_risk 102 = .ok (.ifCond .ne 6, 3) := dk_154 0 6 (dk_at dksX14_risk_4 8 rfl rfl)
theorem dX14_risk_105 : decode cX14_risk 105 = .ok (.bipush (-4), 2) := dk_16 252 (dk_at dksX14_risk_4 11 rfl rfl)
theorem dX14_risk_107 : decode cX14_risk 107 = .ok (.ireturn, 1) := dk_172 (dk_at dksX14_risk_4 13 rfl rfl)
theorem dX14_risk_108 : decode cX14_risk 108 = .ok (.aload_n 0, 1) := dk_42 (dk_at dksX14_risk_4 14 rfl rfl)
theorem dX14_risk_109 : decode cX14_risk 109 = .ok (.getfield 242, 3) := dk_180 0 242 (dk_at dksX14_risk_4 15 rfl rfl)
theorem dX14_risk_112 : decode cX14_risk 112 = .ok (.iconst 4, 1) := dk_7 (dk_at dksX14_risk_4 18 rfl rfl)
theorem dX14_risk_113 : decode cX14_risk 113 = .ok (.if_icmp .ne 6, 3) := dk_160 0 6 (dk_at dksX14_risk_4 19 rfl rfl)
theorem dX14_risk_116 : decode cX14_risk 116 = .ok (.bipush (-2), 2) := dk_16 254 (dk_at dksX14_risk_4 22 rfl rfl)
theorem dX14_risk_118 : decode cX14_risk 118 = .ok (.ireturn, 1) := dk_172 (dk_at dksX14_risk_5 0 rfl rfl)
theorem dX14_risk_119 : decode cX14_risk 119 = .ok (.iconst 0, 1) := dk_3 (dk_at dksX14_risk_5 1 rfl rfl)
theorem dX14_risk_120 : decode cX14_risk 120 = .ok (.istore 4, 2) := dk_54 4 (dk_at dksX14_risk_5 2 rfl rfl)
theorem dX14_risk_122 : decode cX14_risk 122 = .ok (.iload 4, 2) := dk_21 4 (dk_at dksX14_risk_5 4 rfl rfl)
theorem dX14_risk_124 : decode cX14_risk 124 = .ok (.bipush 10, 2) := dk_16 10 (dk_at dksX14_risk_5 6 rfl rfl)
theorem dX14_risk_126 : decode cX14_risk 126 = .ok (.if_icmp .ge 37, 3) := dk_162 0 37 (dk_at dksX14_risk_5 8 rfl rfl)
theorem dX14_risk_129 : decode cX14_risk 129 = .ok (.aload_n 0, 1) := dk_42 (dk_at dksX14_risk_5 11 rfl rfl)
theorem dX14_risk_130 : decode cX14_risk 130 = .ok (.getfield 26, 3) := dk_180 0 26 (dk_at dksX14_risk_5 12 rfl rfl)
theorem dX14_risk_133 : decode cX14_risk 133 = .ok (.bipush 10, 2) := dk_16 10 (dk_at dksX14_risk_5 15 rfl rfl)
theorem dX14_risk_135 : decode cX14_risk 135 = .ok (.aload_n 0, 1) := dk_42 (dk_at dksX14_risk_5 17 rfl rfl)
theorem dX14_risk_136 : decode cX14_risk 136 = .ok (.getfield 242, 3) := dk_180 0 242 (dk_at dksX14_risk_5 18 rfl rfl)
theorem dX14_risk_139 : decode cX14_risk 139 = .ok (.imul, 1) := dk_104 (dk_at dksX14_risk_5 21 rfl rfl)
theorem dX14_risk_140 : decode cX14_risk 140 = .ok (.iload 4, 2) := dk_21 4 (dk_at dksX14_risk_5 22 rfl rfl)
theorem dX14_risk_142 : decode cX14_risk 142 = .ok (.iadd, 1) := dk_96 (dk_at dksX14_risk_6 0 rfl rfl)
theorem dX14_risk_143 : decode cX14_risk 143 = .ok (.aload_n 0, 1) := dk_42 (dk_at dksX14_risk_6 1 rfl rfl)
theorem dX14_risk_144 : decode cX14_risk 144 = .ok (.getfield 109, 3) := dk_180 0 109 (dk_at dksX14_risk_6 2 rfl rfl)
theorem dX14_risk_147 : decode cX14_risk 147 = .ok (.bipush 40, 2) := dk_16 40 (dk_at dksX14_risk_6 5 rfl rfl)
theorem dX14_risk_149 : decode cX14_risk 149 = .ok (.iload_n 1, 1) := dk_27 (dk_at dksX14_risk_6 7 rfl rfl)
theorem dX14_risk_150 : decode cX14_risk 150 = .ok (.imul, 1) := dk_104 (dk_at dksX14_risk_6 8 rfl rfl)
theorem dX14_risk_151 : decode cX14_risk 151 = .ok (.iload 4, 2) := dk_21 4 (dk_at dksX14_risk_6 9 rfl rfl)
theorem dX14_risk_153 : decode cX14_risk 153 = .ok (.iadd, 1) := dk_96 (dk_at dksX14_risk_6 11 rfl rfl)
theorem dX14_risk_154 : decode cX14_risk 154 = .ok (.laload, 1) := dk_47 (dk_at dksX14_risk_6 12 rfl rfl)
theorem dX14_risk_155 : decode cX14_risk 155 = .ok (.l2i, 1) := dk_136 (dk_at dksX14_risk_6 13 rfl rfl)
theorem dX14_risk_156 : decode cX14_risk 156 = .ok (.iastore, 1) := dk_79 (dk_at dksX14_risk_6 14 rfl rfl)
theorem dX14_risk_157 : decode cX14_risk 157 = .ok (.iinc 4 1, 3) := dk_132 4 1 (dk_at dksX14_risk_6 15 rfl rfl)
theorem dX14_risk_160 : decode cX14_risk 160 = .ok (.goto (-38), 3) := dk_167 255 218 (dk_at dksX14_risk_6 18 rfl rfl)
theorem dX14_risk_163 : decode cX14_risk 163 = .ok (.aload_n 0, 1) := dk_42 (dk_at dksX14_risk_6 21 rfl rfl)
theorem dX14_risk_164 : decode cX14_risk 164 = .ok (.dup, 1) := dk_89 (dk_at dksX14_risk_6 22 rfl rfl)
theorem dX14_risk_165 : decode cX14_risk 165 = .ok (.getfield 242, 3) := dk_180 0 242 (dk_at dksX14_risk_7 0 rfl rfl)
theorem dX14_risk_168 : decode cX14_risk 168 = .ok (.iconst 1, 1) := dk_4 (dk_at dksX14_risk_7 3 rfl rfl)
theorem dX14_risk_169 : decode cX14_risk 169 = .ok (.iadd, 1) := dk_96 (dk_at dksX14_risk_7 4 rfl rfl)
theorem dX14_risk_170 : decode cX14_risk 170 = .ok (.putfield 242, 3) := dk_181 0 242 (dk_at dksX14_risk_7 5 rfl rfl)
theorem dX14_risk_173 : decode cX14_risk 173 = .ok (.aload_n 0, 1) := dk_42 (dk_at dksX14_risk_7 8 rfl rfl)
theorem dX14_risk_174 : decode cX14_risk 174 = .ok (.iconst (-1), 1) := dk_2 (dk_at dksX14_risk_7 9 rfl rfl)
theorem dX14_risk_175 : decode cX14_risk 175 = .ok (.putfield 70, 3) := dk_181 0 70 (dk_at dksX14_risk_7 10 rfl rfl)
theorem dX14_risk_178 : decode cX14_risk 178 = .ok (.aload_n 0, 1) := dk_42 (dk_at dksX14_risk_7 13 rfl rfl)
theorem dX14_risk_179 : decode cX14_risk 179 = .ok (.getfield 242, 3) := dk_180 0 242 (dk_at dksX14_risk_7 14 rfl rfl)
theorem dX14_risk_182 : decode cX14_risk 182 = .ok (.iconst 1, 1) := dk_4 (dk_at dksX14_risk_7 17 rfl rfl)
theorem dX14_risk_183 : decode cX14_risk 183 = .ok (.isub, 1) := dk_100 (dk_at dksX14_risk_7 18 rfl rfl)
theorem dX14_risk_184 : decode cX14_risk 184 = .ok (.ireturn, 1) := dk_172 (dk_at dksX14_risk_7 19 rfl rfl)
abbrev cX14_dare : ByteArray := prog_33_method_45_code
def yX14_dare : MethodName := ⟨RX14, "dare", "(II)J"⟩
def dkwX14_dare_1 : List UInt8 := [28, 104, 27, 96, 47, 173]
abbrev dktX14_dare_1 : List UInt8 := dkwX14_dare_1 ++ []
def dkwX14_dare_0 : List UInt8 := [27, 28, 184, 0, 255, 154, 0, 7, 20, 1, 3, 173, 42, 28, 182, 1, 5, 42, 180, 0, 66, 17, 0, 241]
abbrev dktX14_dare_0 : List UInt8 := dkwX14_dare_0 ++ dktX14_dare_1
theorem dksX14_dare_0 : cX14_dare.data.toList.drop 0 = dktX14_dare_0 := by decide +kernel
theorem dksX14_dare_1 : cX14_dare.data.toList.drop 24 = dktX14_dare_1 := dk_seg dksX14_dare_0 24 rfl rfl
theorem dX14_dare_0 : decode cX14_dare 0 = .ok (.iload_n 1, 1) := dk_27 (dk_at dksX14_dare_0 0 rfl rfl)
theorem dX14_dare_1 : decode cX14_dare 1 = .ok (.iload_n 2, 1) := dk_28 (dk_at dksX14_dare_0 1 rfl rfl)
theorem dX14_dare_2 : decode cX14_dare 2 = .ok (.invokestatic 255, 3) := dk_184 0 255 (dk_at dksX14_dare_0 2 rfl rfl)
theorem dX14_dare_5 : decode cX14_dare 5 = .ok (.ifCond .ne 7, 3) := dk_154 0 7 (dk_at dksX14_dare_0 5 rfl rfl)
theorem dX14_dare_8 : decode cX14_dare 8 = .ok (.ldc2_w 259, 3) := dk_20 1 3 (dk_at dksX14_dare_0 8 rfl rfl)
theorem dX14_dare_11 : decode cX14_dare 11 = .ok (.lreturn, 1) := dk_173 (dk_at dksX14_dare_0 11 rfl rfl)
theorem dX14_dare_12 : decode cX14_dare 12 = .ok (.aload_n 0, 1) := dk_42 (dk_at dksX14_dare_0 12 rfl rfl)
theorem dX14_dare_13 : decode cX14_dare 13 = .ok (.iload_n 2, 1) := dk_28 (dk_at dksX14_dare_0 13 rfl rfl)
theorem dX14_dare_14 : decode cX14_dare 14 = .ok (.invokevirtual 261, 3) := dk_182 1 5 (dk_at dksX14_dare_0 14 rfl rfl)
theorem dX14_dare_17 : decode cX14_dare 17 = .ok (.aload_n 0, 1) := dk_42 (dk_at dksX14_dare_0 17 rfl rfl)
theorem dX14_dare_18 : decode cX14_dare 18 = .ok (.getfield 66, 3) := dk_180 0 66 (dk_at dksX14_dare_0 18 rfl rfl)
theorem dX14_dare_21 : decode cX14_dare 21 = .ok (.sipush 241, 3) := dk_17 0 241 (dk_at dksX14_dare_0 21 rfl rfl)
theorem dX14_dare_24 : decode cX14_dare 24 = .ok (.iload_n 2, 1) := dk_28 (dk_at dksX14_dare_1 0 rfl rfl)
theorem dX14_dare_25 : decode cX14_dare 25 = .ok (.imul, 1) := dk_104 (dk_at dksX14_dare_1 1 rfl rfl)
theorem dX14_dare_26 : decode cX14_dare 26 = .ok (.iload_n 1, 1) := dk_27 (dk_at dksX14_dare_1 2 rfl rfl)
theorem dX14_dare_27 : decode cX14_dare 27 = .ok (.iadd, 1) := dk_96 (dk_at dksX14_dare_1 3 rfl rfl)
theorem dX14_dare_28 : decode cX14_dare 28 = .ok (.laload, 1) := dk_47 (dk_at dksX14_dare_1 4 rfl rfl)
theorem dX14_dare_29 : decode cX14_dare 29 = .ok (.lreturn, 1) := dk_173 (dk_at dksX14_dare_1 5 rfl rfl)
abbrev cX14_isDare : ByteArray := prog_33_method_44_code
def yX14_isDare : MethodName := ⟨RX14, "isDare", "(II)Z"⟩
def dkwX14_isDare_1 : List UInt8 := [167, 0, 4, 3, 172]
abbrev dktX14_isDare_1 : List UInt8 := dkwX14_isDare_1 ++ []
def dkwX14_isDare_0 : List UInt8 := [26, 3, 17, 0, 240, 184, 0, 133, 153, 0, 17, 27, 3, 16, 12, 184, 0, 133, 153, 0, 7, 4]
abbrev dktX14_isDare_0 : List UInt8 := dkwX14_isDare_0 ++ dktX14_isDare_1
theorem dksX14_isDare_0 : cX14_isDare.data.toList.drop 0 = dktX14_isDare_0 := by decide +kernel
theorem dksX14_isDare_1 : cX14_isDare.data.toList.drop 22 = dktX14_isDare_1 := dk_seg dksX14_isDare_0 22 rfl rfl
theorem dX14_isDare_0 : decode cX14_isDare 0 = .ok (.iload_n 0, 1) := dk_26 (dk_at dksX14_isDare_0 0 rfl rfl)
theorem dX14_isDare_1 : decode cX14_isDare 1 = .ok (.iconst 0, 1) := dk_3 (dk_at dksX14_isDare_0 1 rfl rfl)
theorem dX14_isDare_2 : decode cX14_isDare 2 = .ok (.sipush 240, 3) := dk_17 0 240 (dk_at dksX14_isDare_0 2 rfl rfl)
theorem dX14_isDare_5 : decode cX14_isDare 5 = .ok (.invokestatic 133, 3) := dk_184 0 133 (dk_at dksX14_isDare_0 5 rfl rfl)
theorem dX14_isDare_8 : decode cX14_isDare 8 = .ok (.ifCond .eq 17, 3) := dk_153 0 17 (dk_at dksX14_isDare_0 8 rfl rfl)
theorem dX14_isDare_11 : decode cX14_isDare 11 = .ok (.iload_n 1, 1) := dk_27 (dk_at dksX14_isDare_0 11 rfl rfl)
theorem dX14_isDare_12 : decode cX14_isDare 12 = .ok (.iconst 0, 1) := dk_3 (dk_at dksX14_isDare_0 12 rfl rfl)
theorem dX14_isDare_13 : decode cX14_isDare 13 = .ok (.bipush 12, 2) := dk_16 12 (dk_at dksX14_isDare_0 13 rfl rfl)
theorem dX14_isDare_15 : decode cX14_isDare 15 = .ok (.invokestatic 133, 3) := dk_184 0 133 (dk_at dksX14_isDare_0 15 rfl rfl)
theorem dX14_isDare_18 : decode cX14_isDare 18 = .ok (.ifCond .eq 7, 3) := dk_153 0 7 (dk_at dksX14_isDare_0 18 rfl rfl)
theorem dX14_isDare_21 : decode cX14_isDare 21 = .ok (.iconst 1, 1) := dk_4 (dk_at dksX14_isDare_0 21 rfl rfl)
theorem dX14_isDare_22 : decode cX14_isDare 22 = .ok (.goto 4, 3) := dk_167 0 4 (dk_at dksX14_isDare_1 0 rfl rfl)
theorem dX14_isDare_25 : decode cX14_isDare 25 = .ok (.iconst 0, 1) := dk_3 (dk_at dksX14_isDare_1 3 rfl rfl)
theorem dX14_isDare_26 : decode cX14_isDare 26 = .ok (.ireturn, 1) := dk_172 (dk_at dksX14_isDare_1 4 rfl rfl)
abbrev cX14_findDares : ByteArray := prog_33_method_43_code
def yX14_findDares : MethodName := ⟨RX14, "findDares", "(I)V"⟩
def dkwX14_findDares_5 : List UInt8 := [132, 2, 1, 167, 255, 158, 167, 255, 135, 177]
abbrev dktX14_findDares_5 : List UInt8 := dkwX14_findDares_5 ++ []
def dkwX14_findDares_4 : List UInt8 := [132, 5, 1, 167, 255, 206, 42, 180, 0, 66, 17, 0, 241, 42, 180, 0, 70, 104, 28, 96, 33, 80]
abbrev dktX14_findDares_4 : List UInt8 := dkwX14_findDares_4 ++ dktX14_findDares_5
def dkwX14_findDares_3 : List UInt8 := [180, 0, 70, 182, 0, 251, 55, 6, 22, 6, 33, 148, 158, 0, 8, 22, 6, 167, 0, 4, 33, 66]
abbrev dktX14_findDares_3 : List UInt8 := dkwX14_findDares_3 ++ dktX14_findDares_4
def dkwX14_findDares_2 : List UInt8 := [42, 180, 0, 242, 162, 0, 47, 42, 180, 0, 70, 158, 0, 40, 28, 158, 0, 36, 42, 21, 5, 28, 42]
abbrev dktX14_findDares_2 : List UInt8 := dkwX14_findDares_2 ++ dktX14_findDares_3
def dkwX14_findDares_1 : List UInt8 := [163, 0, 97, 28, 154, 0, 13, 42, 180, 0, 70, 184, 0, 247, 167, 0, 4, 9, 66, 3, 54, 5, 21, 5]
abbrev dktX14_findDares_1 : List UInt8 := dkwX14_findDares_1 ++ dktX14_findDares_2
def dkwX14_findDares_0 : List UInt8 := [42, 180, 0, 70, 27, 162, 0, 119, 42, 89, 180, 0, 70, 4, 96, 181, 0, 70, 3, 61, 28, 17, 0, 240]
abbrev dktX14_findDares_0 : List UInt8 := dkwX14_findDares_0 ++ dktX14_findDares_1
theorem dksX14_findDares_0 : cX14_findDares.data.toList.drop 0 = dktX14_findDares_0 := by decide +kernel
theorem dksX14_findDares_1 : cX14_findDares.data.toList.drop 24 = dktX14_findDares_1 := dk_seg dksX14_findDares_0 24 rfl rfl
theorem dksX14_findDares_2 : cX14_findDares.data.toList.drop 48 = dktX14_findDares_2 := dk_seg dksX14_findDares_1 24 rfl rfl
theorem dksX14_findDares_3 : cX14_findDares.data.toList.drop 71 = dktX14_findDares_3 := dk_seg dksX14_findDares_2 23 rfl rfl
theorem dksX14_findDares_4 : cX14_findDares.data.toList.drop 93 = dktX14_findDares_4 := dk_seg dksX14_findDares_3 22 rfl rfl
theorem dksX14_findDares_5 : cX14_findDares.data.toList.drop 115 = dktX14_findDares_5 := dk_seg dksX14_findDares_4 22 rfl rfl
theorem dX14_findDares_0 : decode cX14_findDares 0 = .ok (.aload_n 0, 1) := dk_42 (dk_at dksX14_findDares_0 0 rfl rfl)
theorem dX14_findDares_1 : decode cX14_findDares 1 = .ok (.getfield 70, 3) := dk_180 0 70 (dk_at dksX14_findDares_0 1 rfl rfl)
theorem dX14_findDares_4 : decode cX14_findDares 4 = .ok (.iload_n 1, 1) := dk_27 (dk_at dksX14_findDares_0 4 rfl rfl)
theorem dX14_findDares_5 : decode cX14_findDares 5 = .ok (.if_icmp .ge 119, 3) := dk_162 0 119 (dk_at dksX14_findDares_0 5 rfl rfl)
theorem dX14_findDares_8 : decode cX14_findDares 8 = .ok (.aload_n 0, 1) := dk_42 (dk_at dksX14_findDares_0 8 rfl rfl)
theorem dX14_findDares_9 : decode cX14_findDares 9 = .ok (.dup, 1) := dk_89 (dk_at dksX14_findDares_0 9 rfl rfl)
theorem dX14_findDares_10 : decode cX14_findDares 10 = .ok (.getfield 70, 3) := dk_180 0 70 (dk_at dksX14_findDares_0 10 rfl rfl)
theorem dX14_findDares_13 : decode cX14_findDares 13 = .ok (.iconst 1, 1) := dk_4 (dk_at dksX14_findDares_0 13 rfl rfl)
theorem dX14_findDares_14 : decode cX14_findDares 14 = .ok (.iadd, 1) := dk_96 (dk_at dksX14_findDares_0 14 rfl rfl)
theorem dX14_findDares_15 : decode cX14_findDares 15 = .ok (.putfield 70, 3) := dk_181 0 70 (dk_at dksX14_findDares_0 15 rfl rfl)
theorem dX14_findDares_18 : decode cX14_findDares 18 = .ok (.iconst 0, 1) := dk_3 (dk_at dksX14_findDares_0 18 rfl rfl)
theorem dX14_findDares_19 : decode cX14_findDares 19 = .ok (.istore_n 2, 1) := dk_61 (dk_at dksX14_findDares_0 19 rfl rfl)
theorem dX14_findDares_20 : decode cX14_findDares 20 = .ok (.iload_n 2, 1) := dk_28 (dk_at dksX14_findDares_0 20 rfl rfl)
theorem dX14_findDares_21 : decode cX14_findDares 21 = .ok (.sipush 240, 3) := dk_17 0 240 (dk_at dksX14_findDares_0 21 rfl rfl)
theorem dX14_findDares_24 : decode cX14_findDares 24 = .ok (.if_icmp .gt 97, 3) := dk_163 0 97 (dk_at dksX14_findDares_1 0 rfl rfl)
theorem dX14_findDares_27 : decode cX14_findDares 27 = .ok (.iload_n 2, 1) := dk_28 (dk_at dksX14_findDares_1 3 rfl rfl)
theorem dX14_findDares_28 : decode cX14_findDares 28 = .ok (.ifCond .ne 13, 3) := dk_154 0 13 (dk_at dksX14_findDares_1 4 rfl rfl)
theorem dX14_findDares_31 : decode cX14_findDares 31 = .ok (.aload_n 0, 1) := dk_42 (dk_at dksX14_findDares_1 7 rfl rfl)
theorem dX14_findDares_32 : decode cX14_findDares 32 = .ok (.getfield 70, 3) := dk_180 0 70 (dk_at dksX14_findDares_1 8 rfl rfl)
theorem dX14_findDares_35 : decode cX14_findDares 35 = .ok (.invokestatic 247, 3) := dk_184 0 247 (dk_at dksX14_findDares_1 11 rfl rfl)
theorem dX14_findDares_38 : decode cX14_findDares 38 = .ok (.goto 4, 3) := dk_167 0 4 (dk_at dksX14_findDares_1 14 rfl rfl)
theorem dX14_findDares_41 : decode cX14_findDares 41 = .ok (.lconst 0, 1) := dk_9 (dk_at dksX14_findDares_1 17 rfl rfl)
theorem dX14_findDares_42 : decode cX14_findDares 42 = .ok (.lstore_n 3, 1) := dk_66 (dk_at dksX14_findDares_1 18 rfl rfl)
theorem dX14_findDares_43 : decode cX14_findDares 43 = .ok (.iconst 0, 1) := dk_3 (dk_at dksX14_findDares_1 19 rfl rfl)
theorem dX14_findDares_44 : decode cX14_findDares 44 = .ok (.istore 5, 2) := dk_54 5 (dk_at dksX14_findDares_1 20 rfl rfl)
theorem dX14_findDares_46 : decode cX14_findDares 46 = .ok (.iload 5, 2) := dk_21 5 (dk_at dksX14_findDares_1 22 rfl rfl)
theorem dX14_findDares_48 : decode cX14_findDares 48 = .ok (.aload_n 0, 1) := dk_42 (dk_at dksX14_findDares_2 0 rfl rfl)
theorem dX14_findDares_49 : decode cX14_findDares 49 = .ok (.getfield 242, 3) := dk_180 0 242 (dk_at dksX14_findDares_2 1 rfl rfl)
theorem dX14_findDares_52 : decode cX14_findDares 52 = .ok (.if_icmp .ge 47, 3) := dk_162 0 47 (dk_at dksX14_findDares_2 4 rfl rfl)
theorem dX14_findDares_55 : decode cX14_findDares 55 = .ok (.aload_n 0, 1) := dk_42 (dk_at dksX14_findDares_2 7 rfl rfl)
theorem dX14_findDares_56 : decode cX14_findDares 56 = .ok (.getfield 70, 3) := dk_180 0 70 (dk_at dksX14_findDares_2 8 rfl rfl)
theorem dX14_findDares_59 : decode cX14_findDares 59 = .ok (.ifCond .le 40, 3) := dk_158 0 40 (dk_at dksX14_findDares_2 11 rfl rfl)
theorem dX14_findDares_62 : decode cX14_findDares 62 = .ok (.iload_n 2, 1) := dk_28 (dk_at dksX14_findDares_2 14 rfl rfl)
theorem dX14_findDares_63 : decode cX14_findDares 63 = .ok (.ifCond .le 36, 3) := dk_158 0 36 (dk_at dksX14_findDares_2 15 rfl rfl)
theorem dX14_findDares_66 : decode cX14_findDares 66 = .ok (.aload_n 0, 1) := dk_42 (dk_at dksX14_findDares_2 18 rfl rfl)
theorem dX14_findDares_67 : decode cX14_findDares 67 = .ok (.iload 5, 2) := dk_21 5 (dk_at dksX14_findDares_2 19 rfl rfl)
theorem dX14_findDares_69 : decode cX14_findDares 69 = .ok (.iload_n 2, 1) := dk_28 (dk_at dksX14_findDares_2 21 rfl rfl)
theorem dX14_findDares_70 : decode cX14_findDares 70 = .ok (.aload_n 0, 1) := dk_42 (dk_at dksX14_findDares_2 22 rfl rfl)
theorem dX14_findDares_71 : decode cX14_findDares 71 = .ok (.getfield 70, 3) := dk_180 0 70 (dk_at dksX14_findDares_3 0 rfl rfl)
theorem dX14_findDares_74 : decode cX14_findDares 74 = .ok (.invokevirtual 251, 3) := dk_182 0 251 (dk_at dksX14_findDares_3 3 rfl rfl)
theorem dX14_findDares_77 : decode cX14_findDares 77 = .ok (.lstore 6, 2) := dk_55 6 (dk_at dksX14_findDares_3 6 rfl rfl)
theorem dX14_findDares_79 : decode cX14_findDares 79 = .ok (.lload 6, 2) := dk_22 6 (dk_at dksX14_findDares_3 8 rfl rfl)
theorem dX14_findDares_81 : decode cX14_findDares 81 = .ok (.lload_n 3, 1) := dk_33 (dk_at dksX14_findDares_3 10 rfl rfl)
theorem dX14_findDares_82 : decode cX14_findDares 82 = .ok (.lcmp, 1) := dk_148 (dk_at dksX14_findDares_3 11 rfl rfl)
theorem dX14_findDares_83 : decode cX14_findDares 83 = .ok (.ifCond .le 8, 3) := dk_158 0 8 (dk_at dksX14_findDares_3 12 rfl rfl)
theorem dX14_findDares_86 : decode cX14_findDares 86 = .ok (.lload 6, 2) := dk_22 6 (dk_at dksX14_findDares_3 15 rfl rfl)
theorem dX14_findDares_88 : decode cX14_findDares 88 = .ok (.goto 4, 3) := dk_167 0 4 (dk_at dksX14_findDares_3 17 rfl rfl)
theorem dX14_findDares_91 : decode cX14_findDares 91 = .ok (.lload_n 3, 1) := dk_33 (dk_at dksX14_findDares_3 20 rfl rfl)
theorem dX14_findDares_92 : decode cX14_findDares 92 = .ok (.lstore_n 3, 1) := dk_66 (dk_at dksX14_findDares_3 21 rfl rfl)
theorem dX14_findDares_93 : decode cX14_findDares 93 = .ok (.iinc 5 1, 3) := dk_132 5 1 (dk_at dksX14_findDares_4 0 rfl rfl)
theorem dX14_findDares_96 : decode cX14_findDares 96 = .ok (.goto (-50), 3) := dk_167 255 206 (dk_at dksX14_findDares_4 3 rfl rfl)
theorem dX14_findDares_99 : decode cX14_findDares 99 = .ok (.aload_n 0, 1) := dk_42 (dk_at dksX14_findDares_4 6 rfl rfl)
theorem dX14_findDares_100 : decode cX14_findDares 100 = .ok (.getfield 66, 3) := dk_180 0 66 (dk_at dksX14_findDares_4 7 rfl rfl)
theorem dX14_findDares_103 : decode cX14_findDares 103 = .ok (.sipush 241, 3) := dk_17 0 241 (dk_at dksX14_findDares_4 10 rfl rfl)
theorem dX14_findDares_106 : decode cX14_findDares 106 = .ok (.aload_n 0, 1) := dk_42 (dk_at dksX14_findDares_4 13 rfl rfl)
theorem dX14_findDares_107 : decode cX14_findDares 107 = .ok (.getfield 70, 3) := dk_180 0 70 (dk_at dksX14_findDares_4 14 rfl rfl)
theorem dX14_findDares_110 : decode cX14_findDares 110 = .ok (.imul, 1) := dk_104 (dk_at dksX14_findDares_4 17 rfl rfl)
theorem dX14_findDares_111 : decode cX14_findDares 111 = .ok (.iload_n 2, 1) := dk_28 (dk_at dksX14_findDares_4 18 rfl rfl)
theorem dX14_findDares_112 : decode cX14_findDares 112 = .ok (.iadd, 1) := dk_96 (dk_at dksX14_findDares_4 19 rfl rfl)
theorem dX14_findDares_113 : decode cX14_findDares 113 = .ok (.lload_n 3, 1) := dk_33 (dk_at dksX14_findDares_4 20 rfl rfl)
theorem dX14_findDares_114 : decode cX14_findDares 114 = .ok (.lastore, 1) := dk_80 (dk_at dksX14_findDares_4 21 rfl rfl)
theorem dX14_findDares_115 : decode cX14_findDares 115 = .ok (.iinc 2 1, 3) := dk_132 2 1 (dk_at dksX14_findDares_5 0 rfl rfl)
theorem dX14_findDares_118 : decode cX14_findDares 118 = .ok (.goto (-98), 3) := dk_167 255 158 (dk_at dksX14_findDares_5 3 rfl rfl)
theorem dX14_findDares_121 : decode cX14_findDares 121 = .ok (.goto (-121), 3) := dk_167 255 135 (dk_at dksX14_findDares_5 6 rfl rfl)
theorem dX14_findDares_124 : decode cX14_findDares 124 = .ok (.return_, 1) := dk_177 (dk_at dksX14_findDares_5 9 rfl rfl)
abbrev cX14_cases : ByteArray := prog_33_method_41_code
def yX14_cases : MethodName := ⟨RX14, "cases", "(I)J"⟩
def dkwX14_cases_0 : List UInt8 := [10, 64, 3, 62, 29, 26, 162, 0, 15, 31, 20, 0, 245, 105, 64, 132, 3, 1, 167, 255, 242, 31, 173]
abbrev dktX14_cases_0 : List UInt8 := dkwX14_cases_0 ++ []
theorem dksX14_cases_0 : cX14_cases.data.toList.drop 0 = dktX14_cases_0 := by decide +kernel
theorem dX14_cases_0 : decode cX14_cases 0 = .ok (.lconst 1, 1) := dk_10 (dk_at dksX14_cases_0 0 rfl rfl)
theorem dX14_cases_1 : decode cX14_cases 1 = .ok (.lstore_n 1, 1) := dk_64 (dk_at dksX14_cases_0 1 rfl rfl)
theorem dX14_cases_2 : decode cX14_cases 2 = .ok (.iconst 0, 1) := dk_3 (dk_at dksX14_cases_0 2 rfl rfl)
theorem dX14_cases_3 : decode cX14_cases 3 = .ok (.istore_n 3, 1) := dk_62 (dk_at dksX14_cases_0 3 rfl rfl)
theorem dX14_cases_4 : decode cX14_cases 4 = .ok (.iload_n 3, 1) := dk_29 (dk_at dksX14_cases_0 4 rfl rfl)
theorem dX14_cases_5 : decode cX14_cases 5 = .ok (.iload_n 0, 1) := dk_26 (dk_at dksX14_cases_0 5 rfl rfl)
theorem dX14_cases_6 : decode cX14_cases 6 = .ok (.if_icmp .ge 15, 3) := dk_162 0 15 (dk_at dksX14_cases_0 6 rfl rfl)
theorem dX14_cases_9 : decode cX14_cases 9 = .ok (.lload_n 1, 1) := dk_31 (dk_at dksX14_cases_0 9 rfl rfl)
theorem dX14_cases_10 : decode cX14_cases 10 = .ok (.ldc2_w 245, 3) := dk_20 0 245 (dk_at dksX14_cases_0 10 rfl rfl)
theorem dX14_cases_13 : decode cX14_cases 13 = .ok (.lmul, 1) := dk_105 (dk_at dksX14_cases_0 13 rfl rfl)
theorem dX14_cases_14 : decode cX14_cases 14 = .ok (.lstore_n 1, 1) := dk_64 (dk_at dksX14_cases_0 14 rfl rfl)
theorem dX14_cases_15 : decode cX14_cases 15 = .ok (.iinc 3 1, 3) := dk_132 3 1 (dk_at dksX14_cases_0 15 rfl rfl)
theorem dX14_cases_18 : decode cX14_cases 18 = .ok (.goto (-14), 3) := dk_167 255 242 (dk_at dksX14_cases_0 18 rfl rfl)
theorem dX14_cases_21 : decode cX14_cases 21 = .ok (.lload_n 1, 1) := dk_31 (dk_at dksX14_cases_0 21 rfl rfl)
theorem dX14_cases_22 : decode cX14_cases 22 = .ok (.lreturn, 1) := dk_173 (dk_at dksX14_cases_0 22 rfl rfl)
abbrev cX14_casesBy : ByteArray := prog_33_method_42_code
def yX14_casesBy : MethodName := ⟨RX14, "casesBy", "(III)J"⟩
def dkwX14_casesBy_2 : List UInt8 := [21, 7, 167, 0, 4, 3, 96, 47, 97, 55, 4, 132, 6, 1, 167, 255, 201, 22, 4, 173]
abbrev dktX14_casesBy_2 : List UInt8 := dkwX14_casesBy_2 ++ []
def dkwX14_casesBy_1 : List UInt8 := [96, 46, 100, 54, 7, 22, 4, 42, 180, 0, 66, 17, 0, 241, 29, 4, 100, 104, 21, 7, 158, 0, 8]
abbrev dktX14_casesBy_1 : List UInt8 := dkwX14_casesBy_1 ++ dktX14_casesBy_2
def dkwX14_casesBy_0 : List UInt8 := [9, 55, 4, 3, 54, 6, 21, 6, 16, 10, 162, 0, 54, 28, 42, 180, 0, 26, 16, 10, 27, 104, 21, 6]
abbrev dktX14_casesBy_0 : List UInt8 := dkwX14_casesBy_0 ++ dktX14_casesBy_1
theorem dksX14_casesBy_0 : cX14_casesBy.data.toList.drop 0 = dktX14_casesBy_0 := by decide +kernel
theorem dksX14_casesBy_1 : cX14_casesBy.data.toList.drop 24 = dktX14_casesBy_1 := dk_seg dksX14_casesBy_0 24 rfl rfl
theorem dksX14_casesBy_2 : cX14_casesBy.data.toList.drop 47 = dktX14_casesBy_2 := dk_seg dksX14_casesBy_1 23 rfl rfl
theorem dX14_casesBy_0 : decode cX14_casesBy 0 = .ok (.lconst 0, 1) := dk_9 (dk_at dksX14_casesBy_0 0 rfl rfl)
theorem dX14_casesBy_1 : decode cX14_casesBy 1 = .ok (.lstore 4, 2) := dk_55 4 (dk_at dksX14_casesBy_0 1 rfl rfl)
theorem dX14_casesBy_3 : decode cX14_casesBy 3 = .ok (.iconst 0, 1) := dk_3 (dk_at dksX14_casesBy_0 3 rfl rfl)
theorem dX14_casesBy_4 : decode cX14_casesBy 4 = .ok (.istore 6, 2) := dk_54 6 (dk_at dksX14_casesBy_0 4 rfl rfl)
theorem dX14_casesBy_6 : decode cX14_casesBy 6 = .ok (.iload 6, 2) := dk_21 6 (dk_at dksX14_casesBy_0 6 rfl rfl)
theorem dX14_casesBy_8 : decode cX14_casesBy 8 = .ok (.bipush 10, 2) := dk_16 10 (dk_at dksX14_casesBy_0 8 rfl rfl)
theorem dX14_casesBy_10 : decode cX14_casesBy 10 = .ok (.if_icmp .ge 54, 3) := dk_162 0 54 (dk_at dksX14_casesBy_0 10 rfl rfl)
theorem dX14_casesBy_13 : decode cX14_casesBy 13 = .ok (.iload_n 2, 1) := dk_28 (dk_at dksX14_casesBy_0 13 rfl rfl)
theorem dX14_casesBy_14 : decode cX14_casesBy 14 = .ok (.aload_n 0, 1) := dk_42 (dk_at dksX14_casesBy_0 14 rfl rfl)
theorem dX14_casesBy_15 : decode cX14_casesBy 15 = .ok (.getfield 26, 3) := dk_180 0 26 (dk_at dksX14_casesBy_0 15 rfl rfl)
theorem dX14_casesBy_18 : decode cX14_casesBy 18 = .ok (.bipush 10, 2) := dk_16 10 (dk_at dksX14_casesBy_0 18 rfl rfl)
theorem dX14_casesBy_20 : decode cX14_casesBy 20 = .ok (.iload_n 1, 1) := dk_27 (dk_at dksX14_casesBy_0 20 rfl rfl)
theorem dX14_casesBy_21 : decode cX14_casesBy 21 = .ok (.imul, 1) := dk_104 (dk_at dksX14_casesBy_0 21 rfl rfl)
theorem dX14_casesBy_22 : decode cX14_casesBy 22 = .ok (.iload 6, 2) := dk_21 6 (dk_at dksX14_casesBy_0 22 rfl rfl)
theorem dX14_casesBy_24 : decode cX14_casesBy 24 = .ok (.iadd, 1) := dk_96 (dk_at dksX14_casesBy_1 0 rfl rfl)
theorem dX14_casesBy_25 : decode cX14_casesBy 25 = .ok (.iaload, 1) := dk_46 (dk_at dksX14_casesBy_1 1 rfl rfl)
theorem dX14_casesBy_26 : decode cX14_casesBy 26 = .ok (.isub, 1) := dk_100 (dk_at dksX14_casesBy_1 2 rfl rfl)
theorem dX14_casesBy_27 : decode cX14_casesBy 27 = .ok (.istore 7, 2) := dk_54 7 (dk_at dksX14_casesBy_1 3 rfl rfl)
theorem dX14_casesBy_29 : decode cX14_casesBy 29 = .ok (.lload 4, 2) := dk_22 4 (dk_at dksX14_casesBy_1 5 rfl rfl)
theorem dX14_casesBy_31 : decode cX14_casesBy 31 = .ok (.aload_n 0, 1) := dk_42 (dk_at dksX14_casesBy_1 7 rfl rfl)
theorem dX14_casesBy_32 : decode cX14_casesBy 32 = .ok (.getfield 66, 3) := dk_180 0 66 (dk_at dksX14_casesBy_1 8 rfl rfl)
theorem dX14_casesBy_35 : decode cX14_casesBy 35 = .ok (.sipush 241, 3) := dk_17 0 241 (dk_at dksX14_casesBy_1 11 rfl rfl)
theorem dX14_casesBy_38 : decode cX14_casesBy 38 = .ok (.iload_n 3, 1) := dk_29 (dk_at dksX14_casesBy_1 14 rfl rfl)
theorem dX14_casesBy_39 : decode cX14_casesBy 39 = .ok (.iconst 1, 1) := dk_4 (dk_at dksX14_casesBy_1 15 rfl rfl)
theorem dX14_casesBy_40 : decode cX14_casesBy 40 = .ok (.isub, 1) := dk_100 (dk_at dksX14_casesBy_1 16 rfl rfl)
theorem dX14_casesBy_41 : decode cX14_casesBy 41 = .ok (.imul, 1) := dk_104 (dk_at dksX14_casesBy_1 17 rfl rfl)
theorem dX14_casesBy_42 : decode cX14_casesBy 42 = .ok (.iload 7, 2) := dk_21 7 (dk_at dksX14_casesBy_1 18 rfl rfl)
theorem dX14_casesBy_44 : decode cX14_casesBy 44 = .ok (.ifCond .le 8, 3) := dk_158 0 8 (dk_at dksX14_casesBy_1 20 rfl rfl)
theorem dX14_casesBy_47 : decode cX14_casesBy 47 = .ok (.iload 7, 2) := dk_21 7 (dk_at dksX14_casesBy_2 0 rfl rfl)
theorem dX14_casesBy_49 : decode cX14_casesBy 49 = .ok (.goto 4, 3) := dk_167 0 4 (dk_at dksX14_casesBy_2 2 rfl rfl)
theorem dX14_casesBy_52 : decode cX14_casesBy 52 = .ok (.iconst 0, 1) := dk_3 (dk_at dksX14_casesBy_2 5 rfl rfl)
theorem dX14_casesBy_53 : decode cX14_casesBy 53 = .ok (.iadd, 1) := dk_96 (dk_at dksX14_casesBy_2 6 rfl rfl)
theorem dX14_casesBy_54 : decode cX14_casesBy 54 = .ok (.laload, 1) := dk_47 (dk_at dksX14_casesBy_2 7 rfl rfl)
theorem dX14_casesBy_55 : decode cX14_casesBy 55 = .ok (.ladd, 1) := dk_97 (dk_at dksX14_casesBy_2 8 rfl rfl)
theorem dX14_casesBy_56 : decode cX14_casesBy 56 = .ok (.lstore 4, 2) := dk_55 4 (dk_at dksX14_casesBy_2 9 rfl rfl)
theorem dX14_casesBy_58 : decode cX14_casesBy 58 = .ok (.iinc 6 1, 3) := dk_132 6 1 (dk_at dksX14_casesBy_2 11 rfl rfl)
theorem dX14_casesBy_61 : decode cX14_casesBy 61 = .ok (.goto (-55), 3) := dk_167 255 201 (dk_at dksX14_casesBy_2 14 rfl rfl)
theorem dX14_casesBy_64 : decode cX14_casesBy 64 = .ok (.lload 4, 2) := dk_22 4 (dk_at dksX14_casesBy_2 17 rfl rfl)
theorem dX14_casesBy_66 : decode cX14_casesBy 66 = .ok (.lreturn, 1) := dk_173 (dk_at dksX14_casesBy_2 19 rfl rfl)
abbrev cX14_bold : ByteArray := prog_33_method_46_code
def yX14_bold : MethodName := ⟨RX14, "bold", "(II)I"⟩
def dkwX14_bold_2 : List UInt8 := [27, 96, 47, 148, 154, 0, 5, 29, 172, 132, 3, 1, 167, 255, 220, 16, 253, 172]
abbrev dktX14_bold_2 : List UInt8 := dkwX14_bold_2 ++ []
def dkwX14_bold_1 : List UInt8 := [29, 42, 180, 0, 242, 162, 0, 34, 42, 29, 27, 28, 182, 0, 251, 42, 180, 0, 66, 17, 0, 241, 28, 104]
abbrev dktX14_bold_1 : List UInt8 := dkwX14_bold_1 ++ dktX14_bold_2
def dkwX14_bold_0 : List UInt8 := [27, 28, 184, 0, 255, 154, 0, 5, 2, 172, 28, 154, 0, 6, 16, 253, 172, 42, 28, 182, 1, 5, 3, 62]
abbrev dktX14_bold_0 : List UInt8 := dkwX14_bold_0 ++ dktX14_bold_1
theorem dksX14_bold_0 : cX14_bold.data.toList.drop 0 = dktX14_bold_0 := by decide +kernel
theorem dksX14_bold_1 : cX14_bold.data.toList.drop 24 = dktX14_bold_1 := dk_seg dksX14_bold_0 24 rfl rfl
theorem dksX14_bold_2 : cX14_bold.data.toList.drop 48 = dktX14_bold_2 := dk_seg dksX14_bold_1 24 rfl rfl
theorem dX14_bold_0 : decode cX14_bold 0 = .ok (.iload_n 1, 1) := dk_27 (dk_at dksX14_bold_0 0 rfl rfl)
theorem dX14_bold_1 : decode cX14_bold 1 = .ok (.iload_n 2, 1) := dk_28 (dk_at dksX14_bold_0 1 rfl rfl)
theorem dX14_bold_2 : decode cX14_bold 2 = .ok (.invokestatic 255, 3) := dk_184 0 255 (dk_at dksX14_bold_0 2 rfl rfl)
theorem dX14_bold_5 : decode cX14_bold 5 = .ok (.ifCond .ne 5, 3) := dk_154 0 5 (dk_at dksX14_bold_0 5 rfl rfl)
theorem dX14_bold_8 : decode cX14_bold 8 = .ok (.iconst (-1), 1) := dk_2 (dk_at dksX14_bold_0 8 rfl rfl)
theorem dX14_bold_9 : decode cX14_bold 9 = .ok (.ireturn, 1) := dk_172 (dk_at dksX14_bold_0 9 rfl rfl)
theorem dX14_bold_10 : decode cX14_bold 10 = .ok (.iload_n 2, 1) := dk_28 (dk_at dksX14_bold_0 10 rfl rfl)
theorem dX14_bold_11 : decode cX14_bold 11 = .ok (.ifCond .ne 6, 3) := dk_154 0 6 (dk_at dksX14_bold_0 11 rfl rfl)
theorem dX14_bold_14 : decode cX14_bold 14 = .ok (.bipush (-3), 2) := dk_16 253 (dk_at dksX14_bold_0 14 rfl rfl)
theorem dX14_bold_16 : decode cX14_bold 16 = .ok (.ireturn, 1) := dk_172 (dk_at dksX14_bold_0 16 rfl rfl)
theorem dX14_bold_17 : decode cX14_bold 17 = .ok (.aload_n 0, 1) := dk_42 (dk_at dksX14_bold_0 17 rfl rfl)
theorem dX14_bold_18 : decode cX14_bold 18 = .ok (.iload_n 2, 1) := dk_28 (dk_at dksX14_bold_0 18 rfl rfl)
theorem dX14_bold_19 : decode cX14_bold 19 = .ok (.invokevirtual 261, 3) := dk_182 1 5 (dk_at dksX14_bold_0 19 rfl rfl)
theorem dX14_bold_22 : decode cX14_bold 22 = .ok (.iconst 0, 1) := dk_3 (dk_at dksX14_bold_0 22 rfl rfl)
theorem dX14_bold_23 : decode cX14_bold 23 = .ok (.istore_n 3, 1) := dk_62 (dk_at dksX14_bold_0 23 rfl rfl)
theorem dX14_bold_24 : decode cX14_bold 24 = .ok (.iload_n 3, 1) := dk_29 (dk_at dksX14_bold_1 0 rfl rfl)
theorem dX14_bold_25 : decode cX14_bold 25 = .ok (.aload_n 0, 1) := dk_42 (dk_at dksX14_bold_1 1 rfl rfl)
theorem dX14_bold_26 : decode cX14_bold 26 = .ok (.getfield 242, 3) := dk_180 0 242 (dk_at dksX14_bold_1 2 rfl rfl)
theorem dX14_bold_29 : decode cX14_bold 29 = .ok (.if_icmp .ge 34, 3) := dk_162 0 34 (dk_at dksX14_bold_1 5 rfl rfl)
theorem dX14_bold_32 : decode cX14_bold 32 = .ok (.aload_n 0, 1) := dk_42 (dk_at dksX14_bold_1 8 rfl rfl)
theorem dX14_bold_33 : decode cX14_bold 33 = .ok (.iload_n 3, 1) := dk_29 (dk_at dksX14_bold_1 9 rfl rfl)
theorem dX14_bold_34 : decode cX14_bold 34 = .ok (.iload_n 1, 1) := dk_27 (dk_at dksX14_bold_1 10 rfl rfl)
theorem dX14_bold_35 : decode cX14_bold 35 = .ok (.iload_n 2, 1) := dk_28 (dk_at dksX14_bold_1 11 rfl rfl)
theorem dX14_bold_36 : decode cX14_bold 36 = .ok (.invokevirtual 251, 3) := dk_182 0 251 (dk_at dksX14_bold_1 12 rfl rfl)
theorem dX14_bold_39 : decode cX14_bold 39 = .ok (.aload_n 0, 1) := dk_42 (dk_at dksX14_bold_1 15 rfl rfl)
theorem dX14_bold_40 : decode cX14_bold 40 = .ok (.getfield 66, 3) := dk_180 0 66 (dk_at dksX14_bold_1 16 rfl rfl)
theorem dX14_bold_43 : decode cX14_bold 43 = .ok (.sipush 241, 3) := dk_17 0 241 (dk_at dksX14_bold_1 19 rfl rfl)
theorem dX14_bold_46 : decode cX14_bold 46 = .ok (.iload_n 2, 1) := dk_28 (dk_at dksX14_bold_1 22 rfl rfl)
theorem dX14_bold_47 : decode cX14_bold 47 = .ok (.imul, 1) := dk_104 (dk_at dksX14_bold_1 23 rfl rfl)
theorem dX14_bold_48 : decode cX14_bold 48 = .ok (.iload_n 1, 1) := dk_27 (dk_at dksX14_bold_2 0 rfl rfl)
theorem dX14_bold_49 : decode cX14_bold 49 = .ok (.iadd, 1) := dk_96 (dk_at dksX14_bold_2 1 rfl rfl)
theorem dX14_bold_50 : decode cX14_bold 50 = .ok (.laload, 1) := dk_47 (dk_at dksX14_bold_2 2 rfl rfl)
theorem dX14_bold_51 : decode cX14_bold 51 = .ok (.lcmp, 1) := dk_148 (dk_at dksX14_bold_2 3 rfl rfl)
theorem dX14_bold_52 : decode cX14_bold 52 = .ok (.ifCond .ne 5, 3) := dk_154 0 5 (dk_at dksX14_bold_2 4 rfl rfl)
theorem dX14_bold_55 : decode cX14_bold 55 = .ok (.iload_n 3, 1) := dk_29 (dk_at dksX14_bold_2 7 rfl rfl)
theorem dX14_bold_56 : decode cX14_bold 56 = .ok (.ireturn, 1) := dk_172 (dk_at dksX14_bold_2 8 rfl rfl)
theorem dX14_bold_57 : decode cX14_bold 57 = .ok (.iinc 3 1, 3) := dk_132 3 1 (dk_at dksX14_bold_2 9 rfl rfl)
theorem dX14_bold_60 : decode cX14_bold 60 = .ok (.goto (-36), 3) := dk_167 255 220 (dk_at dksX14_bold_2 12 rfl rfl)
theorem dX14_bold_63 : decode cX14_bold 63 = .ok (.bipush (-3), 2) := dk_16 253 (dk_at dksX14_bold_2 15 rfl rfl)
theorem dX14_bold_65 : decode cX14_bold 65 = .ok (.ireturn, 1) := dk_172 (dk_at dksX14_bold_2 17 rfl rfl)
abbrev cX14_alike : ByteArray := prog_33_method_47_code
def yX14_alike : MethodName := ⟨RX14, "alike", "(III)J"⟩
def dkwX14_alike_6 : List UInt8 := [132, 5, 255, 167, 255, 182, 132, 4, 1, 167, 255, 167, 42, 180, 0, 73, 28, 47, 173]
abbrev dktX14_alike_6 : List UInt8 := dkwX14_alike_6 ++ []
def dkwX14_alike_5 : List UInt8 := [167, 0, 4, 3, 47, 97, 55, 6, 132, 8, 1, 167, 255, 208, 42, 180, 0, 73, 21, 5, 22, 6, 80]
abbrev dktX14_alike_5 : List UInt8 := dkwX14_alike_5 ++ dktX14_alike_6
def dkwX14_alike_4 : List UInt8 := [16, 10, 27, 104, 21, 8, 96, 46, 100, 54, 9, 22, 6, 42, 180, 0, 73, 21, 9, 158, 0, 8, 21, 9]
abbrev dktX14_alike_4 : List UInt8 := dkwX14_alike_4 ++ dktX14_alike_5
def dkwX14_alike_3 : List UInt8 := [21, 5, 155, 0, 75, 9, 55, 6, 3, 54, 8, 21, 8, 16, 10, 162, 0, 47, 21, 5, 42, 180, 0, 26]
abbrev dktX14_alike_3 : List UInt8 := dkwX14_alike_3 ++ dktX14_alike_4
def dkwX14_alike_2 : List UInt8 := [10, 167, 0, 4, 9, 80, 132, 4, 1, 167, 255, 230, 3, 54, 4, 21, 4, 29, 162, 0, 89, 28, 54, 5]
abbrev dktX14_alike_2 : List UInt8 := dkwX14_alike_2 ++ dktX14_alike_3
def dkwX14_alike_1 : List UInt8 := [20, 1, 3, 173, 3, 54, 4, 21, 4, 28, 163, 0, 26, 42, 180, 0, 73, 21, 4, 21, 4, 154, 0, 7]
abbrev dktX14_alike_1 : List UInt8 := dkwX14_alike_1 ++ dktX14_alike_2
def dkwX14_alike_0 : List UInt8 := [27, 3, 42, 180, 0, 242, 4, 100, 184, 0, 133, 153, 0, 11, 28, 29, 184, 0, 255, 154, 0, 7]
abbrev dktX14_alike_0 : List UInt8 := dkwX14_alike_0 ++ dktX14_alike_1
theorem dksX14_alike_0 : cX14_alike.data.toList.drop 0 = dktX14_alike_0 := by decide +kernel
theorem dksX14_alike_1 : cX14_alike.data.toList.drop 22 = dktX14_alike_1 := dk_seg dksX14_alike_0 22 rfl rfl
theorem dksX14_alike_2 : cX14_alike.data.toList.drop 46 = dktX14_alike_2 := dk_seg dksX14_alike_1 24 rfl rfl
theorem dksX14_alike_3 : cX14_alike.data.toList.drop 70 = dktX14_alike_3 := dk_seg dksX14_alike_2 24 rfl rfl
theorem dksX14_alike_4 : cX14_alike.data.toList.drop 94 = dktX14_alike_4 := dk_seg dksX14_alike_3 24 rfl rfl
theorem dksX14_alike_5 : cX14_alike.data.toList.drop 118 = dktX14_alike_5 := dk_seg dksX14_alike_4 24 rfl rfl
theorem dksX14_alike_6 : cX14_alike.data.toList.drop 141 = dktX14_alike_6 := dk_seg dksX14_alike_5 23 rfl rfl
theorem dX14_alike_0 : decode cX14_alike 0 = .ok (.iload_n 1, 1) := dk_27 (dk_at dksX14_alike_0 0 rfl rfl)
theorem dX14_alike_1 : decode cX14_alike 1 = .ok (.iconst 0, 1) := dk_3 (dk_at dksX14_alike_0 1 rfl rfl)
theorem dX14_alike_2 : decode cX14_alike 2 = .ok (.aload_n 0, 1) := dk_42 (dk_at dksX14_alike_0 2 rfl rfl)
theorem dX14_alike_3 : decode cX14_alike 3 = .ok (.getfield 242, 3) := dk_180 0 242 (dk_at dksX14_alike_0 3 rfl rfl)
theorem dX14_alike_6 : decode cX14_alike 6 = .ok (.iconst 1, 1) := dk_4 (dk_at dksX14_alike_0 6 rfl rfl)
theorem dX14_alike_7 : decode cX14_alike 7 = .ok (.isub, 1) := dk_100 (dk_at dksX14_alike_0 7 rfl rfl)
theorem dX14_alike_8 : decode cX14_alike 8 = .ok (.invokestatic 133, 3) := dk_184 0 133 (dk_at dksX14_alike_0 8 rfl rfl)
theorem dX14_alike_11 : decode cX14_alike 11 = .ok (.ifCond .eq 11, 3) := dk_153 0 11 (dk_at dksX14_alike_0 11 rfl rfl)
theorem dX14_alike_14 : decode cX14_alike 14 = .ok (.iload_n 2, 1) := dk_28 (dk_at dksX14_alike_0 14 rfl rfl)
theorem dX14_alike_15 : decode cX14_alike 15 = .ok (.iload_n 3, 1) := dk_29 (dk_at dksX14_alike_0 15 rfl rfl)
theorem dX14_alike_16 : decode cX14_alike 16 = .ok (.invokestatic 255, 3) := dk_184 0 255 (dk_at dksX14_alike_0 16 rfl rfl)
theorem dX14_alike_19 : decode cX14_alike 19 = .ok (.ifCond .ne 7, 3) := dk_154 0 7 (dk_at dksX14_alike_0 19 rfl rfl)
theorem dX14_alike_22 : decode cX14_alike 22 = .ok (.ldc2_w 259, 3) := dk_20 1 3 (dk_at dksX14_alike_1 0 rfl rfl)
theorem dX14_alike_25 : decode cX14_alike 25 = .ok (.lreturn, 1) := dk_173 (dk_at dksX14_alike_1 3 rfl rfl)
theorem dX14_alike_26 : decode cX14_alike 26 = .ok (.iconst 0, 1) := dk_3 (dk_at dksX14_alike_1 4 rfl rfl)
theorem dX14_alike_27 : decode cX14_alike 27 = .ok (.istore 4, 2) := dk_54 4 (dk_at dksX14_alike_1 5 rfl rfl)
theorem dX14_alike_29 : decode cX14_alike 29 = .ok (.iload 4, 2) := dk_21 4 (dk_at dksX14_alike_1 7 rfl rfl)
theorem dX14_alike_31 : decode cX14_alike 31 = .ok (.iload_n 2, 1) := dk_28 (dk_at dksX14_alike_1 9 rfl rfl)
theorem dX14_alike_32 : decode cX14_alike 32 = .ok (.if_icmp .gt 26, 3) := dk_163 0 26 (dk_at dksX14_alike_1 10 rfl rfl)
theorem dX14_alike_35 : decode cX14_alike 35 = .ok (.aload_n 0, 1) := dk_42 (dk_at dksX14_alike_1 13 rfl rfl)
theorem dX14_alike_36 : decode cX14_alike 36 = .ok (.getfield 73, 3) := dk_180 0 73 (dk_at dksX14_alike_1 14 rfl rfl)
theorem dX14_alike_39 : decode cX14_alike 39 = .ok (.iload 4, 2) := dk_21 4 (dk_at dksX14_alike_1 17 rfl rfl)
theorem dX14_alike_41 : decode cX14_alike 41 = .ok (.iload 4, 2) := dk_21 4 (dk_at dksX14_alike_1 19 rfl rfl)
theorem dX14_alike_43 : decode cX14_alike 43 = .ok (.ifCond .ne 7, 3) := dk_154 0 7 (dk_at dksX14_alike_1 21 rfl rfl)
theorem dX14_alike_46 : decode cX14_alike 46 = .ok (.lconst 1, 1) := dk_10 (dk_at dksX14_alike_2 0 rfl rfl)
theorem dX14_alike_47 : decode cX14_alike 47 = .ok (.goto 4, 3) := dk_167 0 4 (dk_at dksX14_alike_2 1 rfl rfl)
theorem dX14_alike_50 : decode cX14_alike 50 = .ok (.lconst 0, 1) := dk_9 (dk_at dksX14_alike_2 4 rfl rfl)
theorem dX14_alike_51 : decode cX14_alike 51 = .ok (.lastore, 1) := dk_80 (dk_at dksX14_alike_2 5 rfl rfl)
theorem dX14_alike_52 : decode cX14_alike 52 = .ok (.iinc 4 1, 3) := dk_132 4 1 (dk_at dksX14_alike_2 6 rfl rfl)
theorem dX14_alike_55 : decode cX14_alike 55 = .ok (.goto (-26), 3) := dk_167 255 230 (dk_at dksX14_alike_2 9 rfl rfl)
theorem dX14_alike_58 : decode cX14_alike 58 = .ok (.iconst 0, 1) := dk_3 (dk_at dksX14_alike_2 12 rfl rfl)
theorem dX14_alike_59 : decode cX14_alike 59 = .ok (.istore 4, 2) := dk_54 4 (dk_at dksX14_alike_2 13 rfl rfl)
theorem dX14_alike_61 : decode cX14_alike 61 = .ok (.iload 4, 2) := dk_21 4 (dk_at dksX14_alike_2 15 rfl rfl)
theorem dX14_alike_63 : decode cX14_alike 63 = .ok (.iload_n 3, 1) := dk_29 (dk_at dksX14_alike_2 17 rfl rfl)
theorem dX14_alike_64 : decode cX14_alike 64 = .ok (.if_icmp .ge 89, 3) := dk_162 0 89 (dk_at dksX14_alike_2 18 rfl rfl)
theorem dX14_alike_67 : decode cX14_alike 67 = .ok (.iload_n 2, 1) := dk_28 (dk_at dksX14_alike_2 21 rfl rfl)
theorem dX14_alike_68 : decode cX14_alike 68 = .ok (.istore 5, 2) := dk_54 5 (dk_at dksX14_alike_2 22 rfl rfl)
theorem dX14_alike_70 : decode cX14_alike 70 = .ok (.iload 5, 2) := dk_21 5 (dk_at dksX14_alike_3 0 rfl rfl)
theorem dX14_alike_72 : decode cX14_alike 72 = .ok (.ifCond .lt 75, 3) := dk_155 0 75 (dk_at dksX14_alike_3 2 rfl rfl)
theorem dX14_alike_75 : decode cX14_alike 75 = .ok (.lconst 0, 1) := dk_9 (dk_at dksX14_alike_3 5 rfl rfl)
theorem dX14_alike_76 : decode cX14_alike 76 = .ok (.lstore 6, 2) := dk_55 6 (dk_at dksX14_alike_3 6 rfl rfl)
theorem dX14_alike_78 : decode cX14_alike 78 = .ok (.iconst 0, 1) := dk_3 (dk_at dksX14_alike_3 8 rfl rfl)
theorem dX14_alike_79 : decode cX14_alike 79 = .ok (.istore 8, 2) := dk_54 8 (dk_at dksX14_alike_3 9 rfl rfl)
theorem dX14_alike_81 : decode cX14_alike 81 = .ok (.iload 8, 2) := dk_21 8 (dk_at dksX14_alike_3 11 rfl rfl)
theorem dX14_alike_83 : decode cX14_alike 83 = .ok (.bipush 10, 2) := dk_16 10 (dk_at dksX14_alike_3 13 rfl rfl)
theorem dX14_alike_85 : decode cX14_alike 85 = .ok (.if_icmp .ge 47, 3) := dk_162 0 47 (dk_at dksX14_alike_3 15 rfl rfl)
theorem dX14_alike_88 : decode cX14_alike 88 = .ok (.iload 5, 2) := dk_21 5 (dk_at dksX14_alike_3 18 rfl rfl)
theorem dX14_alike_90 : decode cX14_alike 90 = .ok (.aload_n 0, 1) := dk_42 (dk_at dksX14_alike_3 20 rfl rfl)
theorem dX14_alike_91 : decode cX14_alike 91 = .ok (.getfield 26, 3) := dk_180 0 26 (dk_at dksX14_alike_3 21 rfl rfl)
theorem dX14_alike_94 : decode cX14_alike 94 = .ok (.bipush 10, 2) := dk_16 10 (dk_at dksX14_alike_4 0 rfl rfl)
theorem dX14_alike_96 : decode cX14_alike 96 = .ok (.iload_n 1, 1) := dk_27 (dk_at dksX14_alike_4 2 rfl rfl)
theorem dX14_alike_97 : decode cX14_alike 97 = .ok (.imul, 1) := dk_104 (dk_at dksX14_alike_4 3 rfl rfl)
theorem dX14_alike_98 : decode cX14_alike 98 = .ok (.iload 8, 2) := dk_21 8 (dk_at dksX14_alike_4 4 rfl rfl)
theorem dX14_alike_100 : decode cX14_alike 100 = .ok (.iadd, 1) := dk_96 (dk_at dksX14_alike_4 6 rfl rfl)
theorem dX14_alike_101 : decode cX14_alike 101 = .ok (.iaload, 1) := dk_46 (dk_at dksX14_alike_4 7 rfl rfl)
theorem dX14_alike_102 : decode cX14_alike 102 = .ok (.isub, 1) := dk_100 (dk_at dksX14_alike_4 8 rfl rfl)
theorem dX14_alike_103 : decode cX14_alike 103 = .ok (.istore 9, 2) := dk_54 9 (dk_at dksX14_alike_4 9 rfl rfl)
theorem dX14_alike_105 : decode cX14_alike 105 = .ok (.lload 6, 2) := dk_22 6 (dk_at dksX14_alike_4 11 rfl rfl)
theorem dX14_alike_107 : decode cX14_alike 107 = .ok (.aload_n 0, 1) := dk_42 (dk_at dksX14_alike_4 13 rfl rfl)
theorem dX14_alike_108 : decode cX14_alike 108 = .ok (.getfield 73, 3) := dk_180 0 73 (dk_at dksX14_alike_4 14 rfl rfl)
theorem dX14_alike_111 : decode cX14_alike 111 = .ok (.iload 9, 2) := dk_21 9 (dk_at dksX14_alike_4 17 rfl rfl)
theorem dX14_alike_113 : decode cX14_alike 113 = .ok (.ifCond .le 8, 3) := dk_158 0 8 (dk_at dksX14_alike_4 19 rfl rfl)
theorem dX14_alike_116 : decode cX14_alike 116 = .ok (.iload 9, 2) := dk_21 9 (dk_at dksX14_alike_4 22 rfl rfl)
theorem dX14_alike_118 : decode cX14_alike 118 = .ok (.goto 4, 3) := dk_167 0 4 (dk_at dksX14_alike_5 0 rfl rfl)
theorem dX14_alike_121 : decode cX14_alike 121 = .ok (.iconst 0, 1) := dk_3 (dk_at dksX14_alike_5 3 rfl rfl)
theorem dX14_alike_122 : decode cX14_alike 122 = .ok (.laload, 1) := dk_47 (dk_at dksX14_alike_5 4 rfl rfl)
theorem dX14_alike_123 : decode cX14_alike 123 = .ok (.ladd, 1) := dk_97 (dk_at dksX14_alike_5 5 rfl rfl)
theorem dX14_alike_124 : decode cX14_alike 124 = .ok (.lstore 6, 2) := dk_55 6 (dk_at dksX14_alike_5 6 rfl rfl)
theorem dX14_alike_126 : decode cX14_alike 126 = .ok (.iinc 8 1, 3) := dk_132 8 1 (dk_at dksX14_alike_5 8 rfl rfl)
theorem dX14_alike_129 : decode cX14_alike 129 = .ok (.goto (-48), 3) := dk_167 255 208 (dk_at dksX14_alike_5 11 rfl rfl)
theorem dX14_alike_132 : decode cX14_alike 132 = .ok (.aload_n 0, 1) := dk_42 (dk_at dksX14_alike_5 14 rfl rfl)
theorem dX14_alike_133 : decode cX14_alike 133 = .ok (.getfield 73, 3) := dk_180 0 73 (dk_at dksX14_alike_5 15 rfl rfl)
theorem dX14_alike_136 : decode cX14_alike 136 = .ok (.iload 5, 2) := dk_21 5 (dk_at dksX14_alike_5 18 rfl rfl)
theorem dX14_alike_138 : decode cX14_alike 138 = .ok (.lload 6, 2) := dk_22 6 (dk_at dksX14_alike_5 20 rfl rfl)
theorem dX14_alike_140 : decode cX14_alike 140 = .ok (.lastore, 1) := dk_80 (dk_at dksX14_alike_5 22 rfl rfl)
theorem dX14_alike_141 : decode cX14_alike 141 = .ok (.iinc 5 (-1), 3) := dk_132 5 255 (dk_at dksX14_alike_6 0 rfl rfl)
theorem dX14_alike_144 : decode cX14_alike 144 = .ok (.goto (-74), 3) := dk_167 255 182 (dk_at dksX14_alike_6 3 rfl rfl)
theorem dX14_alike_147 : decode cX14_alike 147 = .ok (.iinc 4 1, 3) := dk_132 4 1 (dk_at dksX14_alike_6 6 rfl rfl)
theorem dX14_alike_150 : decode cX14_alike 150 = .ok (.goto (-89), 3) := dk_167 255 167 (dk_at dksX14_alike_6 9 rfl rfl)
theorem dX14_alike_153 : decode cX14_alike 153 = .ok (.aload_n 0, 1) := dk_42 (dk_at dksX14_alike_6 12 rfl rfl)
theorem dX14_alike_154 : decode cX14_alike 154 = .ok (.getfield 73, 3) := dk_180 0 73 (dk_at dksX14_alike_6 13 rfl rfl)
theorem dX14_alike_157 : decode cX14_alike 157 = .ok (.iload_n 2, 1) := dk_28 (dk_at dksX14_alike_6 16 rfl rfl)
theorem dX14_alike_158 : decode cX14_alike 158 = .ok (.laload, 1) := dk_47 (dk_at dksX14_alike_6 17 rfl rfl)
theorem dX14_alike_159 : decode cX14_alike 159 = .ok (.lreturn, 1) := dk_173 (dk_at dksX14_alike_6 18 rfl rfl)
abbrev cX14_flock : ByteArray := prog_33_method_48_code
def yX14_flock : MethodName := ⟨RX14, "flock", "(II)I"⟩
def dkwX14_flock_5 : List UInt8 := [181, 0, 16, 29, 172]
abbrev dktX14_flock_5 : List UInt8 := dkwX14_flock_5 ++ []
def dkwX14_flock_4 : List UInt8 := [167, 0, 7, 42, 180, 1, 12, 181, 1, 12, 42, 27, 5, 160, 0, 7, 28, 167, 0, 7, 42, 180, 0, 16]
abbrev dktX14_flock_4 : List UInt8 := dkwX14_flock_4 ++ dktX14_flock_5
def dkwX14_flock_3 : List UInt8 := [27, 154, 0, 7, 28, 167, 0, 7, 42, 180, 1, 9, 181, 1, 9, 42, 27, 4, 160, 0, 7, 28]
abbrev dktX14_flock_3 : List UInt8 := dkwX14_flock_3 ++ dktX14_flock_4
def dkwX14_flock_2 : List UInt8 := [180, 1, 9, 167, 0, 19, 27, 4, 160, 0, 10, 42, 180, 1, 12, 167, 0, 7, 42, 180, 0, 16, 62, 42]
abbrev dktX14_flock_2 : List UInt8 := dkwX14_flock_2 ++ dktX14_flock_3
def dkwX14_flock_1 : List UInt8 := [160, 0, 7, 8, 167, 0, 5, 16, 6, 184, 0, 133, 154, 0, 5, 2, 172, 27, 154, 0, 10, 42]
abbrev dktX14_flock_1 : List UInt8 := dkwX14_flock_1 ++ dktX14_flock_2
def dkwX14_flock_0 : List UInt8 := [27, 3, 5, 184, 0, 133, 153, 0, 31, 28, 27, 5, 160, 0, 7, 4, 167, 0, 4, 3, 27, 5]
abbrev dktX14_flock_0 : List UInt8 := dkwX14_flock_0 ++ dktX14_flock_1
theorem dksX14_flock_0 : cX14_flock.data.toList.drop 0 = dktX14_flock_0 := by decide +kernel
theorem dksX14_flock_1 : cX14_flock.data.toList.drop 22 = dktX14_flock_1 := dk_seg dksX14_flock_0 22 rfl rfl
theorem dksX14_flock_2 : cX14_flock.data.toList.drop 44 = dktX14_flock_2 := dk_seg dksX14_flock_1 22 rfl rfl
theorem dksX14_flock_3 : cX14_flock.data.toList.drop 68 = dktX14_flock_3 := dk_seg dksX14_flock_2 24 rfl rfl
theorem dksX14_flock_4 : cX14_flock.data.toList.drop 90 = dktX14_flock_4 := dk_seg dksX14_flock_3 22 rfl rfl
theorem dksX14_flock_5 : cX14_flock.data.toList.drop 114 = dktX14_flock_5 := dk_seg dksX14_flock_4 24 rfl rfl
theorem dX14_flock_0 : decode cX14_flock 0 = .ok (.iload_n 1, 1) := dk_27 (dk_at dksX14_flock_0 0 rfl rfl)
theorem dX14_flock_1 : decode cX14_flock 1 = .ok (.iconst 0, 1) := dk_3 (dk_at dksX14_flock_0 1 rfl rfl)
theorem dX14_flock_2 : decode cX14_flock 2 = .ok (.iconst 2, 1) := dk_5 (dk_at dksX14_flock_0 2 rfl rfl)
theorem dX14_flock_3 : decode cX14_flock 3 = .ok (.invokestatic 133, 3) := dk_184 0 133 (dk_at dksX14_flock_0 3 rfl rfl)
theorem dX14_flock_6 : decode cX14_flock 6 = .ok (.ifCond .eq 31, 3) := dk_153 0 31 (dk_at dksX14_flock_0 6 rfl rfl)
theorem dX14_flock_9 : decode cX14_flock 9 = .ok (.iload_n 2, 1) := dk_28 (dk_at dksX14_flock_0 9 rfl rfl)
theorem dX14_flock_10 : decode cX14_flock 10 = .ok (.iload_n 1, 1) := dk_27 (dk_at dksX14_flock_0 10 rfl rfl)
theorem dX14_flock_11 : decode cX14_flock 11 = .ok (.iconst 2, 1) := dk_5 (dk_at dksX14_flock_0 11 rfl rfl)
theorem dX14_flock_12 : decode cX14_flock 12 = .ok (.if_icmp .ne 7, 3) := dk_160 0 7 (dk_at dksX14_flock_0 12 rfl rfl)
theorem dX14_flock_15 : decode cX14_flock 15 = .ok (.iconst 1, 1) := dk_4 (dk_at dksX14_flock_0 15 rfl rfl)
theorem dX14_flock_16 : decode cX14_flock 16 = .ok (.goto 4, 3) := dk_167 0 4 (dk_at dksX14_flock_0 16 rfl rfl)
theorem dX14_flock_19 : decode cX14_flock 19 = .ok (.iconst 0, 1) := dk_3 (dk_at dksX14_flock_0 19 rfl rfl)
theorem dX14_flock_20 : decode cX14_flock 20 = .ok (.iload_n 1, 1) := dk_27 (dk_at dksX14_flock_0 20 rfl rfl)
theorem dX14_flock_21 : decode cX14_flock 21 = .ok (.iconst 2, 1) := dk_5 (dk_at dksX14_flock_0 21 rfl rfl)
theorem dX14_flock_22 : decode cX14_flock 22 = .ok (.if_icmp .ne 7, 3) := dk_160 0 7 (dk_at dksX14_flock_1 0 rfl rfl)
theorem dX14_flock_25 : decode cX14_flock 25 = .ok (.iconst 5, 1) := dk_8 (dk_at dksX14_flock_1 3 rfl rfl)
theorem dX14_flock_26 : decode cX14_flock 26 = .ok (.goto 5, 3) := dk_167 0 5 (dk_at dksX14_flock_1 4 rfl rfl)
theorem dX14_flock_29 : decode cX14_flock 29 = .ok (.bipush 6, 2) := dk_16 6 (dk_at dksX14_flock_1 7 rfl rfl)
theorem dX14_flock_31 : decode cX14_flock 31 = .ok (.invokestatic 133, 3) := dk_184 0 133 (dk_at dksX14_flock_1 9 rfl rfl)
theorem dX14_flock_34 : decode cX14_flock 34 = .ok (.ifCond .ne 5, 3) := dk_154 0 5 (dk_at dksX14_flock_1 12 rfl rfl)
theorem dX14_flock_37 : decode cX14_flock 37 = .ok (.iconst (-1), 1) := dk_2 (dk_at dksX14_flock_1 15 rfl rfl)
theorem dX14_flock_38 : decode cX14_flock 38 = .ok (.ireturn, 1) := dk_172 (dk_at dksX14_flock_1 16 rfl rfl)
theorem dX14_flock_39 : decode cX14_flock 39 = .ok (.iload_n 1, 1) := dk_27 (dk_at dksX14_flock_1 17 rfl rfl)
theorem dX14_flock_40 : decode cX14_flock 40 = .ok (.ifCond .ne 10, 3) := dk_154 0 10 (dk_at dksX14_flock_1 18 rfl rfl)
theorem dX14_flock_43 : decode cX14_flock 43 = .ok (.aload_n 0, 1) := dk_42 (dk_at dksX14_flock_1 21 rfl rfl)
theorem dX14_flock_44 : decode cX14_flock 44 = .ok (.getfield 265, 3) := dk_180 1 9 (dk_at dksX14_flock_2 0 rfl rfl)
theorem dX14_flock_47 : decode cX14_flock 47 = .ok (.goto 19, 3) := dk_167 0 19 (dk_at dksX14_flock_2 3 rfl rfl)
theorem dX14_flock_50 : decode cX14_flock 50 = .ok (.iload_n 1, 1) := dk_27 (dk_at dksX14_flock_2 6 rfl rfl)
theorem dX14_flock_51 : decode cX14_flock 51 = .ok (.iconst 1, 1) := dk_4 (dk_at dksX14_flock_2 7 rfl rfl)
theorem dX14_flock_52 : decode cX14_flock 52 = .ok (.if_icmp .ne 10, 3) := dk_160 0 10 (dk_at dksX14_flock_2 8 rfl rfl)
theorem dX14_flock_55 : decode cX14_flock 55 = .ok (.aload_n 0, 1) := dk_42 (dk_at dksX14_flock_2 11 rfl rfl)
theorem dX14_flock_56 : decode cX14_flock 56 = .ok (.getfield 268, 3) := dk_180 1 12 (dk_at dksX14_flock_2 12 rfl rfl)
theorem dX14_flock_59 : decode cX14_flock 59 = .ok (.goto 7, 3) := dk_167 0 7 (dk_at dksX14_flock_2 15 rfl rfl)
theorem dX14_flock_62 : decode cX14_flock 62 = .ok (.aload_n 0, 1) := dk_42 (dk_at dksX14_flock_2 18 rfl rfl)
theorem dX14_flock_63 : decode cX14_flock 63 = .ok (.getfield 16, 3) := dk_180 0 16 (dk_at dksX14_flock_2 19 rfl rfl)
theorem dX14_flock_66 : decode cX14_flock 66 = .ok (.istore_n 3, 1) := dk_62 (dk_at dksX14_flock_2 22 rfl rfl)
theorem dX14_flock_67 : decode cX14_flock 67 = .ok (.aload_n 0, 1) := dk_42 (dk_at dksX14_flock_2 23 rfl rfl)
theorem dX14_flock_68 : decode cX14_flock 68 = .ok (.iload_n 1, 1) := dk_27 (dk_at dksX14_flock_3 0 rfl rfl)
theorem dX14_flock_69 : decode cX14_flock 69 = .ok (.ifCond .ne 7, 3) := dk_154 0 7 (dk_at dksX14_flock_3 1 rfl rfl)
theorem dX14_flock_72 : decode cX14_flock 72 = .ok (.iload_n 2, 1) := dk_28 (dk_at dksX14_flock_3 4 rfl rfl)
theorem dX14_flock_73 : decode cX14_flock 73 = .ok (.goto 7, 3) := dk_167 0 7 (dk_at dksX14_flock_3 5 rfl rfl)
theorem dX14_flock_76 : decode cX14_flock 76 = .ok (.aload_n 0, 1) := dk_42 (dk_at dksX14_flock_3 8 rfl rfl)
theorem dX14_flock_77 : decode cX14_flock 77 = .ok (.getfield 265, 3) := dk_180 1 9 (dk_at dksX14_flock_3 9 rfl rfl)
theorem dX14_flock_80 : decode cX14_flock 80 = .ok (.putfield 265, 3) := dk_181 1 9 (dk_at dksX14_flock_3 12 rfl rfl)
theorem dX14_flock_83 : decode cX14_flock 83 = .ok (.aload_n 0, 1) := dk_42 (dk_at dksX14_flock_3 15 rfl rfl)
theorem dX14_flock_84 : decode cX14_flock 84 = .ok (.iload_n 1, 1) := dk_27 (dk_at dksX14_flock_3 16 rfl rfl)
theorem dX14_flock_85 : decode cX14_flock 85 = .ok (.iconst 1, 1) := dk_4 (dk_at dksX14_flock_3 17 rfl rfl)
theorem dX14_flock_86 : decode cX14_flock 86 = .ok (.if_icmp .ne 7, 3) := dk_160 0 7 (dk_at dksX14_flock_3 18 rfl rfl)
theorem dX14_flock_89 : decode cX14_flock 89 = .ok (.iload_n 2, 1) := dk_28 (dk_at dksX14_flock_3 21 rfl rfl)
theorem dX14_flock_90 : decode cX14_flock 90 = .ok (.goto 7, 3) := dk_167 0 7 (dk_at dksX14_flock_4 0 rfl rfl)
theorem dX14_flock_93 : decode cX14_flock 93 = .ok (.aload_n 0, 1) := dk_42 (dk_at dksX14_flock_4 3 rfl rfl)
theorem dX14_flock_94 : decode cX14_flock 94 = .ok (.getfield 268, 3) := dk_180 1 12 (dk_at dksX14_flock_4 4 rfl rfl)
theorem dX14_flock_97 : decode cX14_flock 97 = .ok (.putfield 268, 3) := dk_181 1 12 (dk_at dksX14_flock_4 7 rfl rfl)
theorem dX14_flock_100 : decode cX14_flock 100 = .ok (.aload_n 0, 1) := dk_42 (dk_at dksX14_flock_4 10 rfl rfl)
theorem dX14_flock_101 : decode cX14_flock 101 = .ok (.iload_n 1, 1) := dk_27 (dk_at dksX14_flock_4 11 rfl rfl)
theorem dX14_flock_102 : decode cX14_flock 102 = .ok (.iconst 2, 1) := dk_5 (dk_at dksX14_flock_4 12 rfl rfl)
theorem dX14_flock_103 : decode cX14_flock 103 = .ok (.if_icmp .ne 7, 3) := dk_160 0 7 (dk_at dksX14_flock_4 13 rfl rfl)
theorem dX14_flock_106 : decode cX14_flock 106 = .ok (.iload_n 2, 1) := dk_28 (dk_at dksX14_flock_4 16 rfl rfl)
theorem dX14_flock_107 : decode cX14_flock 107 = .ok (.goto 7, 3) := dk_167 0 7 (dk_at dksX14_flock_4 17 rfl rfl)
theorem dX14_flock_110 : decode cX14_flock 110 = .ok (.aload_n 0, 1) := dk_42 (dk_at dksX14_flock_4 20 rfl rfl)
theorem dX14_flock_111 : decode cX14_flock 111 = .ok (.getfield 16, 3) := dk_180 0 16 (dk_at dksX14_flock_4 21 rfl rfl)
theorem dX14_flock_114 : decode cX14_flock 114 = .ok (.putfield 16, 3) := dk_181 0 16 (dk_at dksX14_flock_5 0 rfl rfl)
theorem dX14_flock_117 : decode cX14_flock 117 = .ok (.iload_n 3, 1) := dk_29 (dk_at dksX14_flock_5 3 rfl rfl)
theorem dX14_flock_118 : decode cX14_flock 118 = .ok (.ireturn, 1) := dk_172 (dk_at dksX14_flock_5 4 rfl rfl)
abbrev cX14_rests : ByteArray := prog_33_method_54_code
def yX14_rests : MethodName := ⟨RX14, "rests", "()I"⟩
def dkwX14_rests_0 : List UInt8 := [42, 2, 182, 1, 28, 172]
abbrev dktX14_rests_0 : List UInt8 := dkwX14_rests_0 ++ []
theorem dksX14_rests_0 : cX14_rests.data.toList.drop 0 = dktX14_rests_0 := by decide +kernel
theorem dX14_rests_0 : decode cX14_rests 0 = .ok (.aload_n 0, 1) := dk_42 (dk_at dksX14_rests_0 0 rfl rfl)
theorem dX14_rests_1 : decode cX14_rests 1 = .ok (.iconst (-1), 1) := dk_2 (dk_at dksX14_rests_0 1 rfl rfl)
theorem dX14_rests_2 : decode cX14_rests 2 = .ok (.invokevirtual 284, 3) := dk_182 1 28 (dk_at dksX14_rests_0 2 rfl rfl)
theorem dX14_rests_5 : decode cX14_rests 5 = .ok (.ireturn, 1) := dk_172 (dk_at dksX14_rests_0 5 rfl rfl)
abbrev cX14_findRest : ByteArray := prog_33_method_53_code
def yX14_findRest : MethodName := ⟨RX14, "findRest", "(I)I"⟩
def dkwX14_findRest_4 : List UInt8 := [167, 255, 196, 27, 156, 0, 7, 28, 167, 0, 5, 16, 253, 172]
abbrev dktX14_findRest_4 : List UInt8 := dkwX14_findRest_4 ++ []
def dkwX14_findRest_3 : List UInt8 := [182, 1, 25, 62, 29, 154, 0, 18, 42, 3, 182, 1, 25, 62, 42, 7, 42, 180, 1, 12, 182, 1, 18]
abbrev dktX14_findRest_3 : List UInt8 := dkwX14_findRest_3 ++ dktX14_findRest_4
def dkwX14_findRest_2 : List UInt8 := [28, 27, 160, 0, 5, 27, 172, 28, 21, 4, 153, 0, 7, 4, 167, 0, 4, 3, 96, 61, 42, 7]
abbrev dktX14_findRest_2 : List UInt8 := dkwX14_findRest_2 ++ dktX14_findRest_3
def dkwX14_findRest_1 : List UInt8 := [158, 0, 7, 4, 167, 0, 4, 3, 62, 29, 153, 0, 62, 42, 182, 1, 22, 54, 4, 21, 4, 153, 0, 10]
abbrev dktX14_findRest_1 : List UInt8 := dkwX14_findRest_1 ++ dktX14_findRest_2
def dkwX14_findRest_0 : List UInt8 := [3, 61, 42, 3, 42, 180, 1, 9, 182, 1, 18, 42, 7, 42, 180, 1, 12, 182, 1, 18, 42, 180, 0, 130]
abbrev dktX14_findRest_0 : List UInt8 := dkwX14_findRest_0 ++ dktX14_findRest_1
theorem dksX14_findRest_0 : cX14_findRest.data.toList.drop 0 = dktX14_findRest_0 := by decide +kernel
theorem dksX14_findRest_1 : cX14_findRest.data.toList.drop 24 = dktX14_findRest_1 := dk_seg dksX14_findRest_0 24 rfl rfl
theorem dksX14_findRest_2 : cX14_findRest.data.toList.drop 48 = dktX14_findRest_2 := dk_seg dksX14_findRest_1 24 rfl rfl
theorem dksX14_findRest_3 : cX14_findRest.data.toList.drop 70 = dktX14_findRest_3 := dk_seg dksX14_findRest_2 22 rfl rfl
theorem dksX14_findRest_4 : cX14_findRest.data.toList.drop 93 = dktX14_findRest_4 := dk_seg dksX14_findRest_3 23 rfl rfl
theorem dX14_findRest_0 : decode cX14_findRest 0 = .ok (.iconst 0, 1) := dk_3 (dk_at dksX14_findRest_0 0 rfl rfl)
theorem dX14_findRest_1 : decode cX14_findRest 1 = .ok (.istore_n 2, 1) := dk_61 (dk_at dksX14_findRest_0 1 rfl rfl)
theorem dX14_findRest_2 : decode cX14_findRest 2 = .ok (.aload_n 0, 1) := dk_42 (dk_at dksX14_findRest_0 2 rfl rfl)
theorem dX14_findRest_3 : decode cX14_findRest 3 = .ok (.iconst 0, 1) := dk_3 (dk_at dksX14_findRest_0 3 rfl rfl)
theorem dX14_findRest_4 : decode cX14_findRest 4 = .ok (.aload_n 0, 1) := dk_42 (dk_at dksX14_findRest_0 4 rfl rfl)
theorem dX14_findRest_5 : decode cX14_findRest 5 = .ok (.getfield 265, 3) := dk_180 1 9 (dk_at dksX14_findRest_0 5 rfl rfl)
theorem dX14_findRest_8 : decode cX14_findRest 8 = .ok (.invokevirtual 274, 3) := dk_182 1 18 (dk_at dksX14_findRest_0 8 rfl rfl)
theorem dX14_findRest_11 : decode cX14_findRest 11 = .ok (.aload_n 0, 1) := dk_42 (dk_at dksX14_findRest_0 11 rfl rfl)
theorem dX14_findRest_12 : decode cX14_findRest 12 = .ok (.iconst 4, 1) := dk_7 (dk_at dksX14_findRest_0 12 rfl rfl)
theorem dX14_findRest_13 : decode cX14_findRest 13 = .ok (.aload_n 0, 1) := dk_42 (dk_at dksX14_findRest_0 13 rfl rfl)
theorem dX14_findRest_14 : decode cX14_findRest 14 = .ok (.getfield 268, 3) := dk_180 1 12 (dk_at dksX14_findRest_0 14 rfl rfl)
theorem dX14_findRest_17 : decode cX14_findRest 17 = .ok (.invokevirtual 274, 3) := dk_182 1 18 (dk_at dksX14_findRest_0 17 rfl rfl)
theorem dX14_findRest_20 : decode cX14_findRest 20 = .ok (.aload_n 0, 1) := dk_42 (dk_at dksX14_findRest_0 20 rfl rfl)
theorem dX14_findRest_21 : decode cX14_findRest 21 = .ok (.getfield 130, 3) := dk_180 0 130 (dk_at dksX14_findRest_0 21 rfl rfl)
theorem dX14_findRest_24 : decode cX14_findRest 24 = .ok (.ifCond .le 7, 3) := dk_158 0 7 (dk_at dksX14_findRest_1 0 rfl rfl)
theorem dX14_findRest_27 : decode cX14_findRest 27 = .ok (.iconst 1, 1) := dk_4 (dk_at dksX14_findRest_1 3 rfl rfl)
theorem dX14_findRest_28 : decode cX14_findRest 28 = .ok (.goto 4, 3) := dk_167 0 4 (dk_at dksX14_findRest_1 4 rfl rfl)
theorem dX14_findRest_31 : decode cX14_findRest 31 = .ok (.iconst 0, 1) := dk_3 (dk_at dksX14_findRest_1 7 rfl rfl)
theorem dX14_findRest_32 : decode cX14_findRest 32 = .ok (.istore_n 3, 1) := dk_62 (dk_at dksX14_findRest_1 8 rfl rfl)
theorem dX14_findRest_33 : decode cX14_findRest 33 = .ok (.iload_n 3, 1) := dk_29 (dk_at dksX14_findRest_1 9 rfl rfl)
theorem dX14_findRest_34 : decode cX14_findRest 34 = .ok (.ifCond .eq 62, 3) := dk_153 0 62 (dk_at dksX14_findRest_1 10 rfl rfl)
theorem dX14_findRest_37 : decode cX14_findRest 37 = .ok (.aload_n 0, 1) := dk_42 (dk_at dksX14_findRest_1 13 rfl rfl)
theorem dX14_findRest_38 : decode cX14_findRest 38 = .ok (.invokevirtual 278, 3) := dk_182 1 22 (dk_at dksX14_findRest_1 14 rfl rfl)
theorem dX14_findRest_41 : decode cX14_findRest 41 = .ok (.istore 4, 2) := dk_54 4 (dk_at dksX14_findRest_1 17 rfl rfl)
theorem dX14_findRest_43 : decode cX14_findRest 43 = .ok (.iload 4, 2) := dk_21 4 (dk_at dksX14_findRest_1 19 rfl rfl)
theorem dX14_findRest_45 : decode cX14_findRest 45 = .ok (.ifCond .eq 10, 3) := dk_153 0 10 (dk_at dksX14_findRest_1 21 rfl rfl)
theorem dX14_findRest_48 : decode cX14_findRest 48 = .ok (.iload_n 2, 1) := dk_28 (dk_at dksX14_findRest_2 0 rfl rfl)
theorem dX14_findRest_49 : decode cX14_findRest 49 = .ok (.iload_n 1, 1) := dk_27 (dk_at dksX14_findRest_2 1 rfl rfl)
theorem dX14_findRest_50 : decode cX14_findRest 50 = .ok (.if_icmp .ne 5, 3) := dk_160 0 5 (dk_at dksX14_findRest_2 2 rfl rfl)
theorem dX14_findRest_53 : decode cX14_findRest 53 = .ok (.iload_n 1, 1) := dk_27 (dk_at dksX14_findRest_2 5 rfl rfl)
theorem dX14_findRest_54 : decode cX14_findRest 54 = .ok (.ireturn, 1) := dk_172 (dk_at dksX14_findRest_2 6 rfl rfl)
theorem dX14_findRest_55 : decode cX14_findRest 55 = .ok (.iload_n 2, 1) := dk_28 (dk_at dksX14_findRest_2 7 rfl rfl)
theorem dX14_findRest_56 : decode cX14_findRest 56 = .ok (.iload 4, 2) := dk_21 4 (dk_at dksX14_findRest_2 8 rfl rfl)
theorem dX14_findRest_58 : decode cX14_findRest 58 = .ok (.ifCond .eq 7, 3) := dk_153 0 7 (dk_at dksX14_findRest_2 10 rfl rfl)
theorem dX14_findRest_61 : decode cX14_findRest 61 = .ok (.iconst 1, 1) := dk_4 (dk_at dksX14_findRest_2 13 rfl rfl)
theorem dX14_findRest_62 : decode cX14_findRest 62 = .ok (.goto 4, 3) := dk_167 0 4 (dk_at dksX14_findRest_2 14 rfl rfl)
theorem dX14_findRest_65 : decode cX14_findRest 65 = .ok (.iconst 0, 1) := dk_3 (dk_at dksX14_findRest_2 17 rfl rfl)
theorem dX14_findRest_66 : decode cX14_findRest 66 = .ok (.iadd, 1) := dk_96 (dk_at dksX14_findRest_2 18 rfl rfl)
theorem dX14_findRest_67 : decode cX14_findRest 67 = .ok (.istore_n 2, 1) := dk_61 (dk_at dksX14_findRest_2 19 rfl rfl)
theorem dX14_findRest_68 : decode cX14_findRest 68 = .ok (.aload_n 0, 1) := dk_42 (dk_at dksX14_findRest_2 20 rfl rfl)
theorem dX14_findRest_69 : decode cX14_findRest 69 = .ok (.iconst 4, 1) := dk_7 (dk_at dksX14_findRest_2 21 rfl rfl)
theorem dX14_findRest_70 : decode cX14_findRest 70 = .ok (.invokevirtual 281, 3) := dk_182 1 25 (dk_at dksX14_findRest_3 0 rfl rfl)
theorem dX14_findRest_73 : decode cX14_findRest 73 = .ok (.istore_n 3, 1) := dk_62 (dk_at dksX14_findRest_3 3 rfl rfl)
theorem dX14_findRest_74 : decode cX14_findRest 74 = .ok (.iload_n 3, 1) := dk_29 (dk_at dksX14_findRest_3 4 rfl rfl)
theorem dX14_findRest_75 : decode cX14_findRest 75 = .ok (.ifCond .ne 18, 3) := dk_154 0 18 (dk_at dksX14_findRest_3 5 rfl rfl)
theorem dX14_findRest_78 : decode cX14_findRest 78 = .ok (.aload_n 0, 1) := dk_42 (dk_at dksX14_findRest_3 8 rfl rfl)
theorem dX14_findRest_79 : decode cX14_findRest 79 = .ok (.iconst 0, 1) := dk_3 (dk_at dksX14_findRest_3 9 rfl rfl)
theorem dX14_findRest_80 : decode cX14_findRest 80 = .ok (.invokevirtual 281, 3) := dk_182 1 25 (dk_at dksX14_findRest_3 10 rfl rfl)
theorem dX14_findRest_83 : decode cX14_findRest 83 = .ok (.istore_n 3, 1) := dk_62 (dk_at dksX14_findRest_3 13 rfl rfl)
theorem dX14_findRest_84 : decode cX14_findRest 84 = .ok (.aload_n 0, 1) := dk_42 (dk_at dksX14_findRest_3 14 rfl rfl)
theorem dX14_findRest_85 : decode cX14_findRest 85 = .ok (.iconst 4, 1) := dk_7 (dk_at dksX14_findRest_3 15 rfl rfl)
theorem dX14_findRest_86 : decode cX14_findRest 86 = .ok (.aload_n 0, 1) := dk_42 (dk_at dksX14_findRest_3 16 rfl rfl)
theorem dX14_findRest_87 : decode cX14_findRest 87 = .ok (.getfield 268, 3) := dk_180 1 12 (dk_at dksX14_findRest_3 17 rfl rfl)
theorem dX14_findRest_90 : decode cX14_findRest 90 = .ok (.invokevirtual 274, 3) := dk_182 1 18 (dk_at dksX14_findRest_3 20 rfl rfl)
theorem dX14_findRest_93 : decode cX14_findRest 93 = .ok (.goto (-60), 3) := dk_167 255 196 (dk_at dksX14_findRest_4 0 rfl rfl)
theorem dX14_findRest_96 : decode cX14_findRest 96 = .ok (.iload_n 1, 1) := dk_27 (dk_at dksX14_findRest_4 3 rfl rfl)
theorem dX14_findRest_97 : decode cX14_findRest 97 = .ok (.ifCond .ge 7, 3) := dk_156 0 7 (dk_at dksX14_findRest_4 4 rfl rfl)
theorem dX14_findRest_100 : decode cX14_findRest 100 = .ok (.iload_n 2, 1) := dk_28 (dk_at dksX14_findRest_4 7 rfl rfl)
theorem dX14_findRest_101 : decode cX14_findRest 101 = .ok (.goto 5, 3) := dk_167 0 5 (dk_at dksX14_findRest_4 8 rfl rfl)
theorem dX14_findRest_104 : decode cX14_findRest 104 = .ok (.bipush (-3), 2) := dk_16 253 (dk_at dksX14_findRest_4 11 rfl rfl)
theorem dX14_findRest_106 : decode cX14_findRest 106 = .ok (.ireturn, 1) := dk_172 (dk_at dksX14_findRest_4 13 rfl rfl)
abbrev cX14_lays : ByteArray := prog_33_method_51_code
def yX14_lays : MethodName := ⟨RX14, "lays", "(II)V"⟩
def dkwX14_lays_1 : List UInt8 := [28, 167, 0, 4, 3, 79, 132, 3, 1, 167, 255, 225, 177]
abbrev dktX14_lays_1 : List UInt8 := dkwX14_lays_1 ++ []
def dkwX14_lays_0 : List UInt8 := [3, 62, 29, 7, 162, 0, 32, 42, 180, 0, 76, 27, 29, 96, 29, 42, 180, 0, 130, 4, 100, 160, 0, 7]
abbrev dktX14_lays_0 : List UInt8 := dkwX14_lays_0 ++ dktX14_lays_1
theorem dksX14_lays_0 : cX14_lays.data.toList.drop 0 = dktX14_lays_0 := by decide +kernel
theorem dksX14_lays_1 : cX14_lays.data.toList.drop 24 = dktX14_lays_1 := dk_seg dksX14_lays_0 24 rfl rfl
theorem dX14_lays_0 : decode cX14_lays 0 = .ok (.iconst 0, 1) := dk_3 (dk_at dksX14_lays_0 0 rfl rfl)
theorem dX14_lays_1 : decode cX14_lays 1 = .ok (.istore_n 3, 1) := dk_62 (dk_at dksX14_lays_0 1 rfl rfl)
theorem dX14_lays_2 : decode cX14_lays 2 = .ok (.iload_n 3, 1) := dk_29 (dk_at dksX14_lays_0 2 rfl rfl)
theorem dX14_lays_3 : decode cX14_lays 3 = .ok (.iconst 4, 1) := dk_7 (dk_at dksX14_lays_0 3 rfl rfl)
theorem dX14_lays_4 : decode cX14_lays 4 = .ok (.if_icmp .ge 32, 3) := dk_162 0 32 (dk_at dksX14_lays_0 4 rfl rfl)
theorem dX14_lays_7 : decode cX14_lays 7 = .ok (.aload_n 0, 1) := dk_42 (dk_at dksX14_lays_0 7 rfl rfl)
theorem dX14_lays_8 : decode cX14_lays 8 = .ok (.getfield 76, 3) := dk_180 0 76 (dk_at dksX14_lays_0 8 rfl rfl)
theorem dX14_lays_11 : decode cX14_lays 11 = .ok (.iload_n 1, 1) := dk_27 (dk_at dksX14_lays_0 11 rfl rfl)
theorem dX14_lays_12 : decode cX14_lays 12 = .ok (.iload_n 3, 1) := dk_29 (dk_at dksX14_lays_0 12 rfl rfl)
theorem dX14_lays_13 : decode cX14_lays 13 = .ok (.iadd, 1) := dk_96 (dk_at dksX14_lays_0 13 rfl rfl)
theorem dX14_lays_14 : decode cX14_lays 14 = .ok (.iload_n 3, 1) := dk_29 (dk_at dksX14_lays_0 14 rfl rfl)
theorem dX14_lays_15 : decode cX14_lays 15 = .ok (.aload_n 0, 1) := dk_42 (dk_at dksX14_lays_0 15 rfl rfl)
theorem dX14_lays_16 : decode cX14_lays 16 = .ok (.getfield 130, 3) := dk_180 0 130 (dk_at dksX14_lays_0 16 rfl rfl)
theorem dX14_lays_19 : decode cX14_lays 19 = .ok (.iconst 1, 1) := dk_4 (dk_at dksX14_lays_0 19 rfl rfl)
theorem dX14_lays_20 : decode cX14_lays 20 = .ok (.isub, 1) := dk_100 (dk_at dksX14_lays_0 20 rfl rfl)
theorem dX14_lays_21 : decode cX14_lays 21 = .ok (.if_icmp .ne 7, 3) := dk_160 0 7 (dk_at dksX14_lays_0 21 rfl rfl)
theorem dX14_lays_24 : decode cX14_lays 24 = .ok (.iload_n 2, 1) := dk_28 (dk_at dksX14_lays_1 0 rfl rfl)
theorem dX14_lays_25 : decode cX14_lays 25 = .ok (.goto 4, 3) := dk_167 0 4 (dk_at dksX14_lays_1 1 rfl rfl)
theorem dX14_lays_28 : decode cX14_lays 28 = .ok (.iconst 0, 1) := dk_3 (dk_at dksX14_lays_1 4 rfl rfl)
theorem dX14_lays_29 : decode cX14_lays 29 = .ok (.iastore, 1) := dk_79 (dk_at dksX14_lays_1 5 rfl rfl)
theorem dX14_lays_30 : decode cX14_lays 30 = .ok (.iinc 3 1, 3) := dk_132 3 1 (dk_at dksX14_lays_1 6 rfl rfl)
theorem dX14_lays_33 : decode cX14_lays 33 = .ok (.goto (-31), 3) := dk_167 255 225 (dk_at dksX14_lays_1 9 rfl rfl)
theorem dX14_lays_36 : decode cX14_lays 36 = .ok (.return_, 1) := dk_177 (dk_at dksX14_lays_1 12 rfl rfl)
abbrev cX14_isRest : ByteArray := prog_33_method_50_code
def yX14_isRest : MethodName := ⟨RX14, "isRest", "()Z"⟩
def dkwX14_isRest_4 : List UInt8 := [153, 0, 7, 4, 167, 0, 4, 3, 60, 132, 2, 1, 167, 255, 194, 27, 172]
abbrev dktX14_isRest_4 : List UInt8 := dkwX14_isRest_4 ++ []
def dkwX14_isRest_3 : List UInt8 := [182, 1, 15, 153, 0, 27, 42, 180, 0, 76, 7, 28, 96, 46, 153, 0, 12, 42, 28, 4, 182, 1, 15]
abbrev dktX14_isRest_3 : List UInt8 := dkwX14_isRest_3 ++ dktX14_isRest_4
def dkwX14_isRest_2 : List UInt8 := [162, 0, 60, 27, 153, 0, 48, 42, 180, 0, 76, 28, 46, 153, 0, 15, 42, 28, 42, 180, 0, 16]
abbrev dktX14_isRest_2 : List UInt8 := dkwX14_isRest_2 ++ dktX14_isRest_3
def dkwX14_isRest_1 : List UInt8 := [180, 0, 76, 7, 27, 96, 46, 96, 79, 132, 1, 1, 167, 255, 222, 4, 60, 3, 61, 28, 42, 180, 0, 130]
abbrev dktX14_isRest_1 : List UInt8 := dkwX14_isRest_1 ++ dktX14_isRest_2
def dkwX14_isRest_0 : List UInt8 := [3, 60, 27, 7, 162, 0, 35, 42, 180, 0, 79, 27, 42, 180, 0, 16, 42, 180, 0, 76, 27, 46, 104, 42]
abbrev dktX14_isRest_0 : List UInt8 := dkwX14_isRest_0 ++ dktX14_isRest_1
theorem dksX14_isRest_0 : cX14_isRest.data.toList.drop 0 = dktX14_isRest_0 := by decide +kernel
theorem dksX14_isRest_1 : cX14_isRest.data.toList.drop 24 = dktX14_isRest_1 := dk_seg dksX14_isRest_0 24 rfl rfl
theorem dksX14_isRest_2 : cX14_isRest.data.toList.drop 48 = dktX14_isRest_2 := dk_seg dksX14_isRest_1 24 rfl rfl
theorem dksX14_isRest_3 : cX14_isRest.data.toList.drop 70 = dktX14_isRest_3 := dk_seg dksX14_isRest_2 22 rfl rfl
theorem dksX14_isRest_4 : cX14_isRest.data.toList.drop 93 = dktX14_isRest_4 := dk_seg dksX14_isRest_3 23 rfl rfl
theorem dX14_isRest_0 : decode cX14_isRest 0 = .ok (.iconst 0, 1) := dk_3 (dk_at dksX14_isRest_0 0 rfl rfl)
theorem dX14_isRest_1 : decode cX14_isRest 1 = .ok (.istore_n 1, 1) := dk_60 (dk_at dksX14_isRest_0 1 rfl rfl)
theorem dX14_isRest_2 : decode cX14_isRest 2 = .ok (.iload_n 1, 1) := dk_27 (dk_at dksX14_isRest_0 2 rfl rfl)
theorem dX14_isRest_3 : decode cX14_isRest 3 = .ok (.iconst 4, 1) := dk_7 (dk_at dksX14_isRest_0 3 rfl rfl)
theorem dX14_isRest_4 : decode cX14_isRest 4 = .ok (.if_icmp .ge 35, 3) := dk_162 0 35 (dk_at dksX14_isRest_0 4 rfl rfl)
theorem dX14_isRest_7 : decode cX14_isRest 7 = .ok (.aload_n 0, 1) := dk_42 (dk_at dksX14_isRest_0 7 rfl rfl)
theorem dX14_isRest_8 : decode cX14_isRest 8 = .ok (.getfield 79, 3) := dk_180 0 79 (dk_at dksX14_isRest_0 8 rfl rfl)
theorem dX14_isRest_11 : decode cX14_isRest 11 = .ok (.iload_n 1, 1) := dk_27 (dk_at dksX14_isRest_0 11 rfl rfl)
theorem dX14_isRest_12 : decode cX14_isRest 12 = .ok (.aload_n 0, 1) := dk_42 (dk_at dksX14_isRest_0 12 rfl rfl)
theorem dX14_isRest_13 : decode cX14_isRest 13 = .ok (.getfield 16, 3) := dk_180 0 16 (dk_at dksX14_isRest_0 13 rfl rfl)
theorem dX14_isRest_16 : decode cX14_isRest 16 = .ok (.aload_n 0, 1) := dk_42 (dk_at dksX14_isRest_0 16 rfl rfl)
theorem dX14_isRest_17 : decode cX14_isRest 17 = .ok (.getfield 76, 3) := dk_180 0 76 (dk_at dksX14_isRest_0 17 rfl rfl)
theorem dX14_isRest_20 : decode cX14_isRest 20 = .ok (.iload_n 1, 1) := dk_27 (dk_at dksX14_isRest_0 20 rfl rfl)
theorem dX14_isRest_21 : decode cX14_isRest 21 = .ok (.iaload, 1) := dk_46 (dk_at dksX14_isRest_0 21 rfl rfl)
theorem dX14_isRest_22 : decode cX14_isRest 22 = .ok (.imul, 1) := dk_104 (dk_at dksX14_isRest_0 22 rfl rfl)
theorem dX14_isRest_23 : decode cX14_isRest 23 = .ok (.aload_n 0, 1) := dk_42 (dk_at dksX14_isRest_0 23 rfl rfl)
theorem dX14_isRest_24 : decode cX14_isRest 24 = .ok (.getfield 76, 3) := dk_180 0 76 (dk_at dksX14_isRest_1 0 rfl rfl)
theorem dX14_isRest_27 : decode cX14_isRest 27 = .ok (.iconst 4, 1) := dk_7 (dk_at dksX14_isRest_1 3 rfl rfl)
theorem dX14_isRest_28 : decode cX14_isRest 28 = .ok (.iload_n 1, 1) := dk_27 (dk_at dksX14_isRest_1 4 rfl rfl)
theorem dX14_isRest_29 : decode cX14_isRest 29 = .ok (.iadd, 1) := dk_96 (dk_at dksX14_isRest_1 5 rfl rfl)
theorem dX14_isRest_30 : decode cX14_isRest 30 = .ok (.iaload, 1) := dk_46 (dk_at dksX14_isRest_1 6 rfl rfl)
theorem dX14_isRest_31 : decode cX14_isRest 31 = .ok (.iadd, 1) := dk_96 (dk_at dksX14_isRest_1 7 rfl rfl)
theorem dX14_isRest_32 : decode cX14_isRest 32 = .ok (.iastore, 1) := dk_79 (dk_at dksX14_isRest_1 8 rfl rfl)
theorem dX14_isRest_33 : decode cX14_isRest 33 = .ok (.iinc 1 1, 3) := dk_132 1 1 (dk_at dksX14_isRest_1 9 rfl rfl)
theorem dX14_isRest_36 : decode cX14_isRest 36 = .ok (.goto (-34), 3) := dk_167 255 222 (dk_at dksX14_isRest_1 12 rfl rfl)
theorem dX14_isRest_39 : decode cX14_isRest 39 = .ok (.iconst 1, 1) := dk_4 (dk_at dksX14_isRest_1 15 rfl rfl)
theorem dX14_isRest_40 : decode cX14_isRest 40 = .ok (.istore_n 1, 1) := dk_60 (dk_at dksX14_isRest_1 16 rfl rfl)
theorem dX14_isRest_41 : decode cX14_isRest 41 = .ok (.iconst 0, 1) := dk_3 (dk_at dksX14_isRest_1 17 rfl rfl)
theorem dX14_isRest_42 : decode cX14_isRest 42 = .ok (.istore_n 2, 1) := dk_61 (dk_at dksX14_isRest_1 18 rfl rfl)
theorem dX14_isRest_43 : decode cX14_isRest 43 = .ok (.iload_n 2, 1) := dk_28 (dk_at dksX14_isRest_1 19 rfl rfl)
theorem dX14_isRest_44 : decode cX14_isRest 44 = .ok (.aload_n 0, 1) := dk_42 (dk_at dksX14_isRest_1 20 rfl rfl)
theorem dX14_isRest_45 : decode cX14_isRest 45 = .ok (.getfield 130, 3) := dk_180 0 130 (dk_at dksX14_isRest_1 21 rfl rfl)
theorem dX14_isRest_48 : decode cX14_isRest 48 = .ok (.if_icmp .ge 60, 3) := dk_162 0 60 (dk_at dksX14_isRest_2 0 rfl rfl)
theorem dX14_isRest_51 : decode cX14_isRest 51 = .ok (.iload_n 1, 1) := dk_27 (dk_at dksX14_isRest_2 3 rfl rfl)
theorem dX14_isRest_52 : decode cX14_isRest 52 = .ok (.ifCond .eq 48, 3) := dk_153 0 48 (dk_at dksX14_isRest_2 4 rfl rfl)
theorem dX14_isRest_55 : decode cX14_isRest 55 = .ok (.aload_n 0, 1) := dk_42 (dk_at dksX14_isRest_2 7 rfl rfl)
theorem dX14_isRest_56 : decode cX14_isRest 56 = .ok (.getfield 76, 3) := dk_180 0 76 (dk_at dksX14_isRest_2 8 rfl rfl)
theorem dX14_isRest_59 : decode cX14_isRest 59 = .ok (.iload_n 2, 1) := dk_28 (dk_at dksX14_isRest_2 11 rfl rfl)
theorem dX14_isRest_60 : decode cX14_isRest 60 = .ok (.iaload, 1) := dk_46 (dk_at dksX14_isRest_2 12 rfl rfl)
theorem dX14_isRest_61 : decode cX14_isRest 61 = .ok (.ifCond .eq 15, 3) := dk_153 0 15 (dk_at dksX14_isRest_2 13 rfl rfl)
theorem dX14_isRest_64 : decode cX14_isRest 64 = .ok (.aload_n 0, 1) := dk_42 (dk_at dksX14_isRest_2 16 rfl rfl)
theorem dX14_isRest_65 : decode cX14_isRest 65 = .ok (.iload_n 2, 1) := dk_28 (dk_at dksX14_isRest_2 17 rfl rfl)
theorem dX14_isRest_66 : decode cX14_isRest 66 = .ok (.aload_n 0, 1) := dk_42 (dk_at dksX14_isRest_2 18 rfl rfl)
theorem dX14_isRest_67 : decode cX14_isRest 67 = .ok (.getfield 16, 3) := dk_180 0 16 (dk_at dksX14_isRest_2 19 rfl rfl)
theorem dX14_isRest_70 : decode cX14_isRest 70 = .ok (.invokevirtual 271, 3) := dk_182 1 15 (dk_at dksX14_isRest_3 0 rfl rfl)
theorem dX14_isRest_73 : decode cX14_isRest 73 = .ok (.ifCond .eq 27, 3) := dk_153 0 27 (dk_at dksX14_isRest_3 3 rfl rfl)
theorem dX14_isRest_76 : decode cX14_isRest 76 = .ok (.aload_n 0, 1) := dk_42 (dk_at dksX14_isRest_3 6 rfl rfl)
theorem dX14_isRest_77 : decode cX14_isRest 77 = .ok (.getfield 76, 3) := dk_180 0 76 (dk_at dksX14_isRest_3 7 rfl rfl)
theorem dX14_isRest_80 : decode cX14_isRest 80 = .ok (.iconst 4, 1) := dk_7 (dk_at dksX14_isRest_3 10 rfl rfl)
theorem dX14_isRest_81 : decode cX14_isRest 81 = .ok (.iload_n 2, 1) := dk_28 (dk_at dksX14_isRest_3 11 rfl rfl)
theorem dX14_isRest_82 : decode cX14_isRest 82 = .ok (.iadd, 1) := dk_96 (dk_at dksX14_isRest_3 12 rfl rfl)
theorem dX14_isRest_83 : decode cX14_isRest 83 = .ok (.iaload, 1) := dk_46 (dk_at dksX14_isRest_3 13 rfl rfl)
theorem dX14_isRest_84 : decode cX14_isRest 84 = .ok (.ifCond .eq 12, 3) := dk_153 0 12 (dk_at dksX14_isRest_3 14 rfl rfl)
theorem dX14_isRest_87 : decode cX14_isRest 87 = .ok (.aload_n 0, 1) := dk_42 (dk_at dksX14_isRest_3 17 rfl rfl)
theorem dX14_isRest_88 : decode cX14_isRest 88 = .ok (.iload_n 2, 1) := dk_28 (dk_at dksX14_isRest_3 18 rfl rfl)
theorem dX14_isRest_89 : decode cX14_isRest 89 = .ok (.iconst 1, 1) := dk_4 (dk_at dksX14_isRest_3 19 rfl rfl)
theorem dX14_isRest_90 : decode cX14_isRest 90 = .ok (.invokevirtual 271, 3) := dk_182 1 15 (dk_at dksX14_isRest_3 20 rfl rfl)
theorem dX14_isRest_93 : decode cX14_isRest 93 = .ok (.ifCond .eq 7, 3) := dk_153 0 7 (dk_at dksX14_isRest_4 0 rfl rfl)
theorem dX14_isRest_96 : decode cX14_isRest 96 = .ok (.iconst 1, 1) := dk_4 (dk_at dksX14_isRest_4 3 rfl rfl)
theorem dX14_isRest_97 : decode cX14_isRest 97 = .ok (.goto 4, 3) := dk_167 0 4 (dk_at dksX14_isRest_4 4 rfl rfl)
theorem dX14_isRest_100 : decode cX14_isRest 100 = .ok (.iconst 0, 1) := dk_3 (dk_at dksX14_isRest_4 7 rfl rfl)
theorem dX14_isRest_101 : decode cX14_isRest 101 = .ok (.istore_n 1, 1) := dk_60 (dk_at dksX14_isRest_4 8 rfl rfl)
theorem dX14_isRest_102 : decode cX14_isRest 102 = .ok (.iinc 2 1, 3) := dk_132 2 1 (dk_at dksX14_isRest_4 9 rfl rfl)
theorem dX14_isRest_105 : decode cX14_isRest 105 = .ok (.goto (-62), 3) := dk_167 255 194 (dk_at dksX14_isRest_4 12 rfl rfl)
theorem dX14_isRest_108 : decode cX14_isRest 108 = .ok (.iload_n 1, 1) := dk_27 (dk_at dksX14_isRest_4 15 rfl rfl)
theorem dX14_isRest_109 : decode cX14_isRest 109 = .ok (.ireturn, 1) := dk_172 (dk_at dksX14_isRest_4 16 rfl rfl)
abbrev cX14_isContent : ByteArray := prog_33_method_49_code
def yX14_isContent : MethodName := ⟨RX14, "isContent", "(II)Z"⟩
def dkwX14_isContent_3 : List UInt8 := [3, 62, 132, 4, 1, 167, 255, 185, 29, 172]
abbrev dktX14_isContent_3 : List UInt8 := dkwX14_isContent_3 ++ []
def dkwX14_isContent_2 : List UInt8 := [16, 11, 27, 104, 6, 96, 46, 42, 180, 0, 79, 21, 4, 46, 28, 96, 104, 163, 0, 7, 4, 167, 0, 4]
abbrev dktX14_isContent_2 : List UInt8 := dkwX14_isContent_2 ++ dktX14_isContent_3
def dkwX14_isContent_1 : List UInt8 := [42, 180, 0, 19, 16, 11, 21, 4, 104, 6, 96, 46, 42, 180, 0, 79, 27, 46, 104, 42, 180, 0, 19]
abbrev dktX14_isContent_1 : List UInt8 := dkwX14_isContent_1 ++ dktX14_isContent_2
def dkwX14_isContent_0 : List UInt8 := [4, 62, 3, 54, 4, 21, 4, 42, 180, 0, 130, 162, 0, 68, 29, 153, 0, 56, 21, 4, 27, 159, 0, 46]
abbrev dktX14_isContent_0 : List UInt8 := dkwX14_isContent_0 ++ dktX14_isContent_1
theorem dksX14_isContent_0 : cX14_isContent.data.toList.drop 0 = dktX14_isContent_0 := by decide +kernel
theorem dksX14_isContent_1 : cX14_isContent.data.toList.drop 24 = dktX14_isContent_1 := dk_seg dksX14_isContent_0 24 rfl rfl
theorem dksX14_isContent_2 : cX14_isContent.data.toList.drop 47 = dktX14_isContent_2 := dk_seg dksX14_isContent_1 23 rfl rfl
theorem dksX14_isContent_3 : cX14_isContent.data.toList.drop 71 = dktX14_isContent_3 := dk_seg dksX14_isContent_2 24 rfl rfl
theorem dX14_isContent_0 : decode cX14_isContent 0 = .ok (.iconst 1, 1) := dk_4 (dk_at dksX14_isContent_0 0 rfl rfl)
theorem dX14_isContent_1 : decode cX14_isContent 1 = .ok (.istore_n 3, 1) := dk_62 (dk_at dksX14_isContent_0 1 rfl rfl)
theorem dX14_isContent_2 : decode cX14_isContent 2 = .ok (.iconst 0, 1) := dk_3 (dk_at dksX14_isContent_0 2 rfl rfl)
theorem dX14_isContent_3 : decode cX14_isContent 3 = .ok (.istore 4, 2) := dk_54 4 (dk_at dksX14_isContent_0 3 rfl rfl)
theorem dX14_isContent_5 : decode cX14_isContent 5 = .ok (.iload 4, 2) := dk_21 4 (dk_at dksX14_isContent_0 5 rfl rfl)
theorem dX14_isContent_7 : decode cX14_isContent 7 = .ok (.aload_n 0, 1) := dk_42 (dk_at dksX14_isContent_0 7 rfl rfl)
theorem dX14_isContent_8 : decode cX14_isContent 8 = .ok (.getfield 130, 3) := dk_180 0 130 (dk_at dksX14_isContent_0 8 rfl rfl)
theorem dX14_isContent_11 : decode cX14_isContent 11 = .ok (.if_icmp .ge 68, 3) := dk_162 0 68 (dk_at dksX14_isContent_0 11 rfl rfl)
theorem dX14_isContent_14 : decode cX14_isContent 14 = .ok (.iload_n 3, 1) := dk_29 (dk_at dksX14_isContent_0 14 rfl rfl)
theorem dX14_isContent_15 : decode cX14_isContent 15 = .ok (.ifCond .eq 56, 3) := dk_153 0 56 (dk_at dksX14_isContent_0 15 rfl rfl)
theorem dX14_isContent_18 : decode cX14_isContent 18 = .ok (.iload 4, 2) := dk_21 4 (dk_at dksX14_isContent_0 18 rfl rfl)
theorem dX14_isContent_20 : decode cX14_isContent 20 = .ok (.iload_n 1, 1) := dk_27 (dk_at dksX14_isContent_0 20 rfl rfl)
theorem dX14_isContent_21 : decode cX14_isContent 21 = .ok (.if_icmp .eq 46, 3) := dk_159 0 46 (dk_at dksX14_isContent_0 21 rfl rfl)
theorem dX14_isContent_24 : decode cX14_isContent 24 = .ok (.aload_n 0, 1) := dk_42 (dk_at dksX14_isContent_1 0 rfl rfl)
theorem dX14_isContent_25 : decode cX14_isContent 25 = .ok (.getfield 19, 3) := dk_180 0 19 (dk_at dksX14_isContent_1 1 rfl rfl)
theorem dX14_isContent_28 : decode cX14_isContent 28 = .ok (.bipush 11, 2) := dk_16 11 (dk_at dksX14_isContent_1 4 rfl rfl)
theorem dX14_isContent_30 : decode cX14_isContent 30 = .ok (.iload 4, 2) := dk_21 4 (dk_at dksX14_isContent_1 6 rfl rfl)
theorem dX14_isContent_32 : decode cX14_isContent 32 = .ok (.imul, 1) := dk_104 (dk_at dksX14_isContent_1 8 rfl rfl)
theorem dX14_isContent_33 : decode cX14_isContent 33 = .ok (.iconst 3, 1) := dk_6 (dk_at dksX14_isContent_1 9 rfl rfl)
theorem dX14_isContent_34 : decode cX14_isContent 34 = .ok (.iadd, 1) := dk_96 (dk_at dksX14_isContent_1 10 rfl rfl)
theorem dX14_isContent_35 : decode cX14_isContent 35 = .ok (.iaload, 1) := dk_46 (dk_at dksX14_isContent_1 11 rfl rfl)
theorem dX14_isContent_36 : decode cX14_isContent 36 = .ok (.aload_n 0, 1) := dk_42 (dk_at dksX14_isContent_1 12 rfl rfl)
theorem dX14_isContent_37 : decode cX14_isContent 37 = .ok (.getfield 79, 3) := dk_180 0 79 (dk_at dksX14_isContent_1 13 rfl rfl)
theorem dX14_isContent_40 : decode cX14_isContent 40 = .ok (.iload_n 1, 1) := dk_27 (dk_at dksX14_isContent_1 16 rfl rfl)
theorem dX14_isContent_41 : decode cX14_isContent 41 = .ok (.iaload, 1) := dk_46 (dk_at dksX14_isContent_1 17 rfl rfl)
theorem dX14_isContent_42 : decode cX14_isContent 42 = .ok (.imul, 1) := dk_104 (dk_at dksX14_isContent_1 18 rfl rfl)
theorem dX14_isContent_43 : decode cX14_isContent 43 = .ok (.aload_n 0, 1) := dk_42 (dk_at dksX14_isContent_1 19 rfl rfl)
theorem dX14_isContent_44 : decode cX14_isContent 44 = .ok (.getfield 19, 3) := dk_180 0 19 (dk_at dksX14_isContent_1 20 rfl rfl)
theorem dX14_isContent_47 : decode cX14_isContent 47 = .ok (.bipush 11, 2) := dk_16 11 (dk_at dksX14_isContent_2 0 rfl rfl)
theorem dX14_isContent_49 : decode cX14_isContent 49 = .ok (.iload_n 1, 1) := dk_27 (dk_at dksX14_isContent_2 2 rfl rfl)
theorem dX14_isContent_50 : decode cX14_isContent 50 = .ok (.imul, 1) := dk_104 (dk_at dksX14_isContent_2 3 rfl rfl)
theorem dX14_isContent_51 : decode cX14_isContent 51 = .ok (.iconst 3, 1) := dk_6 (dk_at dksX14_isContent_2 4 rfl rfl)
theorem dX14_isContent_52 : decode cX14_isContent 52 = .ok (.iadd, 1) := dk_96 (dk_at dksX14_isContent_2 5 rfl rfl)
theorem dX14_isContent_53 : decode cX14_isContent 53 = .ok (.iaload, 1) := dk_46 (dk_at dksX14_isContent_2 6 rfl rfl)
theorem dX14_isContent_54 : decode cX14_isContent 54 = .ok (.aload_n 0, 1) := dk_42 (dk_at dksX14_isContent_2 7 rfl rfl)
theorem dX14_isContent_55 : decode cX14_isContent 55 = .ok (.getfield 79, 3) := dk_180 0 79 (dk_at dksX14_isContent_2 8 rfl rfl)
theorem dX14_isContent_58 : decode cX14_isContent 58 = .ok (.iload 4, 2) := dk_21 4 (dk_at dksX14_isContent_2 11 rfl rfl)
theorem dX14_isContent_60 : decode cX14_isContent 60 = .ok (.iaload, 1) := dk_46 (dk_at dksX14_isContent_2 13 rfl rfl)
theorem dX14_isContent_61 : decode cX14_isContent 61 = .ok (.iload_n 2, 1) := dk_28 (dk_at dksX14_isContent_2 14 rfl rfl)
theorem dX14_isContent_62 : decode cX14_isContent 62 = .ok (.iadd, 1) := dk_96 (dk_at dksX14_isContent_2 15 rfl rfl)
theorem dX14_isContent_63 : decode cX14_isContent 63 = .ok (.imul, 1) := dk_104 (dk_at dksX14_isContent_2 16 rfl rfl)
theorem dX14_isContent_64 : decode cX14_isContent 64 = .ok (.if_icmp .gt 7, 3) := dk_163 0 7 (dk_at dksX14_isContent_2 17 rfl rfl)
theorem dX14_isContent_67 : decode cX14_isContent 67 = .ok (.iconst 1, 1) := dk_4 (dk_at dksX14_isContent_2 20 rfl rfl)
theorem dX14_isContent_68 : decode cX14_isContent 68 = .ok (.goto 4, 3) := dk_167 0 4 (dk_at dksX14_isContent_2 21 rfl rfl)
theorem dX14_isContent_71 : decode cX14_isContent 71 = .ok (.iconst 0, 1) := dk_3 (dk_at dksX14_isContent_3 0 rfl rfl)
theorem dX14_isContent_72 : decode cX14_isContent 72 = .ok (.istore_n 3, 1) := dk_62 (dk_at dksX14_isContent_3 1 rfl rfl)
theorem dX14_isContent_73 : decode cX14_isContent 73 = .ok (.iinc 4 1, 3) := dk_132 4 1 (dk_at dksX14_isContent_3 2 rfl rfl)
theorem dX14_isContent_76 : decode cX14_isContent 76 = .ok (.goto (-71), 3) := dk_167 255 185 (dk_at dksX14_isContent_3 5 rfl rfl)
theorem dX14_isContent_79 : decode cX14_isContent 79 = .ok (.iload_n 3, 1) := dk_29 (dk_at dksX14_isContent_3 8 rfl rfl)
theorem dX14_isContent_80 : decode cX14_isContent 80 = .ok (.ireturn, 1) := dk_172 (dk_at dksX14_isContent_3 9 rfl rfl)
abbrev cX14_shifts : ByteArray := prog_33_method_52_code
def yX14_shifts : MethodName := ⟨RX14, "shifts", "(I)Z"⟩
def dkwX14_shifts_3 : List UInt8 := [180, 0, 76, 27, 42, 180, 0, 130, 96, 4, 100, 29, 79, 4, 172]
abbrev dktX14_shifts_3 : List UInt8 := dkwX14_shifts_3 ++ []
def dkwX14_shifts_2 : List UInt8 := [180, 0, 76, 27, 28, 96, 3, 79, 42, 180, 0, 76, 27, 28, 96, 4, 100, 92, 46, 4, 96, 79, 42]
abbrev dktX14_shifts_2 : List UInt8 := dkwX14_shifts_2 ++ dktX14_shifts_3
def dkwX14_shifts_1 : List UInt8 := [132, 2, 255, 167, 255, 238, 28, 157, 0, 5, 3, 172, 42, 180, 0, 76, 27, 28, 96, 46, 4, 100, 62, 42]
abbrev dktX14_shifts_1 : List UInt8 := dkwX14_shifts_1 ++ dktX14_shifts_2
def dkwX14_shifts_0 : List UInt8 := [42, 180, 0, 130, 4, 100, 61, 28, 158, 0, 20, 42, 180, 0, 76, 27, 28, 96, 46, 154, 0, 9]
abbrev dktX14_shifts_0 : List UInt8 := dkwX14_shifts_0 ++ dktX14_shifts_1
theorem dksX14_shifts_0 : cX14_shifts.data.toList.drop 0 = dktX14_shifts_0 := by decide +kernel
theorem dksX14_shifts_1 : cX14_shifts.data.toList.drop 22 = dktX14_shifts_1 := dk_seg dksX14_shifts_0 22 rfl rfl
theorem dksX14_shifts_2 : cX14_shifts.data.toList.drop 46 = dktX14_shifts_2 := dk_seg dksX14_shifts_1 24 rfl rfl
theorem dksX14_shifts_3 : cX14_shifts.data.toList.drop 69 = dktX14_shifts_3 := dk_seg dksX14_shifts_2 23 rfl rfl
theorem dX14_shifts_0 : decode cX14_shifts 0 = .ok (.aload_n 0, 1) := dk_42 (dk_at dksX14_shifts_0 0 rfl rfl)
theorem dX14_shifts_1 : decode cX14_shifts 1 = .ok (.getfield 130, 3) := dk_180 0 130 (dk_at dksX14_shifts_0 1 rfl rfl)
theorem dX14_shifts_4 : decode cX14_shifts 4 = .ok (.iconst 1, 1) := dk_4 (dk_at dksX14_shifts_0 4 rfl rfl)
theorem dX14_shifts_5 : decode cX14_shifts 5 = .ok (.isub, 1) := dk_100 (dk_at dksX14_shifts_0 5 rfl rfl)
theorem dX14_shifts_6 : decode cX14_shifts 6 = .ok (.istore_n 2, 1) := dk_61 (dk_at dksX14_shifts_0 6 rfl rfl)
theorem dX14_shifts_7 : decode cX14_shifts 7 = .ok (.iload_n 2, 1) := dk_28 (dk_at dksX14_shifts_0 7 rfl rfl)
theorem dX14_shifts_8 : decode cX14_shifts 8 = .ok (.ifCond .le 20, 3) := dk_158 0 20 (dk_at dksX14_shifts_0 8 rfl rfl)
theorem dX14_shifts_11 : decode cX14_shifts 11 = .ok (.aload_n 0, 1) := dk_42 (dk_at dksX14_shifts_0 11 rfl rfl)
theorem dX14_shifts_12 : decode cX14_shifts 12 = .ok (.getfield 76, 3) := dk_180 0 76 (dk_at dksX14_shifts_0 12 rfl rfl)
theorem dX14_shifts_15 : decode cX14_shifts 15 = .ok (.iload_n 1, 1) := dk_27 (dk_at dksX14_shifts_0 15 rfl rfl)
theorem dX14_shifts_16 : decode cX14_shifts 16 = .ok (.iload_n 2, 1) := dk_28 (dk_at dksX14_shifts_0 16 rfl rfl)
theorem dX14_shifts_17 : decode cX14_shifts 17 = .ok (.iadd, 1) := dk_96 (dk_at dksX14_shifts_0 17 rfl rfl)
theorem dX14_shifts_18 : decode cX14_shifts 18 = .ok (.iaload, 1) := dk_46 (dk_at dksX14_shifts_0 18 rfl rfl)
theorem dX14_shifts_19 : decode cX14_shifts 19 = .ok (.ifCond .ne 9, 3) := dk_154 0 9 (dk_at dksX14_shifts_0 19 rfl rfl)
theorem dX14_shifts_22 : decode cX14_shifts 22 = .ok (.iinc 2 (-1), 3) := dk_132 2 255 (dk_at dksX14_shifts_1 0 rfl rfl)
theorem dX14_shifts_25 : decode cX14_shifts 25 = .ok (.goto (-18), 3) := dk_167 255 238 (dk_at dksX14_shifts_1 3 rfl rfl)
theorem dX14_shifts_28 : decode cX14_shifts 28 = .ok (.iload_n 2, 1) := dk_28 (dk_at dksX14_shifts_1 6 rfl rfl)
theorem dX14_shifts_29 : decode cX14_shifts 29 = .ok (.ifCond .gt 5, 3) := dk_157 0 5 (dk_at dksX14_shifts_1 7 rfl rfl)
theorem dX14_shifts_32 : decode cX14_shifts 32 = .ok (.iconst 0, 1) := dk_3 (dk_at dksX14_shifts_1 10 rfl rfl)
theorem dX14_shifts_33 : decode cX14_shifts 33 = .ok (.ireturn, 1) := dk_172 (dk_at dksX14_shifts_1 11 rfl rfl)
theorem dX14_shifts_34 : decode cX14_shifts 34 = .ok (.aload_n 0, 1) := dk_42 (dk_at dksX14_shifts_1 12 rfl rfl)
theorem dX14_shifts_35 : decode cX14_shifts 35 = .ok (.getfield 76, 3) := dk_180 0 76 (dk_at dksX14_shifts_1 13 rfl rfl)
theorem dX14_shifts_38 : decode cX14_shifts 38 = .ok (.iload_n 1, 1) := dk_27 (dk_at dksX14_shifts_1 16 rfl rfl)
theorem dX14_shifts_39 : decode cX14_shifts 39 = .ok (.iload_n 2, 1) := dk_28 (dk_at dksX14_shifts_1 17 rfl rfl)
theorem dX14_shifts_40 : decode cX14_shifts 40 = .ok (.iadd, 1) := dk_96 (dk_at dksX14_shifts_1 18 rfl rfl)
theorem dX14_shifts_41 : decode cX14_shifts 41 = .ok (.iaload, 1) := dk_46 (dk_at dksX14_shifts_1 19 rfl rfl)
theorem dX14_shifts_42 : decode cX14_shifts 42 = .ok (.iconst 1, 1) := dk_4 (dk_at dksX14_shifts_1 20 rfl rfl)
theorem dX14_shifts_43 : decode cX14_shifts 43 = .ok (.isub, 1) := dk_100 (dk_at dksX14_shifts_1 21 rfl rfl)
theorem dX14_shifts_44 : decode cX14_shifts 44 = .ok (.istore_n 3, 1) := dk_62 (dk_at dksX14_shifts_1 22 rfl rfl)
theorem dX14_shifts_45 : decode cX14_shifts 45 = .ok (.aload_n 0, 1) := dk_42 (dk_at dksX14_shifts_1 23 rfl rfl)
theorem dX14_shifts_46 : decode cX14_shifts 46 = .ok (.getfield 76, 3) := dk_180 0 76 (dk_at dksX14_shifts_2 0 rfl rfl)
theorem dX14_shifts_49 : decode cX14_shifts 49 = .ok (.iload_n 1, 1) := dk_27 (dk_at dksX14_shifts_2 3 rfl rfl)
theorem dX14_shifts_50 : decode cX14_shifts 50 = .ok (.iload_n 2, 1) := dk_28 (dk_at dksX14_shifts_2 4 rfl rfl)
theorem dX14_shifts_51 : decode cX14_shifts 51 = .ok (.iadd, 1) := dk_96 (dk_at dksX14_shifts_2 5 rfl rfl)
theorem dX14_shifts_52 : decode cX14_shifts 52 = .ok (.iconst 0, 1) := dk_3 (dk_at dksX14_shifts_2 6 rfl rfl)
theorem dX14_shifts_53 : decode cX14_shifts 53 = .ok (.iastore, 1) := dk_79 (dk_at dksX14_shifts_2 7 rfl rfl)
theorem dX14_shifts_54 : decode cX14_shifts 54 = .ok (.aload_n 0, 1) := dk_42 (dk_at dksX14_shifts_2 8 rfl rfl)
theorem dX14_shifts_55 : decode cX14_shifts 55 = .ok (.getfield 76, 3) := dk_180 0 76 (dk_at dksX14_shifts_2 9 rfl rfl)
theorem dX14_shifts_58 : decode cX14_shifts 58 = .ok (.iload_n 1, 1) := dk_27 (dk_at dksX14_shifts_2 12 rfl rfl)
theorem dX14_shifts_59 : decode cX14_shifts 59 = .ok (.iload_n 2, 1) := dk_28 (dk_at dksX14_shifts_2 13 rfl rfl)
theorem dX14_shifts_60 : decode cX14_shifts 60 = .ok (.iadd, 1) := dk_96 (dk_at dksX14_shifts_2 14 rfl rfl)
theorem dX14_shifts_61 : decode cX14_shifts 61 = .ok (.iconst 1, 1) := dk_4 (dk_at dksX14_shifts_2 15 rfl rfl)
theorem dX14_shifts_62 : decode cX14_shifts 62 = .ok (.isub, 1) := dk_100 (dk_at dksX14_shifts_2 16 rfl rfl)
theorem dX14_shifts_63 : decode cX14_shifts 63 = .ok (.dup2, 1) := dk_92 (dk_at dksX14_shifts_2 17 rfl rfl)
theorem dX14_shifts_64 : decode cX14_shifts 64 = .ok (.iaload, 1) := dk_46 (dk_at dksX14_shifts_2 18 rfl rfl)
theorem dX14_shifts_65 : decode cX14_shifts 65 = .ok (.iconst 1, 1) := dk_4 (dk_at dksX14_shifts_2 19 rfl rfl)
theorem dX14_shifts_66 : decode cX14_shifts 66 = .ok (.iadd, 1) := dk_96 (dk_at dksX14_shifts_2 20 rfl rfl)
theorem dX14_shifts_67 : decode cX14_shifts 67 = .ok (.iastore, 1) := dk_79 (dk_at dksX14_shifts_2 21 rfl rfl)
theorem dX14_shifts_68 : decode cX14_shifts 68 = .ok (.aload_n 0, 1) := dk_42 (dk_at dksX14_shifts_2 22 rfl rfl)
theorem dX14_shifts_69 : decode cX14_shifts 69 = .ok (.getfield 76, 3) := dk_180 0 76 (dk_at dksX14_shifts_3 0 rfl rfl)
theorem dX14_shifts_72 : decode cX14_shifts 72 = .ok (.iload_n 1, 1) := dk_27 (dk_at dksX14_shifts_3 3 rfl rfl)
theorem dX14_shifts_73 : decode cX14_shifts 73 = .ok (.aload_n 0, 1) := dk_42 (dk_at dksX14_shifts_3 4 rfl rfl)
theorem dX14_shifts_74 : decode cX14_shifts 74 = .ok (.getfield 130, 3) := dk_180 0 130 (dk_at dksX14_shifts_3 5 rfl rfl)
theorem dX14_shifts_77 : decode cX14_shifts 77 = .ok (.iadd, 1) := dk_96 (dk_at dksX14_shifts_3 8 rfl rfl)
theorem dX14_shifts_78 : decode cX14_shifts 78 = .ok (.iconst 1, 1) := dk_4 (dk_at dksX14_shifts_3 9 rfl rfl)
theorem dX14_shifts_79 : decode cX14_shifts 79 = .ok (.isub, 1) := dk_100 (dk_at dksX14_shifts_3 10 rfl rfl)
theorem dX14_shifts_80 : decode cX14_shifts 80 = .ok (.iload_n 3, 1) := dk_29 (dk_at dksX14_shifts_3 11 rfl rfl)
theorem dX14_shifts_81 : decode cX14_shifts 81 = .ok (.iastore, 1) := dk_79 (dk_at dksX14_shifts_3 12 rfl rfl)
theorem dX14_shifts_82 : decode cX14_shifts 82 = .ok (.iconst 1, 1) := dk_4 (dk_at dksX14_shifts_3 13 rfl rfl)
theorem dX14_shifts_83 : decode cX14_shifts 83 = .ok (.ireturn, 1) := dk_172 (dk_at dksX14_shifts_3 14 rfl rfl)
abbrev cX14_restOf : ByteArray := prog_33_method_55_code
def yX14_restOf : MethodName := ⟨RX14, "restOf", "(II)I"⟩
def dkwX14_restOf_2 : List UInt8 := [172]
abbrev dktX14_restOf_2 : List UInt8 := dkwX14_restOf_2 ++ []
def dkwX14_restOf_1 : List UInt8 := [155, 0, 13, 42, 27, 182, 1, 28, 16, 253, 160, 0, 8, 16, 253, 167, 0, 9, 42, 180, 0, 76, 28, 46]
abbrev dktX14_restOf_1 : List UInt8 := dkwX14_restOf_1 ++ dktX14_restOf_2
def dkwX14_restOf_0 : List UInt8 := [28, 3, 16, 7, 184, 0, 133, 153, 0, 13, 42, 28, 7, 112, 182, 0, 148, 154, 0, 5, 2, 172, 27]
abbrev dktX14_restOf_0 : List UInt8 := dkwX14_restOf_0 ++ dktX14_restOf_1
theorem dksX14_restOf_0 : cX14_restOf.data.toList.drop 0 = dktX14_restOf_0 := by decide +kernel
theorem dksX14_restOf_1 : cX14_restOf.data.toList.drop 23 = dktX14_restOf_1 := dk_seg dksX14_restOf_0 23 rfl rfl
theorem dksX14_restOf_2 : cX14_restOf.data.toList.drop 47 = dktX14_restOf_2 := dk_seg dksX14_restOf_1 24 rfl rfl
theorem dX14_restOf_0 : decode cX14_restOf 0 = .ok (.iload_n 2, 1) := dk_28 (dk_at dksX14_restOf_0 0 rfl rfl)
theorem dX14_restOf_1 : decode cX14_restOf 1 = .ok (.iconst 0, 1) := dk_3 (dk_at dksX14_restOf_0 1 rfl rfl)
theorem dX14_restOf_2 : decode cX14_restOf 2 = .ok (.bipush 7, 2) := dk_16 7 (dk_at dksX14_restOf_0 2 rfl rfl)
theorem dX14_restOf_4 : decode cX14_restOf 4 = .ok (.invokestatic 133, 3) := dk_184 0 133 (dk_at dksX14_restOf_0 4 rfl rfl)
theorem dX14_restOf_7 : decode cX14_restOf 7 = .ok (.ifCond .eq 13, 3) := dk_153 0 13 (dk_at dksX14_restOf_0 7 rfl rfl)
theorem dX14_restOf_10 : decode cX14_restOf 10 = .ok (.aload_n 0, 1) := dk_42 (dk_at dksX14_restOf_0 10 rfl rfl)
theorem dX14_restOf_11 : decode cX14_restOf 11 = .ok (.iload_n 2, 1) := dk_28 (dk_at dksX14_restOf_0 11 rfl rfl)
theorem dX14_restOf_12 : decode cX14_restOf 12 = .ok (.iconst 4, 1) := dk_7 (dk_at dksX14_restOf_0 12 rfl rfl)
theorem dX14_restOf_13 : decode cX14_restOf 13 = .ok (.irem, 1) := dk_112 (dk_at dksX14_restOf_0 13 rfl rfl)
theorem dX14_restOf_14 : decode cX14_restOf 14 = .ok (.invokevirtual 148, 3) := dk_182 0 148 (dk_at dksX14_restOf_0 14 rfl rfl)
theorem dX14_restOf_17 : decode cX14_restOf 17 = .ok (.ifCond .ne 5, 3) := dk_154 0 5 (dk_at dksX14_restOf_0 17 rfl rfl)
theorem dX14_restOf_20 : decode cX14_restOf 20 = .ok (.iconst (-1), 1) := dk_2 (dk_at dksX14_restOf_0 20 rfl rfl)
theorem dX14_restOf_21 : decode cX14_restOf 21 = .ok (.ireturn, 1) := dk_172 (dk_at dksX14_restOf_0 21 rfl rfl)
theorem dX14_restOf_22 : decode cX14_restOf 22 = .ok (.iload_n 1, 1) := dk_27 (dk_at dksX14_restOf_0 22 rfl rfl)
theorem dX14_restOf_23 : decode cX14_restOf 23 = .ok (.ifCond .lt 13, 3) := dk_155 0 13 (dk_at dksX14_restOf_1 0 rfl rfl)
theorem dX14_restOf_26 : decode cX14_restOf 26 = .ok (.aload_n 0, 1) := dk_42 (dk_at dksX14_restOf_1 3 rfl rfl)
theorem dX14_restOf_27 : decode cX14_restOf 27 = .ok (.iload_n 1, 1) := dk_27 (dk_at dksX14_restOf_1 4 rfl rfl)
theorem dX14_restOf_28 : decode cX14_restOf 28 = .ok (.invokevirtual 284, 3) := dk_182 1 28 (dk_at dksX14_restOf_1 5 rfl rfl)
theorem dX14_restOf_31 : decode cX14_restOf 31 = .ok (.bipush (-3), 2) := dk_16 253 (dk_at dksX14_restOf_1 8 rfl rfl)
theorem dX14_restOf_33 : decode cX14_restOf 33 = .ok (.if_icmp .ne 8, 3) := dk_160 0 8 (dk_at dksX14_restOf_1 10 rfl rfl)
theorem dX14_restOf_36 : decode cX14_restOf 36 = .ok (.bipush (-3), 2) := dk_16 253 (dk_at dksX14_restOf_1 13 rfl rfl)
theorem dX14_restOf_38 : decode cX14_restOf 38 = .ok (.goto 9, 3) := dk_167 0 9 (dk_at dksX14_restOf_1 15 rfl rfl)
theorem dX14_restOf_41 : decode cX14_restOf 41 = .ok (.aload_n 0, 1) := dk_42 (dk_at dksX14_restOf_1 18 rfl rfl)
theorem dX14_restOf_42 : decode cX14_restOf 42 = .ok (.getfield 76, 3) := dk_180 0 76 (dk_at dksX14_restOf_1 19 rfl rfl)
theorem dX14_restOf_45 : decode cX14_restOf 45 = .ok (.iload_n 2, 1) := dk_28 (dk_at dksX14_restOf_1 22 rfl rfl)
theorem dX14_restOf_46 : decode cX14_restOf 46 = .ok (.iaload, 1) := dk_46 (dk_at dksX14_restOf_1 23 rfl rfl)
theorem dX14_restOf_47 : decode cX14_restOf 47 = .ok (.ireturn, 1) := dk_172 (dk_at dksX14_restOf_2 0 rfl rfl)
abbrev cX14_finders : ByteArray := prog_33_method_56_code
def yX14_finders : MethodName := ⟨RX14, "finders", "(III)I"⟩
def dkwX14_finders_6 : List UInt8 := [153, 0, 10, 4, 21, 6, 120, 167, 0, 4, 3, 128, 54, 5, 132, 6, 1, 167, 255, 142, 21, 5, 172]
abbrev dktX14_finders_6 : List UInt8 := dkwX14_finders_6 ++ []
def dkwX14_finders_5 : List UInt8 := [21, 7, 104, 163, 0, 7, 4, 167, 0, 4, 3, 54, 9, 21, 5, 21, 8, 153, 0, 15, 21, 9]
abbrev dktX14_finders_5 : List UInt8 := dkwX14_finders_5 ++ dktX14_finders_6
def dkwX14_finders_4 : List UInt8 := [54, 8, 21, 7, 153, 0, 26, 29, 21, 7, 104, 21, 4, 96, 21, 7, 4, 96, 104, 21, 6, 21, 4, 104]
abbrev dktX14_finders_4 : List UInt8 := dkwX14_finders_4 ++ dktX14_finders_5
def dkwX14_finders_3 : List UInt8 := [96, 104, 29, 21, 7, 4, 96, 104, 21, 4, 96, 21, 7, 5, 96, 104, 163, 0, 7, 4, 167, 0, 4, 3]
abbrev dktX14_finders_3 : List UInt8 := dkwX14_finders_3 ++ dktX14_finders_4
def dkwX14_finders_2 : List UInt8 := [163, 0, 114, 27, 21, 6, 100, 54, 7, 21, 6, 153, 0, 32, 21, 6, 4, 100, 21, 4, 104, 21, 7, 4]
abbrev dktX14_finders_2 : List UInt8 := dkwX14_finders_2 ++ dktX14_finders_3
def dkwX14_finders_1 : List UInt8 := [184, 0, 133, 154, 0, 5, 2, 172, 28, 29, 100, 54, 4, 3, 54, 5, 3, 54, 6, 21, 6, 27]
abbrev dktX14_finders_1 : List UInt8 := dkwX14_finders_1 ++ dktX14_finders_2
def dkwX14_finders_0 : List UInt8 := [27, 5, 16, 20, 184, 0, 133, 153, 0, 22, 28, 4, 16, 60, 184, 0, 133, 153, 0, 12, 29, 3, 28]
abbrev dktX14_finders_0 : List UInt8 := dkwX14_finders_0 ++ dktX14_finders_1
theorem dksX14_finders_0 : cX14_finders.data.toList.drop 0 = dktX14_finders_0 := by decide +kernel
theorem dksX14_finders_1 : cX14_finders.data.toList.drop 23 = dktX14_finders_1 := dk_seg dksX14_finders_0 23 rfl rfl
theorem dksX14_finders_2 : cX14_finders.data.toList.drop 45 = dktX14_finders_2 := dk_seg dksX14_finders_1 22 rfl rfl
theorem dksX14_finders_3 : cX14_finders.data.toList.drop 69 = dktX14_finders_3 := dk_seg dksX14_finders_2 24 rfl rfl
theorem dksX14_finders_4 : cX14_finders.data.toList.drop 93 = dktX14_finders_4 := dk_seg dksX14_finders_3 24 rfl rfl
theorem dksX14_finders_5 : cX14_finders.data.toList.drop 117 = dktX14_finders_5 := dk_seg dksX14_finders_4 24 rfl rfl
theorem dksX14_finders_6 : cX14_finders.data.toList.drop 139 = dktX14_finders_6 := dk_seg dksX14_finders_5 22 rfl rfl
theorem dX14_finders_0 : decode cX14_finders 0 = .ok (.iload_n 1, 1) := dk_27 (dk_at dksX14_finders_0 0 rfl rfl)
theorem dX14_finders_1 : decode cX14_finders 1 = .ok (.iconst 2, 1) := dk_5 (dk_at dksX14_finders_0 1 rfl rfl)
theorem dX14_finders_2 : decode cX14_finders 2 = .ok (.bipush 20, 2) := dk_16 20 (dk_at dksX14_finders_0 2 rfl rfl)
theorem dX14_finders_4 : decode cX14_finders 4 = .ok (.invokestatic 133, 3) := dk_184 0 133 (dk_at dksX14_finders_0 4 rfl rfl)
theorem dX14_finders_7 : decode cX14_finders 7 = .ok (.ifCond .eq 22, 3) := dk_153 0 22 (dk_at dksX14_finders_0 7 rfl rfl)
theorem dX14_finders_10 : decode cX14_finders 10 = .ok (.iload_n 2, 1) := dk_28 (dk_at dksX14_finders_0 10 rfl rfl)
theorem dX14_finders_11 : decode cX14_finders 11 = .ok (.iconst 1, 1) := dk_4 (dk_at dksX14_finders_0 11 rfl rfl)
theorem dX14_finders_12 : decode cX14_finders 12 = .ok (.bipush 60, 2) := dk_16 60 (dk_at dksX14_finders_0 12 rfl rfl)
theorem dX14_finders_14 : decode cX14_finders 14 = .ok (.invokestatic 133, 3) := dk_184 0 133 (dk_at dksX14_finders_0 14 rfl rfl)
theorem dX14_finders_17 : decode cX14_finders 17 = .ok (.ifCond .eq 12, 3) := dk_153 0 12 (dk_at dksX14_finders_0 17 rfl rfl)
theorem dX14_finders_20 : decode cX14_finders 20 = .ok (.iload_n 3, 1) := dk_29 (dk_at dksX14_finders_0 20 rfl rfl)
theorem dX14_finders_21 : decode cX14_finders 21 = .ok (.iconst 0, 1) := dk_3 (dk_at dksX14_finders_0 21 rfl rfl)
theorem dX14_finders_22 : decode cX14_finders 22 = .ok (.iload_n 2, 1) := dk_28 (dk_at dksX14_finders_0 22 rfl rfl)
theorem dX14_finders_23 : decode cX14_finders 23 = .ok (.invokestatic 133, 3) := dk_184 0 133 (dk_at dksX14_finders_1 0 rfl rfl)
theorem dX14_finders_26 : decode cX14_finders 26 = .ok (.ifCond .ne 5, 3) := dk_154 0 5 (dk_at dksX14_finders_1 3 rfl rfl)
theorem dX14_finders_29 : decode cX14_finders 29 = .ok (.iconst (-1), 1) := dk_2 (dk_at dksX14_finders_1 6 rfl rfl)
theorem dX14_finders_30 : decode cX14_finders 30 = .ok (.ireturn, 1) := dk_172 (dk_at dksX14_finders_1 7 rfl rfl)
theorem dX14_finders_31 : decode cX14_finders 31 = .ok (.iload_n 2, 1) := dk_28 (dk_at dksX14_finders_1 8 rfl rfl)
theorem dX14_finders_32 : decode cX14_finders 32 = .ok (.iload_n 3, 1) := dk_29 (dk_at dksX14_finders_1 9 rfl rfl)
theorem dX14_finders_33 : decode cX14_finders 33 = .ok (.isub, 1) := dk_100 (dk_at dksX14_finders_1 10 rfl rfl)
theorem dX14_finders_34 : decode cX14_finders 34 = .ok (.istore 4, 2) := dk_54 4 (dk_at dksX14_finders_1 11 rfl rfl)
theorem dX14_finders_36 : decode cX14_finders 36 = .ok (.iconst 0, 1) := dk_3 (dk_at dksX14_finders_1 13 rfl rfl)
theorem dX14_finders_37 : decode cX14_finders 37 = .ok (.istore 5, 2) := dk_54 5 (dk_at dksX14_finders_1 14 rfl rfl)
theorem dX14_finders_39 : decode cX14_finders 39 = .ok (.iconst 0, 1) := dk_3 (dk_at dksX14_finders_1 16 rfl rfl)
theorem dX14_finders_40 : decode cX14_finders 40 = .ok (.istore 6, 2) := dk_54 6 (dk_at dksX14_finders_1 17 rfl rfl)
theorem dX14_finders_42 : decode cX14_finders 42 = .ok (.iload 6, 2) := dk_21 6 (dk_at dksX14_finders_1 19 rfl rfl)
theorem dX14_finders_44 : decode cX14_finders 44 = .ok (.iload_n 1, 1) := dk_27 (dk_at dksX14_finders_1 21 rfl rfl)
theorem dX14_finders_45 : decode cX14_finders 45 = .ok (.if_icmp .gt 114, 3) := dk_163 0 114 (dk_at dksX14_finders_2 0 rfl rfl)
theorem dX14_finders_48 : decode cX14_finders 48 = .ok (.iload_n 1, 1) := dk_27 (dk_at dksX14_finders_2 3 rfl rfl)
theorem dX14_finders_49 : decode cX14_finders 49 = .ok (.iload 6, 2) := dk_21 6 (dk_at dksX14_finders_2 4 rfl rfl)
theorem dX14_finders_51 : decode cX14_finders 51 = .ok (.isub, 1) := dk_100 (dk_at dksX14_finders_2 6 rfl rfl)
theorem dX14_finders_52 : decode cX14_finders 52 = .ok (.istore 7, 2) := dk_54 7 (dk_at dksX14_finders_2 7 rfl rfl)
theorem dX14_finders_54 : decode cX14_finders 54 = .ok (.iload 6, 2) := dk_21 6 (dk_at dksX14_finders_2 9 rfl rfl)
theorem dX14_finders_56 : decode cX14_finders 56 = .ok (.ifCond .eq 32, 3) := dk_153 0 32 (dk_at dksX14_finders_2 11 rfl rfl)
theorem dX14_finders_59 : decode cX14_finders 59 = .ok (.iload 6, 2) := dk_21 6 (dk_at dksX14_finders_2 14 rfl rfl)
theorem dX14_finders_61 : decode cX14_finders 61 = .ok (.iconst 1, 1) := dk_4 (dk_at dksX14_finders_2 16 rfl rfl)
theorem dX14_finders_62 : decode cX14_finders 62 = .ok (.isub, 1) := dk_100 (dk_at dksX14_finders_2 17 rfl rfl)
theorem dX14_finders_63 : decode cX14_finders 63 = .ok (.iload 4, 2) := dk_21 4 (dk_at dksX14_finders_2 18 rfl rfl)
theorem dX14_finders_65 : decode cX14_finders 65 = .ok (.imul, 1) := dk_104 (dk_at dksX14_finders_2 20 rfl rfl)
theorem dX14_finders_66 : decode cX14_finders 66 = .ok (.iload 7, 2) := dk_21 7 (dk_at dksX14_finders_2 21 rfl rfl)
theorem dX14_finders_68 : decode cX14_finders 68 = .ok (.iconst 1, 1) := dk_4 (dk_at dksX14_finders_2 23 rfl rfl)
theorem dX14_finders_69 : decode cX14_finders 69 = .ok (.iadd, 1) := dk_96 (dk_at dksX14_finders_3 0 rfl rfl)
theorem dX14_finders_70 : decode cX14_finders 70 = .ok (.imul, 1) := dk_104 (dk_at dksX14_finders_3 1 rfl rfl)
theorem dX14_finders_71 : decode cX14_finders 71 = .ok (.iload_n 3, 1) := dk_29 (dk_at dksX14_finders_3 2 rfl rfl)
theorem dX14_finders_72 : decode cX14_finders 72 = .ok (.iload 7, 2) := dk_21 7 (dk_at dksX14_finders_3 3 rfl rfl)
theorem dX14_finders_74 : decode cX14_finders 74 = .ok (.iconst 1, 1) := dk_4 (dk_at dksX14_finders_3 5 rfl rfl)
theorem dX14_finders_75 : decode cX14_finders 75 = .ok (.iadd, 1) := dk_96 (dk_at dksX14_finders_3 6 rfl rfl)
theorem dX14_finders_76 : decode cX14_finders 76 = .ok (.imul, 1) := dk_104 (dk_at dksX14_finders_3 7 rfl rfl)
theorem dX14_finders_77 : decode cX14_finders 77 = .ok (.iload 4, 2) := dk_21 4 (dk_at dksX14_finders_3 8 rfl rfl)
theorem dX14_finders_79 : decode cX14_finders 79 = .ok (.iadd, 1) := dk_96 (dk_at dksX14_finders_3 10 rfl rfl)
theorem dX14_finders_80 : decode cX14_finders 80 = .ok (.iload 7, 2) := dk_21 7 (dk_at dksX14_finders_3 11 rfl rfl)
theorem dX14_finders_82 : decode cX14_finders 82 = .ok (.iconst 2, 1) := dk_5 (dk_at dksX14_finders_3 13 rfl rfl)
theorem dX14_finders_83 : decode cX14_finders 83 = .ok (.iadd, 1) := dk_96 (dk_at dksX14_finders_3 14 rfl rfl)
theorem dX14_finders_84 : decode cX14_finders 84 = .ok (.imul, 1) := dk_104 (dk_at dksX14_finders_3 15 rfl rfl)
theorem dX14_finders_85 : decode cX14_finders 85 = .ok (.if_icmp .gt 7, 3) := dk_163 0 7 (dk_at dksX14_finders_3 16 rfl rfl)
theorem dX14_finders_88 : decode cX14_finders 88 = .ok (.iconst 1, 1) := dk_4 (dk_at dksX14_finders_3 19 rfl rfl)
theorem dX14_finders_89 : decode cX14_finders 89 = .ok (.goto 4, 3) := dk_167 0 4 (dk_at dksX14_finders_3 20 rfl rfl)
theorem dX14_finders_92 : decode cX14_finders 92 = .ok (.iconst 0, 1) := dk_3 (dk_at dksX14_finders_3 23 rfl rfl)
theorem dX14_finders_93 : decode cX14_finders 93 = .ok (.istore 8, 2) := dk_54 8 (dk_at dksX14_finders_4 0 rfl rfl)
theorem dX14_finders_95 : decode cX14_finders 95 = .ok (.iload 7, 2) := dk_21 7 (dk_at dksX14_finders_4 2 rfl rfl)
theorem dX14_finders_97 : decode cX14_finders 97 = .ok (.ifCond .eq 26, 3) := dk_153 0 26 (dk_at dksX14_finders_4 4 rfl rfl)
theorem dX14_finders_100 : decode cX14_finders 100 = .ok (.iload_n 3, 1) := dk_29 (dk_at dksX14_finders_4 7 rfl rfl)
theorem dX14_finders_101 : decode cX14_finders 101 = .ok (.iload 7, 2) := dk_21 7 (dk_at dksX14_finders_4 8 rfl rfl)
theorem dX14_finders_103 : decode cX14_finders 103 = .ok (.imul, 1) := dk_104 (dk_at dksX14_finders_4 10 rfl rfl)
theorem dX14_finders_104 : decode cX14_finders 104 = .ok (.iload 4, 2) := dk_21 4 (dk_at dksX14_finders_4 11 rfl rfl)
theorem dX14_finders_106 : decode cX14_finders 106 = .ok (.iadd, 1) := dk_96 (dk_at dksX14_finders_4 13 rfl rfl)
theorem dX14_finders_107 : decode cX14_finders 107 = .ok (.iload 7, 2) := dk_21 7 (dk_at dksX14_finders_4 14 rfl rfl)
theorem dX14_finders_109 : decode cX14_finders 109 = .ok (.iconst 1, 1) := dk_4 (dk_at dksX14_finders_4 16 rfl rfl)
theorem dX14_finders_110 : decode cX14_finders 110 = .ok (.iadd, 1) := dk_96 (dk_at dksX14_finders_4 17 rfl rfl)
theorem dX14_finders_111 : decode cX14_finders 111 = .ok (.imul, 1) := dk_104 (dk_at dksX14_finders_4 18 rfl rfl)
theorem dX14_finders_112 : decode cX14_finders 112 = .ok (.iload 6, 2) := dk_21 6 (dk_at dksX14_finders_4 19 rfl rfl)
theorem dX14_finders_114 : decode cX14_finders 114 = .ok (.iload 4, 2) := dk_21 4 (dk_at dksX14_finders_4 21 rfl rfl)
theorem dX14_finders_116 : decode cX14_finders 116 = .ok (.imul, 1) := dk_104 (dk_at dksX14_finders_4 23 rfl rfl)
theorem dX14_finders_117 : decode cX14_finders 117 = .ok (.iload 7, 2) := dk_21 7 (dk_at dksX14_finders_5 0 rfl rfl)
theorem dX14_finders_119 : decode cX14_finders 119 = .ok (.imul, 1) := dk_104 (dk_at dksX14_finders_5 2 rfl rfl)
theorem dX14_finders_120 : decode cX14_finders 120 = .ok (.if_icmp .gt 7, 3) := dk_163 0 7 (dk_at dksX14_finders_5 3 rfl rfl)
theorem dX14_finders_123 : decode cX14_finders 123 = .ok (.iconst 1, 1) := dk_4 (dk_at dksX14_finders_5 6 rfl rfl)
theorem dX14_finders_124 : decode cX14_finders 124 = .ok (.goto 4, 3) := dk_167 0 4 (dk_at dksX14_finders_5 7 rfl rfl)
theorem dX14_finders_127 : decode cX14_finders 127 = .ok (.iconst 0, 1) := dk_3 (dk_at dksX14_finders_5 10 rfl rfl)
theorem dX14_finders_128 : decode cX14_finders 128 = .ok (.istore 9, 2) := dk_54 9 (dk_at dksX14_finders_5 11 rfl rfl)
theorem dX14_finders_130 : decode cX14_finders 130 = .ok (.iload 5, 2) := dk_21 5 (dk_at dksX14_finders_5 13 rfl rfl)
theorem dX14_finders_132 : decode cX14_finders 132 = .ok (.iload 8, 2) := dk_21 8 (dk_at dksX14_finders_5 15 rfl rfl)
theorem dX14_finders_134 : decode cX14_finders 134 = .ok (.ifCond .eq 15, 3) := dk_153 0 15 (dk_at dksX14_finders_5 17 rfl rfl)
theorem dX14_finders_137 : decode cX14_finders 137 = .ok (.iload 9, 2) := dk_21 9 (dk_at dksX14_finders_5 20 rfl rfl)
theorem dX14_finders_139 : decode cX14_finders 139 = .ok (.ifCond .eq 10, 3) := dk_153 0 10 (dk_at dksX14_finders_6 0 rfl rfl)
theorem dX14_finders_142 : decode cX14_finders 142 = .ok (.iconst 1, 1) := dk_4 (dk_at dksX14_finders_6 3 rfl rfl)
theorem dX14_finders_143 : decode cX14_finders 143 = .ok (.iload 6, 2) := dk_21 6 (dk_at dksX14_finders_6 4 rfl rfl)
theorem dX14_finders_145 : decode cX14_finders 145 = .ok (.ishl, 1) := dk_120 (dk_at dksX14_finders_6 6 rfl rfl)
theorem dX14_finders_146 : decode cX14_finders 146 = .ok (.goto 4, 3) := dk_167 0 4 (dk_at dksX14_finders_6 7 rfl rfl)
theorem dX14_finders_149 : decode cX14_finders 149 = .ok (.iconst 0, 1) := dk_3 (dk_at dksX14_finders_6 10 rfl rfl)
theorem dX14_finders_150 : decode cX14_finders 150 = .ok (.ior, 1) := dk_128 (dk_at dksX14_finders_6 11 rfl rfl)
theorem dX14_finders_151 : decode cX14_finders 151 = .ok (.istore 5, 2) := dk_54 5 (dk_at dksX14_finders_6 12 rfl rfl)
theorem dX14_finders_153 : decode cX14_finders 153 = .ok (.iinc 6 1, 3) := dk_132 6 1 (dk_at dksX14_finders_6 14 rfl rfl)
theorem dX14_finders_156 : decode cX14_finders 156 = .ok (.goto (-114), 3) := dk_167 255 142 (dk_at dksX14_finders_6 17 rfl rfl)
theorem dX14_finders_159 : decode cX14_finders 159 = .ok (.iload 5, 2) := dk_21 5 (dk_at dksX14_finders_6 20 rfl rfl)
theorem dX14_finders_161 : decode cX14_finders 161 = .ok (.ireturn, 1) := dk_172 (dk_at dksX14_finders_6 22 rfl rfl)
abbrev cX14_feed : ByteArray := prog_33_method_57_code
def yX14_feed : MethodName := ⟨RX14, "feed", "(JI)I"⟩
def dkwX14_feed_3 : List UInt8 := [167, 255, 216, 42, 180, 1, 31, 172]
abbrev dktX14_feed_3 : List UInt8 := dkwX14_feed_3 ++ []
def dkwX14_feed_2 : List UInt8 := [21, 4, 104, 125, 20, 1, 34, 127, 136, 79, 42, 89, 180, 1, 31, 4, 96, 181, 1, 31, 132, 4, 1]
abbrev dktX14_feed_2 : List UInt8 := dkwX14_feed_2 ++ dktX14_feed_3
def dkwX14_feed_1 : List UInt8 := [16, 254, 172, 3, 54, 4, 21, 4, 29, 162, 0, 40, 42, 180, 0, 82, 42, 180, 1, 31, 31, 16, 8]
abbrev dktX14_feed_1 : List UInt8 := dkwX14_feed_1 ++ dktX14_feed_2
def dkwX14_feed_0 : List UInt8 := [29, 4, 16, 8, 184, 0, 133, 154, 0, 5, 2, 172, 42, 180, 1, 31, 29, 96, 17, 0, 200, 164, 0, 6]
abbrev dktX14_feed_0 : List UInt8 := dkwX14_feed_0 ++ dktX14_feed_1
theorem dksX14_feed_0 : cX14_feed.data.toList.drop 0 = dktX14_feed_0 := by decide +kernel
theorem dksX14_feed_1 : cX14_feed.data.toList.drop 24 = dktX14_feed_1 := dk_seg dksX14_feed_0 24 rfl rfl
theorem dksX14_feed_2 : cX14_feed.data.toList.drop 47 = dktX14_feed_2 := dk_seg dksX14_feed_1 23 rfl rfl
theorem dksX14_feed_3 : cX14_feed.data.toList.drop 70 = dktX14_feed_3 := dk_seg dksX14_feed_2 23 rfl rfl
theorem dX14_feed_0 : decode cX14_feed 0 = .ok (.iload_n 3, 1) := dk_29 (dk_at dksX14_feed_0 0 rfl rfl)
theorem dX14_feed_1 : decode cX14_feed 1 = .ok (.iconst 1, 1) := dk_4 (dk_at dksX14_feed_0 1 rfl rfl)
theorem dX14_feed_2 : decode cX14_feed 2 = .ok (.bipush 8, 2) := dk_16 8 (dk_at dksX14_feed_0 2 rfl rfl)
theorem dX14_feed_4 : decode cX14_feed 4 = .ok (.invokestatic 133, 3) := dk_184 0 133 (dk_at dksX14_feed_0 4 rfl rfl)
theorem dX14_feed_7 : decode cX14_feed 7 = .ok (.ifCond .ne 5, 3) := dk_154 0 5 (dk_at dksX14_feed_0 7 rfl rfl)
theorem dX14_feed_10 : decode cX14_feed 10 = .ok (.iconst (-1), 1) := dk_2 (dk_at dksX14_feed_0 10 rfl rfl)
theorem dX14_feed_11 : decode cX14_feed 11 = .ok (.ireturn, 1) := dk_172 (dk_at dksX14_feed_0 11 rfl rfl)
theorem dX14_feed_12 : decode cX14_feed 12 = .ok (.aload_n 0, 1) := dk_42 (dk_at dksX14_feed_0 12 rfl rfl)
theorem dX14_feed_13 : decode cX14_feed 13 = .ok (.getfield 287, 3) := dk_180 1 31 (dk_at dksX14_feed_0 13 rfl rfl)
theorem dX14_feed_16 : decode cX14_feed 16 = .ok (.iload_n 3, 1) := dk_29 (dk_at dksX14_feed_0 16 rfl rfl)
theorem dX14_feed_17 : decode cX14_feed 17 = .ok (.iadd, 1) := dk_96 (dk_at dksX14_feed_0 17 rfl rfl)
theorem dX14_feed_18 : decode cX14_feed 18 = .ok (.sipush 200, 3) := dk_17 0 200 (dk_at dksX14_feed_0 18 rfl rfl)
theorem dX14_feed_21 : decode cX14_feed 21 = .ok (.if_icmp .le 6, 3) := dk_164 0 6 (dk_at dksX14_feed_0 21 rfl rfl)
theorem dX14_feed_24 : decode cX14_feed 24 = .ok (.bipush (-2), 2) := dk_16 254 (dk_at dksX14_feed_1 0 rfl rfl)
theorem dX14_feed_26 : decode cX14_feed 26 = .ok (.ireturn, 1) := dk_172 (dk_at dksX14_feed_1 2 rfl rfl)
theorem dX14_feed_27 : decode cX14_feed 27 = .ok (.iconst 0, 1) := dk_3 (dk_at dksX14_feed_1 3 rfl rfl)
theorem dX14_feed_28 : decode cX14_feed 28 = .ok (.istore 4, 2) := dk_54 4 (dk_at dksX14_feed_1 4 rfl rfl)
theorem dX14_feed_30 : decode cX14_feed 30 = .ok (.iload 4, 2) := dk_21 4 (dk_at dksX14_feed_1 6 rfl rfl)
theorem dX14_feed_32 : decode cX14_feed 32 = .ok (.iload_n 3, 1) := dk_29 (dk_at dksX14_feed_1 8 rfl rfl)
theorem dX14_feed_33 : decode cX14_feed 33 = .ok (.if_icmp .ge 40, 3) := dk_162 0 40 (dk_at dksX14_feed_1 9 rfl rfl)
theorem dX14_feed_36 : decode cX14_feed 36 = .ok (.aload_n 0, 1) := dk_42 (dk_at dksX14_feed_1 12 rfl rfl)
theorem dX14_feed_37 : decode cX14_feed 37 = .ok (.getfield 82, 3) := dk_180 0 82 (dk_at dksX14_feed_1 13 rfl rfl)
theorem dX14_feed_40 : decode cX14_feed 40 = .ok (.aload_n 0, 1) := dk_42 (dk_at dksX14_feed_1 16 rfl rfl)
theorem dX14_feed_41 : decode cX14_feed 41 = .ok (.getfield 287, 3) := dk_180 1 31 (dk_at dksX14_feed_1 17 rfl rfl)
theorem dX14_feed_44 : decode cX14_feed 44 = .ok (.lload_n 1, 1) := dk_31 (dk_at dksX14_feed_1 20 rfl rfl)
theorem dX14_feed_45 : decode cX14_feed 45 = .ok (.bipush 8, 2) := dk_16 8 (dk_at dksX14_feed_1 21 rfl rfl)
theorem dX14_feed_47 : decode cX14_feed 47 = .ok (.iload 4, 2) := dk_21 4 (dk_at dksX14_feed_2 0 rfl rfl)
theorem dX14_feed_49 : decode cX14_feed 49 = .ok (.imul, 1) := dk_104 (dk_at dksX14_feed_2 2 rfl rfl)
theorem dX14_feed_50 : decode cX14_feed 50 = .ok (.lushr, 1) := dk_125 (dk_at dksX14_feed_2 3 rfl rfl)
theorem dX14_feed_51 : decode cX14_feed 51 = .ok (.ldc2_w 290, 3) := dk_20 1 34 (dk_at dksX14_feed_2 4 rfl rfl)
theorem dX14_feed_54 : decode cX14_feed 54 = .ok (.land, 1) := dk_127 (dk_at dksX14_feed_2 7 rfl rfl)
theorem dX14_feed_55 : decode cX14_feed 55 = .ok (.l2i, 1) := dk_136 (dk_at dksX14_feed_2 8 rfl rfl)
theorem dX14_feed_56 : decode cX14_feed 56 = .ok (.iastore, 1) := dk_79 (dk_at dksX14_feed_2 9 rfl rfl)
theorem dX14_feed_57 : decode cX14_feed 57 = .ok (.aload_n 0, 1) := dk_42 (dk_at dksX14_feed_2 10 rfl rfl)
theorem dX14_feed_58 : decode cX14_feed 58 = .ok (.dup, 1) := dk_89 (dk_at dksX14_feed_2 11 rfl rfl)
theorem dX14_feed_59 : decode cX14_feed 59 = .ok (.getfield 287, 3) := dk_180 1 31 (dk_at dksX14_feed_2 12 rfl rfl)
theorem dX14_feed_62 : decode cX14_feed 62 = .ok (.iconst 1, 1) := dk_4 (dk_at dksX14_feed_2 15 rfl rfl)
theorem dX14_feed_63 : decode cX14_feed 63 = .ok (.iadd, 1) := dk_96 (dk_at dksX14_feed_2 16 rfl rfl)
theorem dX14_feed_64 : decode cX14_feed 64 = .ok (.putfield 287, 3) := dk_181 1 31 (dk_at dksX14_feed_2 17 rfl rfl)
theorem dX14_feed_67 : decode cX14_feed 67 = .ok (.iinc 4 1, 3) := dk_132 4 1 (dk_at dksX14_feed_2 20 rfl rfl)
theorem dX14_feed_70 : decode cX14_feed 70 = .ok (.goto (-40), 3) := dk_167 255 216 (dk_at dksX14_feed_3 0 rfl rfl)
theorem dX14_feed_73 : decode cX14_feed 73 = .ok (.aload_n 0, 1) := dk_42 (dk_at dksX14_feed_3 3 rfl rfl)
theorem dX14_feed_74 : decode cX14_feed 74 = .ok (.getfield 287, 3) := dk_180 1 31 (dk_at dksX14_feed_3 4 rfl rfl)
theorem dX14_feed_77 : decode cX14_feed 77 = .ok (.ireturn, 1) := dk_172 (dk_at dksX14_feed_3 7 rfl rfl)
abbrev cX14_read : ByteArray := prog_33_method_74_code
def yX14_read : MethodName := ⟨RX14, "read", "()I"⟩
def dkwX14_read_9 : List UInt8 := [162, 0, 21, 42, 180, 0, 35, 28, 42, 180, 0, 85, 28, 46, 79, 132, 2, 1, 167, 255, 233, 27, 172]
abbrev dktX14_read_9 : List UInt8 := dkwX14_read_9 ++ []
def dkwX14_read_8 : List UInt8 := [180, 0, 32, 28, 42, 180, 0, 94, 28, 46, 79, 132, 2, 1, 167, 255, 224, 3, 61, 28, 42, 180, 1, 77]
abbrev dktX14_read_8 : List UInt8 := dkwX14_read_8 ++ dktX14_read_9
def dkwX14_read_7 : List UInt8 := [27, 181, 1, 137, 3, 61, 28, 27, 162, 0, 33, 42, 180, 0, 29, 28, 42, 180, 0, 91, 28, 46, 79, 42]
abbrev dktX14_read_7 : List UInt8 := dkwX14_read_7 ++ dktX14_read_8
def dkwX14_read_6 : List UInt8 := [167, 255, 138, 42, 3, 181, 1, 31, 42, 182, 1, 64, 154, 0, 11, 16, 156, 42, 180, 1, 61, 100, 172, 42]
abbrev dktX14_read_6 : List UInt8 := dkwX14_read_6 ++ dktX14_read_7
def dkwX14_read_5 : List UInt8 := [153, 0, 23, 42, 180, 0, 91, 27, 42, 180, 1, 77, 79, 42, 180, 0, 94, 27, 29, 79, 132, 1, 1]
abbrev dktX14_read_5 : List UInt8 := dkwX14_read_5 ++ dktX14_read_6
def dkwX14_read_4 : List UInt8 := [182, 1, 64, 153, 0, 17, 42, 182, 1, 134, 42, 42, 16, 59, 182, 1, 112, 182, 1, 73, 42, 182, 1, 64]
abbrev dktX14_read_4 : List UInt8 := dkwX14_read_4 ++ dktX14_read_5
def dkwX14_read_3 : List UInt8 := [182, 1, 73, 2, 62, 42, 182, 1, 64, 153, 0, 13, 28, 154, 0, 9, 42, 6, 182, 1, 106, 62, 42]
abbrev dktX14_read_3 : List UInt8 := dkwX14_read_3 ++ dktX14_read_4
def dkwX14_read_2 : List UInt8 := [154, 0, 13, 42, 20, 1, 132, 182, 1, 88, 153, 0, 13, 27, 16, 6, 162, 0, 7, 4, 167, 0, 4, 3]
abbrev dktX14_read_2 : List UInt8 := dkwX14_read_2 ++ dktX14_read_3
def dkwX14_read_1 : List UInt8 := [180, 1, 46, 153, 0, 117, 42, 182, 1, 64, 153, 0, 110, 42, 20, 1, 130, 182, 1, 88, 61, 42, 28]
abbrev dktX14_read_1 : List UInt8 := dkwX14_read_1 ++ dktX14_read_2
def dkwX14_read_0 : List UInt8 := [42, 2, 181, 1, 61, 42, 3, 181, 1, 36, 42, 3, 181, 1, 77, 42, 182, 1, 67, 3, 60, 42]
abbrev dktX14_read_0 : List UInt8 := dkwX14_read_0 ++ dktX14_read_1
theorem dksX14_read_0 : cX14_read.data.toList.drop 0 = dktX14_read_0 := by decide +kernel
theorem dksX14_read_1 : cX14_read.data.toList.drop 22 = dktX14_read_1 := dk_seg dksX14_read_0 22 rfl rfl
theorem dksX14_read_2 : cX14_read.data.toList.drop 45 = dktX14_read_2 := dk_seg dksX14_read_1 23 rfl rfl
theorem dksX14_read_3 : cX14_read.data.toList.drop 69 = dktX14_read_3 := dk_seg dksX14_read_2 24 rfl rfl
theorem dksX14_read_4 : cX14_read.data.toList.drop 92 = dktX14_read_4 := dk_seg dksX14_read_3 23 rfl rfl
theorem dksX14_read_5 : cX14_read.data.toList.drop 116 = dktX14_read_5 := dk_seg dksX14_read_4 24 rfl rfl
theorem dksX14_read_6 : cX14_read.data.toList.drop 139 = dktX14_read_6 := dk_seg dksX14_read_5 23 rfl rfl
theorem dksX14_read_7 : cX14_read.data.toList.drop 163 = dktX14_read_7 := dk_seg dksX14_read_6 24 rfl rfl
theorem dksX14_read_8 : cX14_read.data.toList.drop 187 = dktX14_read_8 := dk_seg dksX14_read_7 24 rfl rfl
theorem dksX14_read_9 : cX14_read.data.toList.drop 211 = dktX14_read_9 := dk_seg dksX14_read_8 24 rfl rfl
theorem dX14_read_0 : decode cX14_read 0 = .ok (.aload_n 0, 1) := dk_42 (dk_at dksX14_read_0 0 rfl rfl)
theorem dX14_read_1 : decode cX14_read 1 = .ok (.iconst (-1), 1) := dk_2 (dk_at dksX14_read_0 1 rfl rfl)
theorem dX14_read_2 : decode cX14_read 2 = .ok (.putfield 317, 3) := dk_181 1 61 (dk_at dksX14_read_0 2 rfl rfl)
theorem dX14_read_5 : decode cX14_read 5 = .ok (.aload_n 0, 1) := dk_42 (dk_at dksX14_read_0 5 rfl rfl)
theorem dX14_read_6 : decode cX14_read 6 = .ok (.iconst 0, 1) := dk_3 (dk_at dksX14_read_0 6 rfl rfl)
theorem dX14_read_7 : decode cX14_read 7 = .ok (.putfield 292, 3) := dk_181 1 36 (dk_at dksX14_read_0 7 rfl rfl)
theorem dX14_read_10 : decode cX14_read 10 = .ok (.aload_n 0, 1) := dk_42 (dk_at dksX14_read_0 10 rfl rfl)
theorem dX14_read_11 : decode cX14_read 11 = .ok (.iconst 0, 1) := dk_3 (dk_at dksX14_read_0 11 rfl rfl)
theorem dX14_read_12 : decode cX14_read 12 = .ok (.putfield 333, 3) := dk_181 1 77 (dk_at dksX14_read_0 12 rfl rfl)
theorem dX14_read_15 : decode cX14_read 15 = .ok (.aload_n 0, 1) := dk_42 (dk_at dksX14_read_0 15 rfl rfl)
theorem dX14_read_16 : decode cX14_read 16 = .ok (.invokevirtual 323, 3) := dk_182 1 67 (dk_at dksX14_read_0 16 rfl rfl)
theorem dX14_read_19 : decode cX14_read 19 = .ok (.iconst 0, 1) := dk_3 (dk_at dksX14_read_0 19 rfl rfl)
theorem dX14_read_20 : decode cX14_read 20 = .ok (.istore_n 1, 1) := dk_60 (dk_at dksX14_read_0 20 rfl rfl)
theorem dX14_read_21 : decode cX14_read 21 = .ok (.aload_n 0, 1) := dk_42 (dk_at dksX14_read_0 21 rfl rfl)
theorem dX14_read_22 : decode cX14_read 22 = .ok (.getfield 302, 3) := dk_180 1 46 (dk_at dksX14_read_1 0 rfl rfl)
theorem dX14_read_25 : decode cX14_read 25 = .ok (.ifCond .eq 117, 3) := dk_153 0 117 (dk_at dksX14_read_1 3 rfl rfl)
theorem dX14_read_28 : decode cX14_read 28 = .ok (.aload_n 0, 1) := dk_42 (dk_at dksX14_read_1 6 rfl rfl)
theorem dX14_read_29 : decode cX14_read 29 = .ok (.invokevirtual 320, 3) := dk_182 1 64 (dk_at dksX14_read_1 7 rfl rfl)
theorem dX14_read_32 : decode cX14_read 32 = .ok (.ifCond .eq 110, 3) := dk_153 0 110 (dk_at dksX14_read_1 10 rfl rfl)
theorem dX14_read_35 : decode cX14_read 35 = .ok (.aload_n 0, 1) := dk_42 (dk_at dksX14_read_1 13 rfl rfl)
theorem dX14_read_36 : decode cX14_read 36 = .ok (.ldc2_w 386, 3) := dk_20 1 130 (dk_at dksX14_read_1 14 rfl rfl)
theorem dX14_read_39 : decode cX14_read 39 = .ok (.invokevirtual 344, 3) := dk_182 1 88 (dk_at dksX14_read_1 17 rfl rfl)
theorem dX14_read_42 : decode cX14_read 42 = .ok (.istore_n 2, 1) := dk_61 (dk_at dksX14_read_1 20 rfl rfl)
theorem dX14_read_43 : decode cX14_read 43 = .ok (.aload_n 0, 1) := dk_42 (dk_at dksX14_read_1 21 rfl rfl)
theorem dX14_read_44 : decode cX14_read 44 = .ok (.iload_n 2, 1) := dk_28 (dk_at dksX14_read_1 22 rfl rfl)
theorem dX14_read_45 : decode cX14_read 45 = .ok (.ifCond .ne 13, 3) := dk_154 0 13 (dk_at dksX14_read_2 0 rfl rfl)
theorem dX14_read_48 : decode cX14_read 48 = .ok (.aload_n 0, 1) := dk_42 (dk_at dksX14_read_2 3 rfl rfl)
theorem dX14_read_49 : decode cX14_read 49 = .ok (.ldc2_w 388, 3) := dk_20 1 132 (dk_at dksX14_read_2 4 rfl rfl)
theorem dX14_read_52 : decode cX14_read 52 = .ok (.invokevirtual 344, 3) := dk_182 1 88 (dk_at dksX14_read_2 7 rfl rfl)
theorem dX14_read_55 : decode cX14_read 55 = .ok (.ifCond .eq 13, 3) := dk_153 0 13 (dk_at dksX14_read_2 10 rfl rfl)
theorem dX14_read_58 : decode cX14_read 58 = .ok (.iload_n 1, 1) := dk_27 (dk_at dksX14_read_2 13 rfl rfl)
theorem dX14_read_59 : decode cX14_read 59 = .ok (.bipush 6, 2) := dk_16 6 (dk_at dksX14_read_2 14 rfl rfl)
theorem dX14_read_61 : decode cX14_read 61 = .ok (.if_icmp .ge 7, 3) := dk_162 0 7 (dk_at dksX14_read_2 16 rfl rfl)
theorem dX14_read_64 : decode cX14_read 64 = .ok (.iconst 1, 1) := dk_4 (dk_at dksX14_read_2 19 rfl rfl)
theorem dX14_read_65 : decode cX14_read 65 = .ok (.goto 4, 3) := dk_167 0 4 (dk_at dksX14_read_2 20 rfl rfl)
theorem dX14_read_68 : decode cX14_read 68 = .ok (.iconst 0, 1) := dk_3 (dk_at dksX14_read_2 23 rfl rfl)
theorem dX14_read_69 : decode cX14_read 69 = .ok (.invokevirtual 329, 3) := dk_182 1 73 (dk_at dksX14_read_3 0 rfl rfl)
theorem dX14_read_72 : decode cX14_read 72 = .ok (.iconst (-1), 1) := dk_2 (dk_at dksX14_read_3 3 rfl rfl)
theorem dX14_read_73 : decode cX14_read 73 = .ok (.istore_n 3, 1) := dk_62 (dk_at dksX14_read_3 4 rfl rfl)
theorem dX14_read_74 : decode cX14_read 74 = .ok (.aload_n 0, 1) := dk_42 (dk_at dksX14_read_3 5 rfl rfl)
theorem dX14_read_75 : decode cX14_read 75 = .ok (.invokevirtual 320, 3) := dk_182 1 64 (dk_at dksX14_read_3 6 rfl rfl)
theorem dX14_read_78 : decode cX14_read 78 = .ok (.ifCond .eq 13, 3) := dk_153 0 13 (dk_at dksX14_read_3 9 rfl rfl)
theorem dX14_read_81 : decode cX14_read 81 = .ok (.iload_n 2, 1) := dk_28 (dk_at dksX14_read_3 12 rfl rfl)
theorem dX14_read_82 : decode cX14_read 82 = .ok (.ifCond .ne 9, 3) := dk_154 0 9 (dk_at dksX14_read_3 13 rfl rfl)
theorem dX14_read_85 : decode cX14_read 85 = .ok (.aload_n 0, 1) := dk_42 (dk_at dksX14_read_3 16 rfl rfl)
theorem dX14_read_86 : decode cX14_read 86 = .ok (.iconst 3, 1) := dk_6 (dk_at dksX14_read_3 17 rfl rfl)
theorem dX14_read_87 : decode cX14_read 87 = .ok (.invokevirtual 362, 3) := dk_182 1 106 (dk_at dksX14_read_3 18 rfl rfl)
theorem dX14_read_90 : decode cX14_read 90 = .ok (.istore_n 3, 1) := dk_62 (dk_at dksX14_read_3 21 rfl rfl)
theorem dX14_read_91 : decode cX14_read 91 = .ok (.aload_n 0, 1) := dk_42 (dk_at dksX14_read_3 22 rfl rfl)
theorem dX14_read_92 : decode cX14_read 92 = .ok (.invokevirtual 320, 3) := dk_182 1 64 (dk_at dksX14_read_4 0 rfl rfl)
theorem dX14_read_95 : decode cX14_read 95 = .ok (.ifCond .eq 17, 3) := dk_153 0 17 (dk_at dksX14_read_4 3 rfl rfl)
theorem dX14_read_98 : decode cX14_read 98 = .ok (.aload_n 0, 1) := dk_42 (dk_at dksX14_read_4 6 rfl rfl)
theorem dX14_read_99 : decode cX14_read 99 = .ok (.invokevirtual 390, 3) := dk_182 1 134 (dk_at dksX14_read_4 7 rfl rfl)
theorem dX14_read_102 : decode cX14_read 102 = .ok (.aload_n 0, 1) := dk_42 (dk_at dksX14_read_4 10 rfl rfl)
theorem dX14_read_103 : decode cX14_read 103 = .ok (.aload_n 0, 1) := dk_42 (dk_at dksX14_read_4 11 rfl rfl)
theorem dX14_read_104 : decode cX14_read 104 = .ok (.bipush 59, 2) := dk_16 59 (dk_at dksX14_read_4 12 rfl rfl)
theorem dX14_read_106 : decode cX14_read 106 = .ok (.invokevirtual 368, 3) := dk_182 1 112 (dk_at dksX14_read_4 14 rfl rfl)
theorem dX14_read_109 : decode cX14_read 109 = .ok (.invokevirtual 329, 3) := dk_182 1 73 (dk_at dksX14_read_4 17 rfl rfl)
theorem dX14_read_112 : decode cX14_read 112 = .ok (.aload_n 0, 1) := dk_42 (dk_at dksX14_read_4 20 rfl rfl)
theorem dX14_read_113 : decode cX14_read 113 = .ok (.invokevirtual 320, 3) := dk_182 1 64 (dk_at dksX14_read_4 21 rfl rfl)
theorem dX14_read_116 : decode cX14_read 116 = .ok (.ifCond .eq 23, 3) := dk_153 0 23 (dk_at dksX14_read_5 0 rfl rfl)
theorem dX14_read_119 : decode cX14_read 119 = .ok (.aload_n 0, 1) := dk_42 (dk_at dksX14_read_5 3 rfl rfl)
theorem dX14_read_120 : decode cX14_read 120 = .ok (.getfield 91, 3) := dk_180 0 91 (dk_at dksX14_read_5 4 rfl rfl)
theorem dX14_read_123 : decode cX14_read 123 = .ok (.iload_n 1, 1) := dk_27 (dk_at dksX14_read_5 7 rfl rfl)
theorem dX14_read_124 : decode cX14_read 124 = .ok (.aload_n 0, 1) := dk_42 (dk_at dksX14_read_5 8 rfl rfl)
theorem dX14_read_125 : decode cX14_read 125 = .ok (.getfield 333, 3) := dk_180 1 77 (dk_at dksX14_read_5 9 rfl rfl)
theorem dX14_read_128 : decode cX14_read 128 = .ok (.iastore, 1) := dk_79 (dk_at dksX14_read_5 12 rfl rfl)
theorem dX14_read_129 : decode cX14_read 129 = .ok (.aload_n 0, 1) := dk_42 (dk_at dksX14_read_5 13 rfl rfl)
theorem dX14_read_130 : decode cX14_read 130 = .ok (.getfield 94, 3) := dk_180 0 94 (dk_at dksX14_read_5 14 rfl rfl)
theorem dX14_read_133 : decode cX14_read 133 = .ok (.iload_n 1, 1) := dk_27 (dk_at dksX14_read_5 17 rfl rfl)
theorem dX14_read_134 : decode cX14_read 134 = .ok (.iload_n 3, 1) := dk_29 (dk_at dksX14_read_5 18 rfl rfl)
theorem dX14_read_135 : decode cX14_read 135 = .ok (.iastore, 1) := dk_79 (dk_at dksX14_read_5 19 rfl rfl)
theorem dX14_read_136 : decode cX14_read 136 = .ok (.iinc 1 1, 3) := dk_132 1 1 (dk_at dksX14_read_5 20 rfl rfl)
theorem dX14_read_139 : decode cX14_read 139 = .ok (.goto (-118), 3) := dk_167 255 138 (dk_at dksX14_read_6 0 rfl rfl)
theorem dX14_read_142 : decode cX14_read 142 = .ok (.aload_n 0, 1) := dk_42 (dk_at dksX14_read_6 3 rfl rfl)
theorem dX14_read_143 : decode cX14_read 143 = .ok (.iconst 0, 1) := dk_3 (dk_at dksX14_read_6 4 rfl rfl)
theorem dX14_read_144 : decode cX14_read 144 = .ok (.putfield 287, 3) := dk_181 1 31 (dk_at dksX14_read_6 5 rfl rfl)
theorem dX14_read_147 : decode cX14_read 147 = .ok (.aload_n 0, 1) := dk_42 (dk_at dksX14_read_6 8 rfl rfl)
theorem dX14_read_148 : decode cX14_read 148 = .ok (.invokevirtual 320, 3) := dk_182 1 64 (dk_at dksX14_read_6 9 rfl rfl)
theorem dX14_read_151 : decode cX14_read 151 = .ok (.ifCond .ne 11, 3) := dk_154 0 11 (dk_at dksX14_read_6 12 rfl rfl)
theorem dX14_read_154 : decode cX14_read 154 = .ok (.bipush (-100), 2) := dk_16 156 (dk_at dksX14_read_6 15 rfl rfl)
theorem dX14_read_156 : decode cX14_read 156 = .ok (.aload_n 0, 1) := dk_42 (dk_at dksX14_read_6 17 rfl rfl)
theorem dX14_read_157 : decode cX14_read 157 = .ok (.getfield 317, 3) := dk_180 1 61 (dk_at dksX14_read_6 18 rfl rfl)
theorem dX14_read_160 : decode cX14_read 160 = .ok (.isub, 1) := dk_100 (dk_at dksX14_read_6 21 rfl rfl)
theorem dX14_read_161 : decode cX14_read 161 = .ok (.ireturn, 1) := dk_172 (dk_at dksX14_read_6 22 rfl rfl)
theorem dX14_read_162 : decode cX14_read 162 = .ok (.aload_n 0, 1) := dk_42 (dk_at dksX14_read_6 23 rfl rfl)
theorem dX14_read_163 : decode cX14_read 163 = .ok (.iload_n 1, 1) := dk_27 (dk_at dksX14_read_7 0 rfl rfl)
theorem dX14_read_164 : decode cX14_read 164 = .ok (.putfield 393, 3) := dk_181 1 137 (dk_at dksX14_read_7 1 rfl rfl)
theorem dX14_read_167 : decode cX14_read 167 = .ok (.iconst 0, 1) := dk_3 (dk_at dksX14_read_7 4 rfl rfl)
theorem dX14_read_168 : decode cX14_read 168 = .ok (.istore_n 2, 1) := dk_61 (dk_at dksX14_read_7 5 rfl rfl)
theorem dX14_read_169 : decode cX14_read 169 = .ok (.iload_n 2, 1) := dk_28 (dk_at dksX14_read_7 6 rfl rfl)
theorem dX14_read_170 : decode cX14_read 170 = .ok (.iload_n 1, 1) := dk_27 (dk_at dksX14_read_7 7 rfl rfl)
theorem dX14_read_171 : decode cX14_read 171 = .ok (.if_icmp .ge 33, 3) := dk_162 0 33 (dk_at dksX14_read_7 8 rfl rfl)
theorem dX14_read_174 : decode cX14_read 174 = .ok (.aload_n 0, 1) := dk_42 (dk_at dksX14_read_7 11 rfl rfl)
theorem dX14_read_175 : decode cX14_read 175 = .ok (.getfield 29, 3) := dk_180 0 29 (dk_at dksX14_read_7 12 rfl rfl)
theorem dX14_read_178 : decode cX14_read 178 = .ok (.iload_n 2, 1) := dk_28 (dk_at dksX14_read_7 15 rfl rfl)
theorem dX14_read_179 : decode cX14_read 179 = .ok (.aload_n 0, 1) := dk_42 (dk_at dksX14_read_7 16 rfl rfl)
theorem dX14_read_180 : decode cX14_read 180 = .ok (.getfield 91, 3) := dk_180 0 91 (dk_at dksX14_read_7 17 rfl rfl)
theorem dX14_read_183 : decode cX14_read 183 = .ok (.iload_n 2, 1) := dk_28 (dk_at dksX14_read_7 20 rfl rfl)
theorem dX14_read_184 : decode cX14_read 184 = .ok (.iaload, 1) := dk_46 (dk_at dksX14_read_7 21 rfl rfl)
theorem dX14_read_185 : decode cX14_read 185 = .ok (.iastore, 1) := dk_79 (dk_at dksX14_read_7 22 rfl rfl)
theorem dX14_read_186 : decode cX14_read 186 = .ok (.aload_n 0, 1) := dk_42 (dk_at dksX14_read_7 23 rfl rfl)
theorem dX14_read_187 : decode cX14_read 187 = .ok (.getfield 32, 3) := dk_180 0 32 (dk_at dksX14_read_8 0 rfl rfl)
theorem dX14_read_190 : decode cX14_read 190 = .ok (.iload_n 2, 1) := dk_28 (dk_at dksX14_read_8 3 rfl rfl)
theorem dX14_read_191 : decode cX14_read 191 = .ok (.aload_n 0, 1) := dk_42 (dk_at dksX14_read_8 4 rfl rfl)
theorem dX14_read_192 : decode cX14_read 192 = .ok (.getfield 94, 3) := dk_180 0 94 (dk_at dksX14_read_8 5 rfl rfl)
theorem dX14_read_195 : decode cX14_read 195 = .ok (.iload_n 2, 1) := dk_28 (dk_at dksX14_read_8 8 rfl rfl)
theorem dX14_read_196 : decode cX14_read 196 = .ok (.iaload, 1) := dk_46 (dk_at dksX14_read_8 9 rfl rfl)
theorem dX14_read_197 : decode cX14_read 197 = .ok (.iastore, 1) := dk_79 (dk_at dksX14_read_8 10 rfl rfl)
theorem dX14_read_198 : decode cX14_read 198 = .ok (.iinc 2 1, 3) := dk_132 2 1 (dk_at dksX14_read_8 11 rfl rfl)
theorem dX14_read_201 : decode cX14_read 201 = .ok (.goto (-32), 3) := dk_167 255 224 (dk_at dksX14_read_8 14 rfl rfl)
theorem dX14_read_204 : decode cX14_read 204 = .ok (.iconst 0, 1) := dk_3 (dk_at dksX14_read_8 17 rfl rfl)
theorem dX14_read_205 : decode cX14_read 205 = .ok (.istore_n 2, 1) := dk_61 (dk_at dksX14_read_8 18 rfl rfl)
theorem dX14_read_206 : decode cX14_read 206 = .ok (.iload_n 2, 1) := dk_28 (dk_at dksX14_read_8 19 rfl rfl)
theorem dX14_read_207 : decode cX14_read 207 = .ok (.aload_n 0, 1) := dk_42 (dk_at dksX14_read_8 20 rfl rfl)
theorem dX14_read_208 : decode cX14_read 208 = .ok (.getfield 333, 3) := dk_180 1 77 (dk_at dksX14_read_8 21 rfl rfl)
theorem dX14_read_211 : decode cX14_read 211 = .ok (.if_icmp .ge 21, 3) := dk_162 0 21 (dk_at dksX14_read_9 0 rfl rfl)
theorem dX14_read_214 : decode cX14_read 214 = .ok (.aload_n 0, 1) := dk_42 (dk_at dksX14_read_9 3 rfl rfl)
theorem dX14_read_215 : decode cX14_read 215 = .ok (.getfield 35, 3) := dk_180 0 35 (dk_at dksX14_read_9 4 rfl rfl)
theorem dX14_read_218 : decode cX14_read 218 = .ok (.iload_n 2, 1) := dk_28 (dk_at dksX14_read_9 7 rfl rfl)
theorem dX14_read_219 : decode cX14_read 219 = .ok (.aload_n 0, 1) := dk_42 (dk_at dksX14_read_9 8 rfl rfl)
theorem dX14_read_220 : decode cX14_read 220 = .ok (.getfield 85, 3) := dk_180 0 85 (dk_at dksX14_read_9 9 rfl rfl)
theorem dX14_read_223 : decode cX14_read 223 = .ok (.iload_n 2, 1) := dk_28 (dk_at dksX14_read_9 12 rfl rfl)
theorem dX14_read_224 : decode cX14_read 224 = .ok (.iaload, 1) := dk_46 (dk_at dksX14_read_9 13 rfl rfl)
theorem dX14_read_225 : decode cX14_read 225 = .ok (.iastore, 1) := dk_79 (dk_at dksX14_read_9 14 rfl rfl)
theorem dX14_read_226 : decode cX14_read 226 = .ok (.iinc 2 1, 3) := dk_132 2 1 (dk_at dksX14_read_9 15 rfl rfl)
theorem dX14_read_229 : decode cX14_read 229 = .ok (.goto (-23), 3) := dk_167 255 233 (dk_at dksX14_read_9 18 rfl rfl)
theorem dX14_read_232 : decode cX14_read 232 = .ok (.iload_n 1, 1) := dk_27 (dk_at dksX14_read_9 21 rfl rfl)
theorem dX14_read_233 : decode cX14_read 233 = .ok (.ireturn, 1) := dk_172 (dk_at dksX14_read_9 22 rfl rfl)
abbrev cX14_advance : ByteArray := prog_33_method_60_code
def yX14_advance : MethodName := ⟨RX14, "advance", "()V"⟩
def dkwX14_advance_11 : List UInt8 := [133, 181, 1, 42, 132, 1, 1, 42, 27, 181, 1, 36, 177]
abbrev dktX14_advance_11 : List UInt8 := dkwX14_advance_11 ++ []
def dkwX14_advance_10 : List UInt8 := [180, 1, 42, 181, 1, 42, 132, 1, 1, 167, 255, 192, 42, 6, 181, 1, 46, 42, 42, 180, 0, 82, 27, 46]
abbrev dktX14_advance_10 : List UInt8 := dkwX14_advance_10 ++ dktX14_advance_11
def dkwX14_advance_9 : List UInt8 := [20, 0, 245, 42, 180, 1, 42, 105, 42, 180, 0, 82, 27, 46, 133, 97, 20, 1, 59, 101, 167, 0, 7, 42]
abbrev dktX14_advance_9 : List UInt8 := dkwX14_advance_9 ++ dktX14_advance_10
def dkwX14_advance_8 : List UInt8 := [42, 180, 0, 82, 27, 46, 184, 1, 56, 153, 0, 69, 42, 27, 42, 180, 1, 39, 100, 6, 162, 0, 26]
abbrev dktX14_advance_8 : List UInt8 := dkwX14_advance_8 ++ dktX14_advance_9
def dkwX14_advance_7 : List UInt8 := [180, 0, 82, 27, 46, 184, 1, 56, 153, 0, 75, 42, 5, 181, 1, 46, 27, 42, 180, 1, 31, 162, 0, 81]
abbrev dktX14_advance_7 : List UInt8 := dkwX14_advance_7 ++ dktX14_advance_8
def dkwX14_advance_6 : List UInt8 := [180, 1, 39, 100, 16, 8, 164, 0, 7, 9, 167, 0, 7, 42, 180, 1, 42, 181, 1, 42, 167, 0, 106, 42]
abbrev dktX14_advance_6 : List UInt8 := dkwX14_advance_6 ++ dktX14_advance_7
def dkwX14_advance_5 : List UInt8 := [46, 133, 97, 20, 1, 54, 101, 167, 0, 4, 9, 181, 1, 42, 132, 1, 1, 167, 255, 194, 42, 27, 42]
abbrev dktX14_advance_5 : List UInt8 := dkwX14_advance_5 ++ dktX14_advance_6
def dkwX14_advance_4 : List UInt8 := [27, 42, 180, 1, 39, 100, 16, 8, 162, 0, 26, 20, 1, 52, 42, 180, 1, 42, 105, 42, 180, 0, 82, 27]
abbrev dktX14_advance_4 : List UInt8 := dkwX14_advance_4 ++ dktX14_advance_5
def dkwX14_advance_3 : List UInt8 := [181, 1, 46, 27, 42, 180, 1, 31, 162, 0, 60, 42, 180, 0, 82, 27, 46, 184, 1, 49, 153, 0, 48, 42]
abbrev dktX14_advance_3 : List UInt8 := dkwX14_advance_3 ++ dktX14_advance_4
def dkwX14_advance_2 : List UInt8 := [42, 3, 181, 1, 46, 167, 0, 214, 42, 180, 0, 82, 27, 46, 184, 1, 49, 153, 0, 99, 42, 4]
abbrev dktX14_advance_2 : List UInt8 := dkwX14_advance_2 ++ dktX14_advance_3
def dkwX14_advance_1 : List UInt8 := [132, 1, 1, 167, 255, 234, 42, 27, 181, 1, 39, 42, 9, 181, 1, 42, 27, 42, 180, 1, 31, 160, 0, 11]
abbrev dktX14_advance_1 : List UInt8 := dkwX14_advance_1 ++ dktX14_advance_2
def dkwX14_advance_0 : List UInt8 := [42, 180, 1, 36, 60, 27, 42, 180, 1, 31, 162, 0, 20, 42, 180, 0, 82, 27, 46, 16, 32, 160, 0, 9]
abbrev dktX14_advance_0 : List UInt8 := dkwX14_advance_0 ++ dktX14_advance_1
theorem dksX14_advance_0 : cX14_advance.data.toList.drop 0 = dktX14_advance_0 := by decide +kernel
theorem dksX14_advance_1 : cX14_advance.data.toList.drop 24 = dktX14_advance_1 := dk_seg dksX14_advance_0 24 rfl rfl
theorem dksX14_advance_2 : cX14_advance.data.toList.drop 48 = dktX14_advance_2 := dk_seg dksX14_advance_1 24 rfl rfl
theorem dksX14_advance_3 : cX14_advance.data.toList.drop 70 = dktX14_advance_3 := dk_seg dksX14_advance_2 22 rfl rfl
theorem dksX14_advance_4 : cX14_advance.data.toList.drop 94 = dktX14_advance_4 := dk_seg dksX14_advance_3 24 rfl rfl
theorem dksX14_advance_5 : cX14_advance.data.toList.drop 118 = dktX14_advance_5 := dk_seg dksX14_advance_4 24 rfl rfl
theorem dksX14_advance_6 : cX14_advance.data.toList.drop 141 = dktX14_advance_6 := dk_seg dksX14_advance_5 23 rfl rfl
theorem dksX14_advance_7 : cX14_advance.data.toList.drop 165 = dktX14_advance_7 := dk_seg dksX14_advance_6 24 rfl rfl
theorem dksX14_advance_8 : cX14_advance.data.toList.drop 189 = dktX14_advance_8 := dk_seg dksX14_advance_7 24 rfl rfl
theorem dksX14_advance_9 : cX14_advance.data.toList.drop 212 = dktX14_advance_9 := dk_seg dksX14_advance_8 23 rfl rfl
theorem dksX14_advance_10 : cX14_advance.data.toList.drop 236 = dktX14_advance_10 := dk_seg dksX14_advance_9 24 rfl rfl
theorem dksX14_advance_11 : cX14_advance.data.toList.drop 260 = dktX14_advance_11 := dk_seg dksX14_advance_10 24 rfl rfl
theorem dX14_advance_0 : decode cX14_advance 0 = .ok (.aload_n 0, 1) := dk_42 (dk_at dksX14_advance_0 0 rfl rfl)
theorem dX14_advance_1 : decode cX14_advance 1 = .ok (.getfield 292, 3) := dk_180 1 36 (dk_at dksX14_advance_0 1 rfl rfl)
theorem dX14_advance_4 : decode cX14_advance 4 = .ok (.istore_n 1, 1) := dk_60 (dk_at dksX14_advance_0 4 rfl rfl)
theorem dX14_advance_5 : decode cX14_advance 5 = .ok (.iload_n 1, 1) := dk_27 (dk_at dksX14_advance_0 5 rfl rfl)
theorem dX14_advance_6 : decode cX14_advance 6 = .ok (.aload_n 0, 1) := dk_42 (dk_at dksX14_advance_0 6 rfl rfl)
theorem dX14_advance_7 : decode cX14_advance 7 = .ok (.getfield 287, 3) := dk_180 1 31 (dk_at dksX14_advance_0 7 rfl rfl)
theorem dX14_advance_10 : decode cX14_advance 10 = .ok (.if_icmp .ge 20, 3) := dk_162 0 20 (dk_at dksX14_advance_0 10 rfl rfl)
theorem dX14_advance_13 : decode cX14_advance 13 = .ok (.aload_n 0, 1) := dk_42 (dk_at dksX14_advance_0 13 rfl rfl)
theorem dX14_advance_14 : decode cX14_advance 14 = .ok (.getfield 82, 3) := dk_180 0 82 (dk_at dksX14_advance_0 14 rfl rfl)
theorem dX14_advance_17 : decode cX14_advance 17 = .ok (.iload_n 1, 1) := dk_27 (dk_at dksX14_advance_0 17 rfl rfl)
theorem dX14_advance_18 : decode cX14_advance 18 = .ok (.iaload, 1) := dk_46 (dk_at dksX14_advance_0 18 rfl rfl)
theorem dX14_advance_19 : decode cX14_advance 19 = .ok (.bipush 32, 2) := dk_16 32 (dk_at dksX14_advance_0 19 rfl rfl)
theorem dX14_advance_21 : decode cX14_advance 21 = .ok (.if_icmp .ne 9, 3) := dk_160 0 9 (dk_at dksX14_advance_0 21 rfl rfl)
theorem dX14_advance_24 : decode cX14_advance 24 = .ok (.iinc 1 1, 3) := dk_132 1 1 (dk_at dksX14_advance_1 0 rfl rfl)
theorem dX14_advance_27 : decode cX14_advance 27 = .ok (.goto (-22), 3) := dk_167 255 234 (dk_at dksX14_advance_1 3 rfl rfl)
theorem dX14_advance_30 : decode cX14_advance 30 = .ok (.aload_n 0, 1) := dk_42 (dk_at dksX14_advance_1 6 rfl rfl)
theorem dX14_advance_31 : decode cX14_advance 31 = .ok (.iload_n 1, 1) := dk_27 (dk_at dksX14_advance_1 7 rfl rfl)
theorem dX14_advance_32 : decode cX14_advance 32 = .ok (.putfield 295, 3) := dk_181 1 39 (dk_at dksX14_advance_1 8 rfl rfl)
theorem dX14_advance_35 : decode cX14_advance 35 = .ok (.aload_n 0, 1) := dk_42 (dk_at dksX14_advance_1 11 rfl rfl)
theorem dX14_advance_36 : decode cX14_advance 36 = .ok (.lconst 0, 1) := dk_9 (dk_at dksX14_advance_1 12 rfl rfl)
theorem dX14_advance_37 : decode cX14_advance 37 = .ok (.putfield 298, 3) := dk_181 1 42 (dk_at dksX14_advance_1 13 rfl rfl)
theorem dX14_advance_40 : decode cX14_advance 40 = .ok (.iload_n 1, 1) := dk_27 (dk_at dksX14_advance_1 16 rfl rfl)
theorem dX14_advance_41 : decode cX14_advance 41 = .ok (.aload_n 0, 1) := dk_42 (dk_at dksX14_advance_1 17 rfl rfl)
theorem dX14_advance_42 : decode cX14_advance 42 = .ok (.getfield 287, 3) := dk_180 1 31 (dk_at dksX14_advance_1 18 rfl rfl)
theorem dX14_advance_45 : decode cX14_advance 45 = .ok (.if_icmp .ne 11, 3) := dk_160 0 11 (dk_at dksX14_advance_1 21 rfl rfl)
theorem dX14_advance_48 : decode cX14_advance 48 = .ok (.aload_n 0, 1) := dk_42 (dk_at dksX14_advance_2 0 rfl rfl)
theorem dX14_advance_49 : decode cX14_advance 49 = .ok (.iconst 0, 1) := dk_3 (dk_at dksX14_advance_2 1 rfl rfl)
theorem dX14_advance_50 : decode cX14_advance 50 = .ok (.putfield 302, 3) := dk_181 1 46 (dk_at dksX14_advance_2 2 rfl rfl)
theorem dX14_advance_53 : decode cX14_advance 53 = .ok (.goto 214, 3) := dk_167 0 214 (dk_at dksX14_advance_2 5 rfl rfl)
theorem dX14_advance_56 : decode cX14_advance 56 = .ok (.aload_n 0, 1) := dk_42 (dk_at dksX14_advance_2 8 rfl rfl)
theorem dX14_advance_57 : decode cX14_advance 57 = .ok (.getfield 82, 3) := dk_180 0 82 (dk_at dksX14_advance_2 9 rfl rfl)
theorem dX14_advance_60 : decode cX14_advance 60 = .ok (.iload_n 1, 1) := dk_27 (dk_at dksX14_advance_2 12 rfl rfl)
theorem dX14_advance_61 : decode cX14_advance 61 = .ok (.iaload, 1) := dk_46 (dk_at dksX14_advance_2 13 rfl rfl)
theorem dX14_advance_62 : decode cX14_advance 62 = .ok (.invokestatic 305, 3) := dk_184 1 49 (dk_at dksX14_advance_2 14 rfl rfl)
theorem dX14_advance_65 : decode cX14_advance 65 = .ok (.ifCond .eq 99, 3) := dk_153 0 99 (dk_at dksX14_advance_2 17 rfl rfl)
theorem dX14_advance_68 : decode cX14_advance 68 = .ok (.aload_n 0, 1) := dk_42 (dk_at dksX14_advance_2 20 rfl rfl)
theorem dX14_advance_69 : decode cX14_advance 69 = .ok (.iconst 1, 1) := dk_4 (dk_at dksX14_advance_2 21 rfl rfl)
theorem dX14_advance_70 : decode cX14_advance 70 = .ok (.putfield 302, 3) := dk_181 1 46 (dk_at dksX14_advance_3 0 rfl rfl)
theorem dX14_advance_73 : decode cX14_advance 73 = .ok (.iload_n 1, 1) := dk_27 (dk_at dksX14_advance_3 3 rfl rfl)
theorem dX14_advance_74 : decode cX14_advance 74 = .ok (.aload_n 0, 1) := dk_42 (dk_at dksX14_advance_3 4 rfl rfl)
theorem dX14_advance_75 : decode cX14_advance 75 = .ok (.getfield 287, 3) := dk_180 1 31 (dk_at dksX14_advance_3 5 rfl rfl)
theorem dX14_advance_78 : decode cX14_advance 78 = .ok (.if_icmp .ge 60, 3) := dk_162 0 60 (dk_at dksX14_advance_3 8 rfl rfl)
theorem dX14_advance_81 : decode cX14_advance 81 = .ok (.aload_n 0, 1) := dk_42 (dk_at dksX14_advance_3 11 rfl rfl)
theorem dX14_advance_82 : decode cX14_advance 82 = .ok (.getfield 82, 3) := dk_180 0 82 (dk_at dksX14_advance_3 12 rfl rfl)
theorem dX14_advance_85 : decode cX14_advance 85 = .ok (.iload_n 1, 1) := dk_27 (dk_at dksX14_advance_3 15 rfl rfl)
theorem dX14_advance_86 : decode cX14_advance 86 = .ok (.iaload, 1) := dk_46 (dk_at dksX14_advance_3 16 rfl rfl)
theorem dX14_advance_87 : decode cX14_advance 87 = .ok (.invokestatic 305, 3) := dk_184 1 49 (dk_at dksX14_advance_3 17 rfl rfl)
theorem dX14_advance_90 : decode cX14_advance 90 = .ok (.ifCond .eq 48, 3) := dk_153 0 48 (dk_at dksX14_advance_3 20 rfl rfl)
theorem dX14_advance_93 : decode cX14_advance 93 = .ok (.aload_n 0, 1) := dk_42 (dk_at dksX14_advance_3 23 rfl rfl)
theorem dX14_advance_94 : decode cX14_advance 94 = .ok (.iload_n 1, 1) := dk_27 (dk_at dksX14_advance_4 0 rfl rfl)
theorem dX14_advance_95 : decode cX14_advance 95 = .ok (.aload_n 0, 1) := dk_42 (dk_at dksX14_advance_4 1 rfl rfl)
theorem dX14_advance_96 : decode cX14_advance 96 = .ok (.getfield 295, 3) := dk_180 1 39 (dk_at dksX14_advance_4 2 rfl rfl)
theorem dX14_advance_99 : decode cX14_advance 99 = .ok (.isub, 1) := dk_100 (dk_at dksX14_advance_4 5 rfl rfl)
theorem dX14_advance_100 : decode cX14_advance 100 = .ok (.bipush 8, 2) := dk_16 8 (dk_at dksX14_advance_4 6 rfl rfl)
theorem dX14_advance_102 : decode cX14_advance 102 = .ok (.if_icmp .ge 26, 3) := dk_162 0 26 (dk_at dksX14_advance_4 8 rfl rfl)
theorem dX14_advance_105 : decode cX14_advance 105 = .ok (.ldc2_w 308, 3) := dk_20 1 52 (dk_at dksX14_advance_4 11 rfl rfl)
theorem dX14_advance_108 : decode cX14_advance 108 = .ok (.aload_n 0, 1) := dk_42 (dk_at dksX14_advance_4 14 rfl rfl)
theorem dX14_advance_109 : decode cX14_advance 109 = .ok (.getfield 298, 3) := dk_180 1 42 (dk_at dksX14_advance_4 15 rfl rfl)
theorem dX14_advance_112 : decode cX14_advance 112 = .ok (.lmul, 1) := dk_105 (dk_at dksX14_advance_4 18 rfl rfl)
theorem dX14_advance_113 : decode cX14_advance 113 = .ok (.aload_n 0, 1) := dk_42 (dk_at dksX14_advance_4 19 rfl rfl)
theorem dX14_advance_114 : decode cX14_advance 114 = .ok (.getfield 82, 3) := dk_180 0 82 (dk_at dksX14_advance_4 20 rfl rfl)
theorem dX14_advance_117 : decode cX14_advance 117 = .ok (.iload_n 1, 1) := dk_27 (dk_at dksX14_advance_4 23 rfl rfl)
theorem dX14_advance_118 : decode cX14_advance 118 = .ok (.iaload, 1) := dk_46 (dk_at dksX14_advance_5 0 rfl rfl)
theorem dX14_advance_119 : decode cX14_advance 119 = .ok (.i2l, 1) := dk_133 (dk_at dksX14_advance_5 1 rfl rfl)
theorem dX14_advance_120 : decode cX14_advance 120 = .ok (.ladd, 1) := dk_97 (dk_at dksX14_advance_5 2 rfl rfl)
theorem dX14_advance_121 : decode cX14_advance 121 = .ok (.ldc2_w 310, 3) := dk_20 1 54 (dk_at dksX14_advance_5 3 rfl rfl)
theorem dX14_advance_124 : decode cX14_advance 124 = .ok (.lsub, 1) := dk_101 (dk_at dksX14_advance_5 6 rfl rfl)
theorem dX14_advance_125 : decode cX14_advance 125 = .ok (.goto 4, 3) := dk_167 0 4 (dk_at dksX14_advance_5 7 rfl rfl)
theorem dX14_advance_128 : decode cX14_advance 128 = .ok (.lconst 0, 1) := dk_9 (dk_at dksX14_advance_5 10 rfl rfl)
theorem dX14_advance_129 : decode cX14_advance 129 = .ok (.putfield 298, 3) := dk_181 1 42 (dk_at dksX14_advance_5 11 rfl rfl)
theorem dX14_advance_132 : decode cX14_advance 132 = .ok (.iinc 1 1, 3) := dk_132 1 1 (dk_at dksX14_advance_5 14 rfl rfl)
theorem dX14_advance_135 : decode cX14_advance 135 = .ok (.goto (-62), 3) := dk_167 255 194 (dk_at dksX14_advance_5 17 rfl rfl)
theorem dX14_advance_138 : decode cX14_advance 138 = .ok (.aload_n 0, 1) := dk_42 (dk_at dksX14_advance_5 20 rfl rfl)
theorem dX14_advance_139 : decode cX14_advance 139 = .ok (.iload_n 1, 1) := dk_27 (dk_at dksX14_advance_5 21 rfl rfl)
theorem dX14_advance_140 : decode cX14_advance 140 = .ok (.aload_n 0, 1) := dk_42 (dk_at dksX14_advance_5 22 rfl rfl)
theorem dX14_advance_141 : decode cX14_advance 141 = .ok (.getfield 295, 3) := dk_180 1 39 (dk_at dksX14_advance_6 0 rfl rfl)
theorem dX14_advance_144 : decode cX14_advance 144 = .ok (.isub, 1) := dk_100 (dk_at dksX14_advance_6 3 rfl rfl)
theorem dX14_advance_145 : decode cX14_advance 145 = .ok (.bipush 8, 2) := dk_16 8 (dk_at dksX14_advance_6 4 rfl rfl)
theorem dX14_advance_147 : decode cX14_advance 147 = .ok (.if_icmp .le 7, 3) := dk_164 0 7 (dk_at dksX14_advance_6 6 rfl rfl)
theorem dX14_advance_150 : decode cX14_advance 150 = .ok (.lconst 0, 1) := dk_9 (dk_at dksX14_advance_6 9 rfl rfl)
theorem dX14_advance_151 : decode cX14_advance 151 = .ok (.goto 7, 3) := dk_167 0 7 (dk_at dksX14_advance_6 10 rfl rfl)
theorem dX14_advance_154 : decode cX14_advance 154 = .ok (.aload_n 0, 1) := dk_42 (dk_at dksX14_advance_6 13 rfl rfl)
theorem dX14_advance_155 : decode cX14_advance 155 = .ok (.getfield 298, 3) := dk_180 1 42 (dk_at dksX14_advance_6 14 rfl rfl)
theorem dX14_advance_158 : decode cX14_advance 158 = .ok (.putfield 298, 3) := dk_181 1 42 (dk_at dksX14_advance_6 17 rfl rfl)
theorem dX14_advance_161 : decode cX14_advance 161 = .ok (.goto 106, 3) := dk_167 0 106 (dk_at dksX14_advance_6 20 rfl rfl)
theorem dX14_advance_164 : decode cX14_advance 164 = .ok (.aload_n 0, 1) := dk_42 (dk_at dksX14_advance_6 23 rfl rfl)
theorem dX14_advance_165 : decode cX14_advance 165 = .ok (.getfield 82, 3) := dk_180 0 82 (dk_at dksX14_advance_7 0 rfl rfl)
theorem dX14_advance_168 : decode cX14_advance 168 = .ok (.iload_n 1, 1) := dk_27 (dk_at dksX14_advance_7 3 rfl rfl)
theorem dX14_advance_169 : decode cX14_advance 169 = .ok (.iaload, 1) := dk_46 (dk_at dksX14_advance_7 4 rfl rfl)
theorem dX14_advance_170 : decode cX14_advance 170 = .ok (.invokestatic 312, 3) := dk_184 1 56 (dk_at dksX14_advance_7 5 rfl rfl)
theorem dX14_advance_173 : decode cX14_advance 173 = .ok (.ifCond .eq 75, 3) := dk_153 0 75 (dk_at dksX14_advance_7 8 rfl rfl)
theorem dX14_advance_176 : decode cX14_advance 176 = .ok (.aload_n 0, 1) := dk_42 (dk_at dksX14_advance_7 11 rfl rfl)
theorem dX14_advance_177 : decode cX14_advance 177 = .ok (.iconst 2, 1) := dk_5 (dk_at dksX14_advance_7 12 rfl rfl)
theorem dX14_advance_178 : decode cX14_advance 178 = .ok (.putfield 302, 3) := dk_181 1 46 (dk_at dksX14_advance_7 13 rfl rfl)
theorem dX14_advance_181 : decode cX14_advance 181 = .ok (.iload_n 1, 1) := dk_27 (dk_at dksX14_advance_7 16 rfl rfl)
theorem dX14_advance_182 : decode cX14_advance 182 = .ok (.aload_n 0, 1) := dk_42 (dk_at dksX14_advance_7 17 rfl rfl)
theorem dX14_advance_183 : decode cX14_advance 183 = .ok (.getfield 287, 3) := dk_180 1 31 (dk_at dksX14_advance_7 18 rfl rfl)
theorem dX14_advance_186 : decode cX14_advance 186 = .ok (.if_icmp .ge 81, 3) := dk_162 0 81 (dk_at dksX14_advance_7 21 rfl rfl)
theorem dX14_advance_189 : decode cX14_advance 189 = .ok (.aload_n 0, 1) := dk_42 (dk_at dksX14_advance_8 0 rfl rfl)
theorem dX14_advance_190 : decode cX14_advance 190 = .ok (.getfield 82, 3) := dk_180 0 82 (dk_at dksX14_advance_8 1 rfl rfl)
theorem dX14_advance_193 : decode cX14_advance 193 = .ok (.iload_n 1, 1) := dk_27 (dk_at dksX14_advance_8 4 rfl rfl)
theorem dX14_advance_194 : decode cX14_advance 194 = .ok (.iaload, 1) := dk_46 (dk_at dksX14_advance_8 5 rfl rfl)
theorem dX14_advance_195 : decode cX14_advance 195 = .ok (.invokestatic 312, 3) := dk_184 1 56 (dk_at dksX14_advance_8 6 rfl rfl)
theorem dX14_advance_198 : decode cX14_advance 198 = .ok (.ifCond .eq 69, 3) := dk_153 0 69 (dk_at dksX14_advance_8 9 rfl rfl)
theorem dX14_advance_201 : decode cX14_advance 201 = .ok (.aload_n 0, 1) := dk_42 (dk_at dksX14_advance_8 12 rfl rfl)
theorem dX14_advance_202 : decode cX14_advance 202 = .ok (.iload_n 1, 1) := dk_27 (dk_at dksX14_advance_8 13 rfl rfl)
theorem dX14_advance_203 : decode cX14_advance 203 = .ok (.aload_n 0, 1) := dk_42 (dk_at dksX14_advance_8 14 rfl rfl)
theorem dX14_advance_204 : decode cX14_advance 204 = .ok (.getfield 295, 3) := dk_180 1 39 (dk_at dksX14_advance_8 15 rfl rfl)
theorem dX14_advance_207 : decode cX14_advance 207 = .ok (.isub, 1) := dk_100 (dk_at dksX14_advance_8 18 rfl rfl)
theorem dX14_advance_208 : decode cX14_advance 208 = .ok (.iconst 3, 1) := dk_6 (dk_at dksX14_advance_8 19 rfl rfl)
theorem dX14_advance_209 : decode cX14_advance 209 = .ok (.if_icmp .ge 26, 3) := dk_162 0 26 (dk_at dksX14_advance_8 20 rfl rfl)
theorem dX14_advance_212 : decode cX14_advance 212 = .ok (.ldc2_w 245, 3) := dk_20 0 245 (dk_at dksX14_advance_9 0 rfl rfl)
theorem dX14_advance_215 : decode cX14_advance 215 = .ok (.aload_n 0, 1) := dk_42 (dk_at dksX14_advance_9 3 rfl rfl)
theorem dX14_advance_216 : decode cX14_advance 216 = .ok (.getfield 298, 3) := dk_180 1 42 (dk_at dksX14_advance_9 4 rfl rfl)
theorem dX14_advance_219 : decode cX14_advance 219 = .ok (.lmul, 1) := dk_105 (dk_at dksX14_advance_9 7 rfl rfl)
theorem dX14_advance_220 : decode cX14_advance 220 = .ok (.aload_n 0, 1) := dk_42 (dk_at dksX14_advance_9 8 rfl rfl)
theorem dX14_advance_221 : decode cX14_advance 221 = .ok (.getfield 82, 3) := dk_180 0 82 (dk_at dksX14_advance_9 9 rfl rfl)
theorem dX14_advance_224 : decode cX14_advance 224 = .ok (.iload_n 1, 1) := dk_27 (dk_at dksX14_advance_9 12 rfl rfl)
theorem dX14_advance_225 : decode cX14_advance 225 = .ok (.iaload, 1) := dk_46 (dk_at dksX14_advance_9 13 rfl rfl)
theorem dX14_advance_226 : decode cX14_advance 226 = .ok (.i2l, 1) := dk_133 (dk_at dksX14_advance_9 14 rfl rfl)
theorem dX14_advance_227 : decode cX14_advance 227 = .ok (.ladd, 1) := dk_97 (dk_at dksX14_advance_9 15 rfl rfl)
theorem dX14_advance_228 : decode cX14_advance 228 = .ok (.ldc2_w 315, 3) := dk_20 1 59 (dk_at dksX14_advance_9 16 rfl rfl)
theorem dX14_advance_231 : decode cX14_advance 231 = .ok (.lsub, 1) := dk_101 (dk_at dksX14_advance_9 19 rfl rfl)
theorem dX14_advance_232 : decode cX14_advance 232 = .ok (.goto 7, 3) := dk_167 0 7 (dk_at dksX14_advance_9 20 rfl rfl)
theorem dX14_advance_235 : decode cX14_advance 235 = .ok (.aload_n 0, 1) := dk_42 (dk_at dksX14_advance_9 23 rfl rfl)
theorem dX14_advance_236 : decode cX14_advance 236 = .ok (.getfield 298, 3) := dk_180 1 42 (dk_at dksX14_advance_10 0 rfl rfl)
theorem dX14_advance_239 : decode cX14_advance 239 = .ok (.putfield 298, 3) := dk_181 1 42 (dk_at dksX14_advance_10 3 rfl rfl)
theorem dX14_advance_242 : decode cX14_advance 242 = .ok (.iinc 1 1, 3) := dk_132 1 1 (dk_at dksX14_advance_10 6 rfl rfl)
theorem dX14_advance_245 : decode cX14_advance 245 = .ok (.goto (-64), 3) := dk_167 255 192 (dk_at dksX14_advance_10 9 rfl rfl)
theorem dX14_advance_248 : decode cX14_advance 248 = .ok (.aload_n 0, 1) := dk_42 (dk_at dksX14_advance_10 12 rfl rfl)
theorem dX14_advance_249 : decode cX14_advance 249 = .ok (.iconst 3, 1) := dk_6 (dk_at dksX14_advance_10 13 rfl rfl)
theorem dX14_advance_250 : decode cX14_advance 250 = .ok (.putfield 302, 3) := dk_181 1 46 (dk_at dksX14_advance_10 14 rfl rfl)
theorem dX14_advance_253 : decode cX14_advance 253 = .ok (.aload_n 0, 1) := dk_42 (dk_at dksX14_advance_10 17 rfl rfl)
theorem dX14_advance_254 : decode cX14_advance 254 = .ok (.aload_n 0, 1) := dk_42 (dk_at dksX14_advance_10 18 rfl rfl)
theorem dX14_advance_255 : decode cX14_advance 255 = .ok (.getfield 82, 3) := dk_180 0 82 (dk_at dksX14_advance_10 19 rfl rfl)
theorem dX14_advance_258 : decode cX14_advance 258 = .ok (.iload_n 1, 1) := dk_27 (dk_at dksX14_advance_10 22 rfl rfl)
theorem dX14_advance_259 : decode cX14_advance 259 = .ok (.iaload, 1) := dk_46 (dk_at dksX14_advance_10 23 rfl rfl)
theorem dX14_advance_260 : decode cX14_advance 260 = .ok (.i2l, 1) := dk_133 (dk_at dksX14_advance_11 0 rfl rfl)
theorem dX14_advance_261 : decode cX14_advance 261 = .ok (.putfield 298, 3) := dk_181 1 42 (dk_at dksX14_advance_11 1 rfl rfl)
theorem dX14_advance_264 : decode cX14_advance 264 = .ok (.iinc 1 1, 3) := dk_132 1 1 (dk_at dksX14_advance_11 4 rfl rfl)
theorem dX14_advance_267 : decode cX14_advance 267 = .ok (.aload_n 0, 1) := dk_42 (dk_at dksX14_advance_11 7 rfl rfl)
theorem dX14_advance_268 : decode cX14_advance 268 = .ok (.iload_n 1, 1) := dk_27 (dk_at dksX14_advance_11 8 rfl rfl)
theorem dX14_advance_269 : decode cX14_advance 269 = .ok (.putfield 292, 3) := dk_181 1 36 (dk_at dksX14_advance_11 9 rfl rfl)
theorem dX14_advance_272 : decode cX14_advance 272 = .ok (.return_, 1) := dk_177 (dk_at dksX14_advance_11 12 rfl rfl)
abbrev cX14_isLetter : ByteArray := prog_33_method_58_code
def yX14_isLetter : MethodName := ⟨RX14, "isLetter", "(I)Z"⟩
def dkwX14_isLetter_0 : List UInt8 := [26, 16, 97, 161, 0, 13, 26, 16, 122, 163, 0, 7, 4, 167, 0, 4, 3, 172]
abbrev dktX14_isLetter_0 : List UInt8 := dkwX14_isLetter_0 ++ []
theorem dksX14_isLetter_0 : cX14_isLetter.data.toList.drop 0 = dktX14_isLetter_0 := by decide +kernel
theorem dX14_isLetter_0 : decode cX14_isLetter 0 = .ok (.iload_n 0, 1) := dk_26 (dk_at dksX14_isLetter_0 0 rfl rfl)
theorem dX14_isLetter_1 : decode cX14_isLetter 1 = .ok (.bipush 97, 2) := dk_16 97 (dk_at dksX14_isLetter_0 1 rfl rfl)
theorem dX14_isLetter_3 : decode cX14_isLetter 3 = .ok (.if_icmp .lt 13, 3) := dk_161 0 13 (dk_at dksX14_isLetter_0 3 rfl rfl)
theorem dX14_isLetter_6 : decode cX14_isLetter 6 = .ok (.iload_n 0, 1) := dk_26 (dk_at dksX14_isLetter_0 6 rfl rfl)
theorem dX14_isLetter_7 : decode cX14_isLetter 7 = .ok (.bipush 122, 2) := dk_16 122 (dk_at dksX14_isLetter_0 7 rfl rfl)
theorem dX14_isLetter_9 : decode cX14_isLetter 9 = .ok (.if_icmp .gt 7, 3) := dk_163 0 7 (dk_at dksX14_isLetter_0 9 rfl rfl)
theorem dX14_isLetter_12 : decode cX14_isLetter 12 = .ok (.iconst 1, 1) := dk_4 (dk_at dksX14_isLetter_0 12 rfl rfl)
theorem dX14_isLetter_13 : decode cX14_isLetter 13 = .ok (.goto 4, 3) := dk_167 0 4 (dk_at dksX14_isLetter_0 13 rfl rfl)
theorem dX14_isLetter_16 : decode cX14_isLetter 16 = .ok (.iconst 0, 1) := dk_3 (dk_at dksX14_isLetter_0 16 rfl rfl)
theorem dX14_isLetter_17 : decode cX14_isLetter 17 = .ok (.ireturn, 1) := dk_172 (dk_at dksX14_isLetter_0 17 rfl rfl)
abbrev cX14_isDigit : ByteArray := prog_33_method_59_code
def yX14_isDigit : MethodName := ⟨RX14, "isDigit", "(I)Z"⟩
def dkwX14_isDigit_0 : List UInt8 := [26, 16, 48, 161, 0, 13, 26, 16, 57, 163, 0, 7, 4, 167, 0, 4, 3, 172]
abbrev dktX14_isDigit_0 : List UInt8 := dkwX14_isDigit_0 ++ []
theorem dksX14_isDigit_0 : cX14_isDigit.data.toList.drop 0 = dktX14_isDigit_0 := by decide +kernel
theorem dX14_isDigit_0 : decode cX14_isDigit 0 = .ok (.iload_n 0, 1) := dk_26 (dk_at dksX14_isDigit_0 0 rfl rfl)
theorem dX14_isDigit_1 : decode cX14_isDigit 1 = .ok (.bipush 48, 2) := dk_16 48 (dk_at dksX14_isDigit_0 1 rfl rfl)
theorem dX14_isDigit_3 : decode cX14_isDigit 3 = .ok (.if_icmp .lt 13, 3) := dk_161 0 13 (dk_at dksX14_isDigit_0 3 rfl rfl)
theorem dX14_isDigit_6 : decode cX14_isDigit 6 = .ok (.iload_n 0, 1) := dk_26 (dk_at dksX14_isDigit_0 6 rfl rfl)
theorem dX14_isDigit_7 : decode cX14_isDigit 7 = .ok (.bipush 57, 2) := dk_16 57 (dk_at dksX14_isDigit_0 7 rfl rfl)
theorem dX14_isDigit_9 : decode cX14_isDigit 9 = .ok (.if_icmp .gt 7, 3) := dk_163 0 7 (dk_at dksX14_isDigit_0 9 rfl rfl)
theorem dX14_isDigit_12 : decode cX14_isDigit 12 = .ok (.iconst 1, 1) := dk_4 (dk_at dksX14_isDigit_0 12 rfl rfl)
theorem dX14_isDigit_13 : decode cX14_isDigit 13 = .ok (.goto 4, 3) := dk_167 0 4 (dk_at dksX14_isDigit_0 13 rfl rfl)
theorem dX14_isDigit_16 : decode cX14_isDigit 16 = .ok (.iconst 0, 1) := dk_3 (dk_at dksX14_isDigit_0 16 rfl rfl)
theorem dX14_isDigit_17 : decode cX14_isDigit 17 = .ok (.ireturn, 1) := dk_172 (dk_at dksX14_isDigit_0 17 rfl rfl)
abbrev cX14_isGood : ByteArray := prog_33_method_61_code
def yX14_isGood : MethodName := ⟨RX14, "isGood", "()Z"⟩
def dkwX14_isGood_0 : List UInt8 := [42, 180, 1, 61, 156, 0, 7, 4, 167, 0, 4, 3, 172]
abbrev dktX14_isGood_0 : List UInt8 := dkwX14_isGood_0 ++ []
theorem dksX14_isGood_0 : cX14_isGood.data.toList.drop 0 = dktX14_isGood_0 := by decide +kernel
theorem dX14_isGood_0 : decode cX14_isGood 0 = .ok (.aload_n 0, 1) := dk_42 (dk_at dksX14_isGood_0 0 rfl rfl)
theorem dX14_isGood_1 : decode cX14_isGood 1 = .ok (.getfield 317, 3) := dk_180 1 61 (dk_at dksX14_isGood_0 1 rfl rfl)
theorem dX14_isGood_4 : decode cX14_isGood 4 = .ok (.ifCond .ge 7, 3) := dk_156 0 7 (dk_at dksX14_isGood_0 4 rfl rfl)
theorem dX14_isGood_7 : decode cX14_isGood 7 = .ok (.iconst 1, 1) := dk_4 (dk_at dksX14_isGood_0 7 rfl rfl)
theorem dX14_isGood_8 : decode cX14_isGood 8 = .ok (.goto 4, 3) := dk_167 0 4 (dk_at dksX14_isGood_0 8 rfl rfl)
theorem dX14_isGood_11 : decode cX14_isGood 11 = .ok (.iconst 0, 1) := dk_3 (dk_at dksX14_isGood_0 11 rfl rfl)
theorem dX14_isGood_12 : decode cX14_isGood 12 = .ok (.ireturn, 1) := dk_172 (dk_at dksX14_isGood_0 12 rfl rfl)
abbrev cX14_isWord : ByteArray := prog_33_method_63_code
def yX14_isWord : MethodName := ⟨RX14, "isWord", "(J)Z"⟩
def dkwX14_isWord_0 : List UInt8 := [42, 180, 1, 46, 4, 160, 0, 16, 42, 180, 1, 42, 31, 148, 154, 0, 7, 4, 167, 0, 4, 3, 172]
abbrev dktX14_isWord_0 : List UInt8 := dkwX14_isWord_0 ++ []
theorem dksX14_isWord_0 : cX14_isWord.data.toList.drop 0 = dktX14_isWord_0 := by decide +kernel
theorem dX14_isWord_0 : decode cX14_isWord 0 = .ok (.aload_n 0, 1) := dk_42 (dk_at dksX14_isWord_0 0 rfl rfl)
theorem dX14_isWord_1 : decode cX14_isWord 1 = .ok (.getfield 302, 3) := dk_180 1 46 (dk_at dksX14_isWord_0 1 rfl rfl)
theorem dX14_isWord_4 : decode cX14_isWord 4 = .ok (.iconst 1, 1) := dk_4 (dk_at dksX14_isWord_0 4 rfl rfl)
theorem dX14_isWord_5 : decode cX14_isWord 5 = .ok (.if_icmp .ne 16, 3) := dk_160 0 16 (dk_at dksX14_isWord_0 5 rfl rfl)
theorem dX14_isWord_8 : decode cX14_isWord 8 = .ok (.aload_n 0, 1) := dk_42 (dk_at dksX14_isWord_0 8 rfl rfl)
theorem dX14_isWord_9 : decode cX14_isWord 9 = .ok (.getfield 298, 3) := dk_180 1 42 (dk_at dksX14_isWord_0 9 rfl rfl)
theorem dX14_isWord_12 : decode cX14_isWord 12 = .ok (.lload_n 1, 1) := dk_31 (dk_at dksX14_isWord_0 12 rfl rfl)
theorem dX14_isWord_13 : decode cX14_isWord 13 = .ok (.lcmp, 1) := dk_148 (dk_at dksX14_isWord_0 13 rfl rfl)
theorem dX14_isWord_14 : decode cX14_isWord 14 = .ok (.ifCond .ne 7, 3) := dk_154 0 7 (dk_at dksX14_isWord_0 14 rfl rfl)
theorem dX14_isWord_17 : decode cX14_isWord 17 = .ok (.iconst 1, 1) := dk_4 (dk_at dksX14_isWord_0 17 rfl rfl)
theorem dX14_isWord_18 : decode cX14_isWord 18 = .ok (.goto 4, 3) := dk_167 0 4 (dk_at dksX14_isWord_0 18 rfl rfl)
theorem dX14_isWord_21 : decode cX14_isWord 21 = .ok (.iconst 0, 1) := dk_3 (dk_at dksX14_isWord_0 21 rfl rfl)
theorem dX14_isWord_22 : decode cX14_isWord 22 = .ok (.ireturn, 1) := dk_172 (dk_at dksX14_isWord_0 22 rfl rfl)
abbrev cX14_want : ByteArray := prog_33_method_65_code
def yX14_want : MethodName := ⟨RX14, "want", "(Z)V"⟩
def dkwX14_want_0 : List UInt8 := [42, 182, 1, 64, 153, 0, 18, 27, 153, 0, 10, 42, 182, 1, 67, 167, 0, 7, 42, 182, 1, 70, 177]
abbrev dktX14_want_0 : List UInt8 := dkwX14_want_0 ++ []
theorem dksX14_want_0 : cX14_want.data.toList.drop 0 = dktX14_want_0 := by decide +kernel
theorem dX14_want_0 : decode cX14_want 0 = .ok (.aload_n 0, 1) := dk_42 (dk_at dksX14_want_0 0 rfl rfl)
theorem dX14_want_1 : decode cX14_want 1 = .ok (.invokevirtual 320, 3) := dk_182 1 64 (dk_at dksX14_want_0 1 rfl rfl)
theorem dX14_want_4 : decode cX14_want 4 = .ok (.ifCond .eq 18, 3) := dk_153 0 18 (dk_at dksX14_want_0 4 rfl rfl)
theorem dX14_want_7 : decode cX14_want 7 = .ok (.iload_n 1, 1) := dk_27 (dk_at dksX14_want_0 7 rfl rfl)
theorem dX14_want_8 : decode cX14_want 8 = .ok (.ifCond .eq 10, 3) := dk_153 0 10 (dk_at dksX14_want_0 8 rfl rfl)
theorem dX14_want_11 : decode cX14_want 11 = .ok (.aload_n 0, 1) := dk_42 (dk_at dksX14_want_0 11 rfl rfl)
theorem dX14_want_12 : decode cX14_want 12 = .ok (.invokevirtual 323, 3) := dk_182 1 67 (dk_at dksX14_want_0 12 rfl rfl)
theorem dX14_want_15 : decode cX14_want 15 = .ok (.goto 7, 3) := dk_167 0 7 (dk_at dksX14_want_0 15 rfl rfl)
theorem dX14_want_18 : decode cX14_want 18 = .ok (.aload_n 0, 1) := dk_42 (dk_at dksX14_want_0 18 rfl rfl)
theorem dX14_want_19 : decode cX14_want 19 = .ok (.invokevirtual 326, 3) := dk_182 1 70 (dk_at dksX14_want_0 19 rfl rfl)
theorem dX14_want_22 : decode cX14_want 22 = .ok (.return_, 1) := dk_177 (dk_at dksX14_want_0 22 rfl rfl)
abbrev cX14_faulty : ByteArray := prog_33_method_62_code
def yX14_faulty : MethodName := ⟨RX14, "faulty", "()V"⟩
def dkwX14_faulty_0 : List UInt8 := [42, 42, 180, 1, 61, 156, 0, 10, 42, 180, 1, 39, 167, 0, 7, 42, 180, 1, 61, 181, 1, 61, 177]
abbrev dktX14_faulty_0 : List UInt8 := dkwX14_faulty_0 ++ []
theorem dksX14_faulty_0 : cX14_faulty.data.toList.drop 0 = dktX14_faulty_0 := by decide +kernel
theorem dX14_faulty_0 : decode cX14_faulty 0 = .ok (.aload_n 0, 1) := dk_42 (dk_at dksX14_faulty_0 0 rfl rfl)
theorem dX14_faulty_1 : decode cX14_faulty 1 = .ok (.aload_n 0, 1) := dk_42 (dk_at dksX14_faulty_0 1 rfl rfl)
theorem dX14_faulty_2 : decode cX14_faulty 2 = .ok (.getfield 317, 3) := dk_180 1 61 (dk_at dksX14_faulty_0 2 rfl rfl)
theorem dX14_faulty_5 : decode cX14_faulty 5 = .ok (.ifCond .ge 10, 3) := dk_156 0 10 (dk_at dksX14_faulty_0 5 rfl rfl)
theorem dX14_faulty_8 : decode cX14_faulty 8 = .ok (.aload_n 0, 1) := dk_42 (dk_at dksX14_faulty_0 8 rfl rfl)
theorem dX14_faulty_9 : decode cX14_faulty 9 = .ok (.getfield 295, 3) := dk_180 1 39 (dk_at dksX14_faulty_0 9 rfl rfl)
theorem dX14_faulty_12 : decode cX14_faulty 12 = .ok (.goto 7, 3) := dk_167 0 7 (dk_at dksX14_faulty_0 12 rfl rfl)
theorem dX14_faulty_15 : decode cX14_faulty 15 = .ok (.aload_n 0, 1) := dk_42 (dk_at dksX14_faulty_0 15 rfl rfl)
theorem dX14_faulty_16 : decode cX14_faulty 16 = .ok (.getfield 317, 3) := dk_180 1 61 (dk_at dksX14_faulty_0 16 rfl rfl)
theorem dX14_faulty_19 : decode cX14_faulty 19 = .ok (.putfield 317, 3) := dk_181 1 61 (dk_at dksX14_faulty_0 19 rfl rfl)
theorem dX14_faulty_22 : decode cX14_faulty 22 = .ok (.return_, 1) := dk_177 (dk_at dksX14_faulty_0 22 rfl rfl)
abbrev cX14_wantNumber : ByteArray := prog_33_method_66_code
def yX14_wantNumber : MethodName := ⟨RX14, "wantNumber", "(I)I"⟩
def dkwX14_wantNumber_1 : List UInt8 := [6, 163, 0, 12, 28, 27, 163, 0, 7, 4, 167, 0, 4, 3, 182, 1, 73, 28, 172]
abbrev dktX14_wantNumber_1 : List UInt8 := dkwX14_wantNumber_1 ++ []
def dkwX14_wantNumber_0 : List UInt8 := [42, 180, 1, 42, 136, 61, 42, 42, 180, 1, 46, 5, 160, 0, 25, 42, 180, 1, 36, 42, 180, 1, 39, 100]
abbrev dktX14_wantNumber_0 : List UInt8 := dkwX14_wantNumber_0 ++ dktX14_wantNumber_1
theorem dksX14_wantNumber_0 : cX14_wantNumber.data.toList.drop 0 = dktX14_wantNumber_0 := by decide +kernel
theorem dksX14_wantNumber_1 : cX14_wantNumber.data.toList.drop 24 = dktX14_wantNumber_1 := dk_seg dksX14_wantNumber_0 24 rfl rfl
theorem dX14_wantNumber_0 : decode cX14_wantNumber 0 = .ok (.aload_n 0, 1) := dk_42 (dk_at dksX14_wantNumber_0 0 rfl rfl)
theorem dX14_wantNumber_1 : decode cX14_wantNumber 1 = .ok (.getfield 298, 3) := dk_180 1 42 (dk_at dksX14_wantNumber_0 1 rfl rfl)
theorem dX14_wantNumber_4 : decode cX14_wantNumber 4 = .ok (.l2i, 1) := dk_136 (dk_at dksX14_wantNumber_0 4 rfl rfl)
theorem dX14_wantNumber_5 : decode cX14_wantNumber 5 = .ok (.istore_n 2, 1) := dk_61 (dk_at dksX14_wantNumber_0 5 rfl rfl)
theorem dX14_wantNumber_6 : decode cX14_wantNumber 6 = .ok (.aload_n 0, 1) := dk_42 (dk_at dksX14_wantNumber_0 6 rfl rfl)
theorem dX14_wantNumber_7 : decode cX14_wantNumber 7 = .ok (.aload_n 0, 1) := dk_42 (dk_at dksX14_wantNumber_0 7 rfl rfl)
theorem dX14_wantNumber_8 : decode cX14_wantNumber 8 = .ok (.getfield 302, 3) := dk_180 1 46 (dk_at dksX14_wantNumber_0 8 rfl rfl)
theorem dX14_wantNumber_11 : decode cX14_wantNumber 11 = .ok (.iconst 2, 1) := dk_5 (dk_at dksX14_wantNumber_0 11 rfl rfl)
theorem dX14_wantNumber_12 : decode cX14_wantNumber 12 = .ok (.if_icmp .ne 25, 3) := dk_160 0 25 (dk_at dksX14_wantNumber_0 12 rfl rfl)
theorem dX14_wantNumber_15 : decode cX14_wantNumber 15 = .ok (.aload_n 0, 1) := dk_42 (dk_at dksX14_wantNumber_0 15 rfl rfl)
theorem dX14_wantNumber_16 : decode cX14_wantNumber 16 = .ok (.getfield 292, 3) := dk_180 1 36 (dk_at dksX14_wantNumber_0 16 rfl rfl)
theorem dX14_wantNumber_19 : decode cX14_wantNumber 19 = .ok (.aload_n 0, 1) := dk_42 (dk_at dksX14_wantNumber_0 19 rfl rfl)
theorem dX14_wantNumber_20 : decode cX14_wantNumber 20 = .ok (.getfield 295, 3) := dk_180 1 39 (dk_at dksX14_wantNumber_0 20 rfl rfl)
theorem dX14_wantNumber_23 : decode cX14_wantNumber 23 = .ok (.isub, 1) := dk_100 (dk_at dksX14_wantNumber_0 23 rfl rfl)
theorem dX14_wantNumber_24 : decode cX14_wantNumber 24 = .ok (.iconst 3, 1) := dk_6 (dk_at dksX14_wantNumber_1 0 rfl rfl)
theorem dX14_wantNumber_25 : decode cX14_wantNumber 25 = .ok (.if_icmp .gt 12, 3) := dk_163 0 12 (dk_at dksX14_wantNumber_1 1 rfl rfl)
theorem dX14_wantNumber_28 : decode cX14_wantNumber 28 = .ok (.iload_n 2, 1) := dk_28 (dk_at dksX14_wantNumber_1 4 rfl rfl)
theorem dX14_wantNumber_29 : decode cX14_wantNumber 29 = .ok (.iload_n 1, 1) := dk_27 (dk_at dksX14_wantNumber_1 5 rfl rfl)
theorem dX14_wantNumber_30 : decode cX14_wantNumber 30 = .ok (.if_icmp .gt 7, 3) := dk_163 0 7 (dk_at dksX14_wantNumber_1 6 rfl rfl)
theorem dX14_wantNumber_33 : decode cX14_wantNumber 33 = .ok (.iconst 1, 1) := dk_4 (dk_at dksX14_wantNumber_1 9 rfl rfl)
theorem dX14_wantNumber_34 : decode cX14_wantNumber 34 = .ok (.goto 4, 3) := dk_167 0 4 (dk_at dksX14_wantNumber_1 10 rfl rfl)
theorem dX14_wantNumber_37 : decode cX14_wantNumber 37 = .ok (.iconst 0, 1) := dk_3 (dk_at dksX14_wantNumber_1 13 rfl rfl)
theorem dX14_wantNumber_38 : decode cX14_wantNumber 38 = .ok (.invokevirtual 329, 3) := dk_182 1 73 (dk_at dksX14_wantNumber_1 14 rfl rfl)
theorem dX14_wantNumber_41 : decode cX14_wantNumber 41 = .ok (.iload_n 2, 1) := dk_28 (dk_at dksX14_wantNumber_1 17 rfl rfl)
theorem dX14_wantNumber_42 : decode cX14_wantNumber 42 = .ok (.ireturn, 1) := dk_172 (dk_at dksX14_wantNumber_1 18 rfl rfl)
abbrev cX14_wantCond : ByteArray := prog_33_method_73_code
def yX14_wantCond : MethodName := ⟨RX14, "wantCond", "()V"⟩
def dkwX14_wantCond_8 : List UInt8 := [167, 255, 79, 3, 62, 167, 255, 74, 42, 16, 9, 182, 1, 123, 177]
abbrev dktX14_wantCond_8 : List UInt8 := dkwX14_wantCond_8 ++ []
def dkwX14_wantCond_7 : List UInt8 := [100, 181, 1, 80, 132, 1, 255, 42, 42, 16, 41, 182, 1, 112, 182, 1, 73, 42, 16, 7, 182, 1, 123]
abbrev dktX14_wantCond_7 : List UInt8 := dkwX14_wantCond_7 ++ dktX14_wantCond_8
def dkwX14_wantCond_6 : List UInt8 := [182, 1, 117, 4, 61, 167, 255, 121, 27, 158, 0, 41, 42, 16, 9, 182, 1, 123, 42, 89, 180, 1, 80, 4]
abbrev dktX14_wantCond_6 : List UInt8 := dkwX14_wantCond_6 ++ dktX14_wantCond_7
def dkwX14_wantCond_5 : List UInt8 := [182, 1, 88, 153, 0, 8, 16, 8, 167, 0, 5, 16, 9, 54, 4, 42, 21, 4, 182, 1, 123, 42, 21, 4]
abbrev dktX14_wantCond_5 : List UInt8 := dkwX14_wantCond_5 ++ dktX14_wantCond_6
def dkwX14_wantCond_4 : List UInt8 := [42, 20, 1, 126, 182, 1, 88, 154, 0, 13, 42, 20, 1, 128, 182, 1, 88, 153, 0, 39, 42, 20, 1, 126]
abbrev dktX14_wantCond_4 : List UInt8 := dkwX14_wantCond_4 ++ dktX14_wantCond_5
def dkwX14_wantCond_3 : List UInt8 := [182, 1, 117, 132, 1, 1, 167, 255, 192, 42, 182, 1, 120, 42, 16, 7, 182, 1, 123, 3, 61, 167, 255, 177]
abbrev dktX14_wantCond_3 : List UInt8 := dkwX14_wantCond_3 ++ dktX14_wantCond_4
def dkwX14_wantCond_2 : List UInt8 := [16, 40, 182, 1, 112, 153, 0, 27, 27, 6, 160, 0, 10, 42, 182, 1, 70, 167, 255, 204, 42, 16, 10]
abbrev dktX14_wantCond_2 : List UInt8 := dkwX14_wantCond_2 ++ dktX14_wantCond_3
def dkwX14_wantCond_1 : List UInt8 := [153, 0, 70, 42, 20, 1, 115, 182, 1, 88, 153, 0, 12, 42, 16, 7, 182, 1, 117, 167, 255, 225, 42]
abbrev dktX14_wantCond_1 : List UInt8 := dkwX14_wantCond_1 ++ dktX14_wantCond_2
def dkwX14_wantCond_0 : List UInt8 := [3, 60, 4, 61, 4, 62, 42, 3, 181, 1, 80, 29, 153, 0, 184, 42, 182, 1, 64, 153, 0, 177, 28]
abbrev dktX14_wantCond_0 : List UInt8 := dkwX14_wantCond_0 ++ dktX14_wantCond_1
theorem dksX14_wantCond_0 : cX14_wantCond.data.toList.drop 0 = dktX14_wantCond_0 := by decide +kernel
theorem dksX14_wantCond_1 : cX14_wantCond.data.toList.drop 23 = dktX14_wantCond_1 := dk_seg dksX14_wantCond_0 23 rfl rfl
theorem dksX14_wantCond_2 : cX14_wantCond.data.toList.drop 46 = dktX14_wantCond_2 := dk_seg dksX14_wantCond_1 23 rfl rfl
theorem dksX14_wantCond_3 : cX14_wantCond.data.toList.drop 69 = dktX14_wantCond_3 := dk_seg dksX14_wantCond_2 23 rfl rfl
theorem dksX14_wantCond_4 : cX14_wantCond.data.toList.drop 93 = dktX14_wantCond_4 := dk_seg dksX14_wantCond_3 24 rfl rfl
theorem dksX14_wantCond_5 : cX14_wantCond.data.toList.drop 117 = dktX14_wantCond_5 := dk_seg dksX14_wantCond_4 24 rfl rfl
theorem dksX14_wantCond_6 : cX14_wantCond.data.toList.drop 141 = dktX14_wantCond_6 := dk_seg dksX14_wantCond_5 24 rfl rfl
theorem dksX14_wantCond_7 : cX14_wantCond.data.toList.drop 165 = dktX14_wantCond_7 := dk_seg dksX14_wantCond_6 24 rfl rfl
theorem dksX14_wantCond_8 : cX14_wantCond.data.toList.drop 188 = dktX14_wantCond_8 := dk_seg dksX14_wantCond_7 23 rfl rfl
theorem dX14_wantCond_0 : decode cX14_wantCond 0 = .ok (.iconst 0, 1) := dk_3 (dk_at dksX14_wantCond_0 0 rfl rfl)
theorem dX14_wantCond_1 : decode cX14_wantCond 1 = .ok (.istore_n 1, 1) := dk_60 (dk_at dksX14_wantCond_0 1 rfl rfl)
theorem dX14_wantCond_2 : decode cX14_wantCond 2 = .ok (.iconst 1, 1) := dk_4 (dk_at dksX14_wantCond_0 2 rfl rfl)
theorem dX14_wantCond_3 : decode cX14_wantCond 3 = .ok (.istore_n 2, 1) := dk_61 (dk_at dksX14_wantCond_0 3 rfl rfl)
theorem dX14_wantCond_4 : decode cX14_wantCond 4 = .ok (.iconst 1, 1) := dk_4 (dk_at dksX14_wantCond_0 4 rfl rfl)
theorem dX14_wantCond_5 : decode cX14_wantCond 5 = .ok (.istore_n 3, 1) := dk_62 (dk_at dksX14_wantCond_0 5 rfl rfl)
theorem dX14_wantCond_6 : decode cX14_wantCond 6 = .ok (.aload_n 0, 1) := dk_42 (dk_at dksX14_wantCond_0 6 rfl rfl)
theorem dX14_wantCond_7 : decode cX14_wantCond 7 = .ok (.iconst 0, 1) := dk_3 (dk_at dksX14_wantCond_0 7 rfl rfl)
theorem dX14_wantCond_8 : decode cX14_wantCond 8 = .ok (.putfield 336, 3) := dk_181 1 80 (dk_at dksX14_wantCond_0 8 rfl rfl)
theorem dX14_wantCond_11 : decode cX14_wantCond 11 = .ok (.iload_n 3, 1) := dk_29 (dk_at dksX14_wantCond_0 11 rfl rfl)
theorem dX14_wantCond_12 : decode cX14_wantCond 12 = .ok (.ifCond .eq 184, 3) := dk_153 0 184 (dk_at dksX14_wantCond_0 12 rfl rfl)
theorem dX14_wantCond_15 : decode cX14_wantCond 15 = .ok (.aload_n 0, 1) := dk_42 (dk_at dksX14_wantCond_0 15 rfl rfl)
theorem dX14_wantCond_16 : decode cX14_wantCond 16 = .ok (.invokevirtual 320, 3) := dk_182 1 64 (dk_at dksX14_wantCond_0 16 rfl rfl)
theorem dX14_wantCond_19 : decode cX14_wantCond 19 = .ok (.ifCond .eq 177, 3) := dk_153 0 177 (dk_at dksX14_wantCond_0 19 rfl rfl)
theorem dX14_wantCond_22 : decode cX14_wantCond 22 = .ok (.iload_n 2, 1) := dk_28 (dk_at dksX14_wantCond_0 22 rfl rfl)
theorem dX14_wantCond_23 : decode cX14_wantCond 23 = .ok (.ifCond .eq 70, 3) := dk_153 0 70 (dk_at dksX14_wantCond_1 0 rfl rfl)
theorem dX14_wantCond_26 : decode cX14_wantCond 26 = .ok (.aload_n 0, 1) := dk_42 (dk_at dksX14_wantCond_1 3 rfl rfl)
theorem dX14_wantCond_27 : decode cX14_wantCond 27 = .ok (.ldc2_w 371, 3) := dk_20 1 115 (dk_at dksX14_wantCond_1 4 rfl rfl)
theorem dX14_wantCond_30 : decode cX14_wantCond 30 = .ok (.invokevirtual 344, 3) := dk_182 1 88 (dk_at dksX14_wantCond_1 7 rfl rfl)
theorem dX14_wantCond_33 : decode cX14_wantCond 33 = .ok (.ifCond .eq 12, 3) := dk_153 0 12 (dk_at dksX14_wantCond_1 10 rfl rfl)
theorem dX14_wantCond_36 : decode cX14_wantCond 36 = .ok (.aload_n 0, 1) := dk_42 (dk_at dksX14_wantCond_1 13 rfl rfl)
theorem dX14_wantCond_37 : decode cX14_wantCond 37 = .ok (.bipush 7, 2) := dk_16 7 (dk_at dksX14_wantCond_1 14 rfl rfl)
theorem dX14_wantCond_39 : decode cX14_wantCond 39 = .ok (.invokevirtual 373, 3) := dk_182 1 117 (dk_at dksX14_wantCond_1 16 rfl rfl)
theorem dX14_wantCond_42 : decode cX14_wantCond 42 = .ok (.goto (-31), 3) := dk_167 255 225 (dk_at dksX14_wantCond_1 19 rfl rfl)
theorem dX14_wantCond_45 : decode cX14_wantCond 45 = .ok (.aload_n 0, 1) := dk_42 (dk_at dksX14_wantCond_1 22 rfl rfl)
theorem dX14_wantCond_46 : decode cX14_wantCond 46 = .ok (.bipush 40, 2) := dk_16 40 (dk_at dksX14_wantCond_2 0 rfl rfl)
theorem dX14_wantCond_48 : decode cX14_wantCond 48 = .ok (.invokevirtual 368, 3) := dk_182 1 112 (dk_at dksX14_wantCond_2 2 rfl rfl)
theorem dX14_wantCond_51 : decode cX14_wantCond 51 = .ok (.ifCond .eq 27, 3) := dk_153 0 27 (dk_at dksX14_wantCond_2 5 rfl rfl)
theorem dX14_wantCond_54 : decode cX14_wantCond 54 = .ok (.iload_n 1, 1) := dk_27 (dk_at dksX14_wantCond_2 8 rfl rfl)
theorem dX14_wantCond_55 : decode cX14_wantCond 55 = .ok (.iconst 3, 1) := dk_6 (dk_at dksX14_wantCond_2 9 rfl rfl)
theorem dX14_wantCond_56 : decode cX14_wantCond 56 = .ok (.if_icmp .ne 10, 3) := dk_160 0 10 (dk_at dksX14_wantCond_2 10 rfl rfl)
theorem dX14_wantCond_59 : decode cX14_wantCond 59 = .ok (.aload_n 0, 1) := dk_42 (dk_at dksX14_wantCond_2 13 rfl rfl)
theorem dX14_wantCond_60 : decode cX14_wantCond 60 = .ok (.invokevirtual 326, 3) := dk_182 1 70 (dk_at dksX14_wantCond_2 14 rfl rfl)
theorem dX14_wantCond_63 : decode cX14_wantCond 63 = .ok (.goto (-52), 3) := dk_167 255 204 (dk_at dksX14_wantCond_2 17 rfl rfl)
theorem dX14_wantCond_66 : decode cX14_wantCond 66 = .ok (.aload_n 0, 1) := dk_42 (dk_at dksX14_wantCond_2 20 rfl rfl)
theorem dX14_wantCond_67 : decode cX14_wantCond 67 = .ok (.bipush 10, 2) := dk_16 10 (dk_at dksX14_wantCond_2 21 rfl rfl)
theorem dX14_wantCond_69 : decode cX14_wantCond 69 = .ok (.invokevirtual 373, 3) := dk_182 1 117 (dk_at dksX14_wantCond_3 0 rfl rfl)
theorem dX14_wantCond_72 : decode cX14_wantCond 72 = .ok (.iinc 1 1, 3) := dk_132 1 1 (dk_at dksX14_wantCond_3 3 rfl rfl)
theorem dX14_wantCond_75 : decode cX14_wantCond 75 = .ok (.goto (-64), 3) := dk_167 255 192 (dk_at dksX14_wantCond_3 6 rfl rfl)
theorem dX14_wantCond_78 : decode cX14_wantCond 78 = .ok (.aload_n 0, 1) := dk_42 (dk_at dksX14_wantCond_3 9 rfl rfl)
theorem dX14_wantCond_79 : decode cX14_wantCond 79 = .ok (.invokevirtual 376, 3) := dk_182 1 120 (dk_at dksX14_wantCond_3 10 rfl rfl)
theorem dX14_wantCond_82 : decode cX14_wantCond 82 = .ok (.aload_n 0, 1) := dk_42 (dk_at dksX14_wantCond_3 13 rfl rfl)
theorem dX14_wantCond_83 : decode cX14_wantCond 83 = .ok (.bipush 7, 2) := dk_16 7 (dk_at dksX14_wantCond_3 14 rfl rfl)
theorem dX14_wantCond_85 : decode cX14_wantCond 85 = .ok (.invokevirtual 379, 3) := dk_182 1 123 (dk_at dksX14_wantCond_3 16 rfl rfl)
theorem dX14_wantCond_88 : decode cX14_wantCond 88 = .ok (.iconst 0, 1) := dk_3 (dk_at dksX14_wantCond_3 19 rfl rfl)
theorem dX14_wantCond_89 : decode cX14_wantCond 89 = .ok (.istore_n 2, 1) := dk_61 (dk_at dksX14_wantCond_3 20 rfl rfl)
theorem dX14_wantCond_90 : decode cX14_wantCond 90 = .ok (.goto (-79), 3) := dk_167 255 177 (dk_at dksX14_wantCond_3 21 rfl rfl)
theorem dX14_wantCond_93 : decode cX14_wantCond 93 = .ok (.aload_n 0, 1) := dk_42 (dk_at dksX14_wantCond_4 0 rfl rfl)
theorem dX14_wantCond_94 : decode cX14_wantCond 94 = .ok (.ldc2_w 382, 3) := dk_20 1 126 (dk_at dksX14_wantCond_4 1 rfl rfl)
theorem dX14_wantCond_97 : decode cX14_wantCond 97 = .ok (.invokevirtual 344, 3) := dk_182 1 88 (dk_at dksX14_wantCond_4 4 rfl rfl)
theorem dX14_wantCond_100 : decode cX14_wantCond 100 = .ok (.ifCond .ne 13, 3) := dk_154 0 13 (dk_at dksX14_wantCond_4 7 rfl rfl)
theorem dX14_wantCond_103 : decode cX14_wantCond 103 = .ok (.aload_n 0, 1) := dk_42 (dk_at dksX14_wantCond_4 10 rfl rfl)
theorem dX14_wantCond_104 : decode cX14_wantCond 104 = .ok (.ldc2_w 384, 3) := dk_20 1 128 (dk_at dksX14_wantCond_4 11 rfl rfl)
theorem dX14_wantCond_107 : decode cX14_wantCond 107 = .ok (.invokevirtual 344, 3) := dk_182 1 88 (dk_at dksX14_wantCond_4 14 rfl rfl)
theorem dX14_wantCond_110 : decode cX14_wantCond 110 = .ok (.ifCond .eq 39, 3) := dk_153 0 39 (dk_at dksX14_wantCond_4 17 rfl rfl)
theorem dX14_wantCond_113 : decode cX14_wantCond 113 = .ok (.aload_n 0, 1) := dk_42 (dk_at dksX14_wantCond_4 20 rfl rfl)
theorem dX14_wantCond_114 : decode cX14_wantCond 114 = .ok (.ldc2_w 382, 3) := dk_20 1 126 (dk_at dksX14_wantCond_4 21 rfl rfl)
theorem dX14_wantCond_117 : decode cX14_wantCond 117 = .ok (.invokevirtual 344, 3) := dk_182 1 88 (dk_at dksX14_wantCond_5 0 rfl rfl)
theorem dX14_wantCond_120 : decode cX14_wantCond 120 = .ok (.ifCond .eq 8, 3) := dk_153 0 8 (dk_at dksX14_wantCond_5 3 rfl rfl)
theorem dX14_wantCond_123 : decode cX14_wantCond 123 = .ok (.bipush 8, 2) := dk_16 8 (dk_at dksX14_wantCond_5 6 rfl rfl)
theorem dX14_wantCond_125 : decode cX14_wantCond 125 = .ok (.goto 5, 3) := dk_167 0 5 (dk_at dksX14_wantCond_5 8 rfl rfl)
theorem dX14_wantCond_128 : decode cX14_wantCond 128 = .ok (.bipush 9, 2) := dk_16 9 (dk_at dksX14_wantCond_5 11 rfl rfl)
theorem dX14_wantCond_130 : decode cX14_wantCond 130 = .ok (.istore 4, 2) := dk_54 4 (dk_at dksX14_wantCond_5 13 rfl rfl)
theorem dX14_wantCond_132 : decode cX14_wantCond 132 = .ok (.aload_n 0, 1) := dk_42 (dk_at dksX14_wantCond_5 15 rfl rfl)
theorem dX14_wantCond_133 : decode cX14_wantCond 133 = .ok (.iload 4, 2) := dk_21 4 (dk_at dksX14_wantCond_5 16 rfl rfl)
theorem dX14_wantCond_135 : decode cX14_wantCond 135 = .ok (.invokevirtual 379, 3) := dk_182 1 123 (dk_at dksX14_wantCond_5 18 rfl rfl)
theorem dX14_wantCond_138 : decode cX14_wantCond 138 = .ok (.aload_n 0, 1) := dk_42 (dk_at dksX14_wantCond_5 21 rfl rfl)
theorem dX14_wantCond_139 : decode cX14_wantCond 139 = .ok (.iload 4, 2) := dk_21 4 (dk_at dksX14_wantCond_5 22 rfl rfl)
theorem dX14_wantCond_141 : decode cX14_wantCond 141 = .ok (.invokevirtual 373, 3) := dk_182 1 117 (dk_at dksX14_wantCond_6 0 rfl rfl)
theorem dX14_wantCond_144 : decode cX14_wantCond 144 = .ok (.iconst 1, 1) := dk_4 (dk_at dksX14_wantCond_6 3 rfl rfl)
theorem dX14_wantCond_145 : decode cX14_wantCond 145 = .ok (.istore_n 2, 1) := dk_61 (dk_at dksX14_wantCond_6 4 rfl rfl)
theorem dX14_wantCond_146 : decode cX14_wantCond 146 = .ok (.goto (-135), 3) := dk_167 255 121 (dk_at dksX14_wantCond_6 5 rfl rfl)
theorem dX14_wantCond_149 : decode cX14_wantCond 149 = .ok (.iload_n 1, 1) := dk_27 (dk_at dksX14_wantCond_6 8 rfl rfl)
theorem dX14_wantCond_150 : decode cX14_wantCond 150 = .ok (.ifCond .le 41, 3) := dk_158 0 41 (dk_at dksX14_wantCond_6 9 rfl rfl)
theorem dX14_wantCond_153 : decode cX14_wantCond 153 = .ok (.aload_n 0, 1) := dk_42 (dk_at dksX14_wantCond_6 12 rfl rfl)
theorem dX14_wantCond_154 : decode cX14_wantCond 154 = .ok (.bipush 9, 2) := dk_16 9 (dk_at dksX14_wantCond_6 13 rfl rfl)
theorem dX14_wantCond_156 : decode cX14_wantCond 156 = .ok (.invokevirtual 379, 3) := dk_182 1 123 (dk_at dksX14_wantCond_6 15 rfl rfl)
theorem dX14_wantCond_159 : decode cX14_wantCond 159 = .ok (.aload_n 0, 1) := dk_42 (dk_at dksX14_wantCond_6 18 rfl rfl)
theorem dX14_wantCond_160 : decode cX14_wantCond 160 = .ok (.dup, 1) := dk_89 (dk_at dksX14_wantCond_6 19 rfl rfl)
theorem dX14_wantCond_161 : decode cX14_wantCond 161 = .ok (.getfield 336, 3) := dk_180 1 80 (dk_at dksX14_wantCond_6 20 rfl rfl)
theorem dX14_wantCond_164 : decode cX14_wantCond 164 = .ok (.iconst 1, 1) := dk_4 (dk_at dksX14_wantCond_6 23 rfl rfl)
theorem dX14_wantCond_165 : decode cX14_wantCond 165 = .ok (.isub, 1) := dk_100 (dk_at dksX14_wantCond_7 0 rfl rfl)
theorem dX14_wantCond_166 : decode cX14_wantCond 166 = .ok (.putfield 336, 3) := dk_181 1 80 (dk_at dksX14_wantCond_7 1 rfl rfl)
theorem dX14_wantCond_169 : decode cX14_wantCond 169 = .ok (.iinc 1 (-1), 3) := dk_132 1 255 (dk_at dksX14_wantCond_7 4 rfl rfl)
theorem dX14_wantCond_172 : decode cX14_wantCond 172 = .ok (.aload_n 0, 1) := dk_42 (dk_at dksX14_wantCond_7 7 rfl rfl)
theorem dX14_wantCond_173 : decode cX14_wantCond 173 = .ok (.aload_n 0, 1) := dk_42 (dk_at dksX14_wantCond_7 8 rfl rfl)
theorem dX14_wantCond_174 : decode cX14_wantCond 174 = .ok (.bipush 41, 2) := dk_16 41 (dk_at dksX14_wantCond_7 9 rfl rfl)
theorem dX14_wantCond_176 : decode cX14_wantCond 176 = .ok (.invokevirtual 368, 3) := dk_182 1 112 (dk_at dksX14_wantCond_7 11 rfl rfl)
theorem dX14_wantCond_179 : decode cX14_wantCond 179 = .ok (.invokevirtual 329, 3) := dk_182 1 73 (dk_at dksX14_wantCond_7 14 rfl rfl)
theorem dX14_wantCond_182 : decode cX14_wantCond 182 = .ok (.aload_n 0, 1) := dk_42 (dk_at dksX14_wantCond_7 17 rfl rfl)
theorem dX14_wantCond_183 : decode cX14_wantCond 183 = .ok (.bipush 7, 2) := dk_16 7 (dk_at dksX14_wantCond_7 18 rfl rfl)
theorem dX14_wantCond_185 : decode cX14_wantCond 185 = .ok (.invokevirtual 379, 3) := dk_182 1 123 (dk_at dksX14_wantCond_7 20 rfl rfl)
theorem dX14_wantCond_188 : decode cX14_wantCond 188 = .ok (.goto (-177), 3) := dk_167 255 79 (dk_at dksX14_wantCond_8 0 rfl rfl)
theorem dX14_wantCond_191 : decode cX14_wantCond 191 = .ok (.iconst 0, 1) := dk_3 (dk_at dksX14_wantCond_8 3 rfl rfl)
theorem dX14_wantCond_192 : decode cX14_wantCond 192 = .ok (.istore_n 3, 1) := dk_62 (dk_at dksX14_wantCond_8 4 rfl rfl)
theorem dX14_wantCond_193 : decode cX14_wantCond 193 = .ok (.goto (-182), 3) := dk_167 255 74 (dk_at dksX14_wantCond_8 5 rfl rfl)
theorem dX14_wantCond_196 : decode cX14_wantCond 196 = .ok (.aload_n 0, 1) := dk_42 (dk_at dksX14_wantCond_8 8 rfl rfl)
theorem dX14_wantCond_197 : decode cX14_wantCond 197 = .ok (.bipush 9, 2) := dk_16 9 (dk_at dksX14_wantCond_8 9 rfl rfl)
theorem dX14_wantCond_199 : decode cX14_wantCond 199 = .ok (.invokevirtual 379, 3) := dk_182 1 123 (dk_at dksX14_wantCond_8 11 rfl rfl)
theorem dX14_wantCond_202 : decode cX14_wantCond 202 = .ok (.return_, 1) := dk_177 (dk_at dksX14_wantCond_8 14 rfl rfl)
abbrev cX14_hold : ByteArray := prog_33_method_69_code
def yX14_hold : MethodName := ⟨RX14, "hold", "(I)V"⟩
def dkwX14_hold_1 : List UInt8 := [177]
abbrev dktX14_hold_1 : List UInt8 := dkwX14_hold_1 ++ []
def dkwX14_hold_0 : List UInt8 := [42, 180, 0, 88, 42, 180, 1, 80, 27, 79, 42, 89, 180, 1, 80, 4, 96, 181, 1, 80, 42, 182, 1, 67]
abbrev dktX14_hold_0 : List UInt8 := dkwX14_hold_0 ++ dktX14_hold_1
theorem dksX14_hold_0 : cX14_hold.data.toList.drop 0 = dktX14_hold_0 := by decide +kernel
theorem dksX14_hold_1 : cX14_hold.data.toList.drop 24 = dktX14_hold_1 := dk_seg dksX14_hold_0 24 rfl rfl
theorem dX14_hold_0 : decode cX14_hold 0 = .ok (.aload_n 0, 1) := dk_42 (dk_at dksX14_hold_0 0 rfl rfl)
theorem dX14_hold_1 : decode cX14_hold 1 = .ok (.getfield 88, 3) := dk_180 0 88 (dk_at dksX14_hold_0 1 rfl rfl)
theorem dX14_hold_4 : decode cX14_hold 4 = .ok (.aload_n 0, 1) := dk_42 (dk_at dksX14_hold_0 4 rfl rfl)
theorem dX14_hold_5 : decode cX14_hold 5 = .ok (.getfield 336, 3) := dk_180 1 80 (dk_at dksX14_hold_0 5 rfl rfl)
theorem dX14_hold_8 : decode cX14_hold 8 = .ok (.iload_n 1, 1) := dk_27 (dk_at dksX14_hold_0 8 rfl rfl)
theorem dX14_hold_9 : decode cX14_hold 9 = .ok (.iastore, 1) := dk_79 (dk_at dksX14_hold_0 9 rfl rfl)
theorem dX14_hold_10 : decode cX14_hold 10 = .ok (.aload_n 0, 1) := dk_42 (dk_at dksX14_hold_0 10 rfl rfl)
theorem dX14_hold_11 : decode cX14_hold 11 = .ok (.dup, 1) := dk_89 (dk_at dksX14_hold_0 11 rfl rfl)
theorem dX14_hold_12 : decode cX14_hold 12 = .ok (.getfield 336, 3) := dk_180 1 80 (dk_at dksX14_hold_0 12 rfl rfl)
theorem dX14_hold_15 : decode cX14_hold 15 = .ok (.iconst 1, 1) := dk_4 (dk_at dksX14_hold_0 15 rfl rfl)
theorem dX14_hold_16 : decode cX14_hold 16 = .ok (.iadd, 1) := dk_96 (dk_at dksX14_hold_0 16 rfl rfl)
theorem dX14_hold_17 : decode cX14_hold 17 = .ok (.putfield 336, 3) := dk_181 1 80 (dk_at dksX14_hold_0 17 rfl rfl)
theorem dX14_hold_20 : decode cX14_hold 20 = .ok (.aload_n 0, 1) := dk_42 (dk_at dksX14_hold_0 20 rfl rfl)
theorem dX14_hold_21 : decode cX14_hold 21 = .ok (.invokevirtual 323, 3) := dk_182 1 67 (dk_at dksX14_hold_0 21 rfl rfl)
theorem dX14_hold_24 : decode cX14_hold 24 = .ok (.return_, 1) := dk_177 (dk_at dksX14_hold_1 0 rfl rfl)
abbrev cX14_isMark : ByteArray := prog_33_method_64_code
def yX14_isMark : MethodName := ⟨RX14, "isMark", "(I)Z"⟩
def dkwX14_isMark_0 : List UInt8 := [42, 180, 1, 46, 6, 160, 0, 17, 42, 180, 1, 42, 27, 133, 148, 154, 0, 7, 4, 167, 0, 4, 3, 172]
abbrev dktX14_isMark_0 : List UInt8 := dkwX14_isMark_0 ++ []
theorem dksX14_isMark_0 : cX14_isMark.data.toList.drop 0 = dktX14_isMark_0 := by decide +kernel
theorem dX14_isMark_0 : decode cX14_isMark 0 = .ok (.aload_n 0, 1) := dk_42 (dk_at dksX14_isMark_0 0 rfl rfl)
theorem dX14_isMark_1 : decode cX14_isMark 1 = .ok (.getfield 302, 3) := dk_180 1 46 (dk_at dksX14_isMark_0 1 rfl rfl)
theorem dX14_isMark_4 : decode cX14_isMark 4 = .ok (.iconst 3, 1) := dk_6 (dk_at dksX14_isMark_0 4 rfl rfl)
theorem dX14_isMark_5 : decode cX14_isMark 5 = .ok (.if_icmp .ne 17, 3) := dk_160 0 17 (dk_at dksX14_isMark_0 5 rfl rfl)
theorem dX14_isMark_8 : decode cX14_isMark 8 = .ok (.aload_n 0, 1) := dk_42 (dk_at dksX14_isMark_0 8 rfl rfl)
theorem dX14_isMark_9 : decode cX14_isMark 9 = .ok (.getfield 298, 3) := dk_180 1 42 (dk_at dksX14_isMark_0 9 rfl rfl)
theorem dX14_isMark_12 : decode cX14_isMark 12 = .ok (.iload_n 1, 1) := dk_27 (dk_at dksX14_isMark_0 12 rfl rfl)
theorem dX14_isMark_13 : decode cX14_isMark 13 = .ok (.i2l, 1) := dk_133 (dk_at dksX14_isMark_0 13 rfl rfl)
theorem dX14_isMark_14 : decode cX14_isMark 14 = .ok (.lcmp, 1) := dk_148 (dk_at dksX14_isMark_0 14 rfl rfl)
theorem dX14_isMark_15 : decode cX14_isMark 15 = .ok (.ifCond .ne 7, 3) := dk_154 0 7 (dk_at dksX14_isMark_0 15 rfl rfl)
theorem dX14_isMark_18 : decode cX14_isMark 18 = .ok (.iconst 1, 1) := dk_4 (dk_at dksX14_isMark_0 18 rfl rfl)
theorem dX14_isMark_19 : decode cX14_isMark 19 = .ok (.goto 4, 3) := dk_167 0 4 (dk_at dksX14_isMark_0 19 rfl rfl)
theorem dX14_isMark_22 : decode cX14_isMark 22 = .ok (.iconst 0, 1) := dk_3 (dk_at dksX14_isMark_0 22 rfl rfl)
theorem dX14_isMark_23 : decode cX14_isMark 23 = .ok (.ireturn, 1) := dk_172 (dk_at dksX14_isMark_0 23 rfl rfl)
abbrev cX14_wantAsk : ByteArray := prog_33_method_72_code
def yX14_wantAsk : MethodName := ⟨RX14, "wantAsk", "()V"⟩
def dkwX14_wantAsk_3 : List UInt8 := [42, 27, 182, 1, 83, 177]
abbrev dktX14_wantAsk_3 : List UInt8 := dkwX14_wantAsk_3 ++ []
def dkwX14_wantAsk_2 : List UInt8 := [42, 27, 158, 0, 7, 4, 167, 0, 4, 3, 182, 1, 73, 42, 182, 1, 64, 153, 0, 12, 42, 182, 1, 109]
abbrev dktX14_wantAsk_2 : List UInt8 := dkwX14_wantAsk_2 ++ dktX14_wantAsk_3
def dkwX14_wantAsk_1 : List UInt8 := [153, 0, 8, 16, 16, 167, 0, 18, 42, 16, 62, 182, 1, 112, 153, 0, 8, 16, 17, 167, 0, 4, 3, 60]
abbrev dktX14_wantAsk_1 : List UInt8 := dkwX14_wantAsk_1 ++ dktX14_wantAsk_2
def dkwX14_wantAsk_0 : List UInt8 := [42, 182, 1, 109, 42, 16, 60, 182, 1, 112, 153, 0, 8, 16, 15, 167, 0, 32, 42, 16, 61, 182, 1, 112]
abbrev dktX14_wantAsk_0 : List UInt8 := dkwX14_wantAsk_0 ++ dktX14_wantAsk_1
theorem dksX14_wantAsk_0 : cX14_wantAsk.data.toList.drop 0 = dktX14_wantAsk_0 := by decide +kernel
theorem dksX14_wantAsk_1 : cX14_wantAsk.data.toList.drop 24 = dktX14_wantAsk_1 := dk_seg dksX14_wantAsk_0 24 rfl rfl
theorem dksX14_wantAsk_2 : cX14_wantAsk.data.toList.drop 48 = dktX14_wantAsk_2 := dk_seg dksX14_wantAsk_1 24 rfl rfl
theorem dksX14_wantAsk_3 : cX14_wantAsk.data.toList.drop 72 = dktX14_wantAsk_3 := dk_seg dksX14_wantAsk_2 24 rfl rfl
theorem dX14_wantAsk_0 : decode cX14_wantAsk 0 = .ok (.aload_n 0, 1) := dk_42 (dk_at dksX14_wantAsk_0 0 rfl rfl)
theorem dX14_wantAsk_1 : decode cX14_wantAsk 1 = .ok (.invokevirtual 365, 3) := dk_182 1 109 (dk_at dksX14_wantAsk_0 1 rfl rfl)
theorem dX14_wantAsk_4 : decode cX14_wantAsk 4 = .ok (.aload_n 0, 1) := dk_42 (dk_at dksX14_wantAsk_0 4 rfl rfl)
theorem dX14_wantAsk_5 : decode cX14_wantAsk 5 = .ok (.bipush 60, 2) := dk_16 60 (dk_at dksX14_wantAsk_0 5 rfl rfl)
theorem dX14_wantAsk_7 : decode cX14_wantAsk 7 = .ok (.invokevirtual 368, 3) := dk_182 1 112 (dk_at dksX14_wantAsk_0 7 rfl rfl)
theorem dX14_wantAsk_10 : decode cX14_wantAsk 10 = .ok (.ifCond .eq 8, 3) := dk_153 0 8 (dk_at dksX14_wantAsk_0 10 rfl rfl)
theorem dX14_wantAsk_13 : decode cX14_wantAsk 13 = .ok (.bipush 15, 2) := dk_16 15 (dk_at dksX14_wantAsk_0 13 rfl rfl)
theorem dX14_wantAsk_15 : decode cX14_wantAsk 15 = .ok (.goto 32, 3) := dk_167 0 32 (dk_at dksX14_wantAsk_0 15 rfl rfl)
theorem dX14_wantAsk_18 : decode cX14_wantAsk 18 = .ok (.aload_n 0, 1) := dk_42 (dk_at dksX14_wantAsk_0 18 rfl rfl)
theorem dX14_wantAsk_19 : decode cX14_wantAsk 19 = .ok (.bipush 61, 2) := dk_16 61 (dk_at dksX14_wantAsk_0 19 rfl rfl)
theorem dX14_wantAsk_21 : decode cX14_wantAsk 21 = .ok (.invokevirtual 368, 3) := dk_182 1 112 (dk_at dksX14_wantAsk_0 21 rfl rfl)
theorem dX14_wantAsk_24 : decode cX14_wantAsk 24 = .ok (.ifCond .eq 8, 3) := dk_153 0 8 (dk_at dksX14_wantAsk_1 0 rfl rfl)
theorem dX14_wantAsk_27 : decode cX14_wantAsk 27 = .ok (.bipush 16, 2) := dk_16 16 (dk_at dksX14_wantAsk_1 3 rfl rfl)
theorem dX14_wantAsk_29 : decode cX14_wantAsk 29 = .ok (.goto 18, 3) := dk_167 0 18 (dk_at dksX14_wantAsk_1 5 rfl rfl)
theorem dX14_wantAsk_32 : decode cX14_wantAsk 32 = .ok (.aload_n 0, 1) := dk_42 (dk_at dksX14_wantAsk_1 8 rfl rfl)
theorem dX14_wantAsk_33 : decode cX14_wantAsk 33 = .ok (.bipush 62, 2) := dk_16 62 (dk_at dksX14_wantAsk_1 9 rfl rfl)
theorem dX14_wantAsk_35 : decode cX14_wantAsk 35 = .ok (.invokevirtual 368, 3) := dk_182 1 112 (dk_at dksX14_wantAsk_1 11 rfl rfl)
theorem dX14_wantAsk_38 : decode cX14_wantAsk 38 = .ok (.ifCond .eq 8, 3) := dk_153 0 8 (dk_at dksX14_wantAsk_1 14 rfl rfl)
theorem dX14_wantAsk_41 : decode cX14_wantAsk 41 = .ok (.bipush 17, 2) := dk_16 17 (dk_at dksX14_wantAsk_1 17 rfl rfl)
theorem dX14_wantAsk_43 : decode cX14_wantAsk 43 = .ok (.goto 4, 3) := dk_167 0 4 (dk_at dksX14_wantAsk_1 19 rfl rfl)
theorem dX14_wantAsk_46 : decode cX14_wantAsk 46 = .ok (.iconst 0, 1) := dk_3 (dk_at dksX14_wantAsk_1 22 rfl rfl)
theorem dX14_wantAsk_47 : decode cX14_wantAsk 47 = .ok (.istore_n 1, 1) := dk_60 (dk_at dksX14_wantAsk_1 23 rfl rfl)
theorem dX14_wantAsk_48 : decode cX14_wantAsk 48 = .ok (.aload_n 0, 1) := dk_42 (dk_at dksX14_wantAsk_2 0 rfl rfl)
theorem dX14_wantAsk_49 : decode cX14_wantAsk 49 = .ok (.iload_n 1, 1) := dk_27 (dk_at dksX14_wantAsk_2 1 rfl rfl)
theorem dX14_wantAsk_50 : decode cX14_wantAsk 50 = .ok (.ifCond .le 7, 3) := dk_158 0 7 (dk_at dksX14_wantAsk_2 2 rfl rfl)
theorem dX14_wantAsk_53 : decode cX14_wantAsk 53 = .ok (.iconst 1, 1) := dk_4 (dk_at dksX14_wantAsk_2 5 rfl rfl)
theorem dX14_wantAsk_54 : decode cX14_wantAsk 54 = .ok (.goto 4, 3) := dk_167 0 4 (dk_at dksX14_wantAsk_2 6 rfl rfl)
theorem dX14_wantAsk_57 : decode cX14_wantAsk 57 = .ok (.iconst 0, 1) := dk_3 (dk_at dksX14_wantAsk_2 9 rfl rfl)
theorem dX14_wantAsk_58 : decode cX14_wantAsk 58 = .ok (.invokevirtual 329, 3) := dk_182 1 73 (dk_at dksX14_wantAsk_2 10 rfl rfl)
theorem dX14_wantAsk_61 : decode cX14_wantAsk 61 = .ok (.aload_n 0, 1) := dk_42 (dk_at dksX14_wantAsk_2 13 rfl rfl)
theorem dX14_wantAsk_62 : decode cX14_wantAsk 62 = .ok (.invokevirtual 320, 3) := dk_182 1 64 (dk_at dksX14_wantAsk_2 14 rfl rfl)
theorem dX14_wantAsk_65 : decode cX14_wantAsk 65 = .ok (.ifCond .eq 12, 3) := dk_153 0 12 (dk_at dksX14_wantAsk_2 17 rfl rfl)
theorem dX14_wantAsk_68 : decode cX14_wantAsk 68 = .ok (.aload_n 0, 1) := dk_42 (dk_at dksX14_wantAsk_2 20 rfl rfl)
theorem dX14_wantAsk_69 : decode cX14_wantAsk 69 = .ok (.invokevirtual 365, 3) := dk_182 1 109 (dk_at dksX14_wantAsk_2 21 rfl rfl)
theorem dX14_wantAsk_72 : decode cX14_wantAsk 72 = .ok (.aload_n 0, 1) := dk_42 (dk_at dksX14_wantAsk_3 0 rfl rfl)
theorem dX14_wantAsk_73 : decode cX14_wantAsk 73 = .ok (.iload_n 1, 1) := dk_27 (dk_at dksX14_wantAsk_3 1 rfl rfl)
theorem dX14_wantAsk_74 : decode cX14_wantAsk 74 = .ok (.invokevirtual 339, 3) := dk_182 1 83 (dk_at dksX14_wantAsk_3 2 rfl rfl)
theorem dX14_wantAsk_77 : decode cX14_wantAsk 77 = .ok (.return_, 1) := dk_177 (dk_at dksX14_wantAsk_3 5 rfl rfl)
abbrev cX14_wantValue : ByteArray := prog_33_method_71_code
def yX14_wantValue : MethodName := ⟨RX14, "wantValue", "()V"⟩
def dkwX14_wantValue_3 : List UInt8 := [182, 1, 83, 167, 0, 20, 42, 17, 3, 231, 182, 1, 106, 62, 42, 17, 11, 184, 29, 96, 182, 1, 83, 177]
abbrev dktX14_wantValue_3 : List UInt8 := dkwX14_wantValue_3 ++ []
def dkwX14_wantValue_2 : List UInt8 := [42, 6, 182, 1, 106, 62, 42, 28, 153, 0, 9, 17, 0, 200, 167, 0, 6, 17, 1, 44, 29, 96]
abbrev dktX14_wantValue_2 : List UInt8 := dkwX14_wantValue_2 ++ dktX14_wantValue_3
def dkwX14_wantValue_1 : List UInt8 := [182, 1, 67, 167, 0, 66, 28, 154, 0, 13, 42, 20, 1, 104, 182, 1, 88, 153, 0, 35, 42, 182, 1, 67]
abbrev dktX14_wantValue_1 : List UInt8 := dkwX14_wantValue_1 ++ dktX14_wantValue_2
def dkwX14_wantValue_0 : List UInt8 := [42, 182, 1, 98, 60, 42, 20, 1, 102, 182, 1, 88, 61, 27, 158, 0, 15, 42, 27, 182, 1, 83, 42]
abbrev dktX14_wantValue_0 : List UInt8 := dkwX14_wantValue_0 ++ dktX14_wantValue_1
theorem dksX14_wantValue_0 : cX14_wantValue.data.toList.drop 0 = dktX14_wantValue_0 := by decide +kernel
theorem dksX14_wantValue_1 : cX14_wantValue.data.toList.drop 23 = dktX14_wantValue_1 := dk_seg dksX14_wantValue_0 23 rfl rfl
theorem dksX14_wantValue_2 : cX14_wantValue.data.toList.drop 47 = dktX14_wantValue_2 := dk_seg dksX14_wantValue_1 24 rfl rfl
theorem dksX14_wantValue_3 : cX14_wantValue.data.toList.drop 69 = dktX14_wantValue_3 := dk_seg dksX14_wantValue_2 22 rfl rfl
theorem dX14_wantValue_0 : decode cX14_wantValue 0 = .ok (.aload_n 0, 1) := dk_42 (dk_at dksX14_wantValue_0 0 rfl rfl)
theorem dX14_wantValue_1 : decode cX14_wantValue 1 = .ok (.invokevirtual 354, 3) := dk_182 1 98 (dk_at dksX14_wantValue_0 1 rfl rfl)
theorem dX14_wantValue_4 : decode cX14_wantValue 4 = .ok (.istore_n 1, 1) := dk_60 (dk_at dksX14_wantValue_0 4 rfl rfl)
theorem dX14_wantValue_5 : decode cX14_wantValue 5 = .ok (.aload_n 0, 1) := dk_42 (dk_at dksX14_wantValue_0 5 rfl rfl)
theorem dX14_wantValue_6 : decode cX14_wantValue 6 = .ok (.ldc2_w 358, 3) := dk_20 1 102 (dk_at dksX14_wantValue_0 6 rfl rfl)
theorem dX14_wantValue_9 : decode cX14_wantValue 9 = .ok (.invokevirtual 344, 3) := dk_182 1 88 (dk_at dksX14_wantValue_0 9 rfl rfl)
theorem dX14_wantValue_12 : decode cX14_wantValue 12 = .ok (.istore_n 2, 1) := dk_61 (dk_at dksX14_wantValue_0 12 rfl rfl)
theorem dX14_wantValue_13 : decode cX14_wantValue 13 = .ok (.iload_n 1, 1) := dk_27 (dk_at dksX14_wantValue_0 13 rfl rfl)
theorem dX14_wantValue_14 : decode cX14_wantValue 14 = .ok (.ifCond .le 15, 3) := dk_158 0 15 (dk_at dksX14_wantValue_0 14 rfl rfl)
theorem dX14_wantValue_17 : decode cX14_wantValue 17 = .ok (.aload_n 0, 1) := dk_42 (dk_at dksX14_wantValue_0 17 rfl rfl)
theorem dX14_wantValue_18 : decode cX14_wantValue 18 = .ok (.iload_n 1, 1) := dk_27 (dk_at dksX14_wantValue_0 18 rfl rfl)
theorem dX14_wantValue_19 : decode cX14_wantValue 19 = .ok (.invokevirtual 339, 3) := dk_182 1 83 (dk_at dksX14_wantValue_0 19 rfl rfl)
theorem dX14_wantValue_22 : decode cX14_wantValue 22 = .ok (.aload_n 0, 1) := dk_42 (dk_at dksX14_wantValue_0 22 rfl rfl)
theorem dX14_wantValue_23 : decode cX14_wantValue 23 = .ok (.invokevirtual 323, 3) := dk_182 1 67 (dk_at dksX14_wantValue_1 0 rfl rfl)
theorem dX14_wantValue_26 : decode cX14_wantValue 26 = .ok (.goto 66, 3) := dk_167 0 66 (dk_at dksX14_wantValue_1 3 rfl rfl)
theorem dX14_wantValue_29 : decode cX14_wantValue 29 = .ok (.iload_n 2, 1) := dk_28 (dk_at dksX14_wantValue_1 6 rfl rfl)
theorem dX14_wantValue_30 : decode cX14_wantValue 30 = .ok (.ifCond .ne 13, 3) := dk_154 0 13 (dk_at dksX14_wantValue_1 7 rfl rfl)
theorem dX14_wantValue_33 : decode cX14_wantValue 33 = .ok (.aload_n 0, 1) := dk_42 (dk_at dksX14_wantValue_1 10 rfl rfl)
theorem dX14_wantValue_34 : decode cX14_wantValue 34 = .ok (.ldc2_w 360, 3) := dk_20 1 104 (dk_at dksX14_wantValue_1 11 rfl rfl)
theorem dX14_wantValue_37 : decode cX14_wantValue 37 = .ok (.invokevirtual 344, 3) := dk_182 1 88 (dk_at dksX14_wantValue_1 14 rfl rfl)
theorem dX14_wantValue_40 : decode cX14_wantValue 40 = .ok (.ifCond .eq 35, 3) := dk_153 0 35 (dk_at dksX14_wantValue_1 17 rfl rfl)
theorem dX14_wantValue_43 : decode cX14_wantValue 43 = .ok (.aload_n 0, 1) := dk_42 (dk_at dksX14_wantValue_1 20 rfl rfl)
theorem dX14_wantValue_44 : decode cX14_wantValue 44 = .ok (.invokevirtual 323, 3) := dk_182 1 67 (dk_at dksX14_wantValue_1 21 rfl rfl)
theorem dX14_wantValue_47 : decode cX14_wantValue 47 = .ok (.aload_n 0, 1) := dk_42 (dk_at dksX14_wantValue_2 0 rfl rfl)
theorem dX14_wantValue_48 : decode cX14_wantValue 48 = .ok (.iconst 3, 1) := dk_6 (dk_at dksX14_wantValue_2 1 rfl rfl)
theorem dX14_wantValue_49 : decode cX14_wantValue 49 = .ok (.invokevirtual 362, 3) := dk_182 1 106 (dk_at dksX14_wantValue_2 2 rfl rfl)
theorem dX14_wantValue_52 : decode cX14_wantValue 52 = .ok (.istore_n 3, 1) := dk_62 (dk_at dksX14_wantValue_2 5 rfl rfl)
theorem dX14_wantValue_53 : decode cX14_wantValue 53 = .ok (.aload_n 0, 1) := dk_42 (dk_at dksX14_wantValue_2 6 rfl rfl)
theorem dX14_wantValue_54 : decode cX14_wantValue 54 = .ok (.iload_n 2, 1) := dk_28 (dk_at dksX14_wantValue_2 7 rfl rfl)
theorem dX14_wantValue_55 : decode cX14_wantValue 55 = .ok (.ifCond .eq 9, 3) := dk_153 0 9 (dk_at dksX14_wantValue_2 8 rfl rfl)
theorem dX14_wantValue_58 : decode cX14_wantValue 58 = .ok (.sipush 200, 3) := dk_17 0 200 (dk_at dksX14_wantValue_2 11 rfl rfl)
theorem dX14_wantValue_61 : decode cX14_wantValue 61 = .ok (.goto 6, 3) := dk_167 0 6 (dk_at dksX14_wantValue_2 14 rfl rfl)
theorem dX14_wantValue_64 : decode cX14_wantValue 64 = .ok (.sipush 300, 3) := dk_17 1 44 (dk_at dksX14_wantValue_2 17 rfl rfl)
theorem dX14_wantValue_67 : decode cX14_wantValue 67 = .ok (.iload_n 3, 1) := dk_29 (dk_at dksX14_wantValue_2 20 rfl rfl)
theorem dX14_wantValue_68 : decode cX14_wantValue 68 = .ok (.iadd, 1) := dk_96 (dk_at dksX14_wantValue_2 21 rfl rfl)
theorem dX14_wantValue_69 : decode cX14_wantValue 69 = .ok (.invokevirtual 339, 3) := dk_182 1 83 (dk_at dksX14_wantValue_3 0 rfl rfl)
theorem dX14_wantValue_72 : decode cX14_wantValue 72 = .ok (.goto 20, 3) := dk_167 0 20 (dk_at dksX14_wantValue_3 3 rfl rfl)
theorem dX14_wantValue_75 : decode cX14_wantValue 75 = .ok (.aload_n 0, 1) := dk_42 (dk_at dksX14_wantValue_3 6 rfl rfl)
theorem dX14_wantValue_76 : decode cX14_wantValue 76 = .ok (.sipush 999, 3) := dk_17 3 231 (dk_at dksX14_wantValue_3 7 rfl rfl)
theorem dX14_wantValue_79 : decode cX14_wantValue 79 = .ok (.invokevirtual 362, 3) := dk_182 1 106 (dk_at dksX14_wantValue_3 10 rfl rfl)
theorem dX14_wantValue_82 : decode cX14_wantValue 82 = .ok (.istore_n 3, 1) := dk_62 (dk_at dksX14_wantValue_3 13 rfl rfl)
theorem dX14_wantValue_83 : decode cX14_wantValue 83 = .ok (.aload_n 0, 1) := dk_42 (dk_at dksX14_wantValue_3 14 rfl rfl)
theorem dX14_wantValue_84 : decode cX14_wantValue 84 = .ok (.sipush 3000, 3) := dk_17 11 184 (dk_at dksX14_wantValue_3 15 rfl rfl)
theorem dX14_wantValue_87 : decode cX14_wantValue 87 = .ok (.iload_n 3, 1) := dk_29 (dk_at dksX14_wantValue_3 18 rfl rfl)
theorem dX14_wantValue_88 : decode cX14_wantValue 88 = .ok (.iadd, 1) := dk_96 (dk_at dksX14_wantValue_3 19 rfl rfl)
theorem dX14_wantValue_89 : decode cX14_wantValue 89 = .ok (.invokevirtual 339, 3) := dk_182 1 83 (dk_at dksX14_wantValue_3 20 rfl rfl)
theorem dX14_wantValue_92 : decode cX14_wantValue 92 = .ok (.return_, 1) := dk_177 (dk_at dksX14_wantValue_3 23 rfl rfl)
abbrev cX14_wordHere : ByteArray := prog_33_method_70_code
def yX14_wordHere : MethodName := ⟨RX14, "wordHere", "()I"⟩
def dkwX14_wordHere_2 : List UInt8 := [20, 1, 96, 182, 1, 88, 153, 0, 8, 16, 103, 167, 0, 4, 3, 172]
abbrev dktX14_wordHere_2 : List UInt8 := dkwX14_wordHere_2 ++ []
def dkwX14_wordHere_1 : List UInt8 := [153, 0, 8, 16, 101, 167, 0, 34, 42, 20, 1, 94, 182, 1, 88, 153, 0, 8, 16, 102, 167, 0, 19, 42]
abbrev dktX14_wordHere_1 : List UInt8 := dkwX14_wordHere_1 ++ dktX14_wordHere_2
def dkwX14_wordHere_0 : List UInt8 := [42, 20, 1, 86, 182, 1, 88, 153, 0, 8, 16, 100, 167, 0, 49, 42, 20, 1, 92, 182, 1, 88]
abbrev dktX14_wordHere_0 : List UInt8 := dkwX14_wordHere_0 ++ dktX14_wordHere_1
theorem dksX14_wordHere_0 : cX14_wordHere.data.toList.drop 0 = dktX14_wordHere_0 := by decide +kernel
theorem dksX14_wordHere_1 : cX14_wordHere.data.toList.drop 22 = dktX14_wordHere_1 := dk_seg dksX14_wordHere_0 22 rfl rfl
theorem dksX14_wordHere_2 : cX14_wordHere.data.toList.drop 46 = dktX14_wordHere_2 := dk_seg dksX14_wordHere_1 24 rfl rfl
theorem dX14_wordHere_0 : decode cX14_wordHere 0 = .ok (.aload_n 0, 1) := dk_42 (dk_at dksX14_wordHere_0 0 rfl rfl)
theorem dX14_wordHere_1 : decode cX14_wordHere 1 = .ok (.ldc2_w 342, 3) := dk_20 1 86 (dk_at dksX14_wordHere_0 1 rfl rfl)
theorem dX14_wordHere_4 : decode cX14_wordHere 4 = .ok (.invokevirtual 344, 3) := dk_182 1 88 (dk_at dksX14_wordHere_0 4 rfl rfl)
theorem dX14_wordHere_7 : decode cX14_wordHere 7 = .ok (.ifCond .eq 8, 3) := dk_153 0 8 (dk_at dksX14_wordHere_0 7 rfl rfl)
theorem dX14_wordHere_10 : decode cX14_wordHere 10 = .ok (.bipush 100, 2) := dk_16 100 (dk_at dksX14_wordHere_0 10 rfl rfl)
theorem dX14_wordHere_12 : decode cX14_wordHere 12 = .ok (.goto 49, 3) := dk_167 0 49 (dk_at dksX14_wordHere_0 12 rfl rfl)
theorem dX14_wordHere_15 : decode cX14_wordHere 15 = .ok (.aload_n 0, 1) := dk_42 (dk_at dksX14_wordHere_0 15 rfl rfl)
theorem dX14_wordHere_16 : decode cX14_wordHere 16 = .ok (.ldc2_w 348, 3) := dk_20 1 92 (dk_at dksX14_wordHere_0 16 rfl rfl)
theorem dX14_wordHere_19 : decode cX14_wordHere 19 = .ok (.invokevirtual 344, 3) := dk_182 1 88 (dk_at dksX14_wordHere_0 19 rfl rfl)
theorem dX14_wordHere_22 : decode cX14_wordHere 22 = .ok (.ifCond .eq 8, 3) := dk_153 0 8 (dk_at dksX14_wordHere_1 0 rfl rfl)
theorem dX14_wordHere_25 : decode cX14_wordHere 25 = .ok (.bipush 101, 2) := dk_16 101 (dk_at dksX14_wordHere_1 3 rfl rfl)
theorem dX14_wordHere_27 : decode cX14_wordHere 27 = .ok (.goto 34, 3) := dk_167 0 34 (dk_at dksX14_wordHere_1 5 rfl rfl)
theorem dX14_wordHere_30 : decode cX14_wordHere 30 = .ok (.aload_n 0, 1) := dk_42 (dk_at dksX14_wordHere_1 8 rfl rfl)
theorem dX14_wordHere_31 : decode cX14_wordHere 31 = .ok (.ldc2_w 350, 3) := dk_20 1 94 (dk_at dksX14_wordHere_1 9 rfl rfl)
theorem dX14_wordHere_34 : decode cX14_wordHere 34 = .ok (.invokevirtual 344, 3) := dk_182 1 88 (dk_at dksX14_wordHere_1 12 rfl rfl)
theorem dX14_wordHere_37 : decode cX14_wordHere 37 = .ok (.ifCond .eq 8, 3) := dk_153 0 8 (dk_at dksX14_wordHere_1 15 rfl rfl)
theorem dX14_wordHere_40 : decode cX14_wordHere 40 = .ok (.bipush 102, 2) := dk_16 102 (dk_at dksX14_wordHere_1 18 rfl rfl)
theorem dX14_wordHere_42 : decode cX14_wordHere 42 = .ok (.goto 19, 3) := dk_167 0 19 (dk_at dksX14_wordHere_1 20 rfl rfl)
theorem dX14_wordHere_45 : decode cX14_wordHere 45 = .ok (.aload_n 0, 1) := dk_42 (dk_at dksX14_wordHere_1 23 rfl rfl)
theorem dX14_wordHere_46 : decode cX14_wordHere 46 = .ok (.ldc2_w 352, 3) := dk_20 1 96 (dk_at dksX14_wordHere_2 0 rfl rfl)
theorem dX14_wordHere_49 : decode cX14_wordHere 49 = .ok (.invokevirtual 344, 3) := dk_182 1 88 (dk_at dksX14_wordHere_2 3 rfl rfl)
theorem dX14_wordHere_52 : decode cX14_wordHere 52 = .ok (.ifCond .eq 8, 3) := dk_153 0 8 (dk_at dksX14_wordHere_2 6 rfl rfl)
theorem dX14_wordHere_55 : decode cX14_wordHere 55 = .ok (.bipush 103, 2) := dk_16 103 (dk_at dksX14_wordHere_2 9 rfl rfl)
theorem dX14_wordHere_57 : decode cX14_wordHere 57 = .ok (.goto 4, 3) := dk_167 0 4 (dk_at dksX14_wordHere_2 11 rfl rfl)
theorem dX14_wordHere_60 : decode cX14_wordHere 60 = .ok (.iconst 0, 1) := dk_3 (dk_at dksX14_wordHere_2 14 rfl rfl)
theorem dX14_wordHere_61 : decode cX14_wordHere 61 = .ok (.ireturn, 1) := dk_172 (dk_at dksX14_wordHere_2 15 rfl rfl)
abbrev cX14_emit : ByteArray := prog_33_method_67_code
def yX14_emit : MethodName := ⟨RX14, "emit", "(I)V"⟩
def dkwX14_emit_0 : List UInt8 := [42, 180, 0, 85, 42, 180, 1, 77, 27, 79, 42, 89, 180, 1, 77, 4, 96, 181, 1, 77, 177]
abbrev dktX14_emit_0 : List UInt8 := dkwX14_emit_0 ++ []
theorem dksX14_emit_0 : cX14_emit.data.toList.drop 0 = dktX14_emit_0 := by decide +kernel
theorem dX14_emit_0 : decode cX14_emit 0 = .ok (.aload_n 0, 1) := dk_42 (dk_at dksX14_emit_0 0 rfl rfl)
theorem dX14_emit_1 : decode cX14_emit 1 = .ok (.getfield 85, 3) := dk_180 0 85 (dk_at dksX14_emit_0 1 rfl rfl)
theorem dX14_emit_4 : decode cX14_emit 4 = .ok (.aload_n 0, 1) := dk_42 (dk_at dksX14_emit_0 4 rfl rfl)
theorem dX14_emit_5 : decode cX14_emit 5 = .ok (.getfield 333, 3) := dk_180 1 77 (dk_at dksX14_emit_0 5 rfl rfl)
theorem dX14_emit_8 : decode cX14_emit 8 = .ok (.iload_n 1, 1) := dk_27 (dk_at dksX14_emit_0 8 rfl rfl)
theorem dX14_emit_9 : decode cX14_emit 9 = .ok (.iastore, 1) := dk_79 (dk_at dksX14_emit_0 9 rfl rfl)
theorem dX14_emit_10 : decode cX14_emit 10 = .ok (.aload_n 0, 1) := dk_42 (dk_at dksX14_emit_0 10 rfl rfl)
theorem dX14_emit_11 : decode cX14_emit 11 = .ok (.dup, 1) := dk_89 (dk_at dksX14_emit_0 11 rfl rfl)
theorem dX14_emit_12 : decode cX14_emit 12 = .ok (.getfield 333, 3) := dk_180 1 77 (dk_at dksX14_emit_0 12 rfl rfl)
theorem dX14_emit_15 : decode cX14_emit 15 = .ok (.iconst 1, 1) := dk_4 (dk_at dksX14_emit_0 15 rfl rfl)
theorem dX14_emit_16 : decode cX14_emit 16 = .ok (.iadd, 1) := dk_96 (dk_at dksX14_emit_0 16 rfl rfl)
theorem dX14_emit_17 : decode cX14_emit 17 = .ok (.putfield 333, 3) := dk_181 1 77 (dk_at dksX14_emit_0 17 rfl rfl)
theorem dX14_emit_20 : decode cX14_emit 20 = .ok (.return_, 1) := dk_177 (dk_at dksX14_emit_0 20 rfl rfl)
abbrev cX14_settle : ByteArray := prog_33_method_68_code
def yX14_settle : MethodName := ⟨RX14, "settle", "(I)V"⟩
def dkwX14_settle_2 : List UInt8 := [42, 42, 180, 0, 88, 42, 180, 1, 80, 46, 182, 1, 83, 167, 255, 195, 177]
abbrev dktX14_settle_2 : List UInt8 := dkwX14_settle_2 ++ []
def dkwX14_settle_1 : List UInt8 := [180, 0, 88, 42, 180, 1, 80, 4, 100, 46, 27, 163, 0, 29, 42, 89, 180, 1, 80, 4, 100, 181, 1, 80]
abbrev dktX14_settle_1 : List UInt8 := dkwX14_settle_1 ++ dktX14_settle_2
def dkwX14_settle_0 : List UInt8 := [42, 180, 1, 80, 158, 0, 60, 42, 180, 0, 88, 42, 180, 1, 80, 4, 100, 46, 16, 10, 159, 0, 44, 42]
abbrev dktX14_settle_0 : List UInt8 := dkwX14_settle_0 ++ dktX14_settle_1
theorem dksX14_settle_0 : cX14_settle.data.toList.drop 0 = dktX14_settle_0 := by decide +kernel
theorem dksX14_settle_1 : cX14_settle.data.toList.drop 24 = dktX14_settle_1 := dk_seg dksX14_settle_0 24 rfl rfl
theorem dksX14_settle_2 : cX14_settle.data.toList.drop 48 = dktX14_settle_2 := dk_seg dksX14_settle_1 24 rfl rfl
theorem dX14_settle_0 : decode cX14_settle 0 = .ok (.aload_n 0, 1) := dk_42 (dk_at dksX14_settle_0 0 rfl rfl)
theorem dX14_settle_1 : decode cX14_settle 1 = .ok (.getfield 336, 3) := dk_180 1 80 (dk_at dksX14_settle_0 1 rfl rfl)
theorem dX14_settle_4 : decode cX14_settle 4 = .ok (.ifCond .le 60, 3) := dk_158 0 60 (dk_at dksX14_settle_0 4 rfl rfl)
theorem dX14_settle_7 : decode cX14_settle 7 = .ok (.aload_n 0, 1) := dk_42 (dk_at dksX14_settle_0 7 rfl rfl)
theorem dX14_settle_8 : decode cX14_settle 8 = .ok (.getfield 88, 3) := dk_180 0 88 (dk_at dksX14_settle_0 8 rfl rfl)
theorem dX14_settle_11 : decode cX14_settle 11 = .ok (.aload_n 0, 1) := dk_42 (dk_at dksX14_settle_0 11 rfl rfl)
theorem dX14_settle_12 : decode cX14_settle 12 = .ok (.getfield 336, 3) := dk_180 1 80 (dk_at dksX14_settle_0 12 rfl rfl)
theorem dX14_settle_15 : decode cX14_settle 15 = .ok (.iconst 1, 1) := dk_4 (dk_at dksX14_settle_0 15 rfl rfl)
theorem dX14_settle_16 : decode cX14_settle 16 = .ok (.isub, 1) := dk_100 (dk_at dksX14_settle_0 16 rfl rfl)
theorem dX14_settle_17 : decode cX14_settle 17 = .ok (.iaload, 1) := dk_46 (dk_at dksX14_settle_0 17 rfl rfl)
theorem dX14_settle_18 : decode cX14_settle 18 = .ok (.bipush 10, 2) := dk_16 10 (dk_at dksX14_settle_0 18 rfl rfl)
theorem dX14_settle_20 : decode cX14_settle 20 = .ok (.if_icmp .eq 44, 3) := dk_159 0 44 (dk_at dksX14_settle_0 20 rfl rfl)
theorem dX14_settle_23 : decode cX14_settle 23 = .ok (.aload_n 0, 1) := dk_42 (dk_at dksX14_settle_0 23 rfl rfl)
theorem dX14_settle_24 : decode cX14_settle 24 = .ok (.getfield 88, 3) := dk_180 0 88 (dk_at dksX14_settle_1 0 rfl rfl)
theorem dX14_settle_27 : decode cX14_settle 27 = .ok (.aload_n 0, 1) := dk_42 (dk_at dksX14_settle_1 3 rfl rfl)
theorem dX14_settle_28 : decode cX14_settle 28 = .ok (.getfield 336, 3) := dk_180 1 80 (dk_at dksX14_settle_1 4 rfl rfl)
theorem dX14_settle_31 : decode cX14_settle 31 = .ok (.iconst 1, 1) := dk_4 (dk_at dksX14_settle_1 7 rfl rfl)
theorem dX14_settle_32 : decode cX14_settle 32 = .ok (.isub, 1) := dk_100 (dk_at dksX14_settle_1 8 rfl rfl)
theorem dX14_settle_33 : decode cX14_settle 33 = .ok (.iaload, 1) := dk_46 (dk_at dksX14_settle_1 9 rfl rfl)
theorem dX14_settle_34 : decode cX14_settle 34 = .ok (.iload_n 1, 1) := dk_27 (dk_at dksX14_settle_1 10 rfl rfl)
theorem dX14_settle_35 : decode cX14_settle 35 = .ok (.if_icmp .gt 29, 3) := dk_163 0 29 (dk_at dksX14_settle_1 11 rfl rfl)
theorem dX14_settle_38 : decode cX14_settle 38 = .ok (.aload_n 0, 1) := dk_42 (dk_at dksX14_settle_1 14 rfl rfl)
theorem dX14_settle_39 : decode cX14_settle 39 = .ok (.dup, 1) := dk_89 (dk_at dksX14_settle_1 15 rfl rfl)
theorem dX14_settle_40 : decode cX14_settle 40 = .ok (.getfield 336, 3) := dk_180 1 80 (dk_at dksX14_settle_1 16 rfl rfl)
theorem dX14_settle_43 : decode cX14_settle 43 = .ok (.iconst 1, 1) := dk_4 (dk_at dksX14_settle_1 19 rfl rfl)
theorem dX14_settle_44 : decode cX14_settle 44 = .ok (.isub, 1) := dk_100 (dk_at dksX14_settle_1 20 rfl rfl)
theorem dX14_settle_45 : decode cX14_settle 45 = .ok (.putfield 336, 3) := dk_181 1 80 (dk_at dksX14_settle_1 21 rfl rfl)
theorem dX14_settle_48 : decode cX14_settle 48 = .ok (.aload_n 0, 1) := dk_42 (dk_at dksX14_settle_2 0 rfl rfl)
theorem dX14_settle_49 : decode cX14_settle 49 = .ok (.aload_n 0, 1) := dk_42 (dk_at dksX14_settle_2 1 rfl rfl)
theorem dX14_settle_50 : decode cX14_settle 50 = .ok (.getfield 88, 3) := dk_180 0 88 (dk_at dksX14_settle_2 2 rfl rfl)
theorem dX14_settle_53 : decode cX14_settle 53 = .ok (.aload_n 0, 1) := dk_42 (dk_at dksX14_settle_2 5 rfl rfl)
theorem dX14_settle_54 : decode cX14_settle 54 = .ok (.getfield 336, 3) := dk_180 1 80 (dk_at dksX14_settle_2 6 rfl rfl)
theorem dX14_settle_57 : decode cX14_settle 57 = .ok (.iaload, 1) := dk_46 (dk_at dksX14_settle_2 9 rfl rfl)
theorem dX14_settle_58 : decode cX14_settle 58 = .ok (.invokevirtual 339, 3) := dk_182 1 83 (dk_at dksX14_settle_2 10 rfl rfl)
theorem dX14_settle_61 : decode cX14_settle 61 = .ok (.goto (-61), 3) := dk_167 255 195 (dk_at dksX14_settle_2 13 rfl rfl)
theorem dX14_settle_64 : decode cX14_settle 64 = .ok (.return_, 1) := dk_177 (dk_at dksX14_settle_2 16 rfl rfl)
abbrev cX14_ruled : ByteArray := prog_33_method_81_code
def yX14_ruled : MethodName := ⟨RX14, "ruled", "()I"⟩
def dkwX14_ruled_0 : List UInt8 := [42, 182, 1, 164, 42, 182, 1, 167, 172]
abbrev dktX14_ruled_0 : List UInt8 := dkwX14_ruled_0 ++ []
theorem dksX14_ruled_0 : cX14_ruled.data.toList.drop 0 = dktX14_ruled_0 := by decide +kernel
theorem dX14_ruled_0 : decode cX14_ruled 0 = .ok (.aload_n 0, 1) := dk_42 (dk_at dksX14_ruled_0 0 rfl rfl)
theorem dX14_ruled_1 : decode cX14_ruled 1 = .ok (.invokevirtual 420, 3) := dk_182 1 164 (dk_at dksX14_ruled_0 1 rfl rfl)
theorem dX14_ruled_4 : decode cX14_ruled 4 = .ok (.aload_n 0, 1) := dk_42 (dk_at dksX14_ruled_0 4 rfl rfl)
theorem dX14_ruled_5 : decode cX14_ruled 5 = .ok (.invokevirtual 423, 3) := dk_182 1 167 (dk_at dksX14_ruled_0 5 rfl rfl)
theorem dX14_ruled_8 : decode cX14_ruled 8 = .ok (.ireturn, 1) := dk_172 (dk_at dksX14_ruled_0 8 rfl rfl)
abbrev cX14_askHere : ByteArray := prog_33_method_80_code
def yX14_askHere : MethodName := ⟨RX14, "askHere", "()V"⟩
def dkwX14_askHere_1 : List UInt8 := [42, 42, 180, 0, 172, 181, 1, 149, 177]
abbrev dktX14_askHere_1 : List UInt8 := dkwX14_askHere_1 ++ []
def dkwX14_askHere_0 : List UInt8 := [42, 42, 180, 0, 166, 181, 1, 146, 42, 42, 180, 0, 169, 181, 1, 143, 42, 42, 180, 0, 141, 181, 1, 140]
abbrev dktX14_askHere_0 : List UInt8 := dkwX14_askHere_0 ++ dktX14_askHere_1
theorem dksX14_askHere_0 : cX14_askHere.data.toList.drop 0 = dktX14_askHere_0 := by decide +kernel
theorem dksX14_askHere_1 : cX14_askHere.data.toList.drop 24 = dktX14_askHere_1 := dk_seg dksX14_askHere_0 24 rfl rfl
theorem dX14_askHere_0 : decode cX14_askHere 0 = .ok (.aload_n 0, 1) := dk_42 (dk_at dksX14_askHere_0 0 rfl rfl)
theorem dX14_askHere_1 : decode cX14_askHere 1 = .ok (.aload_n 0, 1) := dk_42 (dk_at dksX14_askHere_0 1 rfl rfl)
theorem dX14_askHere_2 : decode cX14_askHere 2 = .ok (.getfield 166, 3) := dk_180 0 166 (dk_at dksX14_askHere_0 2 rfl rfl)
theorem dX14_askHere_5 : decode cX14_askHere 5 = .ok (.putfield 402, 3) := dk_181 1 146 (dk_at dksX14_askHere_0 5 rfl rfl)
theorem dX14_askHere_8 : decode cX14_askHere 8 = .ok (.aload_n 0, 1) := dk_42 (dk_at dksX14_askHere_0 8 rfl rfl)
theorem dX14_askHere_9 : decode cX14_askHere 9 = .ok (.aload_n 0, 1) := dk_42 (dk_at dksX14_askHere_0 9 rfl rfl)
theorem dX14_askHere_10 : decode cX14_askHere 10 = .ok (.getfield 169, 3) := dk_180 0 169 (dk_at dksX14_askHere_0 10 rfl rfl)
theorem dX14_askHere_13 : decode cX14_askHere 13 = .ok (.putfield 399, 3) := dk_181 1 143 (dk_at dksX14_askHere_0 13 rfl rfl)
theorem dX14_askHere_16 : decode cX14_askHere 16 = .ok (.aload_n 0, 1) := dk_42 (dk_at dksX14_askHere_0 16 rfl rfl)
theorem dX14_askHere_17 : decode cX14_askHere 17 = .ok (.aload_n 0, 1) := dk_42 (dk_at dksX14_askHere_0 17 rfl rfl)
theorem dX14_askHere_18 : decode cX14_askHere 18 = .ok (.getfield 141, 3) := dk_180 0 141 (dk_at dksX14_askHere_0 18 rfl rfl)
theorem dX14_askHere_21 : decode cX14_askHere 21 = .ok (.putfield 396, 3) := dk_181 1 140 (dk_at dksX14_askHere_0 21 rfl rfl)
theorem dX14_askHere_24 : decode cX14_askHere 24 = .ok (.aload_n 0, 1) := dk_42 (dk_at dksX14_askHere_1 0 rfl rfl)
theorem dX14_askHere_25 : decode cX14_askHere 25 = .ok (.aload_n 0, 1) := dk_42 (dk_at dksX14_askHere_1 1 rfl rfl)
theorem dX14_askHere_26 : decode cX14_askHere 26 = .ok (.getfield 172, 3) := dk_180 0 172 (dk_at dksX14_askHere_1 2 rfl rfl)
theorem dX14_askHere_29 : decode cX14_askHere 29 = .ok (.putfield 405, 3) := dk_181 1 149 (dk_at dksX14_askHere_1 5 rfl rfl)
theorem dX14_askHere_32 : decode cX14_askHere 32 = .ok (.return_, 1) := dk_177 (dk_at dksX14_askHere_1 8 rfl rfl)
abbrev cX14_ruledThere : ByteArray := prog_33_method_79_code
def yX14_ruledThere : MethodName := ⟨RX14, "ruledThere", "()I"⟩
def dkwX14_ruledThere_1 : List UInt8 := [180, 1, 143, 42, 180, 1, 140, 2, 182, 0, 201, 153, 0, 7, 2, 167, 0, 5, 16, 247, 172]
abbrev dktX14_ruledThere_1 : List UInt8 := dkwX14_ruledThere_1 ++ []
def dkwX14_ruledThere_0 : List UInt8 := [42, 182, 1, 161, 60, 27, 155, 0, 10, 42, 180, 0, 32, 27, 46, 172, 42, 42, 180, 1, 146, 42]
abbrev dktX14_ruledThere_0 : List UInt8 := dkwX14_ruledThere_0 ++ dktX14_ruledThere_1
theorem dksX14_ruledThere_0 : cX14_ruledThere.data.toList.drop 0 = dktX14_ruledThere_0 := by decide +kernel
theorem dksX14_ruledThere_1 : cX14_ruledThere.data.toList.drop 22 = dktX14_ruledThere_1 := dk_seg dksX14_ruledThere_0 22 rfl rfl
theorem dX14_ruledThere_0 : decode cX14_ruledThere 0 = .ok (.aload_n 0, 1) := dk_42 (dk_at dksX14_ruledThere_0 0 rfl rfl)
theorem dX14_ruledThere_1 : decode cX14_ruledThere 1 = .ok (.invokevirtual 417, 3) := dk_182 1 161 (dk_at dksX14_ruledThere_0 1 rfl rfl)
theorem dX14_ruledThere_4 : decode cX14_ruledThere 4 = .ok (.istore_n 1, 1) := dk_60 (dk_at dksX14_ruledThere_0 4 rfl rfl)
theorem dX14_ruledThere_5 : decode cX14_ruledThere 5 = .ok (.iload_n 1, 1) := dk_27 (dk_at dksX14_ruledThere_0 5 rfl rfl)
theorem dX14_ruledThere_6 : decode cX14_ruledThere 6 = .ok (.ifCond .lt 10, 3) := dk_155 0 10 (dk_at dksX14_ruledThere_0 6 rfl rfl)
theorem dX14_ruledThere_9 : decode cX14_ruledThere 9 = .ok (.aload_n 0, 1) := dk_42 (dk_at dksX14_ruledThere_0 9 rfl rfl)
theorem dX14_ruledThere_10 : decode cX14_ruledThere 10 = .ok (.getfield 32, 3) := dk_180 0 32 (dk_at dksX14_ruledThere_0 10 rfl rfl)
theorem dX14_ruledThere_13 : decode cX14_ruledThere 13 = .ok (.iload_n 1, 1) := dk_27 (dk_at dksX14_ruledThere_0 13 rfl rfl)
theorem dX14_ruledThere_14 : decode cX14_ruledThere 14 = .ok (.iaload, 1) := dk_46 (dk_at dksX14_ruledThere_0 14 rfl rfl)
theorem dX14_ruledThere_15 : decode cX14_ruledThere 15 = .ok (.ireturn, 1) := dk_172 (dk_at dksX14_ruledThere_0 15 rfl rfl)
theorem dX14_ruledThere_16 : decode cX14_ruledThere 16 = .ok (.aload_n 0, 1) := dk_42 (dk_at dksX14_ruledThere_0 16 rfl rfl)
theorem dX14_ruledThere_17 : decode cX14_ruledThere 17 = .ok (.aload_n 0, 1) := dk_42 (dk_at dksX14_ruledThere_0 17 rfl rfl)
theorem dX14_ruledThere_18 : decode cX14_ruledThere 18 = .ok (.getfield 402, 3) := dk_180 1 146 (dk_at dksX14_ruledThere_0 18 rfl rfl)
theorem dX14_ruledThere_21 : decode cX14_ruledThere 21 = .ok (.aload_n 0, 1) := dk_42 (dk_at dksX14_ruledThere_0 21 rfl rfl)
theorem dX14_ruledThere_22 : decode cX14_ruledThere 22 = .ok (.getfield 399, 3) := dk_180 1 143 (dk_at dksX14_ruledThere_1 0 rfl rfl)
theorem dX14_ruledThere_25 : decode cX14_ruledThere 25 = .ok (.aload_n 0, 1) := dk_42 (dk_at dksX14_ruledThere_1 3 rfl rfl)
theorem dX14_ruledThere_26 : decode cX14_ruledThere 26 = .ok (.getfield 396, 3) := dk_180 1 140 (dk_at dksX14_ruledThere_1 4 rfl rfl)
theorem dX14_ruledThere_29 : decode cX14_ruledThere 29 = .ok (.iconst (-1), 1) := dk_2 (dk_at dksX14_ruledThere_1 7 rfl rfl)
theorem dX14_ruledThere_30 : decode cX14_ruledThere 30 = .ok (.invokevirtual 201, 3) := dk_182 0 201 (dk_at dksX14_ruledThere_1 8 rfl rfl)
theorem dX14_ruledThere_33 : decode cX14_ruledThere 33 = .ok (.ifCond .eq 7, 3) := dk_153 0 7 (dk_at dksX14_ruledThere_1 11 rfl rfl)
theorem dX14_ruledThere_36 : decode cX14_ruledThere 36 = .ok (.iconst (-1), 1) := dk_2 (dk_at dksX14_ruledThere_1 14 rfl rfl)
theorem dX14_ruledThere_37 : decode cX14_ruledThere 37 = .ok (.goto 5, 3) := dk_167 0 5 (dk_at dksX14_ruledThere_1 15 rfl rfl)
theorem dX14_ruledThere_40 : decode cX14_ruledThere 40 = .ok (.bipush (-9), 2) := dk_16 247 (dk_at dksX14_ruledThere_1 18 rfl rfl)
theorem dX14_ruledThere_42 : decode cX14_ruledThere 42 = .ok (.ireturn, 1) := dk_172 (dk_at dksX14_ruledThere_1 20 rfl rfl)
abbrev cX14_clauseThere : ByteArray := prog_33_method_78_code
def yX14_clauseThere : MethodName := ⟨RX14, "clauseThere", "()I"⟩
def dkwX14_clauseThere_2 : List UInt8 := [167, 255, 210, 2, 172]
abbrev dktX14_clauseThere_2 : List UInt8 := dkwX14_clauseThere_2 ++ []
def dkwX14_clauseThere_1 : List UInt8 := [180, 1, 143, 42, 180, 1, 140, 42, 180, 0, 32, 27, 46, 182, 0, 201, 153, 0, 5, 27, 172, 132, 1, 1]
abbrev dktX14_clauseThere_1 : List UInt8 := dkwX14_clauseThere_1 ++ dktX14_clauseThere_2
def dkwX14_clauseThere_0 : List UInt8 := [3, 60, 27, 42, 180, 1, 137, 162, 0, 44, 42, 27, 182, 1, 158, 153, 0, 30, 42, 42, 180, 1, 146, 42]
abbrev dktX14_clauseThere_0 : List UInt8 := dkwX14_clauseThere_0 ++ dktX14_clauseThere_1
theorem dksX14_clauseThere_0 : cX14_clauseThere.data.toList.drop 0 = dktX14_clauseThere_0 := by decide +kernel
theorem dksX14_clauseThere_1 : cX14_clauseThere.data.toList.drop 24 = dktX14_clauseThere_1 := dk_seg dksX14_clauseThere_0 24 rfl rfl
theorem dksX14_clauseThere_2 : cX14_clauseThere.data.toList.drop 48 = dktX14_clauseThere_2 := dk_seg dksX14_clauseThere_1 24 rfl rfl
theorem dX14_clauseThere_0 : decode cX14_clauseThere 0 = .ok (.iconst 0, 1) := dk_3 (dk_at dksX14_clauseThere_0 0 rfl rfl)
theorem dX14_clauseThere_1 : decode cX14_clauseThere 1 = .ok (.istore_n 1, 1) := dk_60 (dk_at dksX14_clauseThere_0 1 rfl rfl)
theorem dX14_clauseThere_2 : decode cX14_clauseThere 2 = .ok (.iload_n 1, 1) := dk_27 (dk_at dksX14_clauseThere_0 2 rfl rfl)
theorem dX14_clauseThere_3 : decode cX14_clauseThere 3 = .ok (.aload_n 0, 1) := dk_42 (dk_at dksX14_clauseThere_0 3 rfl rfl)
theorem dX14_clauseThere_4 : decode cX14_clauseThere 4 = .ok (.getfield 393, 3) := dk_180 1 137 (dk_at dksX14_clauseThere_0 4 rfl rfl)
theorem dX14_clauseThere_7 : decode cX14_clauseThere 7 = .ok (.if_icmp .ge 44, 3) := dk_162 0 44 (dk_at dksX14_clauseThere_0 7 rfl rfl)
theorem dX14_clauseThere_10 : decode cX14_clauseThere 10 = .ok (.aload_n 0, 1) := dk_42 (dk_at dksX14_clauseThere_0 10 rfl rfl)
theorem dX14_clauseThere_11 : decode cX14_clauseThere 11 = .ok (.iload_n 1, 1) := dk_27 (dk_at dksX14_clauseThere_0 11 rfl rfl)
theorem dX14_clauseThere_12 : decode cX14_clauseThere 12 = .ok (.invokevirtual 414, 3) := dk_182 1 158 (dk_at dksX14_clauseThere_0 12 rfl rfl)
theorem dX14_clauseThere_15 : decode cX14_clauseThere 15 = .ok (.ifCond .eq 30, 3) := dk_153 0 30 (dk_at dksX14_clauseThere_0 15 rfl rfl)
theorem dX14_clauseThere_18 : decode cX14_clauseThere 18 = .ok (.aload_n 0, 1) := dk_42 (dk_at dksX14_clauseThere_0 18 rfl rfl)
theorem dX14_clauseThere_19 : decode cX14_clauseThere 19 = .ok (.aload_n 0, 1) := dk_42 (dk_at dksX14_clauseThere_0 19 rfl rfl)
theorem dX14_clauseThere_20 : decode cX14_clauseThere 20 = .ok (.getfield 402, 3) := dk_180 1 146 (dk_at dksX14_clauseThere_0 20 rfl rfl)
theorem dX14_clauseThere_23 : decode cX14_clauseThere 23 = .ok (.aload_n 0, 1) := dk_42 (dk_at dksX14_clauseThere_0 23 rfl rfl)
theorem dX14_clauseThere_24 : decode cX14_clauseThere 24 = .ok (.getfield 399, 3) := dk_180 1 143 (dk_at dksX14_clauseThere_1 0 rfl rfl)
theorem dX14_clauseThere_27 : decode cX14_clauseThere 27 = .ok (.aload_n 0, 1) := dk_42 (dk_at dksX14_clauseThere_1 3 rfl rfl)
theorem dX14_clauseThere_28 : decode cX14_clauseThere 28 = .ok (.getfield 396, 3) := dk_180 1 140 (dk_at dksX14_clauseThere_1 4 rfl rfl)
theorem dX14_clauseThere_31 : decode cX14_clauseThere 31 = .ok (.aload_n 0, 1) := dk_42 (dk_at dksX14_clauseThere_1 7 rfl rfl)
theorem dX14_clauseThere_32 : decode cX14_clauseThere 32 = .ok (.getfield 32, 3) := dk_180 0 32 (dk_at dksX14_clauseThere_1 8 rfl rfl)
theorem dX14_clauseThere_35 : decode cX14_clauseThere 35 = .ok (.iload_n 1, 1) := dk_27 (dk_at dksX14_clauseThere_1 11 rfl rfl)
theorem dX14_clauseThere_36 : decode cX14_clauseThere 36 = .ok (.iaload, 1) := dk_46 (dk_at dksX14_clauseThere_1 12 rfl rfl)
theorem dX14_clauseThere_37 : decode cX14_clauseThere 37 = .ok (.invokevirtual 201, 3) := dk_182 0 201 (dk_at dksX14_clauseThere_1 13 rfl rfl)
theorem dX14_clauseThere_40 : decode cX14_clauseThere 40 = .ok (.ifCond .eq 5, 3) := dk_153 0 5 (dk_at dksX14_clauseThere_1 16 rfl rfl)
theorem dX14_clauseThere_43 : decode cX14_clauseThere 43 = .ok (.iload_n 1, 1) := dk_27 (dk_at dksX14_clauseThere_1 19 rfl rfl)
theorem dX14_clauseThere_44 : decode cX14_clauseThere 44 = .ok (.ireturn, 1) := dk_172 (dk_at dksX14_clauseThere_1 20 rfl rfl)
theorem dX14_clauseThere_45 : decode cX14_clauseThere 45 = .ok (.iinc 1 1, 3) := dk_132 1 1 (dk_at dksX14_clauseThere_1 21 rfl rfl)
theorem dX14_clauseThere_48 : decode cX14_clauseThere 48 = .ok (.goto (-46), 3) := dk_167 255 210 (dk_at dksX14_clauseThere_2 0 rfl rfl)
theorem dX14_clauseThere_51 : decode cX14_clauseThere 51 = .ok (.iconst (-1), 1) := dk_2 (dk_at dksX14_clauseThere_2 3 rfl rfl)
theorem dX14_clauseThere_52 : decode cX14_clauseThere 52 = .ok (.ireturn, 1) := dk_172 (dk_at dksX14_clauseThere_2 4 rfl rfl)
abbrev cX14_holds : ByteArray := prog_33_method_77_code
def yX14_holds : MethodName := ⟨RX14, "holds", "(I)Z"⟩
def dkwX14_holds_6 : List UInt8 := [132, 3, 1, 167, 255, 133, 42, 180, 0, 97, 3, 46, 4, 160, 0, 7, 4, 167, 0, 4, 3, 172]
abbrev dktX14_holds_6 : List UInt8 := dkwX14_holds_6 ++ []
def dkwX14_holds_5 : List UInt8 := [184, 1, 152, 79, 167, 0, 18, 42, 180, 0, 97, 28, 42, 21, 4, 182, 1, 155, 79, 132, 2, 1]
abbrev dktX14_holds_5 : List UInt8 := dkwX14_holds_5 ++ dktX14_holds_6
def dkwX14_holds_4 : List UInt8 := [180, 0, 97, 28, 4, 100, 21, 4, 42, 180, 0, 97, 28, 4, 100, 46, 42, 180, 0, 97, 28, 46]
abbrev dktX14_holds_4 : List UInt8 := dkwX14_holds_4 ++ dktX14_holds_5
def dkwX14_holds_3 : List UInt8 := [21, 4, 16, 9, 159, 0, 15, 21, 4, 16, 15, 16, 17, 184, 0, 133, 153, 0, 36, 132, 2, 255, 42]
abbrev dktX14_holds_3 : List UInt8 := dkwX14_holds_3 ++ dktX14_holds_4
def dkwX14_holds_2 : List UInt8 := [28, 4, 100, 4, 42, 180, 0, 97, 28, 4, 100, 46, 100, 79, 167, 0, 77, 21, 4, 16, 8, 159, 0, 22]
abbrev dktX14_holds_2 : List UInt8 := dkwX14_holds_2 ++ dktX14_holds_3
def dkwX14_holds_1 : List UInt8 := [27, 46, 162, 0, 119, 42, 180, 0, 35, 29, 46, 54, 4, 21, 4, 16, 7, 160, 0, 24, 42, 180, 0, 97]
abbrev dktX14_holds_1 : List UInt8 := dkwX14_holds_1 ++ dktX14_holds_2
def dkwX14_holds_0 : List UInt8 := [3, 61, 27, 154, 0, 7, 3, 167, 0, 11, 42, 180, 0, 29, 27, 4, 100, 46, 62, 29, 42, 180, 0, 29]
abbrev dktX14_holds_0 : List UInt8 := dkwX14_holds_0 ++ dktX14_holds_1
theorem dksX14_holds_0 : cX14_holds.data.toList.drop 0 = dktX14_holds_0 := by decide +kernel
theorem dksX14_holds_1 : cX14_holds.data.toList.drop 24 = dktX14_holds_1 := dk_seg dksX14_holds_0 24 rfl rfl
theorem dksX14_holds_2 : cX14_holds.data.toList.drop 48 = dktX14_holds_2 := dk_seg dksX14_holds_1 24 rfl rfl
theorem dksX14_holds_3 : cX14_holds.data.toList.drop 72 = dktX14_holds_3 := dk_seg dksX14_holds_2 24 rfl rfl
theorem dksX14_holds_4 : cX14_holds.data.toList.drop 95 = dktX14_holds_4 := dk_seg dksX14_holds_3 23 rfl rfl
theorem dksX14_holds_5 : cX14_holds.data.toList.drop 117 = dktX14_holds_5 := dk_seg dksX14_holds_4 22 rfl rfl
theorem dksX14_holds_6 : cX14_holds.data.toList.drop 139 = dktX14_holds_6 := dk_seg dksX14_holds_5 22 rfl rfl
theorem dX14_holds_0 : decode cX14_holds 0 = .ok (.iconst 0, 1) := dk_3 (dk_at dksX14_holds_0 0 rfl rfl)
theorem dX14_holds_1 : decode cX14_holds 1 = .ok (.istore_n 2, 1) := dk_61 (dk_at dksX14_holds_0 1 rfl rfl)
theorem dX14_holds_2 : decode cX14_holds 2 = .ok (.iload_n 1, 1) := dk_27 (dk_at dksX14_holds_0 2 rfl rfl)
theorem dX14_holds_3 : decode cX14_holds 3 = .ok (.ifCond .ne 7, 3) := dk_154 0 7 (dk_at dksX14_holds_0 3 rfl rfl)
theorem dX14_holds_6 : decode cX14_holds 6 = .ok (.iconst 0, 1) := dk_3 (dk_at dksX14_holds_0 6 rfl rfl)
theorem dX14_holds_7 : decode cX14_holds 7 = .ok (.goto 11, 3) := dk_167 0 11 (dk_at dksX14_holds_0 7 rfl rfl)
theorem dX14_holds_10 : decode cX14_holds 10 = .ok (.aload_n 0, 1) := dk_42 (dk_at dksX14_holds_0 10 rfl rfl)
theorem dX14_holds_11 : decode cX14_holds 11 = .ok (.getfield 29, 3) := dk_180 0 29 (dk_at dksX14_holds_0 11 rfl rfl)
theorem dX14_holds_14 : decode cX14_holds 14 = .ok (.iload_n 1, 1) := dk_27 (dk_at dksX14_holds_0 14 rfl rfl)
theorem dX14_holds_15 : decode cX14_holds 15 = .ok (.iconst 1, 1) := dk_4 (dk_at dksX14_holds_0 15 rfl rfl)
theorem dX14_holds_16 : decode cX14_holds 16 = .ok (.isub, 1) := dk_100 (dk_at dksX14_holds_0 16 rfl rfl)
theorem dX14_holds_17 : decode cX14_holds 17 = .ok (.iaload, 1) := dk_46 (dk_at dksX14_holds_0 17 rfl rfl)
theorem dX14_holds_18 : decode cX14_holds 18 = .ok (.istore_n 3, 1) := dk_62 (dk_at dksX14_holds_0 18 rfl rfl)
theorem dX14_holds_19 : decode cX14_holds 19 = .ok (.iload_n 3, 1) := dk_29 (dk_at dksX14_holds_0 19 rfl rfl)
theorem dX14_holds_20 : decode cX14_holds 20 = .ok (.aload_n 0, 1) := dk_42 (dk_at dksX14_holds_0 20 rfl rfl)
theorem dX14_holds_21 : decode cX14_holds 21 = .ok (.getfield 29, 3) := dk_180 0 29 (dk_at dksX14_holds_0 21 rfl rfl)
theorem dX14_holds_24 : decode cX14_holds 24 = .ok (.iload_n 1, 1) := dk_27 (dk_at dksX14_holds_1 0 rfl rfl)
theorem dX14_holds_25 : decode cX14_holds 25 = .ok (.iaload, 1) := dk_46 (dk_at dksX14_holds_1 1 rfl rfl)
theorem dX14_holds_26 : decode cX14_holds 26 = .ok (.if_icmp .ge 119, 3) := dk_162 0 119 (dk_at dksX14_holds_1 2 rfl rfl)
theorem dX14_holds_29 : decode cX14_holds 29 = .ok (.aload_n 0, 1) := dk_42 (dk_at dksX14_holds_1 5 rfl rfl)
theorem dX14_holds_30 : decode cX14_holds 30 = .ok (.getfield 35, 3) := dk_180 0 35 (dk_at dksX14_holds_1 6 rfl rfl)
theorem dX14_holds_33 : decode cX14_holds 33 = .ok (.iload_n 3, 1) := dk_29 (dk_at dksX14_holds_1 9 rfl rfl)
theorem dX14_holds_34 : decode cX14_holds 34 = .ok (.iaload, 1) := dk_46 (dk_at dksX14_holds_1 10 rfl rfl)
theorem dX14_holds_35 : decode cX14_holds 35 = .ok (.istore 4, 2) := dk_54 4 (dk_at dksX14_holds_1 11 rfl rfl)
theorem dX14_holds_37 : decode cX14_holds 37 = .ok (.iload 4, 2) := dk_21 4 (dk_at dksX14_holds_1 13 rfl rfl)
theorem dX14_holds_39 : decode cX14_holds 39 = .ok (.bipush 7, 2) := dk_16 7 (dk_at dksX14_holds_1 15 rfl rfl)
theorem dX14_holds_41 : decode cX14_holds 41 = .ok (.if_icmp .ne 24, 3) := dk_160 0 24 (dk_at dksX14_holds_1 17 rfl rfl)
theorem dX14_holds_44 : decode cX14_holds 44 = .ok (.aload_n 0, 1) := dk_42 (dk_at dksX14_holds_1 20 rfl rfl)
theorem dX14_holds_45 : decode cX14_holds 45 = .ok (.getfield 97, 3) := dk_180 0 97 (dk_at dksX14_holds_1 21 rfl rfl)
theorem dX14_holds_48 : decode cX14_holds 48 = .ok (.iload_n 2, 1) := dk_28 (dk_at dksX14_holds_2 0 rfl rfl)
theorem dX14_holds_49 : decode cX14_holds 49 = .ok (.iconst 1, 1) := dk_4 (dk_at dksX14_holds_2 1 rfl rfl)
theorem dX14_holds_50 : decode cX14_holds 50 = .ok (.isub, 1) := dk_100 (dk_at dksX14_holds_2 2 rfl rfl)
theorem dX14_holds_51 : decode cX14_holds 51 = .ok (.iconst 1, 1) := dk_4 (dk_at dksX14_holds_2 3 rfl rfl)
theorem dX14_holds_52 : decode cX14_holds 52 = .ok (.aload_n 0, 1) := dk_42 (dk_at dksX14_holds_2 4 rfl rfl)
theorem dX14_holds_53 : decode cX14_holds 53 = .ok (.getfield 97, 3) := dk_180 0 97 (dk_at dksX14_holds_2 5 rfl rfl)
theorem dX14_holds_56 : decode cX14_holds 56 = .ok (.iload_n 2, 1) := dk_28 (dk_at dksX14_holds_2 8 rfl rfl)
theorem dX14_holds_57 : decode cX14_holds 57 = .ok (.iconst 1, 1) := dk_4 (dk_at dksX14_holds_2 9 rfl rfl)
theorem dX14_holds_58 : decode cX14_holds 58 = .ok (.isub, 1) := dk_100 (dk_at dksX14_holds_2 10 rfl rfl)
theorem dX14_holds_59 : decode cX14_holds 59 = .ok (.iaload, 1) := dk_46 (dk_at dksX14_holds_2 11 rfl rfl)
theorem dX14_holds_60 : decode cX14_holds 60 = .ok (.isub, 1) := dk_100 (dk_at dksX14_holds_2 12 rfl rfl)
theorem dX14_holds_61 : decode cX14_holds 61 = .ok (.iastore, 1) := dk_79 (dk_at dksX14_holds_2 13 rfl rfl)
theorem dX14_holds_62 : decode cX14_holds 62 = .ok (.goto 77, 3) := dk_167 0 77 (dk_at dksX14_holds_2 14 rfl rfl)
theorem dX14_holds_65 : decode cX14_holds 65 = .ok (.iload 4, 2) := dk_21 4 (dk_at dksX14_holds_2 17 rfl rfl)
theorem dX14_holds_67 : decode cX14_holds 67 = .ok (.bipush 8, 2) := dk_16 8 (dk_at dksX14_holds_2 19 rfl rfl)
theorem dX14_holds_69 : decode cX14_holds 69 = .ok (.if_icmp .eq 22, 3) := dk_159 0 22 (dk_at dksX14_holds_2 21 rfl rfl)
theorem dX14_holds_72 : decode cX14_holds 72 = .ok (.iload 4, 2) := dk_21 4 (dk_at dksX14_holds_3 0 rfl rfl)
theorem dX14_holds_74 : decode cX14_holds 74 = .ok (.bipush 9, 2) := dk_16 9 (dk_at dksX14_holds_3 2 rfl rfl)
theorem dX14_holds_76 : decode cX14_holds 76 = .ok (.if_icmp .eq 15, 3) := dk_159 0 15 (dk_at dksX14_holds_3 4 rfl rfl)
theorem dX14_holds_79 : decode cX14_holds 79 = .ok (.iload 4, 2) := dk_21 4 (dk_at dksX14_holds_3 7 rfl rfl)
theorem dX14_holds_81 : decode cX14_holds 81 = .ok (.bipush 15, 2) := dk_16 15 (dk_at dksX14_holds_3 9 rfl rfl)
theorem dX14_holds_83 : decode cX14_holds 83 = .ok (.bipush 17, 2) := dk_16 17 (dk_at dksX14_holds_3 11 rfl rfl)
theorem dX14_holds_85 : decode cX14_holds 85 = .ok (.invokestatic 133, 3) := dk_184 0 133 (dk_at dksX14_holds_3 13 rfl rfl)
theorem dX14_holds_88 : decode cX14_holds 88 = .ok (.ifCond .eq 36, 3) := dk_153 0 36 (dk_at dksX14_holds_3 16 rfl rfl)
theorem dX14_holds_91 : decode cX14_holds 91 = .ok (.iinc 2 (-1), 3) := dk_132 2 255 (dk_at dksX14_holds_3 19 rfl rfl)
theorem dX14_holds_94 : decode cX14_holds 94 = .ok (.aload_n 0, 1) := dk_42 (dk_at dksX14_holds_3 22 rfl rfl)
theorem dX14_holds_95 : decode cX14_holds 95 = .ok (.getfield 97, 3) := dk_180 0 97 (dk_at dksX14_holds_4 0 rfl rfl)
theorem dX14_holds_98 : decode cX14_holds 98 = .ok (.iload_n 2, 1) := dk_28 (dk_at dksX14_holds_4 3 rfl rfl)
theorem dX14_holds_99 : decode cX14_holds 99 = .ok (.iconst 1, 1) := dk_4 (dk_at dksX14_holds_4 4 rfl rfl)
theorem dX14_holds_100 : decode cX14_holds 100 = .ok (.isub, 1) := dk_100 (dk_at dksX14_holds_4 5 rfl rfl)
theorem dX14_holds_101 : decode cX14_holds 101 = .ok (.iload 4, 2) := dk_21 4 (dk_at dksX14_holds_4 6 rfl rfl)
theorem dX14_holds_103 : decode cX14_holds 103 = .ok (.aload_n 0, 1) := dk_42 (dk_at dksX14_holds_4 8 rfl rfl)
theorem dX14_holds_104 : decode cX14_holds 104 = .ok (.getfield 97, 3) := dk_180 0 97 (dk_at dksX14_holds_4 9 rfl rfl)
theorem dX14_holds_107 : decode cX14_holds 107 = .ok (.iload_n 2, 1) := dk_28 (dk_at dksX14_holds_4 12 rfl rfl)
theorem dX14_holds_108 : decode cX14_holds 108 = .ok (.iconst 1, 1) := dk_4 (dk_at dksX14_holds_4 13 rfl rfl)
theorem dX14_holds_109 : decode cX14_holds 109 = .ok (.isub, 1) := dk_100 (dk_at dksX14_holds_4 14 rfl rfl)
theorem dX14_holds_110 : decode cX14_holds 110 = .ok (.iaload, 1) := dk_46 (dk_at dksX14_holds_4 15 rfl rfl)
theorem dX14_holds_111 : decode cX14_holds 111 = .ok (.aload_n 0, 1) := dk_42 (dk_at dksX14_holds_4 16 rfl rfl)
theorem dX14_holds_112 : decode cX14_holds 112 = .ok (.getfield 97, 3) := dk_180 0 97 (dk_at dksX14_holds_4 17 rfl rfl)
theorem dX14_holds_115 : decode cX14_holds 115 = .ok (.iload_n 2, 1) := dk_28 (dk_at dksX14_holds_4 20 rfl rfl)
theorem dX14_holds_116 : decode cX14_holds 116 = .ok (.iaload, 1) := dk_46 (dk_at dksX14_holds_4 21 rfl rfl)
theorem dX14_holds_117 : decode cX14_holds 117 = .ok (.invokestatic 408, 3) := dk_184 1 152 (dk_at dksX14_holds_5 0 rfl rfl)
theorem dX14_holds_120 : decode cX14_holds 120 = .ok (.iastore, 1) := dk_79 (dk_at dksX14_holds_5 3 rfl rfl)
theorem dX14_holds_121 : decode cX14_holds 121 = .ok (.goto 18, 3) := dk_167 0 18 (dk_at dksX14_holds_5 4 rfl rfl)
theorem dX14_holds_124 : decode cX14_holds 124 = .ok (.aload_n 0, 1) := dk_42 (dk_at dksX14_holds_5 7 rfl rfl)
theorem dX14_holds_125 : decode cX14_holds 125 = .ok (.getfield 97, 3) := dk_180 0 97 (dk_at dksX14_holds_5 8 rfl rfl)
theorem dX14_holds_128 : decode cX14_holds 128 = .ok (.iload_n 2, 1) := dk_28 (dk_at dksX14_holds_5 11 rfl rfl)
theorem dX14_holds_129 : decode cX14_holds 129 = .ok (.aload_n 0, 1) := dk_42 (dk_at dksX14_holds_5 12 rfl rfl)
theorem dX14_holds_130 : decode cX14_holds 130 = .ok (.iload 4, 2) := dk_21 4 (dk_at dksX14_holds_5 13 rfl rfl)
theorem dX14_holds_132 : decode cX14_holds 132 = .ok (.invokevirtual 411, 3) := dk_182 1 155 (dk_at dksX14_holds_5 15 rfl rfl)
theorem dX14_holds_135 : decode cX14_holds 135 = .ok (.iastore, 1) := dk_79 (dk_at dksX14_holds_5 18 rfl rfl)
theorem dX14_holds_136 : decode cX14_holds 136 = .ok (.iinc 2 1, 3) := dk_132 2 1 (dk_at dksX14_holds_5 19 rfl rfl)
theorem dX14_holds_139 : decode cX14_holds 139 = .ok (.iinc 3 1, 3) := dk_132 3 1 (dk_at dksX14_holds_6 0 rfl rfl)
theorem dX14_holds_142 : decode cX14_holds 142 = .ok (.goto (-123), 3) := dk_167 255 133 (dk_at dksX14_holds_6 3 rfl rfl)
theorem dX14_holds_145 : decode cX14_holds 145 = .ok (.aload_n 0, 1) := dk_42 (dk_at dksX14_holds_6 6 rfl rfl)
theorem dX14_holds_146 : decode cX14_holds 146 = .ok (.getfield 97, 3) := dk_180 0 97 (dk_at dksX14_holds_6 7 rfl rfl)
theorem dX14_holds_149 : decode cX14_holds 149 = .ok (.iconst 0, 1) := dk_3 (dk_at dksX14_holds_6 10 rfl rfl)
theorem dX14_holds_150 : decode cX14_holds 150 = .ok (.iaload, 1) := dk_46 (dk_at dksX14_holds_6 11 rfl rfl)
theorem dX14_holds_151 : decode cX14_holds 151 = .ok (.iconst 1, 1) := dk_4 (dk_at dksX14_holds_6 12 rfl rfl)
theorem dX14_holds_152 : decode cX14_holds 152 = .ok (.if_icmp .ne 7, 3) := dk_160 0 7 (dk_at dksX14_holds_6 13 rfl rfl)
theorem dX14_holds_155 : decode cX14_holds 155 = .ok (.iconst 1, 1) := dk_4 (dk_at dksX14_holds_6 16 rfl rfl)
theorem dX14_holds_156 : decode cX14_holds 156 = .ok (.goto 4, 3) := dk_167 0 4 (dk_at dksX14_holds_6 17 rfl rfl)
theorem dX14_holds_159 : decode cX14_holds 159 = .ok (.iconst 0, 1) := dk_3 (dk_at dksX14_holds_6 20 rfl rfl)
theorem dX14_holds_160 : decode cX14_holds 160 = .ok (.ireturn, 1) := dk_172 (dk_at dksX14_holds_6 21 rfl rfl)
abbrev cX14_joined : ByteArray := prog_33_method_76_code
def yX14_joined : MethodName := ⟨RX14, "joined", "(III)I"⟩
def dkwX14_joined_3 : List UInt8 := [4, 167, 0, 4, 3, 172, 27, 28, 164, 0, 7, 4, 167, 0, 4, 3, 172]
abbrev dktX14_joined_3 : List UInt8 := dkwX14_joined_3 ++ []
def dkwX14_joined_2 : List UInt8 := [27, 28, 126, 172, 27, 28, 128, 172, 27, 28, 162, 0, 7, 4, 167, 0, 4, 3, 172, 27, 28, 160, 0, 7]
abbrev dktX14_joined_2 : List UInt8 := dkwX14_joined_2 ++ dktX14_joined_3
def dkwX14_joined_1 : List UInt8 := [170, 0, 0, 0, 0, 0, 81, 0, 0, 0, 8, 0, 0, 0, 16, 0, 0, 0, 51, 0, 0, 0, 55, 0, 0, 0, 81, 0, 0, 0, 81, 0, 0, 0, 81, 0, 0, 0, 81, 0, 0, 0, 81, 0, 0, 0, 59, 0, 0, 0, 70]
abbrev dktX14_joined_1 : List UInt8 := dkwX14_joined_1 ++ dktX14_joined_2
def dkwX14_joined_0 : List UInt8 := [26]
abbrev dktX14_joined_0 : List UInt8 := dkwX14_joined_0 ++ dktX14_joined_1
theorem dksX14_joined_0 : cX14_joined.data.toList.drop 0 = dktX14_joined_0 := by decide +kernel
theorem dksX14_joined_1 : cX14_joined.data.toList.drop 1 = dktX14_joined_1 := dk_seg dksX14_joined_0 1 rfl rfl
theorem dksX14_joined_2 : cX14_joined.data.toList.drop 52 = dktX14_joined_2 := dk_seg dksX14_joined_1 51 rfl rfl
theorem dksX14_joined_3 : cX14_joined.data.toList.drop 76 = dktX14_joined_3 := dk_seg dksX14_joined_2 24 rfl rfl
theorem dX14_joined_0 : decode cX14_joined 0 = .ok (.iload_n 0, 1) := dk_26 (dk_at dksX14_joined_0 0 rfl rfl)
theorem dX14_joined_1 : decode cX14_joined 1 = .ok (.tableswitch 81 8 16 #[51, 55, 81, 81, 81, 81, 81, 59, 70], 51) := by decide +kernel
theorem dX14_joined_52 : decode cX14_joined 52 = .ok (.iload_n 1, 1) := dk_27 (dk_at dksX14_joined_2 0 rfl rfl)
theorem dX14_joined_53 : decode cX14_joined 53 = .ok (.iload_n 2, 1) := dk_28 (dk_at dksX14_joined_2 1 rfl rfl)
theorem dX14_joined_54 : decode cX14_joined 54 = .ok (.iand, 1) := dk_126 (dk_at dksX14_joined_2 2 rfl rfl)
theorem dX14_joined_55 : decode cX14_joined 55 = .ok (.ireturn, 1) := dk_172 (dk_at dksX14_joined_2 3 rfl rfl)
theorem dX14_joined_56 : decode cX14_joined 56 = .ok (.iload_n 1, 1) := dk_27 (dk_at dksX14_joined_2 4 rfl rfl)
theorem dX14_joined_57 : decode cX14_joined 57 = .ok (.iload_n 2, 1) := dk_28 (dk_at dksX14_joined_2 5 rfl rfl)
theorem dX14_joined_58 : decode cX14_joined 58 = .ok (.ior, 1) := dk_128 (dk_at dksX14_joined_2 6 rfl rfl)
theorem dX14_joined_59 : decode cX14_joined 59 = .ok (.ireturn, 1) := dk_172 (dk_at dksX14_joined_2 7 rfl rfl)
theorem dX14_joined_60 : decode cX14_joined 60 = .ok (.iload_n 1, 1) := dk_27 (dk_at dksX14_joined_2 8 rfl rfl)
theorem dX14_joined_61 : decode cX14_joined 61 = .ok (.iload_n 2, 1) := dk_28 (dk_at dksX14_joined_2 9 rfl rfl)
theorem dX14_joined_62 : decode cX14_joined 62 = .ok (.if_icmp .ge 7, 3) := dk_162 0 7 (dk_at dksX14_joined_2 10 rfl rfl)
theorem dX14_joined_65 : decode cX14_joined 65 = .ok (.iconst 1, 1) := dk_4 (dk_at dksX14_joined_2 13 rfl rfl)
theorem dX14_joined_66 : decode cX14_joined 66 = .ok (.goto 4, 3) := dk_167 0 4 (dk_at dksX14_joined_2 14 rfl rfl)
theorem dX14_joined_69 : decode cX14_joined 69 = .ok (.iconst 0, 1) := dk_3 (dk_at dksX14_joined_2 17 rfl rfl)
theorem dX14_joined_70 : decode cX14_joined 70 = .ok (.ireturn, 1) := dk_172 (dk_at dksX14_joined_2 18 rfl rfl)
theorem dX14_joined_71 : decode cX14_joined 71 = .ok (.iload_n 1, 1) := dk_27 (dk_at dksX14_joined_2 19 rfl rfl)
theorem dX14_joined_72 : decode cX14_joined 72 = .ok (.iload_n 2, 1) := dk_28 (dk_at dksX14_joined_2 20 rfl rfl)
theorem dX14_joined_73 : decode cX14_joined 73 = .ok (.if_icmp .ne 7, 3) := dk_160 0 7 (dk_at dksX14_joined_2 21 rfl rfl)
theorem dX14_joined_76 : decode cX14_joined 76 = .ok (.iconst 1, 1) := dk_4 (dk_at dksX14_joined_3 0 rfl rfl)
theorem dX14_joined_77 : decode cX14_joined 77 = .ok (.goto 4, 3) := dk_167 0 4 (dk_at dksX14_joined_3 1 rfl rfl)
theorem dX14_joined_80 : decode cX14_joined 80 = .ok (.iconst 0, 1) := dk_3 (dk_at dksX14_joined_3 4 rfl rfl)
theorem dX14_joined_81 : decode cX14_joined 81 = .ok (.ireturn, 1) := dk_172 (dk_at dksX14_joined_3 5 rfl rfl)
theorem dX14_joined_82 : decode cX14_joined 82 = .ok (.iload_n 1, 1) := dk_27 (dk_at dksX14_joined_3 6 rfl rfl)
theorem dX14_joined_83 : decode cX14_joined 83 = .ok (.iload_n 2, 1) := dk_28 (dk_at dksX14_joined_3 7 rfl rfl)
theorem dX14_joined_84 : decode cX14_joined 84 = .ok (.if_icmp .le 7, 3) := dk_164 0 7 (dk_at dksX14_joined_3 8 rfl rfl)
theorem dX14_joined_87 : decode cX14_joined 87 = .ok (.iconst 1, 1) := dk_4 (dk_at dksX14_joined_3 11 rfl rfl)
theorem dX14_joined_88 : decode cX14_joined 88 = .ok (.goto 4, 3) := dk_167 0 4 (dk_at dksX14_joined_3 12 rfl rfl)
theorem dX14_joined_91 : decode cX14_joined 91 = .ok (.iconst 0, 1) := dk_3 (dk_at dksX14_joined_3 15 rfl rfl)
theorem dX14_joined_92 : decode cX14_joined 92 = .ok (.ireturn, 1) := dk_172 (dk_at dksX14_joined_3 16 rfl rfl)
abbrev cX14_valueOf : ByteArray := prog_33_method_75_code
def yX14_valueOf : MethodName := ⟨RX14, "valueOf", "(I)I"⟩
def dkwX14_valueOf_8 : List UInt8 := [180, 1, 143, 172]
abbrev dktX14_valueOf_8 : List UInt8 := dkwX14_valueOf_8 ++ []
def dkwX14_valueOf_7 : List UInt8 := [164, 0, 15, 42, 180, 0, 7, 42, 180, 1, 146, 100, 167, 0, 4, 3, 172, 42, 180, 1, 149, 172, 42]
abbrev dktX14_valueOf_7 : List UInt8 := dkwX14_valueOf_7 ++ dktX14_valueOf_8
def dkwX14_valueOf_6 : List UInt8 := [180, 1, 143, 184, 0, 144, 182, 0, 160, 167, 0, 4, 3, 172, 42, 180, 0, 7, 42, 180, 1, 146]
abbrev dktX14_valueOf_6 : List UInt8 := dkwX14_valueOf_6 ++ dktX14_valueOf_7
def dkwX14_valueOf_5 : List UInt8 := [96, 46, 167, 0, 4, 3, 172, 42, 180, 0, 130, 158, 0, 25, 42, 42, 180, 1, 143, 42, 180, 1, 140, 42]
abbrev dktX14_valueOf_5 : List UInt8 := dkwX14_valueOf_5 ++ dktX14_valueOf_6
def dkwX14_valueOf_4 : List UInt8 := [182, 0, 148, 153, 0, 26, 42, 180, 0, 130, 158, 0, 19, 42, 180, 0, 23, 7, 42, 180, 1, 143, 104, 28]
abbrev dktX14_valueOf_4 : List UInt8 := dkwX14_valueOf_4 ++ dktX14_valueOf_5
def dkwX14_valueOf_3 : List UInt8 := [42, 28, 182, 0, 148, 153, 0, 14, 42, 180, 1, 140, 28, 184, 0, 144, 167, 0, 4, 3, 172, 42, 28]
abbrev dktX14_valueOf_3 : List UInt8 := dkwX14_valueOf_3 ++ dktX14_valueOf_4
def dkwX14_valueOf_2 : List UInt8 := [171, 0, 0, 0, 0, 0, 0, 167, 0, 0, 0, 5, 0, 0, 0, 100, 0, 0, 0, 106, 0, 0, 0, 101, 0, 0, 0, 137, 0, 0, 0, 102, 0, 0, 0, 162, 0, 0, 0, 200, 0, 0, 0, 52, 0, 0, 1, 44, 0, 0, 0, 73]
abbrev dktX14_valueOf_2 : List UInt8 := dkwX14_valueOf_2 ++ dktX14_valueOf_3
def dkwX14_valueOf_1 : List UInt8 := [167, 0, 4, 3, 61, 27, 28, 100]
abbrev dktX14_valueOf_1 : List UInt8 := dkwX14_valueOf_1 ++ dktX14_valueOf_2
def dkwX14_valueOf_0 : List UInt8 := [27, 17, 11, 184, 161, 0, 9, 27, 17, 11, 184, 100, 172, 27, 17, 0, 200, 161, 0, 10, 27, 16, 100, 112]
abbrev dktX14_valueOf_0 : List UInt8 := dkwX14_valueOf_0 ++ dktX14_valueOf_1
theorem dksX14_valueOf_0 : cX14_valueOf.data.toList.drop 0 = dktX14_valueOf_0 := by decide +kernel
theorem dksX14_valueOf_1 : cX14_valueOf.data.toList.drop 24 = dktX14_valueOf_1 := dk_seg dksX14_valueOf_0 24 rfl rfl
theorem dksX14_valueOf_2 : cX14_valueOf.data.toList.drop 32 = dktX14_valueOf_2 := dk_seg dksX14_valueOf_1 8 rfl rfl
theorem dksX14_valueOf_3 : cX14_valueOf.data.toList.drop 84 = dktX14_valueOf_3 := dk_seg dksX14_valueOf_2 52 rfl rfl
theorem dksX14_valueOf_4 : cX14_valueOf.data.toList.drop 107 = dktX14_valueOf_4 := dk_seg dksX14_valueOf_3 23 rfl rfl
theorem dksX14_valueOf_5 : cX14_valueOf.data.toList.drop 131 = dktX14_valueOf_5 := dk_seg dksX14_valueOf_4 24 rfl rfl
theorem dksX14_valueOf_6 : cX14_valueOf.data.toList.drop 155 = dktX14_valueOf_6 := dk_seg dksX14_valueOf_5 24 rfl rfl
theorem dksX14_valueOf_7 : cX14_valueOf.data.toList.drop 177 = dktX14_valueOf_7 := dk_seg dksX14_valueOf_6 22 rfl rfl
theorem dksX14_valueOf_8 : cX14_valueOf.data.toList.drop 200 = dktX14_valueOf_8 := dk_seg dksX14_valueOf_7 23 rfl rfl
theorem dX14_valueOf_0 : decode cX14_valueOf 0 = .ok (.iload_n 1, 1) := dk_27 (dk_at dksX14_valueOf_0 0 rfl rfl)
theorem dX14_valueOf_1 : decode cX14_valueOf 1 = .ok (.sipush 3000, 3) := dk_17 11 184 (dk_at dksX14_valueOf_0 1 rfl rfl)
theorem dX14_valueOf_4 : decode cX14_valueOf 4 = .ok (.if_icmp .lt 9, 3) := dk_161 0 9 (dk_at dksX14_valueOf_0 4 rfl rfl)
theorem dX14_valueOf_7 : decode cX14_valueOf 7 = .ok (.iload_n 1, 1) := dk_27 (dk_at dksX14_valueOf_0 7 rfl rfl)
theorem dX14_valueOf_8 : decode cX14_valueOf 8 = .ok (.sipush 3000, 3) := dk_17 11 184 (dk_at dksX14_valueOf_0 8 rfl rfl)
theorem dX14_valueOf_11 : decode cX14_valueOf 11 = .ok (.isub, 1) := dk_100 (dk_at dksX14_valueOf_0 11 rfl rfl)
theorem dX14_valueOf_12 : decode cX14_valueOf 12 = .ok (.ireturn, 1) := dk_172 (dk_at dksX14_valueOf_0 12 rfl rfl)
theorem dX14_valueOf_13 : decode cX14_valueOf 13 = .ok (.iload_n 1, 1) := dk_27 (dk_at dksX14_valueOf_0 13 rfl rfl)
theorem dX14_valueOf_14 : decode cX14_valueOf 14 = .ok (.sipush 200, 3) := dk_17 0 200 (dk_at dksX14_valueOf_0 14 rfl rfl)
theorem dX14_valueOf_17 : decode cX14_valueOf 17 = .ok (.if_icmp .lt 10, 3) := dk_161 0 10 (dk_at dksX14_valueOf_0 17 rfl rfl)
theorem dX14_valueOf_20 : decode cX14_valueOf 20 = .ok (.iload_n 1, 1) := dk_27 (dk_at dksX14_valueOf_0 20 rfl rfl)
theorem dX14_valueOf_21 : decode cX14_valueOf 21 = .ok (.bipush 100, 2) := dk_16 100 (dk_at dksX14_valueOf_0 21 rfl rfl)
theorem dX14_valueOf_23 : decode cX14_valueOf 23 = .ok (.irem, 1) := dk_112 (dk_at dksX14_valueOf_0 23 rfl rfl)
theorem dX14_valueOf_24 : decode cX14_valueOf 24 = .ok (.goto 4, 3) := dk_167 0 4 (dk_at dksX14_valueOf_1 0 rfl rfl)
theorem dX14_valueOf_27 : decode cX14_valueOf 27 = .ok (.iconst 0, 1) := dk_3 (dk_at dksX14_valueOf_1 3 rfl rfl)
theorem dX14_valueOf_28 : decode cX14_valueOf 28 = .ok (.istore_n 2, 1) := dk_61 (dk_at dksX14_valueOf_1 4 rfl rfl)
theorem dX14_valueOf_29 : decode cX14_valueOf 29 = .ok (.iload_n 1, 1) := dk_27 (dk_at dksX14_valueOf_1 5 rfl rfl)
theorem dX14_valueOf_30 : decode cX14_valueOf 30 = .ok (.iload_n 2, 1) := dk_28 (dk_at dksX14_valueOf_1 6 rfl rfl)
theorem dX14_valueOf_31 : decode cX14_valueOf 31 = .ok (.isub, 1) := dk_100 (dk_at dksX14_valueOf_1 7 rfl rfl)
theorem dX14_valueOf_32 : decode cX14_valueOf 32 = .ok (.lookupswitch 167 #[(100, 106), (101, 137), (102, 162), (200, 52), (300, 73)], 52) := by decide +kernel
theorem dX14_valueOf_84 : decode cX14_valueOf 84 = .ok (.aload_n 0, 1) := dk_42 (dk_at dksX14_valueOf_3 0 rfl rfl)
theorem dX14_valueOf_85 : decode cX14_valueOf 85 = .ok (.iload_n 2, 1) := dk_28 (dk_at dksX14_valueOf_3 1 rfl rfl)
theorem dX14_valueOf_86 : decode cX14_valueOf 86 = .ok (.invokevirtual 148, 3) := dk_182 0 148 (dk_at dksX14_valueOf_3 2 rfl rfl)
theorem dX14_valueOf_89 : decode cX14_valueOf 89 = .ok (.ifCond .eq 14, 3) := dk_153 0 14 (dk_at dksX14_valueOf_3 5 rfl rfl)
theorem dX14_valueOf_92 : decode cX14_valueOf 92 = .ok (.aload_n 0, 1) := dk_42 (dk_at dksX14_valueOf_3 8 rfl rfl)
theorem dX14_valueOf_93 : decode cX14_valueOf 93 = .ok (.getfield 396, 3) := dk_180 1 140 (dk_at dksX14_valueOf_3 9 rfl rfl)
theorem dX14_valueOf_96 : decode cX14_valueOf 96 = .ok (.iload_n 2, 1) := dk_28 (dk_at dksX14_valueOf_3 12 rfl rfl)
theorem dX14_valueOf_97 : decode cX14_valueOf 97 = .ok (.invokestatic 144, 3) := dk_184 0 144 (dk_at dksX14_valueOf_3 13 rfl rfl)
theorem dX14_valueOf_100 : decode cX14_valueOf 100 = .ok (.goto 4, 3) := dk_167 0 4 (dk_at dksX14_valueOf_3 16 rfl rfl)
theorem dX14_valueOf_103 : decode cX14_valueOf 103 = .ok (.iconst 0, 1) := dk_3 (dk_at dksX14_valueOf_3 19 rfl rfl)
theorem dX14_valueOf_104 : decode cX14_valueOf 104 = .ok (.ireturn, 1) := dk_172 (dk_at dksX14_valueOf_3 20 rfl rfl)
theorem dX14_valueOf_105 : decode cX14_valueOf 105 = .ok (.aload_n 0, 1) := dk_42 (dk_at dksX14_valueOf_3 21 rfl rfl)
theorem dX14_valueOf_106 : decode cX14_valueOf 106 = .ok (.iload_n 2, 1) := dk_28 (dk_at dksX14_valueOf_3 22 rfl rfl)
theorem dX14_valueOf_107 : decode cX14_valueOf 107 = .ok (.invokevirtual 148, 3) := dk_182 0 148 (dk_at dksX14_valueOf_4 0 rfl rfl)
theorem dX14_valueOf_110 : decode cX14_valueOf 110 = .ok (.ifCond .eq 26, 3) := dk_153 0 26 (dk_at dksX14_valueOf_4 3 rfl rfl)
theorem dX14_valueOf_113 : decode cX14_valueOf 113 = .ok (.aload_n 0, 1) := dk_42 (dk_at dksX14_valueOf_4 6 rfl rfl)
theorem dX14_valueOf_114 : decode cX14_valueOf 114 = .ok (.getfield 130, 3) := dk_180 0 130 (dk_at dksX14_valueOf_4 7 rfl rfl)
theorem dX14_valueOf_117 : decode cX14_valueOf 117 = .ok (.ifCond .le 19, 3) := dk_158 0 19 (dk_at dksX14_valueOf_4 10 rfl rfl)
theorem dX14_valueOf_120 : decode cX14_valueOf 120 = .ok (.aload_n 0, 1) := dk_42 (dk_at dksX14_valueOf_4 13 rfl rfl)
theorem dX14_valueOf_121 : decode cX14_valueOf 121 = .ok (.getfield 23, 3) := dk_180 0 23 (dk_at dksX14_valueOf_4 14 rfl rfl)
theorem dX14_valueOf_124 : decode cX14_valueOf 124 = .ok (.iconst 4, 1) := dk_7 (dk_at dksX14_valueOf_4 17 rfl rfl)
theorem dX14_valueOf_125 : decode cX14_valueOf 125 = .ok (.aload_n 0, 1) := dk_42 (dk_at dksX14_valueOf_4 18 rfl rfl)
theorem dX14_valueOf_126 : decode cX14_valueOf 126 = .ok (.getfield 399, 3) := dk_180 1 143 (dk_at dksX14_valueOf_4 19 rfl rfl)
theorem dX14_valueOf_129 : decode cX14_valueOf 129 = .ok (.imul, 1) := dk_104 (dk_at dksX14_valueOf_4 22 rfl rfl)
theorem dX14_valueOf_130 : decode cX14_valueOf 130 = .ok (.iload_n 2, 1) := dk_28 (dk_at dksX14_valueOf_4 23 rfl rfl)
theorem dX14_valueOf_131 : decode cX14_valueOf 131 = .ok (.iadd, 1) := dk_96 (dk_at dksX14_valueOf_5 0 rfl rfl)
theorem dX14_valueOf_132 : decode cX14_valueOf 132 = .ok (.iaload, 1) := dk_46 (dk_at dksX14_valueOf_5 1 rfl rfl)
theorem dX14_valueOf_133 : decode cX14_valueOf 133 = .ok (.goto 4, 3) := dk_167 0 4 (dk_at dksX14_valueOf_5 2 rfl rfl)
theorem dX14_valueOf_136 : decode cX14_valueOf 136 = .ok (.iconst 0, 1) := dk_3 (dk_at dksX14_valueOf_5 5 rfl rfl)
theorem dX14_valueOf_137 : decode cX14_valueOf 137 = .ok (.ireturn, 1) := dk_172 (dk_at dksX14_valueOf_5 6 rfl rfl)
theorem dX14_valueOf_138 : decode cX14_valueOf 138 = .ok (.aload_n 0, 1) := dk_42 (dk_at dksX14_valueOf_5 7 rfl rfl)
theorem dX14_valueOf_139 : decode cX14_valueOf 139 = .ok (.getfield 130, 3) := dk_180 0 130 (dk_at dksX14_valueOf_5 8 rfl rfl)
theorem dX14_valueOf_142 : decode cX14_valueOf 142 = .ok (.ifCond .le 25, 3) := dk_158 0 25 (dk_at dksX14_valueOf_5 11 rfl rfl)
theorem dX14_valueOf_145 : decode cX14_valueOf 145 = .ok (.aload_n 0, 1) := dk_42 (dk_at dksX14_valueOf_5 14 rfl rfl)
theorem dX14_valueOf_146 : decode cX14_valueOf 146 = .ok (.aload_n 0, 1) := dk_42 (dk_at dksX14_valueOf_5 15 rfl rfl)
theorem dX14_valueOf_147 : decode cX14_valueOf 147 = .ok (.getfield 399, 3) := dk_180 1 143 (dk_at dksX14_valueOf_5 16 rfl rfl)
theorem dX14_valueOf_150 : decode cX14_valueOf 150 = .ok (.aload_n 0, 1) := dk_42 (dk_at dksX14_valueOf_5 19 rfl rfl)
theorem dX14_valueOf_151 : decode cX14_valueOf 151 = .ok (.getfield 396, 3) := dk_180 1 140 (dk_at dksX14_valueOf_5 20 rfl rfl)
theorem dX14_valueOf_154 : decode cX14_valueOf 154 = .ok (.aload_n 0, 1) := dk_42 (dk_at dksX14_valueOf_5 23 rfl rfl)
theorem dX14_valueOf_155 : decode cX14_valueOf 155 = .ok (.getfield 399, 3) := dk_180 1 143 (dk_at dksX14_valueOf_6 0 rfl rfl)
theorem dX14_valueOf_158 : decode cX14_valueOf 158 = .ok (.invokestatic 144, 3) := dk_184 0 144 (dk_at dksX14_valueOf_6 3 rfl rfl)
theorem dX14_valueOf_161 : decode cX14_valueOf 161 = .ok (.invokevirtual 160, 3) := dk_182 0 160 (dk_at dksX14_valueOf_6 6 rfl rfl)
theorem dX14_valueOf_164 : decode cX14_valueOf 164 = .ok (.goto 4, 3) := dk_167 0 4 (dk_at dksX14_valueOf_6 9 rfl rfl)
theorem dX14_valueOf_167 : decode cX14_valueOf 167 = .ok (.iconst 0, 1) := dk_3 (dk_at dksX14_valueOf_6 12 rfl rfl)
theorem dX14_valueOf_168 : decode cX14_valueOf 168 = .ok (.ireturn, 1) := dk_172 (dk_at dksX14_valueOf_6 13 rfl rfl)
theorem dX14_valueOf_169 : decode cX14_valueOf 169 = .ok (.aload_n 0, 1) := dk_42 (dk_at dksX14_valueOf_6 14 rfl rfl)
theorem dX14_valueOf_170 : decode cX14_valueOf 170 = .ok (.getfield 7, 3) := dk_180 0 7 (dk_at dksX14_valueOf_6 15 rfl rfl)
theorem dX14_valueOf_173 : decode cX14_valueOf 173 = .ok (.aload_n 0, 1) := dk_42 (dk_at dksX14_valueOf_6 18 rfl rfl)
theorem dX14_valueOf_174 : decode cX14_valueOf 174 = .ok (.getfield 402, 3) := dk_180 1 146 (dk_at dksX14_valueOf_6 19 rfl rfl)
theorem dX14_valueOf_177 : decode cX14_valueOf 177 = .ok (.if_icmp .le 15, 3) := dk_164 0 15 (dk_at dksX14_valueOf_7 0 rfl rfl)
theorem dX14_valueOf_180 : decode cX14_valueOf 180 = .ok (.aload_n 0, 1) := dk_42 (dk_at dksX14_valueOf_7 3 rfl rfl)
theorem dX14_valueOf_181 : decode cX14_valueOf 181 = .ok (.getfield 7, 3) := dk_180 0 7 (dk_at dksX14_valueOf_7 4 rfl rfl)
theorem dX14_valueOf_184 : decode cX14_valueOf 184 = .ok (.aload_n 0, 1) := dk_42 (dk_at dksX14_valueOf_7 7 rfl rfl)
theorem dX14_valueOf_185 : decode cX14_valueOf 185 = .ok (.getfield 402, 3) := dk_180 1 146 (dk_at dksX14_valueOf_7 8 rfl rfl)
theorem dX14_valueOf_188 : decode cX14_valueOf 188 = .ok (.isub, 1) := dk_100 (dk_at dksX14_valueOf_7 11 rfl rfl)
theorem dX14_valueOf_189 : decode cX14_valueOf 189 = .ok (.goto 4, 3) := dk_167 0 4 (dk_at dksX14_valueOf_7 12 rfl rfl)
theorem dX14_valueOf_192 : decode cX14_valueOf 192 = .ok (.iconst 0, 1) := dk_3 (dk_at dksX14_valueOf_7 15 rfl rfl)
theorem dX14_valueOf_193 : decode cX14_valueOf 193 = .ok (.ireturn, 1) := dk_172 (dk_at dksX14_valueOf_7 16 rfl rfl)
theorem dX14_valueOf_194 : decode cX14_valueOf 194 = .ok (.aload_n 0, 1) := dk_42 (dk_at dksX14_valueOf_7 17 rfl rfl)
theorem dX14_valueOf_195 : decode cX14_valueOf 195 = .ok (.getfield 405, 3) := dk_180 1 149 (dk_at dksX14_valueOf_7 18 rfl rfl)
theorem dX14_valueOf_198 : decode cX14_valueOf 198 = .ok (.ireturn, 1) := dk_172 (dk_at dksX14_valueOf_7 21 rfl rfl)
theorem dX14_valueOf_199 : decode cX14_valueOf 199 = .ok (.aload_n 0, 1) := dk_42 (dk_at dksX14_valueOf_7 22 rfl rfl)
theorem dX14_valueOf_200 : decode cX14_valueOf 200 = .ok (.getfield 399, 3) := dk_180 1 143 (dk_at dksX14_valueOf_8 0 rfl rfl)
theorem dX14_valueOf_203 : decode cX14_valueOf 203 = .ok (.ireturn, 1) := dk_172 (dk_at dksX14_valueOf_8 3 rfl rfl)
abbrev cX14_clause : ByteArray := prog_33_method_82_code
def yX14_clause : MethodName := ⟨RX14, "clause", "()I"⟩
def dkwX14_clause_0 : List UInt8 := [42, 182, 1, 164, 42, 182, 1, 161, 60, 27, 156, 0, 8, 16, 253, 167, 0, 4, 27, 172]
abbrev dktX14_clause_0 : List UInt8 := dkwX14_clause_0 ++ []
theorem dksX14_clause_0 : cX14_clause.data.toList.drop 0 = dktX14_clause_0 := by decide +kernel
theorem dX14_clause_0 : decode cX14_clause 0 = .ok (.aload_n 0, 1) := dk_42 (dk_at dksX14_clause_0 0 rfl rfl)
theorem dX14_clause_1 : decode cX14_clause 1 = .ok (.invokevirtual 420, 3) := dk_182 1 164 (dk_at dksX14_clause_0 1 rfl rfl)
theorem dX14_clause_4 : decode cX14_clause 4 = .ok (.aload_n 0, 1) := dk_42 (dk_at dksX14_clause_0 4 rfl rfl)
theorem dX14_clause_5 : decode cX14_clause 5 = .ok (.invokevirtual 417, 3) := dk_182 1 161 (dk_at dksX14_clause_0 5 rfl rfl)
theorem dX14_clause_8 : decode cX14_clause 8 = .ok (.istore_n 1, 1) := dk_60 (dk_at dksX14_clause_0 8 rfl rfl)
theorem dX14_clause_9 : decode cX14_clause 9 = .ok (.iload_n 1, 1) := dk_27 (dk_at dksX14_clause_0 9 rfl rfl)
theorem dX14_clause_10 : decode cX14_clause 10 = .ok (.ifCond .ge 8, 3) := dk_156 0 8 (dk_at dksX14_clause_0 10 rfl rfl)
theorem dX14_clause_13 : decode cX14_clause 13 = .ok (.bipush (-3), 2) := dk_16 253 (dk_at dksX14_clause_0 13 rfl rfl)
theorem dX14_clause_15 : decode cX14_clause 15 = .ok (.goto 4, 3) := dk_167 0 4 (dk_at dksX14_clause_0 15 rfl rfl)
theorem dX14_clause_18 : decode cX14_clause 18 = .ok (.iload_n 1, 1) := dk_27 (dk_at dksX14_clause_0 18 rfl rfl)
theorem dX14_clause_19 : decode cX14_clause 19 = .ok (.ireturn, 1) := dk_172 (dk_at dksX14_clause_0 19 rfl rfl)
abbrev cX14_run : ByteArray := prog_33_method_83_code
def yX14_run : MethodName := ⟨RX14, "run", "()I"⟩
def dkwX14_run_4 : List UInt8 := [180, 0, 172, 100, 172]
abbrev dktX14_run_4 : List UInt8 := dkwX14_run_4 ++ []
def dkwX14_run_3 : List UInt8 := [28, 153, 0, 10, 42, 182, 1, 167, 167, 0, 5, 16, 247, 60, 167, 255, 181, 42, 180, 1, 149, 42]
abbrev dktX14_run_3 : List UInt8 := dkwX14_run_3 ++ dktX14_run_4
def dkwX14_run_2 : List UInt8 := [181, 1, 143, 42, 42, 180, 0, 178, 181, 1, 140, 42, 89, 180, 1, 149, 42, 180, 0, 175, 96, 181, 1, 149]
abbrev dktX14_run_2 : List UInt8 := dkwX14_run_2 ++ dktX14_run_3
def dkwX14_run_1 : List UInt8 := [42, 180, 1, 140, 27, 182, 0, 201, 61, 42, 42, 180, 0, 187, 181, 1, 146, 42, 42, 180, 0, 181]
abbrev dktX14_run_1 : List UInt8 := dkwX14_run_1 ++ dktX14_run_2
def dkwX14_run_0 : List UInt8 := [42, 182, 1, 164, 42, 182, 1, 167, 60, 27, 16, 247, 159, 0, 75, 42, 42, 180, 1, 146, 42, 180, 1, 143]
abbrev dktX14_run_0 : List UInt8 := dkwX14_run_0 ++ dktX14_run_1
theorem dksX14_run_0 : cX14_run.data.toList.drop 0 = dktX14_run_0 := by decide +kernel
theorem dksX14_run_1 : cX14_run.data.toList.drop 24 = dktX14_run_1 := dk_seg dksX14_run_0 24 rfl rfl
theorem dksX14_run_2 : cX14_run.data.toList.drop 46 = dktX14_run_2 := dk_seg dksX14_run_1 22 rfl rfl
theorem dksX14_run_3 : cX14_run.data.toList.drop 70 = dktX14_run_3 := dk_seg dksX14_run_2 24 rfl rfl
theorem dksX14_run_4 : cX14_run.data.toList.drop 92 = dktX14_run_4 := dk_seg dksX14_run_3 22 rfl rfl
theorem dX14_run_0 : decode cX14_run 0 = .ok (.aload_n 0, 1) := dk_42 (dk_at dksX14_run_0 0 rfl rfl)
theorem dX14_run_1 : decode cX14_run 1 = .ok (.invokevirtual 420, 3) := dk_182 1 164 (dk_at dksX14_run_0 1 rfl rfl)
theorem dX14_run_4 : decode cX14_run 4 = .ok (.aload_n 0, 1) := dk_42 (dk_at dksX14_run_0 4 rfl rfl)
theorem dX14_run_5 : decode cX14_run 5 = .ok (.invokevirtual 423, 3) := dk_182 1 167 (dk_at dksX14_run_0 5 rfl rfl)
theorem dX14_run_8 : decode cX14_run 8 = .ok (.istore_n 1, 1) := dk_60 (dk_at dksX14_run_0 8 rfl rfl)
theorem dX14_run_9 : decode cX14_run 9 = .ok (.iload_n 1, 1) := dk_27 (dk_at dksX14_run_0 9 rfl rfl)
theorem dX14_run_10 : decode cX14_run 10 = .ok (.bipush (-9), 2) := dk_16 247 (dk_at dksX14_run_0 10 rfl rfl)
theorem dX14_run_12 : decode cX14_run 12 = .ok (.if_icmp .eq 75, 3) := dk_159 0 75 (dk_at dksX14_run_0 12 rfl rfl)
theorem dX14_run_15 : decode cX14_run 15 = .ok (.aload_n 0, 1) := dk_42 (dk_at dksX14_run_0 15 rfl rfl)
theorem dX14_run_16 : decode cX14_run 16 = .ok (.aload_n 0, 1) := dk_42 (dk_at dksX14_run_0 16 rfl rfl)
theorem dX14_run_17 : decode cX14_run 17 = .ok (.getfield 402, 3) := dk_180 1 146 (dk_at dksX14_run_0 17 rfl rfl)
theorem dX14_run_20 : decode cX14_run 20 = .ok (.aload_n 0, 1) := dk_42 (dk_at dksX14_run_0 20 rfl rfl)
theorem dX14_run_21 : decode cX14_run 21 = .ok (.getfield 399, 3) := dk_180 1 143 (dk_at dksX14_run_0 21 rfl rfl)
theorem dX14_run_24 : decode cX14_run 24 = .ok (.aload_n 0, 1) := dk_42 (dk_at dksX14_run_1 0 rfl rfl)
theorem dX14_run_25 : decode cX14_run 25 = .ok (.getfield 396, 3) := dk_180 1 140 (dk_at dksX14_run_1 1 rfl rfl)
theorem dX14_run_28 : decode cX14_run 28 = .ok (.iload_n 1, 1) := dk_27 (dk_at dksX14_run_1 4 rfl rfl)
theorem dX14_run_29 : decode cX14_run 29 = .ok (.invokevirtual 201, 3) := dk_182 0 201 (dk_at dksX14_run_1 5 rfl rfl)
theorem dX14_run_32 : decode cX14_run 32 = .ok (.istore_n 2, 1) := dk_61 (dk_at dksX14_run_1 8 rfl rfl)
theorem dX14_run_33 : decode cX14_run 33 = .ok (.aload_n 0, 1) := dk_42 (dk_at dksX14_run_1 9 rfl rfl)
theorem dX14_run_34 : decode cX14_run 34 = .ok (.aload_n 0, 1) := dk_42 (dk_at dksX14_run_1 10 rfl rfl)
theorem dX14_run_35 : decode cX14_run 35 = .ok (.getfield 187, 3) := dk_180 0 187 (dk_at dksX14_run_1 11 rfl rfl)
theorem dX14_run_38 : decode cX14_run 38 = .ok (.putfield 402, 3) := dk_181 1 146 (dk_at dksX14_run_1 14 rfl rfl)
theorem dX14_run_41 : decode cX14_run 41 = .ok (.aload_n 0, 1) := dk_42 (dk_at dksX14_run_1 17 rfl rfl)
theorem dX14_run_42 : decode cX14_run 42 = .ok (.aload_n 0, 1) := dk_42 (dk_at dksX14_run_1 18 rfl rfl)
theorem dX14_run_43 : decode cX14_run 43 = .ok (.getfield 181, 3) := dk_180 0 181 (dk_at dksX14_run_1 19 rfl rfl)
theorem dX14_run_46 : decode cX14_run 46 = .ok (.putfield 399, 3) := dk_181 1 143 (dk_at dksX14_run_2 0 rfl rfl)
theorem dX14_run_49 : decode cX14_run 49 = .ok (.aload_n 0, 1) := dk_42 (dk_at dksX14_run_2 3 rfl rfl)
theorem dX14_run_50 : decode cX14_run 50 = .ok (.aload_n 0, 1) := dk_42 (dk_at dksX14_run_2 4 rfl rfl)
theorem dX14_run_51 : decode cX14_run 51 = .ok (.getfield 178, 3) := dk_180 0 178 (dk_at dksX14_run_2 5 rfl rfl)
theorem dX14_run_54 : decode cX14_run 54 = .ok (.putfield 396, 3) := dk_181 1 140 (dk_at dksX14_run_2 8 rfl rfl)
theorem dX14_run_57 : decode cX14_run 57 = .ok (.aload_n 0, 1) := dk_42 (dk_at dksX14_run_2 11 rfl rfl)
theorem dX14_run_58 : decode cX14_run 58 = .ok (.dup, 1) := dk_89 (dk_at dksX14_run_2 12 rfl rfl)
theorem dX14_run_59 : decode cX14_run 59 = .ok (.getfield 405, 3) := dk_180 1 149 (dk_at dksX14_run_2 13 rfl rfl)
theorem dX14_run_62 : decode cX14_run 62 = .ok (.aload_n 0, 1) := dk_42 (dk_at dksX14_run_2 16 rfl rfl)
theorem dX14_run_63 : decode cX14_run 63 = .ok (.getfield 175, 3) := dk_180 0 175 (dk_at dksX14_run_2 17 rfl rfl)
theorem dX14_run_66 : decode cX14_run 66 = .ok (.iadd, 1) := dk_96 (dk_at dksX14_run_2 20 rfl rfl)
theorem dX14_run_67 : decode cX14_run 67 = .ok (.putfield 405, 3) := dk_181 1 149 (dk_at dksX14_run_2 21 rfl rfl)
theorem dX14_run_70 : decode cX14_run 70 = .ok (.iload_n 2, 1) := dk_28 (dk_at dksX14_run_3 0 rfl rfl)
theorem dX14_run_71 : decode cX14_run 71 = .ok (.ifCond .eq 10, 3) := dk_153 0 10 (dk_at dksX14_run_3 1 rfl rfl)
theorem dX14_run_74 : decode cX14_run 74 = .ok (.aload_n 0, 1) := dk_42 (dk_at dksX14_run_3 4 rfl rfl)
theorem dX14_run_75 : decode cX14_run 75 = .ok (.invokevirtual 423, 3) := dk_182 1 167 (dk_at dksX14_run_3 5 rfl rfl)
theorem dX14_run_78 : decode cX14_run 78 = .ok (.goto 5, 3) := dk_167 0 5 (dk_at dksX14_run_3 8 rfl rfl)
theorem dX14_run_81 : decode cX14_run 81 = .ok (.bipush (-9), 2) := dk_16 247 (dk_at dksX14_run_3 11 rfl rfl)
theorem dX14_run_83 : decode cX14_run 83 = .ok (.istore_n 1, 1) := dk_60 (dk_at dksX14_run_3 13 rfl rfl)
theorem dX14_run_84 : decode cX14_run 84 = .ok (.goto (-75), 3) := dk_167 255 181 (dk_at dksX14_run_3 14 rfl rfl)
theorem dX14_run_87 : decode cX14_run 87 = .ok (.aload_n 0, 1) := dk_42 (dk_at dksX14_run_3 17 rfl rfl)
theorem dX14_run_88 : decode cX14_run 88 = .ok (.getfield 405, 3) := dk_180 1 149 (dk_at dksX14_run_3 18 rfl rfl)
theorem dX14_run_91 : decode cX14_run 91 = .ok (.aload_n 0, 1) := dk_42 (dk_at dksX14_run_3 21 rfl rfl)
theorem dX14_run_92 : decode cX14_run 92 = .ok (.getfield 172, 3) := dk_180 0 172 (dk_at dksX14_run_4 0 rfl rfl)
theorem dX14_run_95 : decode cX14_run 95 = .ok (.isub, 1) := dk_100 (dk_at dksX14_run_4 3 rfl rfl)
theorem dX14_run_96 : decode cX14_run 96 = .ok (.ireturn, 1) := dk_172 (dk_at dksX14_run_4 4 rfl rfl)
abbrev cX14_loss : ByteArray := prog_33_method_84_code
def yX14_loss : MethodName := ⟨RX14, "loss", "()I"⟩
def dkwX14_loss_0 : List UInt8 := [42, 182, 1, 170, 42, 182, 1, 173, 100, 172]
abbrev dktX14_loss_0 : List UInt8 := dkwX14_loss_0 ++ []
theorem dksX14_loss_0 : cX14_loss.data.toList.drop 0 = dktX14_loss_0 := by decide +kernel
theorem dX14_loss_0 : decode cX14_loss 0 = .ok (.aload_n 0, 1) := dk_42 (dk_at dksX14_loss_0 0 rfl rfl)
theorem dX14_loss_1 : decode cX14_loss 1 = .ok (.invokevirtual 426, 3) := dk_182 1 170 (dk_at dksX14_loss_0 1 rfl rfl)
theorem dX14_loss_4 : decode cX14_loss 4 = .ok (.aload_n 0, 1) := dk_42 (dk_at dksX14_loss_0 4 rfl rfl)
theorem dX14_loss_5 : decode cX14_loss 5 = .ok (.invokevirtual 429, 3) := dk_182 1 173 (dk_at dksX14_loss_0 5 rfl rfl)
theorem dX14_loss_8 : decode cX14_loss 8 = .ok (.isub, 1) := dk_100 (dk_at dksX14_loss_0 8 rfl rfl)
theorem dX14_loss_9 : decode cX14_loss 9 = .ok (.ireturn, 1) := dk_172 (dk_at dksX14_loss_0 9 rfl rfl)
abbrev cX14_prove : ByteArray := prog_33_method_85_code
def yX14_prove : MethodName := ⟨RX14, "prove", "()I"⟩
def dkwX14_prove_5 : List UInt8 := [42, 27, 28, 29, 182, 0, 218, 54, 4, 167, 255, 159, 42, 180, 1, 176, 172]
abbrev dktX14_prove_5 : List UInt8 := dkwX14_prove_5 ++ []
def dkwX14_prove_4 : List UInt8 := [21, 5, 153, 0, 10, 42, 180, 0, 187, 167, 0, 4, 27, 60, 42, 180, 0, 181, 61, 42, 180, 0, 178, 62]
abbrev dktX14_prove_4 : List UInt8 := dkwX14_prove_4 ++ dktX14_prove_5
def dkwX14_prove_3 : List UInt8 := [21, 4, 79, 42, 89, 180, 1, 176, 4, 96, 181, 1, 176, 42, 27, 28, 29, 21, 4, 182, 0, 201, 54, 5]
abbrev dktX14_prove_3 : List UInt8 := dkwX14_prove_3 ++ dktX14_prove_4
def dkwX14_prove_2 : List UInt8 := [180, 0, 100, 5, 42, 180, 1, 176, 104, 27, 79, 42, 180, 0, 100, 5, 42, 180, 1, 176, 104, 4, 96]
abbrev dktX14_prove_2 : List UInt8 := dkwX14_prove_2 ++ dktX14_prove_3
def dkwX14_prove_1 : List UInt8 := [182, 0, 218, 54, 4, 21, 4, 16, 247, 159, 0, 96, 42, 180, 1, 176, 16, 20, 162, 0, 87, 42]
abbrev dktX14_prove_1 : List UInt8 := dkwX14_prove_1 ++ dktX14_prove_2
def dkwX14_prove_0 : List UInt8 := [42, 3, 181, 1, 176, 42, 180, 0, 166, 60, 42, 180, 0, 169, 61, 42, 180, 0, 141, 62, 42, 27, 28, 29]
abbrev dktX14_prove_0 : List UInt8 := dkwX14_prove_0 ++ dktX14_prove_1
theorem dksX14_prove_0 : cX14_prove.data.toList.drop 0 = dktX14_prove_0 := by decide +kernel
theorem dksX14_prove_1 : cX14_prove.data.toList.drop 24 = dktX14_prove_1 := dk_seg dksX14_prove_0 24 rfl rfl
theorem dksX14_prove_2 : cX14_prove.data.toList.drop 46 = dktX14_prove_2 := dk_seg dksX14_prove_1 22 rfl rfl
theorem dksX14_prove_3 : cX14_prove.data.toList.drop 69 = dktX14_prove_3 := dk_seg dksX14_prove_2 23 rfl rfl
theorem dksX14_prove_4 : cX14_prove.data.toList.drop 93 = dktX14_prove_4 := dk_seg dksX14_prove_3 24 rfl rfl
theorem dksX14_prove_5 : cX14_prove.data.toList.drop 117 = dktX14_prove_5 := dk_seg dksX14_prove_4 24 rfl rfl
theorem dX14_prove_0 : decode cX14_prove 0 = .ok (.aload_n 0, 1) := dk_42 (dk_at dksX14_prove_0 0 rfl rfl)
theorem dX14_prove_1 : decode cX14_prove 1 = .ok (.iconst 0, 1) := dk_3 (dk_at dksX14_prove_0 1 rfl rfl)
theorem dX14_prove_2 : decode cX14_prove 2 = .ok (.putfield 432, 3) := dk_181 1 176 (dk_at dksX14_prove_0 2 rfl rfl)
theorem dX14_prove_5 : decode cX14_prove 5 = .ok (.aload_n 0, 1) := dk_42 (dk_at dksX14_prove_0 5 rfl rfl)
theorem dX14_prove_6 : decode cX14_prove 6 = .ok (.getfield 166, 3) := dk_180 0 166 (dk_at dksX14_prove_0 6 rfl rfl)
theorem dX14_prove_9 : decode cX14_prove 9 = .ok (.istore_n 1, 1) := dk_60 (dk_at dksX14_prove_0 9 rfl rfl)
theorem dX14_prove_10 : decode cX14_prove 10 = .ok (.aload_n 0, 1) := dk_42 (dk_at dksX14_prove_0 10 rfl rfl)
theorem dX14_prove_11 : decode cX14_prove 11 = .ok (.getfield 169, 3) := dk_180 0 169 (dk_at dksX14_prove_0 11 rfl rfl)
theorem dX14_prove_14 : decode cX14_prove 14 = .ok (.istore_n 2, 1) := dk_61 (dk_at dksX14_prove_0 14 rfl rfl)
theorem dX14_prove_15 : decode cX14_prove 15 = .ok (.aload_n 0, 1) := dk_42 (dk_at dksX14_prove_0 15 rfl rfl)
theorem dX14_prove_16 : decode cX14_prove 16 = .ok (.getfield 141, 3) := dk_180 0 141 (dk_at dksX14_prove_0 16 rfl rfl)
theorem dX14_prove_19 : decode cX14_prove 19 = .ok (.istore_n 3, 1) := dk_62 (dk_at dksX14_prove_0 19 rfl rfl)
theorem dX14_prove_20 : decode cX14_prove 20 = .ok (.aload_n 0, 1) := dk_42 (dk_at dksX14_prove_0 20 rfl rfl)
theorem dX14_prove_21 : decode cX14_prove 21 = .ok (.iload_n 1, 1) := dk_27 (dk_at dksX14_prove_0 21 rfl rfl)
theorem dX14_prove_22 : decode cX14_prove 22 = .ok (.iload_n 2, 1) := dk_28 (dk_at dksX14_prove_0 22 rfl rfl)
theorem dX14_prove_23 : decode cX14_prove 23 = .ok (.iload_n 3, 1) := dk_29 (dk_at dksX14_prove_0 23 rfl rfl)
theorem dX14_prove_24 : decode cX14_prove 24 = .ok (.invokevirtual 218, 3) := dk_182 0 218 (dk_at dksX14_prove_1 0 rfl rfl)
theorem dX14_prove_27 : decode cX14_prove 27 = .ok (.istore 4, 2) := dk_54 4 (dk_at dksX14_prove_1 3 rfl rfl)
theorem dX14_prove_29 : decode cX14_prove 29 = .ok (.iload 4, 2) := dk_21 4 (dk_at dksX14_prove_1 5 rfl rfl)
theorem dX14_prove_31 : decode cX14_prove 31 = .ok (.bipush (-9), 2) := dk_16 247 (dk_at dksX14_prove_1 7 rfl rfl)
theorem dX14_prove_33 : decode cX14_prove 33 = .ok (.if_icmp .eq 96, 3) := dk_159 0 96 (dk_at dksX14_prove_1 9 rfl rfl)
theorem dX14_prove_36 : decode cX14_prove 36 = .ok (.aload_n 0, 1) := dk_42 (dk_at dksX14_prove_1 12 rfl rfl)
theorem dX14_prove_37 : decode cX14_prove 37 = .ok (.getfield 432, 3) := dk_180 1 176 (dk_at dksX14_prove_1 13 rfl rfl)
theorem dX14_prove_40 : decode cX14_prove 40 = .ok (.bipush 20, 2) := dk_16 20 (dk_at dksX14_prove_1 16 rfl rfl)
theorem dX14_prove_42 : decode cX14_prove 42 = .ok (.if_icmp .ge 87, 3) := dk_162 0 87 (dk_at dksX14_prove_1 18 rfl rfl)
theorem dX14_prove_45 : decode cX14_prove 45 = .ok (.aload_n 0, 1) := dk_42 (dk_at dksX14_prove_1 21 rfl rfl)
theorem dX14_prove_46 : decode cX14_prove 46 = .ok (.getfield 100, 3) := dk_180 0 100 (dk_at dksX14_prove_2 0 rfl rfl)
theorem dX14_prove_49 : decode cX14_prove 49 = .ok (.iconst 2, 1) := dk_5 (dk_at dksX14_prove_2 3 rfl rfl)
theorem dX14_prove_50 : decode cX14_prove 50 = .ok (.aload_n 0, 1) := dk_42 (dk_at dksX14_prove_2 4 rfl rfl)
theorem dX14_prove_51 : decode cX14_prove 51 = .ok (.getfield 432, 3) := dk_180 1 176 (dk_at dksX14_prove_2 5 rfl rfl)
theorem dX14_prove_54 : decode cX14_prove 54 = .ok (.imul, 1) := dk_104 (dk_at dksX14_prove_2 8 rfl rfl)
theorem dX14_prove_55 : decode cX14_prove 55 = .ok (.iload_n 1, 1) := dk_27 (dk_at dksX14_prove_2 9 rfl rfl)
theorem dX14_prove_56 : decode cX14_prove 56 = .ok (.iastore, 1) := dk_79 (dk_at dksX14_prove_2 10 rfl rfl)
theorem dX14_prove_57 : decode cX14_prove 57 = .ok (.aload_n 0, 1) := dk_42 (dk_at dksX14_prove_2 11 rfl rfl)
theorem dX14_prove_58 : decode cX14_prove 58 = .ok (.getfield 100, 3) := dk_180 0 100 (dk_at dksX14_prove_2 12 rfl rfl)
theorem dX14_prove_61 : decode cX14_prove 61 = .ok (.iconst 2, 1) := dk_5 (dk_at dksX14_prove_2 15 rfl rfl)
theorem dX14_prove_62 : decode cX14_prove 62 = .ok (.aload_n 0, 1) := dk_42 (dk_at dksX14_prove_2 16 rfl rfl)
theorem dX14_prove_63 : decode cX14_prove 63 = .ok (.getfield 432, 3) := dk_180 1 176 (dk_at dksX14_prove_2 17 rfl rfl)
theorem dX14_prove_66 : decode cX14_prove 66 = .ok (.imul, 1) := dk_104 (dk_at dksX14_prove_2 20 rfl rfl)
theorem dX14_prove_67 : decode cX14_prove 67 = .ok (.iconst 1, 1) := dk_4 (dk_at dksX14_prove_2 21 rfl rfl)
theorem dX14_prove_68 : decode cX14_prove 68 = .ok (.iadd, 1) := dk_96 (dk_at dksX14_prove_2 22 rfl rfl)
theorem dX14_prove_69 : decode cX14_prove 69 = .ok (.iload 4, 2) := dk_21 4 (dk_at dksX14_prove_3 0 rfl rfl)
theorem dX14_prove_71 : decode cX14_prove 71 = .ok (.iastore, 1) := dk_79 (dk_at dksX14_prove_3 2 rfl rfl)
theorem dX14_prove_72 : decode cX14_prove 72 = .ok (.aload_n 0, 1) := dk_42 (dk_at dksX14_prove_3 3 rfl rfl)
theorem dX14_prove_73 : decode cX14_prove 73 = .ok (.dup, 1) := dk_89 (dk_at dksX14_prove_3 4 rfl rfl)
theorem dX14_prove_74 : decode cX14_prove 74 = .ok (.getfield 432, 3) := dk_180 1 176 (dk_at dksX14_prove_3 5 rfl rfl)
theorem dX14_prove_77 : decode cX14_prove 77 = .ok (.iconst 1, 1) := dk_4 (dk_at dksX14_prove_3 8 rfl rfl)
theorem dX14_prove_78 : decode cX14_prove 78 = .ok (.iadd, 1) := dk_96 (dk_at dksX14_prove_3 9 rfl rfl)
theorem dX14_prove_79 : decode cX14_prove 79 = .ok (.putfield 432, 3) := dk_181 1 176 (dk_at dksX14_prove_3 10 rfl rfl)
theorem dX14_prove_82 : decode cX14_prove 82 = .ok (.aload_n 0, 1) := dk_42 (dk_at dksX14_prove_3 13 rfl rfl)
theorem dX14_prove_83 : decode cX14_prove 83 = .ok (.iload_n 1, 1) := dk_27 (dk_at dksX14_prove_3 14 rfl rfl)
theorem dX14_prove_84 : decode cX14_prove 84 = .ok (.iload_n 2, 1) := dk_28 (dk_at dksX14_prove_3 15 rfl rfl)
theorem dX14_prove_85 : decode cX14_prove 85 = .ok (.iload_n 3, 1) := dk_29 (dk_at dksX14_prove_3 16 rfl rfl)
theorem dX14_prove_86 : decode cX14_prove 86 = .ok (.iload 4, 2) := dk_21 4 (dk_at dksX14_prove_3 17 rfl rfl)
theorem dX14_prove_88 : decode cX14_prove 88 = .ok (.invokevirtual 201, 3) := dk_182 0 201 (dk_at dksX14_prove_3 19 rfl rfl)
theorem dX14_prove_91 : decode cX14_prove 91 = .ok (.istore 5, 2) := dk_54 5 (dk_at dksX14_prove_3 22 rfl rfl)
theorem dX14_prove_93 : decode cX14_prove 93 = .ok (.iload 5, 2) := dk_21 5 (dk_at dksX14_prove_4 0 rfl rfl)
theorem dX14_prove_95 : decode cX14_prove 95 = .ok (.ifCond .eq 10, 3) := dk_153 0 10 (dk_at dksX14_prove_4 2 rfl rfl)
theorem dX14_prove_98 : decode cX14_prove 98 = .ok (.aload_n 0, 1) := dk_42 (dk_at dksX14_prove_4 5 rfl rfl)
theorem dX14_prove_99 : decode cX14_prove 99 = .ok (.getfield 187, 3) := dk_180 0 187 (dk_at dksX14_prove_4 6 rfl rfl)
theorem dX14_prove_102 : decode cX14_prove 102 = .ok (.goto 4, 3) := dk_167 0 4 (dk_at dksX14_prove_4 9 rfl rfl)
theorem dX14_prove_105 : decode cX14_prove 105 = .ok (.iload_n 1, 1) := dk_27 (dk_at dksX14_prove_4 12 rfl rfl)
theorem dX14_prove_106 : decode cX14_prove 106 = .ok (.istore_n 1, 1) := dk_60 (dk_at dksX14_prove_4 13 rfl rfl)
theorem dX14_prove_107 : decode cX14_prove 107 = .ok (.aload_n 0, 1) := dk_42 (dk_at dksX14_prove_4 14 rfl rfl)
theorem dX14_prove_108 : decode cX14_prove 108 = .ok (.getfield 181, 3) := dk_180 0 181 (dk_at dksX14_prove_4 15 rfl rfl)
theorem dX14_prove_111 : decode cX14_prove 111 = .ok (.istore_n 2, 1) := dk_61 (dk_at dksX14_prove_4 18 rfl rfl)
theorem dX14_prove_112 : decode cX14_prove 112 = .ok (.aload_n 0, 1) := dk_42 (dk_at dksX14_prove_4 19 rfl rfl)
theorem dX14_prove_113 : decode cX14_prove 113 = .ok (.getfield 178, 3) := dk_180 0 178 (dk_at dksX14_prove_4 20 rfl rfl)
theorem dX14_prove_116 : decode cX14_prove 116 = .ok (.istore_n 3, 1) := dk_62 (dk_at dksX14_prove_4 23 rfl rfl)
theorem dX14_prove_117 : decode cX14_prove 117 = .ok (.aload_n 0, 1) := dk_42 (dk_at dksX14_prove_5 0 rfl rfl)
theorem dX14_prove_118 : decode cX14_prove 118 = .ok (.iload_n 1, 1) := dk_27 (dk_at dksX14_prove_5 1 rfl rfl)
theorem dX14_prove_119 : decode cX14_prove 119 = .ok (.iload_n 2, 1) := dk_28 (dk_at dksX14_prove_5 2 rfl rfl)
theorem dX14_prove_120 : decode cX14_prove 120 = .ok (.iload_n 3, 1) := dk_29 (dk_at dksX14_prove_5 3 rfl rfl)
theorem dX14_prove_121 : decode cX14_prove 121 = .ok (.invokevirtual 218, 3) := dk_182 0 218 (dk_at dksX14_prove_5 4 rfl rfl)
theorem dX14_prove_124 : decode cX14_prove 124 = .ok (.istore 4, 2) := dk_54 4 (dk_at dksX14_prove_5 7 rfl rfl)
theorem dX14_prove_126 : decode cX14_prove 126 = .ok (.goto (-97), 3) := dk_167 255 159 (dk_at dksX14_prove_5 9 rfl rfl)
theorem dX14_prove_129 : decode cX14_prove 129 = .ok (.aload_n 0, 1) := dk_42 (dk_at dksX14_prove_5 12 rfl rfl)
theorem dX14_prove_130 : decode cX14_prove 130 = .ok (.getfield 432, 3) := dk_180 1 176 (dk_at dksX14_prove_5 13 rfl rfl)
theorem dX14_prove_133 : decode cX14_prove 133 = .ok (.ireturn, 1) := dk_172 (dk_at dksX14_prove_5 16 rfl rfl)
abbrev cX14_row : ByteArray := prog_33_method_87_code
def yX14_row : MethodName := ⟨RX14, "row", "(II)I"⟩
def dkwX14_row_1 : List UInt8 := [172]
abbrev dktX14_row_1 : List UInt8 := dkwX14_row_1 ++ []
def dkwX14_row_0 : List UInt8 := [42, 27, 28, 182, 1, 179, 153, 0, 16, 42, 180, 0, 100, 5, 27, 104, 28, 96, 46, 167, 0, 5, 16, 247]
abbrev dktX14_row_0 : List UInt8 := dkwX14_row_0 ++ dktX14_row_1
theorem dksX14_row_0 : cX14_row.data.toList.drop 0 = dktX14_row_0 := by decide +kernel
theorem dksX14_row_1 : cX14_row.data.toList.drop 24 = dktX14_row_1 := dk_seg dksX14_row_0 24 rfl rfl
theorem dX14_row_0 : decode cX14_row 0 = .ok (.aload_n 0, 1) := dk_42 (dk_at dksX14_row_0 0 rfl rfl)
theorem dX14_row_1 : decode cX14_row 1 = .ok (.iload_n 1, 1) := dk_27 (dk_at dksX14_row_0 1 rfl rfl)
theorem dX14_row_2 : decode cX14_row 2 = .ok (.iload_n 2, 1) := dk_28 (dk_at dksX14_row_0 2 rfl rfl)
theorem dX14_row_3 : decode cX14_row 3 = .ok (.invokevirtual 435, 3) := dk_182 1 179 (dk_at dksX14_row_0 3 rfl rfl)
theorem dX14_row_6 : decode cX14_row 6 = .ok (.ifCond .eq 16, 3) := dk_153 0 16 (dk_at dksX14_row_0 6 rfl rfl)
theorem dX14_row_9 : decode cX14_row 9 = .ok (.aload_n 0, 1) := dk_42 (dk_at dksX14_row_0 9 rfl rfl)
theorem dX14_row_10 : decode cX14_row 10 = .ok (.getfield 100, 3) := dk_180 0 100 (dk_at dksX14_row_0 10 rfl rfl)
theorem dX14_row_13 : decode cX14_row 13 = .ok (.iconst 2, 1) := dk_5 (dk_at dksX14_row_0 13 rfl rfl)
theorem dX14_row_14 : decode cX14_row 14 = .ok (.iload_n 1, 1) := dk_27 (dk_at dksX14_row_0 14 rfl rfl)
theorem dX14_row_15 : decode cX14_row 15 = .ok (.imul, 1) := dk_104 (dk_at dksX14_row_0 15 rfl rfl)
theorem dX14_row_16 : decode cX14_row 16 = .ok (.iload_n 2, 1) := dk_28 (dk_at dksX14_row_0 16 rfl rfl)
theorem dX14_row_17 : decode cX14_row 17 = .ok (.iadd, 1) := dk_96 (dk_at dksX14_row_0 17 rfl rfl)
theorem dX14_row_18 : decode cX14_row 18 = .ok (.iaload, 1) := dk_46 (dk_at dksX14_row_0 18 rfl rfl)
theorem dX14_row_19 : decode cX14_row 19 = .ok (.goto 5, 3) := dk_167 0 5 (dk_at dksX14_row_0 19 rfl rfl)
theorem dX14_row_22 : decode cX14_row 22 = .ok (.bipush (-9), 2) := dk_16 247 (dk_at dksX14_row_0 22 rfl rfl)
theorem dX14_row_24 : decode cX14_row 24 = .ok (.ireturn, 1) := dk_172 (dk_at dksX14_row_1 0 rfl rfl)
abbrev cX14_isRow : ByteArray := prog_33_method_86_code
def yX14_isRow : MethodName := ⟨RX14, "isRow", "(II)Z"⟩
def dkwX14_isRow_1 : List UInt8 := [167, 0, 4, 3, 172]
abbrev dktX14_isRow_1 : List UInt8 := dkwX14_isRow_1 ++ []
def dkwX14_isRow_0 : List UInt8 := [27, 3, 42, 180, 1, 176, 4, 100, 184, 0, 133, 153, 0, 16, 28, 3, 4, 184, 0, 133, 153, 0, 7, 4]
abbrev dktX14_isRow_0 : List UInt8 := dkwX14_isRow_0 ++ dktX14_isRow_1
theorem dksX14_isRow_0 : cX14_isRow.data.toList.drop 0 = dktX14_isRow_0 := by decide +kernel
theorem dksX14_isRow_1 : cX14_isRow.data.toList.drop 24 = dktX14_isRow_1 := dk_seg dksX14_isRow_0 24 rfl rfl
theorem dX14_isRow_0 : decode cX14_isRow 0 = .ok (.iload_n 1, 1) := dk_27 (dk_at dksX14_isRow_0 0 rfl rfl)
theorem dX14_isRow_1 : decode cX14_isRow 1 = .ok (.iconst 0, 1) := dk_3 (dk_at dksX14_isRow_0 1 rfl rfl)
theorem dX14_isRow_2 : decode cX14_isRow 2 = .ok (.aload_n 0, 1) := dk_42 (dk_at dksX14_isRow_0 2 rfl rfl)
theorem dX14_isRow_3 : decode cX14_isRow 3 = .ok (.getfield 432, 3) := dk_180 1 176 (dk_at dksX14_isRow_0 3 rfl rfl)
theorem dX14_isRow_6 : decode cX14_isRow 6 = .ok (.iconst 1, 1) := dk_4 (dk_at dksX14_isRow_0 6 rfl rfl)
theorem dX14_isRow_7 : decode cX14_isRow 7 = .ok (.isub, 1) := dk_100 (dk_at dksX14_isRow_0 7 rfl rfl)
theorem dX14_isRow_8 : decode cX14_isRow 8 = .ok (.invokestatic 133, 3) := dk_184 0 133 (dk_at dksX14_isRow_0 8 rfl rfl)
theorem dX14_isRow_11 : decode cX14_isRow 11 = .ok (.ifCond .eq 16, 3) := dk_153 0 16 (dk_at dksX14_isRow_0 11 rfl rfl)
theorem dX14_isRow_14 : decode cX14_isRow 14 = .ok (.iload_n 2, 1) := dk_28 (dk_at dksX14_isRow_0 14 rfl rfl)
theorem dX14_isRow_15 : decode cX14_isRow 15 = .ok (.iconst 0, 1) := dk_3 (dk_at dksX14_isRow_0 15 rfl rfl)
theorem dX14_isRow_16 : decode cX14_isRow 16 = .ok (.iconst 1, 1) := dk_4 (dk_at dksX14_isRow_0 16 rfl rfl)
theorem dX14_isRow_17 : decode cX14_isRow 17 = .ok (.invokestatic 133, 3) := dk_184 0 133 (dk_at dksX14_isRow_0 17 rfl rfl)
theorem dX14_isRow_20 : decode cX14_isRow 20 = .ok (.ifCond .eq 7, 3) := dk_153 0 7 (dk_at dksX14_isRow_0 20 rfl rfl)
theorem dX14_isRow_23 : decode cX14_isRow 23 = .ok (.iconst 1, 1) := dk_4 (dk_at dksX14_isRow_0 23 rfl rfl)
theorem dX14_isRow_24 : decode cX14_isRow 24 = .ok (.goto 4, 3) := dk_167 0 4 (dk_at dksX14_isRow_1 0 rfl rfl)
theorem dX14_isRow_27 : decode cX14_isRow 27 = .ok (.iconst 0, 1) := dk_3 (dk_at dksX14_isRow_1 3 rfl rfl)
theorem dX14_isRow_28 : decode cX14_isRow 28 = .ok (.ireturn, 1) := dk_172 (dk_at dksX14_isRow_1 4 rfl rfl)
abbrev cX14_alterRow : ByteArray := prog_33_method_88_code
def yX14_alterRow : MethodName := ⟨RX14, "alterRow", "(III)I"⟩
def dkwX14_alterRow_1 : List UInt8 := [42, 180, 0, 100, 5, 27, 104, 28, 96, 29, 79, 21, 4, 172]
abbrev dktX14_alterRow_1 : List UInt8 := dkwX14_alterRow_1 ++ []
def dkwX14_alterRow_0 : List UInt8 := [42, 27, 28, 182, 1, 179, 154, 0, 6, 16, 247, 172, 42, 180, 0, 100, 5, 27, 104, 28, 96, 46, 54, 4]
abbrev dktX14_alterRow_0 : List UInt8 := dkwX14_alterRow_0 ++ dktX14_alterRow_1
theorem dksX14_alterRow_0 : cX14_alterRow.data.toList.drop 0 = dktX14_alterRow_0 := by decide +kernel
theorem dksX14_alterRow_1 : cX14_alterRow.data.toList.drop 24 = dktX14_alterRow_1 := dk_seg dksX14_alterRow_0 24 rfl rfl
theorem dX14_alterRow_0 : decode cX14_alterRow 0 = .ok (.aload_n 0, 1) := dk_42 (dk_at dksX14_alterRow_0 0 rfl rfl)
theorem dX14_alterRow_1 : decode cX14_alterRow 1 = .ok (.iload_n 1, 1) := dk_27 (dk_at dksX14_alterRow_0 1 rfl rfl)
theorem dX14_alterRow_2 : decode cX14_alterRow 2 = .ok (.iload_n 2, 1) := dk_28 (dk_at dksX14_alterRow_0 2 rfl rfl)
theorem dX14_alterRow_3 : decode cX14_alterRow 3 = .ok (.invokevirtual 435, 3) := dk_182 1 179 (dk_at dksX14_alterRow_0 3 rfl rfl)
theorem dX14_alterRow_6 : decode cX14_alterRow 6 = .ok (.ifCond .ne 6, 3) := dk_154 0 6 (dk_at dksX14_alterRow_0 6 rfl rfl)
theorem dX14_alterRow_9 : decode cX14_alterRow 9 = .ok (.bipush (-9), 2) := dk_16 247 (dk_at dksX14_alterRow_0 9 rfl rfl)
theorem dX14_alterRow_11 : decode cX14_alterRow 11 = .ok (.ireturn, 1) := dk_172 (dk_at dksX14_alterRow_0 11 rfl rfl)
theorem dX14_alterRow_12 : decode cX14_alterRow 12 = .ok (.aload_n 0, 1) := dk_42 (dk_at dksX14_alterRow_0 12 rfl rfl)
theorem dX14_alterRow_13 : decode cX14_alterRow 13 = .ok (.getfield 100, 3) := dk_180 0 100 (dk_at dksX14_alterRow_0 13 rfl rfl)
theorem dX14_alterRow_16 : decode cX14_alterRow 16 = .ok (.iconst 2, 1) := dk_5 (dk_at dksX14_alterRow_0 16 rfl rfl)
theorem dX14_alterRow_17 : decode cX14_alterRow 17 = .ok (.iload_n 1, 1) := dk_27 (dk_at dksX14_alterRow_0 17 rfl rfl)
theorem dX14_alterRow_18 : decode cX14_alterRow 18 = .ok (.imul, 1) := dk_104 (dk_at dksX14_alterRow_0 18 rfl rfl)
theorem dX14_alterRow_19 : decode cX14_alterRow 19 = .ok (.iload_n 2, 1) := dk_28 (dk_at dksX14_alterRow_0 19 rfl rfl)
theorem dX14_alterRow_20 : decode cX14_alterRow 20 = .ok (.iadd, 1) := dk_96 (dk_at dksX14_alterRow_0 20 rfl rfl)
theorem dX14_alterRow_21 : decode cX14_alterRow 21 = .ok (.iaload, 1) := dk_46 (dk_at dksX14_alterRow_0 21 rfl rfl)
theorem dX14_alterRow_22 : decode cX14_alterRow 22 = .ok (.istore 4, 2) := dk_54 4 (dk_at dksX14_alterRow_0 22 rfl rfl)
theorem dX14_alterRow_24 : decode cX14_alterRow 24 = .ok (.aload_n 0, 1) := dk_42 (dk_at dksX14_alterRow_1 0 rfl rfl)
theorem dX14_alterRow_25 : decode cX14_alterRow 25 = .ok (.getfield 100, 3) := dk_180 0 100 (dk_at dksX14_alterRow_1 1 rfl rfl)
theorem dX14_alterRow_28 : decode cX14_alterRow 28 = .ok (.iconst 2, 1) := dk_5 (dk_at dksX14_alterRow_1 4 rfl rfl)
theorem dX14_alterRow_29 : decode cX14_alterRow 29 = .ok (.iload_n 1, 1) := dk_27 (dk_at dksX14_alterRow_1 5 rfl rfl)
theorem dX14_alterRow_30 : decode cX14_alterRow 30 = .ok (.imul, 1) := dk_104 (dk_at dksX14_alterRow_1 6 rfl rfl)
theorem dX14_alterRow_31 : decode cX14_alterRow 31 = .ok (.iload_n 2, 1) := dk_28 (dk_at dksX14_alterRow_1 7 rfl rfl)
theorem dX14_alterRow_32 : decode cX14_alterRow 32 = .ok (.iadd, 1) := dk_96 (dk_at dksX14_alterRow_1 8 rfl rfl)
theorem dX14_alterRow_33 : decode cX14_alterRow 33 = .ok (.iload_n 3, 1) := dk_29 (dk_at dksX14_alterRow_1 9 rfl rfl)
theorem dX14_alterRow_34 : decode cX14_alterRow 34 = .ok (.iastore, 1) := dk_79 (dk_at dksX14_alterRow_1 10 rfl rfl)
theorem dX14_alterRow_35 : decode cX14_alterRow 35 = .ok (.iload 4, 2) := dk_21 4 (dk_at dksX14_alterRow_1 11 rfl rfl)
theorem dX14_alterRow_37 : decode cX14_alterRow 37 = .ok (.ireturn, 1) := dk_172 (dk_at dksX14_alterRow_1 13 rfl rfl)
abbrev cX14_judge : ByteArray := prog_33_method_89_code
def yX14_judge : MethodName := ⟨RX14, "judge", "()I"⟩
def dkwX14_judge_6 : List UInt8 := [172]
abbrev dktX14_judge_6 : List UInt8 := dkwX14_judge_6 ++ []
def dkwX14_judge_5 : List UInt8 := [182, 0, 201, 153, 0, 6, 16, 31, 172, 21, 4, 42, 182, 1, 170, 160, 0, 7, 3, 167, 0, 5, 16, 32]
abbrev dktX14_judge_5 : List UInt8 := dkwX14_judge_5 ++ dktX14_judge_6
def dkwX14_judge_4 : List UInt8 := [180, 0, 178, 62, 21, 4, 42, 180, 0, 175, 96, 54, 4, 132, 5, 1, 167, 255, 169, 42, 27, 28, 29, 2]
abbrev dktX14_judge_4 : List UInt8 := dkwX14_judge_4 ++ dktX14_judge_5
def dkwX14_judge_3 : List UInt8 := [182, 0, 201, 154, 0, 8, 21, 5, 4, 96, 172, 42, 180, 0, 187, 60, 42, 180, 0, 181, 61, 42]
abbrev dktX14_judge_3 : List UInt8 := dkwX14_judge_3 ++ dktX14_judge_4
def dkwX14_judge_2 : List UInt8 := [21, 5, 104, 46, 27, 160, 0, 23, 21, 6, 184, 0, 205, 153, 0, 15, 42, 27, 28, 29, 21, 6]
abbrev dktX14_judge_2 : List UInt8 := dkwX14_judge_2 ++ dktX14_judge_3
def dkwX14_judge_1 : List UInt8 := [180, 1, 176, 162, 0, 84, 42, 180, 0, 100, 5, 21, 5, 104, 4, 96, 46, 54, 6, 42, 180, 0, 100, 5]
abbrev dktX14_judge_1 : List UInt8 := dkwX14_judge_1 ++ dktX14_judge_2
def dkwX14_judge_0 : List UInt8 := [42, 180, 0, 166, 60, 42, 180, 0, 169, 61, 42, 180, 0, 141, 62, 3, 54, 4, 3, 54, 5, 21, 5, 42]
abbrev dktX14_judge_0 : List UInt8 := dkwX14_judge_0 ++ dktX14_judge_1
theorem dksX14_judge_0 : cX14_judge.data.toList.drop 0 = dktX14_judge_0 := by decide +kernel
theorem dksX14_judge_1 : cX14_judge.data.toList.drop 24 = dktX14_judge_1 := dk_seg dksX14_judge_0 24 rfl rfl
theorem dksX14_judge_2 : cX14_judge.data.toList.drop 48 = dktX14_judge_2 := dk_seg dksX14_judge_1 24 rfl rfl
theorem dksX14_judge_3 : cX14_judge.data.toList.drop 70 = dktX14_judge_3 := dk_seg dksX14_judge_2 22 rfl rfl
theorem dksX14_judge_4 : cX14_judge.data.toList.drop 92 = dktX14_judge_4 := dk_seg dksX14_judge_3 22 rfl rfl
theorem dksX14_judge_5 : cX14_judge.data.toList.drop 116 = dktX14_judge_5 := dk_seg dksX14_judge_4 24 rfl rfl
theorem dksX14_judge_6 : cX14_judge.data.toList.drop 140 = dktX14_judge_6 := dk_seg dksX14_judge_5 24 rfl rfl
theorem dX14_judge_0 : decode cX14_judge 0 = .ok (.aload_n 0, 1) := dk_42 (dk_at dksX14_judge_0 0 rfl rfl)
theorem dX14_judge_1 : decode cX14_judge 1 = .ok (.getfield 166, 3) := dk_180 0 166 (dk_at dksX14_judge_0 1 rfl rfl)
theorem dX14_judge_4 : decode cX14_judge 4 = .ok (.istore_n 1, 1) := dk_60 (dk_at dksX14_judge_0 4 rfl rfl)
theorem dX14_judge_5 : decode cX14_judge 5 = .ok (.aload_n 0, 1) := dk_42 (dk_at dksX14_judge_0 5 rfl rfl)
theorem dX14_judge_6 : decode cX14_judge 6 = .ok (.getfield 169, 3) := dk_180 0 169 (dk_at dksX14_judge_0 6 rfl rfl)
theorem dX14_judge_9 : decode cX14_judge 9 = .ok (.istore_n 2, 1) := dk_61 (dk_at dksX14_judge_0 9 rfl rfl)
theorem dX14_judge_10 : decode cX14_judge 10 = .ok (.aload_n 0, 1) := dk_42 (dk_at dksX14_judge_0 10 rfl rfl)
theorem dX14_judge_11 : decode cX14_judge 11 = .ok (.getfield 141, 3) := dk_180 0 141 (dk_at dksX14_judge_0 11 rfl rfl)
theorem dX14_judge_14 : decode cX14_judge 14 = .ok (.istore_n 3, 1) := dk_62 (dk_at dksX14_judge_0 14 rfl rfl)
theorem dX14_judge_15 : decode cX14_judge 15 = .ok (.iconst 0, 1) := dk_3 (dk_at dksX14_judge_0 15 rfl rfl)
theorem dX14_judge_16 : decode cX14_judge 16 = .ok (.istore 4, 2) := dk_54 4 (dk_at dksX14_judge_0 16 rfl rfl)
theorem dX14_judge_18 : decode cX14_judge 18 = .ok (.iconst 0, 1) := dk_3 (dk_at dksX14_judge_0 18 rfl rfl)
theorem dX14_judge_19 : decode cX14_judge 19 = .ok (.istore 5, 2) := dk_54 5 (dk_at dksX14_judge_0 19 rfl rfl)
theorem dX14_judge_21 : decode cX14_judge 21 = .ok (.iload 5, 2) := dk_21 5 (dk_at dksX14_judge_0 21 rfl rfl)
theorem dX14_judge_23 : decode cX14_judge 23 = .ok (.aload_n 0, 1) := dk_42 (dk_at dksX14_judge_0 23 rfl rfl)
theorem dX14_judge_24 : decode cX14_judge 24 = .ok (.getfield 432, 3) := dk_180 1 176 (dk_at dksX14_judge_1 0 rfl rfl)
theorem dX14_judge_27 : decode cX14_judge 27 = .ok (.if_icmp .ge 84, 3) := dk_162 0 84 (dk_at dksX14_judge_1 3 rfl rfl)
theorem dX14_judge_30 : decode cX14_judge 30 = .ok (.aload_n 0, 1) := dk_42 (dk_at dksX14_judge_1 6 rfl rfl)
theorem dX14_judge_31 : decode cX14_judge 31 = .ok (.getfield 100, 3) := dk_180 0 100 (dk_at dksX14_judge_1 7 rfl rfl)
theorem dX14_judge_34 : decode cX14_judge 34 = .ok (.iconst 2, 1) := dk_5 (dk_at dksX14_judge_1 10 rfl rfl)
theorem dX14_judge_35 : decode cX14_judge 35 = .ok (.iload 5, 2) := dk_21 5 (dk_at dksX14_judge_1 11 rfl rfl)
theorem dX14_judge_37 : decode cX14_judge 37 = .ok (.imul, 1) := dk_104 (dk_at dksX14_judge_1 13 rfl rfl)
theorem dX14_judge_38 : decode cX14_judge 38 = .ok (.iconst 1, 1) := dk_4 (dk_at dksX14_judge_1 14 rfl rfl)
theorem dX14_judge_39 : decode cX14_judge 39 = .ok (.iadd, 1) := dk_96 (dk_at dksX14_judge_1 15 rfl rfl)
theorem dX14_judge_40 : decode cX14_judge 40 = .ok (.iaload, 1) := dk_46 (dk_at dksX14_judge_1 16 rfl rfl)
theorem dX14_judge_41 : decode cX14_judge 41 = .ok (.istore 6, 2) := dk_54 6 (dk_at dksX14_judge_1 17 rfl rfl)
theorem dX14_judge_43 : decode cX14_judge 43 = .ok (.aload_n 0, 1) := dk_42 (dk_at dksX14_judge_1 19 rfl rfl)
theorem dX14_judge_44 : decode cX14_judge 44 = .ok (.getfield 100, 3) := dk_180 0 100 (dk_at dksX14_judge_1 20 rfl rfl)
theorem dX14_judge_47 : decode cX14_judge 47 = .ok (.iconst 2, 1) := dk_5 (dk_at dksX14_judge_1 23 rfl rfl)
theorem dX14_judge_48 : decode cX14_judge 48 = .ok (.iload 5, 2) := dk_21 5 (dk_at dksX14_judge_2 0 rfl rfl)
theorem dX14_judge_50 : decode cX14_judge 50 = .ok (.imul, 1) := dk_104 (dk_at dksX14_judge_2 2 rfl rfl)
theorem dX14_judge_51 : decode cX14_judge 51 = .ok (.iaload, 1) := dk_46 (dk_at dksX14_judge_2 3 rfl rfl)
theorem dX14_judge_52 : decode cX14_judge 52 = .ok (.iload_n 1, 1) := dk_27 (dk_at dksX14_judge_2 4 rfl rfl)
theorem dX14_judge_53 : decode cX14_judge 53 = .ok (.if_icmp .ne 23, 3) := dk_160 0 23 (dk_at dksX14_judge_2 5 rfl rfl)
theorem dX14_judge_56 : decode cX14_judge 56 = .ok (.iload 6, 2) := dk_21 6 (dk_at dksX14_judge_2 8 rfl rfl)
theorem dX14_judge_58 : decode cX14_judge 58 = .ok (.invokestatic 205, 3) := dk_184 0 205 (dk_at dksX14_judge_2 10 rfl rfl)
theorem dX14_judge_61 : decode cX14_judge 61 = .ok (.ifCond .eq 15, 3) := dk_153 0 15 (dk_at dksX14_judge_2 13 rfl rfl)
theorem dX14_judge_64 : decode cX14_judge 64 = .ok (.aload_n 0, 1) := dk_42 (dk_at dksX14_judge_2 16 rfl rfl)
theorem dX14_judge_65 : decode cX14_judge 65 = .ok (.iload_n 1, 1) := dk_27 (dk_at dksX14_judge_2 17 rfl rfl)
theorem dX14_judge_66 : decode cX14_judge 66 = .ok (.iload_n 2, 1) := dk_28 (dk_at dksX14_judge_2 18 rfl rfl)
theorem dX14_judge_67 : decode cX14_judge 67 = .ok (.iload_n 3, 1) := dk_29 (dk_at dksX14_judge_2 19 rfl rfl)
theorem dX14_judge_68 : decode cX14_judge 68 = .ok (.iload 6, 2) := dk_21 6 (dk_at dksX14_judge_2 20 rfl rfl)
theorem dX14_judge_70 : decode cX14_judge 70 = .ok (.invokevirtual 201, 3) := dk_182 0 201 (dk_at dksX14_judge_3 0 rfl rfl)
theorem dX14_judge_73 : decode cX14_judge 73 = .ok (.ifCond .ne 8, 3) := dk_154 0 8 (dk_at dksX14_judge_3 3 rfl rfl)
theorem dX14_judge_76 : decode cX14_judge 76 = .ok (.iload 5, 2) := dk_21 5 (dk_at dksX14_judge_3 6 rfl rfl)
theorem dX14_judge_78 : decode cX14_judge 78 = .ok (.iconst 1, 1) := dk_4 (dk_at dksX14_judge_3 8 rfl rfl)
theorem dX14_judge_79 : decode cX14_judge 79 = .ok (.iadd, 1) := dk_96 (dk_at dksX14_judge_3 9 rfl rfl)
theorem dX14_judge_80 : decode cX14_judge 80 = .ok (.ireturn, 1) := dk_172 (dk_at dksX14_judge_3 10 rfl rfl)
theorem dX14_judge_81 : decode cX14_judge 81 = .ok (.aload_n 0, 1) := dk_42 (dk_at dksX14_judge_3 11 rfl rfl)
theorem dX14_judge_82 : decode cX14_judge 82 = .ok (.getfield 187, 3) := dk_180 0 187 (dk_at dksX14_judge_3 12 rfl rfl)
theorem dX14_judge_85 : decode cX14_judge 85 = .ok (.istore_n 1, 1) := dk_60 (dk_at dksX14_judge_3 15 rfl rfl)
theorem dX14_judge_86 : decode cX14_judge 86 = .ok (.aload_n 0, 1) := dk_42 (dk_at dksX14_judge_3 16 rfl rfl)
theorem dX14_judge_87 : decode cX14_judge 87 = .ok (.getfield 181, 3) := dk_180 0 181 (dk_at dksX14_judge_3 17 rfl rfl)
theorem dX14_judge_90 : decode cX14_judge 90 = .ok (.istore_n 2, 1) := dk_61 (dk_at dksX14_judge_3 20 rfl rfl)
theorem dX14_judge_91 : decode cX14_judge 91 = .ok (.aload_n 0, 1) := dk_42 (dk_at dksX14_judge_3 21 rfl rfl)
theorem dX14_judge_92 : decode cX14_judge 92 = .ok (.getfield 178, 3) := dk_180 0 178 (dk_at dksX14_judge_4 0 rfl rfl)
theorem dX14_judge_95 : decode cX14_judge 95 = .ok (.istore_n 3, 1) := dk_62 (dk_at dksX14_judge_4 3 rfl rfl)
theorem dX14_judge_96 : decode cX14_judge 96 = .ok (.iload 4, 2) := dk_21 4 (dk_at dksX14_judge_4 4 rfl rfl)
theorem dX14_judge_98 : decode cX14_judge 98 = .ok (.aload_n 0, 1) := dk_42 (dk_at dksX14_judge_4 6 rfl rfl)
theorem dX14_judge_99 : decode cX14_judge 99 = .ok (.getfield 175, 3) := dk_180 0 175 (dk_at dksX14_judge_4 7 rfl rfl)
theorem dX14_judge_102 : decode cX14_judge 102 = .ok (.iadd, 1) := dk_96 (dk_at dksX14_judge_4 10 rfl rfl)
theorem dX14_judge_103 : decode cX14_judge 103 = .ok (.istore 4, 2) := dk_54 4 (dk_at dksX14_judge_4 11 rfl rfl)
theorem dX14_judge_105 : decode cX14_judge 105 = .ok (.iinc 5 1, 3) := dk_132 5 1 (dk_at dksX14_judge_4 13 rfl rfl)
theorem dX14_judge_108 : decode cX14_judge 108 = .ok (.goto (-87), 3) := dk_167 255 169 (dk_at dksX14_judge_4 16 rfl rfl)
theorem dX14_judge_111 : decode cX14_judge 111 = .ok (.aload_n 0, 1) := dk_42 (dk_at dksX14_judge_4 19 rfl rfl)
theorem dX14_judge_112 : decode cX14_judge 112 = .ok (.iload_n 1, 1) := dk_27 (dk_at dksX14_judge_4 20 rfl rfl)
theorem dX14_judge_113 : decode cX14_judge 113 = .ok (.iload_n 2, 1) := dk_28 (dk_at dksX14_judge_4 21 rfl rfl)
theorem dX14_judge_114 : decode cX14_judge 114 = .ok (.iload_n 3, 1) := dk_29 (dk_at dksX14_judge_4 22 rfl rfl)
theorem dX14_judge_115 : decode cX14_judge 115 = .ok (.iconst (-1), 1) := dk_2 (dk_at dksX14_judge_4 23 rfl rfl)
theorem dX14_judge_116 : decode cX14_judge 116 = .ok (.invokevirtual 201, 3) := dk_182 0 201 (dk_at dksX14_judge_5 0 rfl rfl)
theorem dX14_judge_119 : decode cX14_judge 119 = .ok (.ifCond .eq 6, 3) := dk_153 0 6 (dk_at dksX14_judge_5 3 rfl rfl)
theorem dX14_judge_122 : decode cX14_judge 122 = .ok (.bipush 31, 2) := dk_16 31 (dk_at dksX14_judge_5 6 rfl rfl)
theorem dX14_judge_124 : decode cX14_judge 124 = .ok (.ireturn, 1) := dk_172 (dk_at dksX14_judge_5 8 rfl rfl)
theorem dX14_judge_125 : decode cX14_judge 125 = .ok (.iload 4, 2) := dk_21 4 (dk_at dksX14_judge_5 9 rfl rfl)
theorem dX14_judge_127 : decode cX14_judge 127 = .ok (.aload_n 0, 1) := dk_42 (dk_at dksX14_judge_5 11 rfl rfl)
theorem dX14_judge_128 : decode cX14_judge 128 = .ok (.invokevirtual 426, 3) := dk_182 1 170 (dk_at dksX14_judge_5 12 rfl rfl)
theorem dX14_judge_131 : decode cX14_judge 131 = .ok (.if_icmp .ne 7, 3) := dk_160 0 7 (dk_at dksX14_judge_5 15 rfl rfl)
theorem dX14_judge_134 : decode cX14_judge 134 = .ok (.iconst 0, 1) := dk_3 (dk_at dksX14_judge_5 18 rfl rfl)
theorem dX14_judge_135 : decode cX14_judge 135 = .ok (.goto 5, 3) := dk_167 0 5 (dk_at dksX14_judge_5 19 rfl rfl)
theorem dX14_judge_138 : decode cX14_judge 138 = .ok (.bipush 32, 2) := dk_16 32 (dk_at dksX14_judge_5 22 rfl rfl)
theorem dX14_judge_140 : decode cX14_judge 140 = .ok (.ireturn, 1) := dk_172 (dk_at dksX14_judge_6 0 rfl rfl)
abbrev cX14_sheet : ByteArray := prog_33_method_91_code
def yX14_sheet : MethodName := ⟨RX14, "sheet", "(III)I"⟩
def dkwX14_sheet_3 : List UInt8 := [42, 180, 0, 109, 16, 40, 27, 104, 21, 4, 96, 9, 80, 132, 4, 1, 167, 255, 233, 4, 172]
abbrev dktX14_sheet_3 : List UInt8 := dkwX14_sheet_3 ++ []
def dkwX14_sheet_2 : List UInt8 := [180, 0, 106, 27, 28, 156, 0, 7, 3, 167, 0, 4, 29, 79, 3, 54, 4, 21, 4, 16, 40, 162, 0, 22]
abbrev dktX14_sheet_2 : List UInt8 := dkwX14_sheet_2 ++ dktX14_sheet_3
def dkwX14_sheet_1 : List UInt8 := [164, 0, 5, 2, 172, 28, 155, 0, 10, 29, 156, 0, 6, 16, 242, 172, 42, 180, 0, 103, 27, 28, 79, 42]
abbrev dktX14_sheet_1 : List UInt8 := dkwX14_sheet_1 ++ dktX14_sheet_2
def dkwX14_sheet_0 : List UInt8 := [27, 184, 0, 152, 153, 0, 22, 28, 2, 6, 184, 0, 133, 153, 0, 13, 28, 155, 0, 11, 29, 16, 40]
abbrev dktX14_sheet_0 : List UInt8 := dkwX14_sheet_0 ++ dktX14_sheet_1
theorem dksX14_sheet_0 : cX14_sheet.data.toList.drop 0 = dktX14_sheet_0 := by decide +kernel
theorem dksX14_sheet_1 : cX14_sheet.data.toList.drop 23 = dktX14_sheet_1 := dk_seg dksX14_sheet_0 23 rfl rfl
theorem dksX14_sheet_2 : cX14_sheet.data.toList.drop 47 = dktX14_sheet_2 := dk_seg dksX14_sheet_1 24 rfl rfl
theorem dksX14_sheet_3 : cX14_sheet.data.toList.drop 71 = dktX14_sheet_3 := dk_seg dksX14_sheet_2 24 rfl rfl
theorem dX14_sheet_0 : decode cX14_sheet 0 = .ok (.iload_n 1, 1) := dk_27 (dk_at dksX14_sheet_0 0 rfl rfl)
theorem dX14_sheet_1 : decode cX14_sheet 1 = .ok (.invokestatic 152, 3) := dk_184 0 152 (dk_at dksX14_sheet_0 1 rfl rfl)
theorem dX14_sheet_4 : decode cX14_sheet 4 = .ok (.ifCond .eq 22, 3) := dk_153 0 22 (dk_at dksX14_sheet_0 4 rfl rfl)
theorem dX14_sheet_7 : decode cX14_sheet 7 = .ok (.iload_n 2, 1) := dk_28 (dk_at dksX14_sheet_0 7 rfl rfl)
theorem dX14_sheet_8 : decode cX14_sheet 8 = .ok (.iconst (-1), 1) := dk_2 (dk_at dksX14_sheet_0 8 rfl rfl)
theorem dX14_sheet_9 : decode cX14_sheet 9 = .ok (.iconst 3, 1) := dk_6 (dk_at dksX14_sheet_0 9 rfl rfl)
theorem dX14_sheet_10 : decode cX14_sheet 10 = .ok (.invokestatic 133, 3) := dk_184 0 133 (dk_at dksX14_sheet_0 10 rfl rfl)
theorem dX14_sheet_13 : decode cX14_sheet 13 = .ok (.ifCond .eq 13, 3) := dk_153 0 13 (dk_at dksX14_sheet_0 13 rfl rfl)
theorem dX14_sheet_16 : decode cX14_sheet 16 = .ok (.iload_n 2, 1) := dk_28 (dk_at dksX14_sheet_0 16 rfl rfl)
theorem dX14_sheet_17 : decode cX14_sheet 17 = .ok (.ifCond .lt 11, 3) := dk_155 0 11 (dk_at dksX14_sheet_0 17 rfl rfl)
theorem dX14_sheet_20 : decode cX14_sheet 20 = .ok (.iload_n 3, 1) := dk_29 (dk_at dksX14_sheet_0 20 rfl rfl)
theorem dX14_sheet_21 : decode cX14_sheet 21 = .ok (.bipush 40, 2) := dk_16 40 (dk_at dksX14_sheet_0 21 rfl rfl)
theorem dX14_sheet_23 : decode cX14_sheet 23 = .ok (.if_icmp .le 5, 3) := dk_164 0 5 (dk_at dksX14_sheet_1 0 rfl rfl)
theorem dX14_sheet_26 : decode cX14_sheet 26 = .ok (.iconst (-1), 1) := dk_2 (dk_at dksX14_sheet_1 3 rfl rfl)
theorem dX14_sheet_27 : decode cX14_sheet 27 = .ok (.ireturn, 1) := dk_172 (dk_at dksX14_sheet_1 4 rfl rfl)
theorem dX14_sheet_28 : decode cX14_sheet 28 = .ok (.iload_n 2, 1) := dk_28 (dk_at dksX14_sheet_1 5 rfl rfl)
theorem dX14_sheet_29 : decode cX14_sheet 29 = .ok (.ifCond .lt 10, 3) := dk_155 0 10 (dk_at dksX14_sheet_1 6 rfl rfl)
theorem dX14_sheet_32 : decode cX14_sheet 32 = .ok (.iload_n 3, 1) := dk_29 (dk_at dksX14_sheet_1 9 rfl rfl)
theorem dX14_sheet_33 : decode cX14_sheet 33 = .ok (.ifCond .ge 6, 3) := dk_156 0 6 (dk_at dksX14_sheet_1 10 rfl rfl)
theorem dX14_sheet_36 : decode cX14_sheet 36 = .ok (.bipush (-14), 2) := dk_16 242 (dk_at dksX14_sheet_1 13 rfl rfl)
theorem dX14_sheet_38 : decode cX14_sheet 38 = .ok (.ireturn, 1) := dk_172 (dk_at dksX14_sheet_1 15 rfl rfl)
theorem dX14_sheet_39 : decode cX14_sheet 39 = .ok (.aload_n 0, 1) := dk_42 (dk_at dksX14_sheet_1 16 rfl rfl)
theorem dX14_sheet_40 : decode cX14_sheet 40 = .ok (.getfield 103, 3) := dk_180 0 103 (dk_at dksX14_sheet_1 17 rfl rfl)
theorem dX14_sheet_43 : decode cX14_sheet 43 = .ok (.iload_n 1, 1) := dk_27 (dk_at dksX14_sheet_1 20 rfl rfl)
theorem dX14_sheet_44 : decode cX14_sheet 44 = .ok (.iload_n 2, 1) := dk_28 (dk_at dksX14_sheet_1 21 rfl rfl)
theorem dX14_sheet_45 : decode cX14_sheet 45 = .ok (.iastore, 1) := dk_79 (dk_at dksX14_sheet_1 22 rfl rfl)
theorem dX14_sheet_46 : decode cX14_sheet 46 = .ok (.aload_n 0, 1) := dk_42 (dk_at dksX14_sheet_1 23 rfl rfl)
theorem dX14_sheet_47 : decode cX14_sheet 47 = .ok (.getfield 106, 3) := dk_180 0 106 (dk_at dksX14_sheet_2 0 rfl rfl)
theorem dX14_sheet_50 : decode cX14_sheet 50 = .ok (.iload_n 1, 1) := dk_27 (dk_at dksX14_sheet_2 3 rfl rfl)
theorem dX14_sheet_51 : decode cX14_sheet 51 = .ok (.iload_n 2, 1) := dk_28 (dk_at dksX14_sheet_2 4 rfl rfl)
theorem dX14_sheet_52 : decode cX14_sheet 52 = .ok (.ifCond .ge 7, 3) := dk_156 0 7 (dk_at dksX14_sheet_2 5 rfl rfl)
theorem dX14_sheet_55 : decode cX14_sheet 55 = .ok (.iconst 0, 1) := dk_3 (dk_at dksX14_sheet_2 8 rfl rfl)
theorem dX14_sheet_56 : decode cX14_sheet 56 = .ok (.goto 4, 3) := dk_167 0 4 (dk_at dksX14_sheet_2 9 rfl rfl)
theorem dX14_sheet_59 : decode cX14_sheet 59 = .ok (.iload_n 3, 1) := dk_29 (dk_at dksX14_sheet_2 12 rfl rfl)
theorem dX14_sheet_60 : decode cX14_sheet 60 = .ok (.iastore, 1) := dk_79 (dk_at dksX14_sheet_2 13 rfl rfl)
theorem dX14_sheet_61 : decode cX14_sheet 61 = .ok (.iconst 0, 1) := dk_3 (dk_at dksX14_sheet_2 14 rfl rfl)
theorem dX14_sheet_62 : decode cX14_sheet 62 = .ok (.istore 4, 2) := dk_54 4 (dk_at dksX14_sheet_2 15 rfl rfl)
theorem dX14_sheet_64 : decode cX14_sheet 64 = .ok (.iload 4, 2) := dk_21 4 (dk_at dksX14_sheet_2 17 rfl rfl)
theorem dX14_sheet_66 : decode cX14_sheet 66 = .ok (.bipush 40, 2) := dk_16 40 (dk_at dksX14_sheet_2 19 rfl rfl)
theorem dX14_sheet_68 : decode cX14_sheet 68 = .ok (.if_icmp .ge 22, 3) := dk_162 0 22 (dk_at dksX14_sheet_2 21 rfl rfl)
theorem dX14_sheet_71 : decode cX14_sheet 71 = .ok (.aload_n 0, 1) := dk_42 (dk_at dksX14_sheet_3 0 rfl rfl)
theorem dX14_sheet_72 : decode cX14_sheet 72 = .ok (.getfield 109, 3) := dk_180 0 109 (dk_at dksX14_sheet_3 1 rfl rfl)
theorem dX14_sheet_75 : decode cX14_sheet 75 = .ok (.bipush 40, 2) := dk_16 40 (dk_at dksX14_sheet_3 4 rfl rfl)
theorem dX14_sheet_77 : decode cX14_sheet 77 = .ok (.iload_n 1, 1) := dk_27 (dk_at dksX14_sheet_3 6 rfl rfl)
theorem dX14_sheet_78 : decode cX14_sheet 78 = .ok (.imul, 1) := dk_104 (dk_at dksX14_sheet_3 7 rfl rfl)
theorem dX14_sheet_79 : decode cX14_sheet 79 = .ok (.iload 4, 2) := dk_21 4 (dk_at dksX14_sheet_3 8 rfl rfl)
theorem dX14_sheet_81 : decode cX14_sheet 81 = .ok (.iadd, 1) := dk_96 (dk_at dksX14_sheet_3 10 rfl rfl)
theorem dX14_sheet_82 : decode cX14_sheet 82 = .ok (.lconst 0, 1) := dk_9 (dk_at dksX14_sheet_3 11 rfl rfl)
theorem dX14_sheet_83 : decode cX14_sheet 83 = .ok (.lastore, 1) := dk_80 (dk_at dksX14_sheet_3 12 rfl rfl)
theorem dX14_sheet_84 : decode cX14_sheet 84 = .ok (.iinc 4 1, 3) := dk_132 4 1 (dk_at dksX14_sheet_3 13 rfl rfl)
theorem dX14_sheet_87 : decode cX14_sheet 87 = .ok (.goto (-23), 3) := dk_167 255 233 (dk_at dksX14_sheet_3 16 rfl rfl)
theorem dX14_sheet_90 : decode cX14_sheet 90 = .ok (.iconst 1, 1) := dk_4 (dk_at dksX14_sheet_3 19 rfl rfl)
theorem dX14_sheet_91 : decode cX14_sheet 91 = .ok (.ireturn, 1) := dk_172 (dk_at dksX14_sheet_3 20 rfl rfl)
abbrev cX14_put : ByteArray := prog_33_method_92_code
def yX14_put : MethodName := ⟨RX14, "put", "(III)I"⟩
def dkwX14_put_3 : List UInt8 := [160, 0, 9, 29, 147, 133, 167, 0, 5, 29, 133, 80, 4, 172]
abbrev dktX14_put_3 : List UInt8 := dkwX14_put_3 ++ []
def dkwX14_put_2 : List UInt8 := [28, 96, 42, 180, 0, 103, 27, 46, 154, 0, 9, 29, 145, 133, 167, 0, 21, 42, 180, 0, 103, 27, 46, 4]
abbrev dktX14_put_2 : List UInt8 := dkwX14_put_2 ++ dktX14_put_3
def dkwX14_put_1 : List UInt8 := [180, 0, 106, 27, 46, 4, 100, 184, 0, 133, 154, 0, 6, 16, 244, 172, 42, 180, 0, 109, 16, 40, 27, 104]
abbrev dktX14_put_1 : List UInt8 := dkwX14_put_1 ++ dktX14_put_2
def dkwX14_put_0 : List UInt8 := [27, 184, 0, 152, 154, 0, 5, 2, 172, 42, 180, 0, 103, 27, 46, 156, 0, 6, 16, 245, 172, 28, 3, 42]
abbrev dktX14_put_0 : List UInt8 := dkwX14_put_0 ++ dktX14_put_1
theorem dksX14_put_0 : cX14_put.data.toList.drop 0 = dktX14_put_0 := by decide +kernel
theorem dksX14_put_1 : cX14_put.data.toList.drop 24 = dktX14_put_1 := dk_seg dksX14_put_0 24 rfl rfl
theorem dksX14_put_2 : cX14_put.data.toList.drop 48 = dktX14_put_2 := dk_seg dksX14_put_1 24 rfl rfl
theorem dksX14_put_3 : cX14_put.data.toList.drop 72 = dktX14_put_3 := dk_seg dksX14_put_2 24 rfl rfl
theorem dX14_put_0 : decode cX14_put 0 = .ok (.iload_n 1, 1) := dk_27 (dk_at dksX14_put_0 0 rfl rfl)
theorem dX14_put_1 : decode cX14_put 1 = .ok (.invokestatic 152, 3) := dk_184 0 152 (dk_at dksX14_put_0 1 rfl rfl)
theorem dX14_put_4 : decode cX14_put 4 = .ok (.ifCond .ne 5, 3) := dk_154 0 5 (dk_at dksX14_put_0 4 rfl rfl)
theorem dX14_put_7 : decode cX14_put 7 = .ok (.iconst (-1), 1) := dk_2 (dk_at dksX14_put_0 7 rfl rfl)
theorem dX14_put_8 : decode cX14_put 8 = .ok (.ireturn, 1) := dk_172 (dk_at dksX14_put_0 8 rfl rfl)
theorem dX14_put_9 : decode cX14_put 9 = .ok (.aload_n 0, 1) := dk_42 (dk_at dksX14_put_0 9 rfl rfl)
theorem dX14_put_10 : decode cX14_put 10 = .ok (.getfield 103, 3) := dk_180 0 103 (dk_at dksX14_put_0 10 rfl rfl)
theorem dX14_put_13 : decode cX14_put 13 = .ok (.iload_n 1, 1) := dk_27 (dk_at dksX14_put_0 13 rfl rfl)
theorem dX14_put_14 : decode cX14_put 14 = .ok (.iaload, 1) := dk_46 (dk_at dksX14_put_0 14 rfl rfl)
theorem dX14_put_15 : decode cX14_put 15 = .ok (.ifCond .ge 6, 3) := dk_156 0 6 (dk_at dksX14_put_0 15 rfl rfl)
theorem dX14_put_18 : decode cX14_put 18 = .ok (.bipush (-11), 2) := dk_16 245 (dk_at dksX14_put_0 18 rfl rfl)
theorem dX14_put_20 : decode cX14_put 20 = .ok (.ireturn, 1) := dk_172 (dk_at dksX14_put_0 20 rfl rfl)
theorem dX14_put_21 : decode cX14_put 21 = .ok (.iload_n 2, 1) := dk_28 (dk_at dksX14_put_0 21 rfl rfl)
theorem dX14_put_22 : decode cX14_put 22 = .ok (.iconst 0, 1) := dk_3 (dk_at dksX14_put_0 22 rfl rfl)
theorem dX14_put_23 : decode cX14_put 23 = .ok (.aload_n 0, 1) := dk_42 (dk_at dksX14_put_0 23 rfl rfl)
theorem dX14_put_24 : decode cX14_put 24 = .ok (.getfield 106, 3) := dk_180 0 106 (dk_at dksX14_put_1 0 rfl rfl)
theorem dX14_put_27 : decode cX14_put 27 = .ok (.iload_n 1, 1) := dk_27 (dk_at dksX14_put_1 3 rfl rfl)
theorem dX14_put_28 : decode cX14_put 28 = .ok (.iaload, 1) := dk_46 (dk_at dksX14_put_1 4 rfl rfl)
theorem dX14_put_29 : decode cX14_put 29 = .ok (.iconst 1, 1) := dk_4 (dk_at dksX14_put_1 5 rfl rfl)
theorem dX14_put_30 : decode cX14_put 30 = .ok (.isub, 1) := dk_100 (dk_at dksX14_put_1 6 rfl rfl)
theorem dX14_put_31 : decode cX14_put 31 = .ok (.invokestatic 133, 3) := dk_184 0 133 (dk_at dksX14_put_1 7 rfl rfl)
theorem dX14_put_34 : decode cX14_put 34 = .ok (.ifCond .ne 6, 3) := dk_154 0 6 (dk_at dksX14_put_1 10 rfl rfl)
theorem dX14_put_37 : decode cX14_put 37 = .ok (.bipush (-12), 2) := dk_16 244 (dk_at dksX14_put_1 13 rfl rfl)
theorem dX14_put_39 : decode cX14_put 39 = .ok (.ireturn, 1) := dk_172 (dk_at dksX14_put_1 15 rfl rfl)
theorem dX14_put_40 : decode cX14_put 40 = .ok (.aload_n 0, 1) := dk_42 (dk_at dksX14_put_1 16 rfl rfl)
theorem dX14_put_41 : decode cX14_put 41 = .ok (.getfield 109, 3) := dk_180 0 109 (dk_at dksX14_put_1 17 rfl rfl)
theorem dX14_put_44 : decode cX14_put 44 = .ok (.bipush 40, 2) := dk_16 40 (dk_at dksX14_put_1 20 rfl rfl)
theorem dX14_put_46 : decode cX14_put 46 = .ok (.iload_n 1, 1) := dk_27 (dk_at dksX14_put_1 22 rfl rfl)
theorem dX14_put_47 : decode cX14_put 47 = .ok (.imul, 1) := dk_104 (dk_at dksX14_put_1 23 rfl rfl)
theorem dX14_put_48 : decode cX14_put 48 = .ok (.iload_n 2, 1) := dk_28 (dk_at dksX14_put_2 0 rfl rfl)
theorem dX14_put_49 : decode cX14_put 49 = .ok (.iadd, 1) := dk_96 (dk_at dksX14_put_2 1 rfl rfl)
theorem dX14_put_50 : decode cX14_put 50 = .ok (.aload_n 0, 1) := dk_42 (dk_at dksX14_put_2 2 rfl rfl)
theorem dX14_put_51 : decode cX14_put 51 = .ok (.getfield 103, 3) := dk_180 0 103 (dk_at dksX14_put_2 3 rfl rfl)
theorem dX14_put_54 : decode cX14_put 54 = .ok (.iload_n 1, 1) := dk_27 (dk_at dksX14_put_2 6 rfl rfl)
theorem dX14_put_55 : decode cX14_put 55 = .ok (.iaload, 1) := dk_46 (dk_at dksX14_put_2 7 rfl rfl)
theorem dX14_put_56 : decode cX14_put 56 = .ok (.ifCond .ne 9, 3) := dk_154 0 9 (dk_at dksX14_put_2 8 rfl rfl)
theorem dX14_put_59 : decode cX14_put 59 = .ok (.iload_n 3, 1) := dk_29 (dk_at dksX14_put_2 11 rfl rfl)
theorem dX14_put_60 : decode cX14_put 60 = .ok (.i2b, 1) := dk_145 (dk_at dksX14_put_2 12 rfl rfl)
theorem dX14_put_61 : decode cX14_put 61 = .ok (.i2l, 1) := dk_133 (dk_at dksX14_put_2 13 rfl rfl)
theorem dX14_put_62 : decode cX14_put 62 = .ok (.goto 21, 3) := dk_167 0 21 (dk_at dksX14_put_2 14 rfl rfl)
theorem dX14_put_65 : decode cX14_put 65 = .ok (.aload_n 0, 1) := dk_42 (dk_at dksX14_put_2 17 rfl rfl)
theorem dX14_put_66 : decode cX14_put 66 = .ok (.getfield 103, 3) := dk_180 0 103 (dk_at dksX14_put_2 18 rfl rfl)
theorem dX14_put_69 : decode cX14_put 69 = .ok (.iload_n 1, 1) := dk_27 (dk_at dksX14_put_2 21 rfl rfl)
theorem dX14_put_70 : decode cX14_put 70 = .ok (.iaload, 1) := dk_46 (dk_at dksX14_put_2 22 rfl rfl)
theorem dX14_put_71 : decode cX14_put 71 = .ok (.iconst 1, 1) := dk_4 (dk_at dksX14_put_2 23 rfl rfl)
theorem dX14_put_72 : decode cX14_put 72 = .ok (.if_icmp .ne 9, 3) := dk_160 0 9 (dk_at dksX14_put_3 0 rfl rfl)
theorem dX14_put_75 : decode cX14_put 75 = .ok (.iload_n 3, 1) := dk_29 (dk_at dksX14_put_3 3 rfl rfl)
theorem dX14_put_76 : decode cX14_put 76 = .ok (.i2s, 1) := dk_147 (dk_at dksX14_put_3 4 rfl rfl)
theorem dX14_put_77 : decode cX14_put 77 = .ok (.i2l, 1) := dk_133 (dk_at dksX14_put_3 5 rfl rfl)
theorem dX14_put_78 : decode cX14_put 78 = .ok (.goto 5, 3) := dk_167 0 5 (dk_at dksX14_put_3 6 rfl rfl)
theorem dX14_put_81 : decode cX14_put 81 = .ok (.iload_n 3, 1) := dk_29 (dk_at dksX14_put_3 9 rfl rfl)
theorem dX14_put_82 : decode cX14_put 82 = .ok (.i2l, 1) := dk_133 (dk_at dksX14_put_3 10 rfl rfl)
theorem dX14_put_83 : decode cX14_put 83 = .ok (.lastore, 1) := dk_80 (dk_at dksX14_put_3 11 rfl rfl)
theorem dX14_put_84 : decode cX14_put 84 = .ok (.iconst 1, 1) := dk_4 (dk_at dksX14_put_3 12 rfl rfl)
theorem dX14_put_85 : decode cX14_put 85 = .ok (.ireturn, 1) := dk_172 (dk_at dksX14_put_3 13 rfl rfl)
abbrev cX14_item : ByteArray := prog_33_method_94_code
def yX14_item : MethodName := ⟨RX14, "item", "(III)I"⟩
def dkwX14_item_2 : List UInt8 := [153, 0, 18, 42, 180, 0, 109, 16, 40, 27, 104, 29, 96, 47, 136, 167, 0, 5, 16, 244, 172]
abbrev dktX14_item_2 : List UInt8 := dkwX14_item_2 ++ []
def dkwX14_item_1 : List UInt8 := [54, 4, 21, 4, 153, 0, 6, 21, 4, 172, 29, 3, 42, 180, 0, 106, 27, 46, 4, 100, 184, 0, 133]
abbrev dktX14_item_1 : List UInt8 := dkwX14_item_1 ++ dktX14_item_2
def dkwX14_item_0 : List UInt8 := [27, 184, 0, 152, 153, 0, 12, 28, 3, 6, 184, 0, 133, 154, 0, 5, 2, 172, 42, 27, 28, 182, 0, 155]
abbrev dktX14_item_0 : List UInt8 := dkwX14_item_0 ++ dktX14_item_1
theorem dksX14_item_0 : cX14_item.data.toList.drop 0 = dktX14_item_0 := by decide +kernel
theorem dksX14_item_1 : cX14_item.data.toList.drop 24 = dktX14_item_1 := dk_seg dksX14_item_0 24 rfl rfl
theorem dksX14_item_2 : cX14_item.data.toList.drop 47 = dktX14_item_2 := dk_seg dksX14_item_1 23 rfl rfl
theorem dX14_item_0 : decode cX14_item 0 = .ok (.iload_n 1, 1) := dk_27 (dk_at dksX14_item_0 0 rfl rfl)
theorem dX14_item_1 : decode cX14_item 1 = .ok (.invokestatic 152, 3) := dk_184 0 152 (dk_at dksX14_item_0 1 rfl rfl)
theorem dX14_item_4 : decode cX14_item 4 = .ok (.ifCond .eq 12, 3) := dk_153 0 12 (dk_at dksX14_item_0 4 rfl rfl)
theorem dX14_item_7 : decode cX14_item 7 = .ok (.iload_n 2, 1) := dk_28 (dk_at dksX14_item_0 7 rfl rfl)
theorem dX14_item_8 : decode cX14_item 8 = .ok (.iconst 0, 1) := dk_3 (dk_at dksX14_item_0 8 rfl rfl)
theorem dX14_item_9 : decode cX14_item 9 = .ok (.iconst 3, 1) := dk_6 (dk_at dksX14_item_0 9 rfl rfl)
theorem dX14_item_10 : decode cX14_item 10 = .ok (.invokestatic 133, 3) := dk_184 0 133 (dk_at dksX14_item_0 10 rfl rfl)
theorem dX14_item_13 : decode cX14_item 13 = .ok (.ifCond .ne 5, 3) := dk_154 0 5 (dk_at dksX14_item_0 13 rfl rfl)
theorem dX14_item_16 : decode cX14_item 16 = .ok (.iconst (-1), 1) := dk_2 (dk_at dksX14_item_0 16 rfl rfl)
theorem dX14_item_17 : decode cX14_item 17 = .ok (.ireturn, 1) := dk_172 (dk_at dksX14_item_0 17 rfl rfl)
theorem dX14_item_18 : decode cX14_item 18 = .ok (.aload_n 0, 1) := dk_42 (dk_at dksX14_item_0 18 rfl rfl)
theorem dX14_item_19 : decode cX14_item 19 = .ok (.iload_n 1, 1) := dk_27 (dk_at dksX14_item_0 19 rfl rfl)
theorem dX14_item_20 : decode cX14_item 20 = .ok (.iload_n 2, 1) := dk_28 (dk_at dksX14_item_0 20 rfl rfl)
theorem dX14_item_21 : decode cX14_item 21 = .ok (.invokevirtual 155, 3) := dk_182 0 155 (dk_at dksX14_item_0 21 rfl rfl)
theorem dX14_item_24 : decode cX14_item 24 = .ok (.istore 4, 2) := dk_54 4 (dk_at dksX14_item_1 0 rfl rfl)
theorem dX14_item_26 : decode cX14_item 26 = .ok (.iload 4, 2) := dk_21 4 (dk_at dksX14_item_1 2 rfl rfl)
theorem dX14_item_28 : decode cX14_item 28 = .ok (.ifCond .eq 6, 3) := dk_153 0 6 (dk_at dksX14_item_1 4 rfl rfl)
theorem dX14_item_31 : decode cX14_item 31 = .ok (.iload 4, 2) := dk_21 4 (dk_at dksX14_item_1 7 rfl rfl)
theorem dX14_item_33 : decode cX14_item 33 = .ok (.ireturn, 1) := dk_172 (dk_at dksX14_item_1 9 rfl rfl)
theorem dX14_item_34 : decode cX14_item 34 = .ok (.iload_n 3, 1) := dk_29 (dk_at dksX14_item_1 10 rfl rfl)
theorem dX14_item_35 : decode cX14_item 35 = .ok (.iconst 0, 1) := dk_3 (dk_at dksX14_item_1 11 rfl rfl)
theorem dX14_item_36 : decode cX14_item 36 = .ok (.aload_n 0, 1) := dk_42 (dk_at dksX14_item_1 12 rfl rfl)
theorem dX14_item_37 : decode cX14_item 37 = .ok (.getfield 106, 3) := dk_180 0 106 (dk_at dksX14_item_1 13 rfl rfl)
theorem dX14_item_40 : decode cX14_item 40 = .ok (.iload_n 1, 1) := dk_27 (dk_at dksX14_item_1 16 rfl rfl)
theorem dX14_item_41 : decode cX14_item 41 = .ok (.iaload, 1) := dk_46 (dk_at dksX14_item_1 17 rfl rfl)
theorem dX14_item_42 : decode cX14_item 42 = .ok (.iconst 1, 1) := dk_4 (dk_at dksX14_item_1 18 rfl rfl)
theorem dX14_item_43 : decode cX14_item 43 = .ok (.isub, 1) := dk_100 (dk_at dksX14_item_1 19 rfl rfl)
theorem dX14_item_44 : decode cX14_item 44 = .ok (.invokestatic 133, 3) := dk_184 0 133 (dk_at dksX14_item_1 20 rfl rfl)
theorem dX14_item_47 : decode cX14_item 47 = .ok (.ifCond .eq 18, 3) := dk_153 0 18 (dk_at dksX14_item_2 0 rfl rfl)
theorem dX14_item_50 : decode cX14_item 50 = .ok (.aload_n 0, 1) := dk_42 (dk_at dksX14_item_2 3 rfl rfl)
theorem dX14_item_51 : decode cX14_item 51 = .ok (.getfield 109, 3) := dk_180 0 109 (dk_at dksX14_item_2 4 rfl rfl)
theorem dX14_item_54 : decode cX14_item 54 = .ok (.bipush 40, 2) := dk_16 40 (dk_at dksX14_item_2 7 rfl rfl)
theorem dX14_item_56 : decode cX14_item 56 = .ok (.iload_n 1, 1) := dk_27 (dk_at dksX14_item_2 9 rfl rfl)
theorem dX14_item_57 : decode cX14_item 57 = .ok (.imul, 1) := dk_104 (dk_at dksX14_item_2 10 rfl rfl)
theorem dX14_item_58 : decode cX14_item 58 = .ok (.iload_n 3, 1) := dk_29 (dk_at dksX14_item_2 11 rfl rfl)
theorem dX14_item_59 : decode cX14_item 59 = .ok (.iadd, 1) := dk_96 (dk_at dksX14_item_2 12 rfl rfl)
theorem dX14_item_60 : decode cX14_item 60 = .ok (.laload, 1) := dk_47 (dk_at dksX14_item_2 13 rfl rfl)
theorem dX14_item_61 : decode cX14_item 61 = .ok (.l2i, 1) := dk_136 (dk_at dksX14_item_2 14 rfl rfl)
theorem dX14_item_62 : decode cX14_item 62 = .ok (.goto 5, 3) := dk_167 0 5 (dk_at dksX14_item_2 15 rfl rfl)
theorem dX14_item_65 : decode cX14_item 65 = .ok (.bipush (-12), 2) := dk_16 244 (dk_at dksX14_item_2 18 rfl rfl)
theorem dX14_item_67 : decode cX14_item 67 = .ok (.ireturn, 1) := dk_172 (dk_at dksX14_item_2 20 rfl rfl)
abbrev cX14_acts : ByteArray := prog_33_method_95_code
def yX14_acts : MethodName := ⟨RX14, "acts", "(III)I"⟩
def dkwX14_acts_4 : List UInt8 := [155, 0, 7, 4, 167, 0, 4, 3, 96, 54, 5, 132, 6, 1, 167, 255, 193, 21, 5, 172]
abbrev dktX14_acts_4 : List UInt8 := dkwX14_acts_4 ++ []
def dkwX14_acts_3 : List UInt8 := [172, 21, 5, 42, 42, 180, 0, 109, 16, 40, 27, 104, 28, 96, 21, 6, 96, 47, 136, 182, 1, 182]
abbrev dktX14_acts_3 : List UInt8 := dkwX14_acts_3 ++ dktX14_acts_4
def dkwX14_acts_2 : List UInt8 := [162, 0, 63, 28, 155, 0, 18, 28, 42, 180, 0, 106, 27, 46, 4, 100, 21, 6, 100, 164, 0, 6, 16, 244]
abbrev dktX14_acts_2 : List UInt8 := dkwX14_acts_2 ++ dktX14_acts_3
def dkwX14_acts_1 : List UInt8 := [182, 0, 155, 54, 4, 21, 4, 153, 0, 6, 21, 4, 172, 3, 54, 5, 3, 54, 6, 21, 6, 29]
abbrev dktX14_acts_1 : List UInt8 := dkwX14_acts_1 ++ dktX14_acts_2
def dkwX14_acts_0 : List UInt8 := [27, 184, 0, 152, 153, 0, 13, 29, 3, 16, 20, 184, 0, 133, 154, 0, 5, 2, 172, 42, 27, 5]
abbrev dktX14_acts_0 : List UInt8 := dkwX14_acts_0 ++ dktX14_acts_1
theorem dksX14_acts_0 : cX14_acts.data.toList.drop 0 = dktX14_acts_0 := by decide +kernel
theorem dksX14_acts_1 : cX14_acts.data.toList.drop 22 = dktX14_acts_1 := dk_seg dksX14_acts_0 22 rfl rfl
theorem dksX14_acts_2 : cX14_acts.data.toList.drop 44 = dktX14_acts_2 := dk_seg dksX14_acts_1 22 rfl rfl
theorem dksX14_acts_3 : cX14_acts.data.toList.drop 68 = dktX14_acts_3 := dk_seg dksX14_acts_2 24 rfl rfl
theorem dksX14_acts_4 : cX14_acts.data.toList.drop 90 = dktX14_acts_4 := dk_seg dksX14_acts_3 22 rfl rfl
theorem dX14_acts_0 : decode cX14_acts 0 = .ok (.iload_n 1, 1) := dk_27 (dk_at dksX14_acts_0 0 rfl rfl)
theorem dX14_acts_1 : decode cX14_acts 1 = .ok (.invokestatic 152, 3) := dk_184 0 152 (dk_at dksX14_acts_0 1 rfl rfl)
theorem dX14_acts_4 : decode cX14_acts 4 = .ok (.ifCond .eq 13, 3) := dk_153 0 13 (dk_at dksX14_acts_0 4 rfl rfl)
theorem dX14_acts_7 : decode cX14_acts 7 = .ok (.iload_n 3, 1) := dk_29 (dk_at dksX14_acts_0 7 rfl rfl)
theorem dX14_acts_8 : decode cX14_acts 8 = .ok (.iconst 0, 1) := dk_3 (dk_at dksX14_acts_0 8 rfl rfl)
theorem dX14_acts_9 : decode cX14_acts 9 = .ok (.bipush 20, 2) := dk_16 20 (dk_at dksX14_acts_0 9 rfl rfl)
theorem dX14_acts_11 : decode cX14_acts 11 = .ok (.invokestatic 133, 3) := dk_184 0 133 (dk_at dksX14_acts_0 11 rfl rfl)
theorem dX14_acts_14 : decode cX14_acts 14 = .ok (.ifCond .ne 5, 3) := dk_154 0 5 (dk_at dksX14_acts_0 14 rfl rfl)
theorem dX14_acts_17 : decode cX14_acts 17 = .ok (.iconst (-1), 1) := dk_2 (dk_at dksX14_acts_0 17 rfl rfl)
theorem dX14_acts_18 : decode cX14_acts 18 = .ok (.ireturn, 1) := dk_172 (dk_at dksX14_acts_0 18 rfl rfl)
theorem dX14_acts_19 : decode cX14_acts 19 = .ok (.aload_n 0, 1) := dk_42 (dk_at dksX14_acts_0 19 rfl rfl)
theorem dX14_acts_20 : decode cX14_acts 20 = .ok (.iload_n 1, 1) := dk_27 (dk_at dksX14_acts_0 20 rfl rfl)
theorem dX14_acts_21 : decode cX14_acts 21 = .ok (.iconst 2, 1) := dk_5 (dk_at dksX14_acts_0 21 rfl rfl)
theorem dX14_acts_22 : decode cX14_acts 22 = .ok (.invokevirtual 155, 3) := dk_182 0 155 (dk_at dksX14_acts_1 0 rfl rfl)
theorem dX14_acts_25 : decode cX14_acts 25 = .ok (.istore 4, 2) := dk_54 4 (dk_at dksX14_acts_1 3 rfl rfl)
theorem dX14_acts_27 : decode cX14_acts 27 = .ok (.iload 4, 2) := dk_21 4 (dk_at dksX14_acts_1 5 rfl rfl)
theorem dX14_acts_29 : decode cX14_acts 29 = .ok (.ifCond .eq 6, 3) := dk_153 0 6 (dk_at dksX14_acts_1 7 rfl rfl)
theorem dX14_acts_32 : decode cX14_acts 32 = .ok (.iload 4, 2) := dk_21 4 (dk_at dksX14_acts_1 10 rfl rfl)
theorem dX14_acts_34 : decode cX14_acts 34 = .ok (.ireturn, 1) := dk_172 (dk_at dksX14_acts_1 12 rfl rfl)
theorem dX14_acts_35 : decode cX14_acts 35 = .ok (.iconst 0, 1) := dk_3 (dk_at dksX14_acts_1 13 rfl rfl)
theorem dX14_acts_36 : decode cX14_acts 36 = .ok (.istore 5, 2) := dk_54 5 (dk_at dksX14_acts_1 14 rfl rfl)
theorem dX14_acts_38 : decode cX14_acts 38 = .ok (.iconst 0, 1) := dk_3 (dk_at dksX14_acts_1 16 rfl rfl)
theorem dX14_acts_39 : decode cX14_acts 39 = .ok (.istore 6, 2) := dk_54 6 (dk_at dksX14_acts_1 17 rfl rfl)
theorem dX14_acts_41 : decode cX14_acts 41 = .ok (.iload 6, 2) := dk_21 6 (dk_at dksX14_acts_1 19 rfl rfl)
theorem dX14_acts_43 : decode cX14_acts 43 = .ok (.iload_n 3, 1) := dk_29 (dk_at dksX14_acts_1 21 rfl rfl)
theorem dX14_acts_44 : decode cX14_acts 44 = .ok (.if_icmp .ge 63, 3) := dk_162 0 63 (dk_at dksX14_acts_2 0 rfl rfl)
theorem dX14_acts_47 : decode cX14_acts 47 = .ok (.iload_n 2, 1) := dk_28 (dk_at dksX14_acts_2 3 rfl rfl)
theorem dX14_acts_48 : decode cX14_acts 48 = .ok (.ifCond .lt 18, 3) := dk_155 0 18 (dk_at dksX14_acts_2 4 rfl rfl)
theorem dX14_acts_51 : decode cX14_acts 51 = .ok (.iload_n 2, 1) := dk_28 (dk_at dksX14_acts_2 7 rfl rfl)
theorem dX14_acts_52 : decode cX14_acts 52 = .ok (.aload_n 0, 1) := dk_42 (dk_at dksX14_acts_2 8 rfl rfl)
theorem dX14_acts_53 : decode cX14_acts 53 = .ok (.getfield 106, 3) := dk_180 0 106 (dk_at dksX14_acts_2 9 rfl rfl)
theorem dX14_acts_56 : decode cX14_acts 56 = .ok (.iload_n 1, 1) := dk_27 (dk_at dksX14_acts_2 12 rfl rfl)
theorem dX14_acts_57 : decode cX14_acts 57 = .ok (.iaload, 1) := dk_46 (dk_at dksX14_acts_2 13 rfl rfl)
theorem dX14_acts_58 : decode cX14_acts 58 = .ok (.iconst 1, 1) := dk_4 (dk_at dksX14_acts_2 14 rfl rfl)
theorem dX14_acts_59 : decode cX14_acts 59 = .ok (.isub, 1) := dk_100 (dk_at dksX14_acts_2 15 rfl rfl)
theorem dX14_acts_60 : decode cX14_acts 60 = .ok (.iload 6, 2) := dk_21 6 (dk_at dksX14_acts_2 16 rfl rfl)
theorem dX14_acts_62 : decode cX14_acts 62 = .ok (.isub, 1) := dk_100 (dk_at dksX14_acts_2 18 rfl rfl)
theorem dX14_acts_63 : decode cX14_acts 63 = .ok (.if_icmp .le 6, 3) := dk_164 0 6 (dk_at dksX14_acts_2 19 rfl rfl)
theorem dX14_acts_66 : decode cX14_acts 66 = .ok (.bipush (-12), 2) := dk_16 244 (dk_at dksX14_acts_2 22 rfl rfl)
theorem dX14_acts_68 : decode cX14_acts 68 = .ok (.ireturn, 1) := dk_172 (dk_at dksX14_acts_3 0 rfl rfl)
theorem dX14_acts_69 : decode cX14_acts 69 = .ok (.iload 5, 2) := dk_21 5 (dk_at dksX14_acts_3 1 rfl rfl)
theorem dX14_acts_71 : decode cX14_acts 71 = .ok (.aload_n 0, 1) := dk_42 (dk_at dksX14_acts_3 3 rfl rfl)
theorem dX14_acts_72 : decode cX14_acts 72 = .ok (.aload_n 0, 1) := dk_42 (dk_at dksX14_acts_3 4 rfl rfl)
theorem dX14_acts_73 : decode cX14_acts 73 = .ok (.getfield 109, 3) := dk_180 0 109 (dk_at dksX14_acts_3 5 rfl rfl)
theorem dX14_acts_76 : decode cX14_acts 76 = .ok (.bipush 40, 2) := dk_16 40 (dk_at dksX14_acts_3 8 rfl rfl)
theorem dX14_acts_78 : decode cX14_acts 78 = .ok (.iload_n 1, 1) := dk_27 (dk_at dksX14_acts_3 10 rfl rfl)
theorem dX14_acts_79 : decode cX14_acts 79 = .ok (.imul, 1) := dk_104 (dk_at dksX14_acts_3 11 rfl rfl)
theorem dX14_acts_80 : decode cX14_acts 80 = .ok (.iload_n 2, 1) := dk_28 (dk_at dksX14_acts_3 12 rfl rfl)
theorem dX14_acts_81 : decode cX14_acts 81 = .ok (.iadd, 1) := dk_96 (dk_at dksX14_acts_3 13 rfl rfl)
theorem dX14_acts_82 : decode cX14_acts 82 = .ok (.iload 6, 2) := dk_21 6 (dk_at dksX14_acts_3 14 rfl rfl)
theorem dX14_acts_84 : decode cX14_acts 84 = .ok (.iadd, 1) := dk_96 (dk_at dksX14_acts_3 16 rfl rfl)
theorem dX14_acts_85 : decode cX14_acts 85 = .ok (.laload, 1) := dk_47 (dk_at dksX14_acts_3 17 rfl rfl)
theorem dX14_acts_86 : decode cX14_acts 86 = .ok (.l2i, 1) := dk_136 (dk_at dksX14_acts_3 18 rfl rfl)
theorem dX14_acts_87 : decode cX14_acts 87 = .ok (.invokevirtual 438, 3) := dk_182 1 182 (dk_at dksX14_acts_3 19 rfl rfl)
theorem dX14_acts_90 : decode cX14_acts 90 = .ok (.ifCond .lt 7, 3) := dk_155 0 7 (dk_at dksX14_acts_4 0 rfl rfl)
theorem dX14_acts_93 : decode cX14_acts 93 = .ok (.iconst 1, 1) := dk_4 (dk_at dksX14_acts_4 3 rfl rfl)
theorem dX14_acts_94 : decode cX14_acts 94 = .ok (.goto 4, 3) := dk_167 0 4 (dk_at dksX14_acts_4 4 rfl rfl)
theorem dX14_acts_97 : decode cX14_acts 97 = .ok (.iconst 0, 1) := dk_3 (dk_at dksX14_acts_4 7 rfl rfl)
theorem dX14_acts_98 : decode cX14_acts 98 = .ok (.iadd, 1) := dk_96 (dk_at dksX14_acts_4 8 rfl rfl)
theorem dX14_acts_99 : decode cX14_acts 99 = .ok (.istore 5, 2) := dk_54 5 (dk_at dksX14_acts_4 9 rfl rfl)
theorem dX14_acts_101 : decode cX14_acts 101 = .ok (.iinc 6 1, 3) := dk_132 6 1 (dk_at dksX14_acts_4 11 rfl rfl)
theorem dX14_acts_104 : decode cX14_acts 104 = .ok (.goto (-63), 3) := dk_167 255 193 (dk_at dksX14_acts_4 14 rfl rfl)
theorem dX14_acts_107 : decode cX14_acts 107 = .ok (.iload 5, 2) := dk_21 5 (dk_at dksX14_acts_4 17 rfl rfl)
theorem dX14_acts_109 : decode cX14_acts 109 = .ok (.ireturn, 1) := dk_172 (dk_at dksX14_acts_4 19 rfl rfl)
abbrev cX14_shelf : ByteArray := prog_33_method_97_code
def yX14_shelf : MethodName := ⟨RX14, "shelf", "(III)I"⟩
def dkwX14_shelf_3 : List UInt8 := [180, 0, 118, 27, 28, 6, 160, 0, 12, 42, 180, 0, 106, 29, 46, 167, 0, 4, 3, 79, 4, 172]
abbrev dktX14_shelf_3 : List UInt8 := dkwX14_shelf_3 ++ []
def dkwX14_shelf_2 : List UInt8 := [42, 180, 0, 115, 27, 28, 6, 160, 0, 12, 42, 180, 0, 103, 29, 46, 167, 0, 4, 29, 79, 42]
abbrev dktX14_shelf_2 : List UInt8 := dkwX14_shelf_2 ++ dktX14_shelf_3
def dkwX14_shelf_1 : List UInt8 := [7, 159, 0, 17, 28, 6, 160, 0, 16, 42, 180, 0, 103, 29, 46, 156, 0, 7, 2, 167, 0, 4, 28, 79]
abbrev dktX14_shelf_1 : List UInt8 := dkwX14_shelf_1 ++ dktX14_shelf_2
def dkwX14_shelf_0 : List UInt8 := [27, 184, 0, 152, 153, 0, 12, 42, 28, 29, 182, 1, 185, 154, 0, 5, 2, 172, 42, 180, 0, 112, 27, 28]
abbrev dktX14_shelf_0 : List UInt8 := dkwX14_shelf_0 ++ dktX14_shelf_1
theorem dksX14_shelf_0 : cX14_shelf.data.toList.drop 0 = dktX14_shelf_0 := by decide +kernel
theorem dksX14_shelf_1 : cX14_shelf.data.toList.drop 24 = dktX14_shelf_1 := dk_seg dksX14_shelf_0 24 rfl rfl
theorem dksX14_shelf_2 : cX14_shelf.data.toList.drop 48 = dktX14_shelf_2 := dk_seg dksX14_shelf_1 24 rfl rfl
theorem dksX14_shelf_3 : cX14_shelf.data.toList.drop 70 = dktX14_shelf_3 := dk_seg dksX14_shelf_2 22 rfl rfl
theorem dX14_shelf_0 : decode cX14_shelf 0 = .ok (.iload_n 1, 1) := dk_27 (dk_at dksX14_shelf_0 0 rfl rfl)
theorem dX14_shelf_1 : decode cX14_shelf 1 = .ok (.invokestatic 152, 3) := dk_184 0 152 (dk_at dksX14_shelf_0 1 rfl rfl)
theorem dX14_shelf_4 : decode cX14_shelf 4 = .ok (.ifCond .eq 12, 3) := dk_153 0 12 (dk_at dksX14_shelf_0 4 rfl rfl)
theorem dX14_shelf_7 : decode cX14_shelf 7 = .ok (.aload_n 0, 1) := dk_42 (dk_at dksX14_shelf_0 7 rfl rfl)
theorem dX14_shelf_8 : decode cX14_shelf 8 = .ok (.iload_n 2, 1) := dk_28 (dk_at dksX14_shelf_0 8 rfl rfl)
theorem dX14_shelf_9 : decode cX14_shelf 9 = .ok (.iload_n 3, 1) := dk_29 (dk_at dksX14_shelf_0 9 rfl rfl)
theorem dX14_shelf_10 : decode cX14_shelf 10 = .ok (.invokevirtual 441, 3) := dk_182 1 185 (dk_at dksX14_shelf_0 10 rfl rfl)
theorem dX14_shelf_13 : decode cX14_shelf 13 = .ok (.ifCond .ne 5, 3) := dk_154 0 5 (dk_at dksX14_shelf_0 13 rfl rfl)
theorem dX14_shelf_16 : decode cX14_shelf 16 = .ok (.iconst (-1), 1) := dk_2 (dk_at dksX14_shelf_0 16 rfl rfl)
theorem dX14_shelf_17 : decode cX14_shelf 17 = .ok (.ireturn, 1) := dk_172 (dk_at dksX14_shelf_0 17 rfl rfl)
theorem dX14_shelf_18 : decode cX14_shelf 18 = .ok (.aload_n 0, 1) := dk_42 (dk_at dksX14_shelf_0 18 rfl rfl)
theorem dX14_shelf_19 : decode cX14_shelf 19 = .ok (.getfield 112, 3) := dk_180 0 112 (dk_at dksX14_shelf_0 19 rfl rfl)
theorem dX14_shelf_22 : decode cX14_shelf 22 = .ok (.iload_n 1, 1) := dk_27 (dk_at dksX14_shelf_0 22 rfl rfl)
theorem dX14_shelf_23 : decode cX14_shelf 23 = .ok (.iload_n 2, 1) := dk_28 (dk_at dksX14_shelf_0 23 rfl rfl)
theorem dX14_shelf_24 : decode cX14_shelf 24 = .ok (.iconst 4, 1) := dk_7 (dk_at dksX14_shelf_1 0 rfl rfl)
theorem dX14_shelf_25 : decode cX14_shelf 25 = .ok (.if_icmp .eq 17, 3) := dk_159 0 17 (dk_at dksX14_shelf_1 1 rfl rfl)
theorem dX14_shelf_28 : decode cX14_shelf 28 = .ok (.iload_n 2, 1) := dk_28 (dk_at dksX14_shelf_1 4 rfl rfl)
theorem dX14_shelf_29 : decode cX14_shelf 29 = .ok (.iconst 3, 1) := dk_6 (dk_at dksX14_shelf_1 5 rfl rfl)
theorem dX14_shelf_30 : decode cX14_shelf 30 = .ok (.if_icmp .ne 16, 3) := dk_160 0 16 (dk_at dksX14_shelf_1 6 rfl rfl)
theorem dX14_shelf_33 : decode cX14_shelf 33 = .ok (.aload_n 0, 1) := dk_42 (dk_at dksX14_shelf_1 9 rfl rfl)
theorem dX14_shelf_34 : decode cX14_shelf 34 = .ok (.getfield 103, 3) := dk_180 0 103 (dk_at dksX14_shelf_1 10 rfl rfl)
theorem dX14_shelf_37 : decode cX14_shelf 37 = .ok (.iload_n 3, 1) := dk_29 (dk_at dksX14_shelf_1 13 rfl rfl)
theorem dX14_shelf_38 : decode cX14_shelf 38 = .ok (.iaload, 1) := dk_46 (dk_at dksX14_shelf_1 14 rfl rfl)
theorem dX14_shelf_39 : decode cX14_shelf 39 = .ok (.ifCond .ge 7, 3) := dk_156 0 7 (dk_at dksX14_shelf_1 15 rfl rfl)
theorem dX14_shelf_42 : decode cX14_shelf 42 = .ok (.iconst (-1), 1) := dk_2 (dk_at dksX14_shelf_1 18 rfl rfl)
theorem dX14_shelf_43 : decode cX14_shelf 43 = .ok (.goto 4, 3) := dk_167 0 4 (dk_at dksX14_shelf_1 19 rfl rfl)
theorem dX14_shelf_46 : decode cX14_shelf 46 = .ok (.iload_n 2, 1) := dk_28 (dk_at dksX14_shelf_1 22 rfl rfl)
theorem dX14_shelf_47 : decode cX14_shelf 47 = .ok (.iastore, 1) := dk_79 (dk_at dksX14_shelf_1 23 rfl rfl)
theorem dX14_shelf_48 : decode cX14_shelf 48 = .ok (.aload_n 0, 1) := dk_42 (dk_at dksX14_shelf_2 0 rfl rfl)
theorem dX14_shelf_49 : decode cX14_shelf 49 = .ok (.getfield 115, 3) := dk_180 0 115 (dk_at dksX14_shelf_2 1 rfl rfl)
theorem dX14_shelf_52 : decode cX14_shelf 52 = .ok (.iload_n 1, 1) := dk_27 (dk_at dksX14_shelf_2 4 rfl rfl)
theorem dX14_shelf_53 : decode cX14_shelf 53 = .ok (.iload_n 2, 1) := dk_28 (dk_at dksX14_shelf_2 5 rfl rfl)
theorem dX14_shelf_54 : decode cX14_shelf 54 = .ok (.iconst 3, 1) := dk_6 (dk_at dksX14_shelf_2 6 rfl rfl)
theorem dX14_shelf_55 : decode cX14_shelf 55 = .ok (.if_icmp .ne 12, 3) := dk_160 0 12 (dk_at dksX14_shelf_2 7 rfl rfl)
theorem dX14_shelf_58 : decode cX14_shelf 58 = .ok (.aload_n 0, 1) := dk_42 (dk_at dksX14_shelf_2 10 rfl rfl)
theorem dX14_shelf_59 : decode cX14_shelf 59 = .ok (.getfield 103, 3) := dk_180 0 103 (dk_at dksX14_shelf_2 11 rfl rfl)
theorem dX14_shelf_62 : decode cX14_shelf 62 = .ok (.iload_n 3, 1) := dk_29 (dk_at dksX14_shelf_2 14 rfl rfl)
theorem dX14_shelf_63 : decode cX14_shelf 63 = .ok (.iaload, 1) := dk_46 (dk_at dksX14_shelf_2 15 rfl rfl)
theorem dX14_shelf_64 : decode cX14_shelf 64 = .ok (.goto 4, 3) := dk_167 0 4 (dk_at dksX14_shelf_2 16 rfl rfl)
theorem dX14_shelf_67 : decode cX14_shelf 67 = .ok (.iload_n 3, 1) := dk_29 (dk_at dksX14_shelf_2 19 rfl rfl)
theorem dX14_shelf_68 : decode cX14_shelf 68 = .ok (.iastore, 1) := dk_79 (dk_at dksX14_shelf_2 20 rfl rfl)
theorem dX14_shelf_69 : decode cX14_shelf 69 = .ok (.aload_n 0, 1) := dk_42 (dk_at dksX14_shelf_2 21 rfl rfl)
theorem dX14_shelf_70 : decode cX14_shelf 70 = .ok (.getfield 118, 3) := dk_180 0 118 (dk_at dksX14_shelf_3 0 rfl rfl)
theorem dX14_shelf_73 : decode cX14_shelf 73 = .ok (.iload_n 1, 1) := dk_27 (dk_at dksX14_shelf_3 3 rfl rfl)
theorem dX14_shelf_74 : decode cX14_shelf 74 = .ok (.iload_n 2, 1) := dk_28 (dk_at dksX14_shelf_3 4 rfl rfl)
theorem dX14_shelf_75 : decode cX14_shelf 75 = .ok (.iconst 3, 1) := dk_6 (dk_at dksX14_shelf_3 5 rfl rfl)
theorem dX14_shelf_76 : decode cX14_shelf 76 = .ok (.if_icmp .ne 12, 3) := dk_160 0 12 (dk_at dksX14_shelf_3 6 rfl rfl)
theorem dX14_shelf_79 : decode cX14_shelf 79 = .ok (.aload_n 0, 1) := dk_42 (dk_at dksX14_shelf_3 9 rfl rfl)
theorem dX14_shelf_80 : decode cX14_shelf 80 = .ok (.getfield 106, 3) := dk_180 0 106 (dk_at dksX14_shelf_3 10 rfl rfl)
theorem dX14_shelf_83 : decode cX14_shelf 83 = .ok (.iload_n 3, 1) := dk_29 (dk_at dksX14_shelf_3 13 rfl rfl)
theorem dX14_shelf_84 : decode cX14_shelf 84 = .ok (.iaload, 1) := dk_46 (dk_at dksX14_shelf_3 14 rfl rfl)
theorem dX14_shelf_85 : decode cX14_shelf 85 = .ok (.goto 4, 3) := dk_167 0 4 (dk_at dksX14_shelf_3 15 rfl rfl)
theorem dX14_shelf_88 : decode cX14_shelf 88 = .ok (.iconst 0, 1) := dk_3 (dk_at dksX14_shelf_3 18 rfl rfl)
theorem dX14_shelf_89 : decode cX14_shelf 89 = .ok (.iastore, 1) := dk_79 (dk_at dksX14_shelf_3 19 rfl rfl)
theorem dX14_shelf_90 : decode cX14_shelf 90 = .ok (.iconst 1, 1) := dk_4 (dk_at dksX14_shelf_3 20 rfl rfl)
theorem dX14_shelf_91 : decode cX14_shelf 91 = .ok (.ireturn, 1) := dk_172 (dk_at dksX14_shelf_3 21 rfl rfl)
abbrev cX14_isThing : ByteArray := prog_33_method_96_code
def yX14_isThing : MethodName := ⟨RX14, "isThing", "(II)Z"⟩
def dkwX14_isThing_3 : List UInt8 := [3, 172]
abbrev dktX14_isThing_3 : List UInt8 := dkwX14_isThing_3 ++ []
def dkwX14_isThing_2 : List UInt8 := [42, 180, 0, 130, 158, 0, 7, 4, 167, 0, 17, 3, 167, 0, 13, 27, 7, 160, 0, 7, 4, 167, 0, 4]
abbrev dktX14_isThing_2 : List UInt8 := dkwX14_isThing_2 ++ dktX14_isThing_3
def dkwX14_isThing_1 : List UInt8 := [100, 184, 0, 133, 167, 0, 45, 27, 6, 160, 0, 10, 28, 184, 0, 152, 167, 0, 33, 27, 5, 160, 0, 18]
abbrev dktX14_isThing_1 : List UInt8 := dkwX14_isThing_1 ++ dktX14_isThing_2
def dkwX14_isThing_0 : List UInt8 := [27, 154, 0, 11, 42, 28, 182, 0, 148, 167, 0, 64, 27, 4, 160, 0, 17, 28, 3, 42, 180, 0, 242, 4]
abbrev dktX14_isThing_0 : List UInt8 := dkwX14_isThing_0 ++ dktX14_isThing_1
theorem dksX14_isThing_0 : cX14_isThing.data.toList.drop 0 = dktX14_isThing_0 := by decide +kernel
theorem dksX14_isThing_1 : cX14_isThing.data.toList.drop 24 = dktX14_isThing_1 := dk_seg dksX14_isThing_0 24 rfl rfl
theorem dksX14_isThing_2 : cX14_isThing.data.toList.drop 48 = dktX14_isThing_2 := dk_seg dksX14_isThing_1 24 rfl rfl
theorem dksX14_isThing_3 : cX14_isThing.data.toList.drop 72 = dktX14_isThing_3 := dk_seg dksX14_isThing_2 24 rfl rfl
theorem dX14_isThing_0 : decode cX14_isThing 0 = .ok (.iload_n 1, 1) := dk_27 (dk_at dksX14_isThing_0 0 rfl rfl)
theorem dX14_isThing_1 : decode cX14_isThing 1 = .ok (.ifCond .ne 11, 3) := dk_154 0 11 (dk_at dksX14_isThing_0 1 rfl rfl)
theorem dX14_isThing_4 : decode cX14_isThing 4 = .ok (.aload_n 0, 1) := dk_42 (dk_at dksX14_isThing_0 4 rfl rfl)
theorem dX14_isThing_5 : decode cX14_isThing 5 = .ok (.iload_n 2, 1) := dk_28 (dk_at dksX14_isThing_0 5 rfl rfl)
theorem dX14_isThing_6 : decode cX14_isThing 6 = .ok (.invokevirtual 148, 3) := dk_182 0 148 (dk_at dksX14_isThing_0 6 rfl rfl)
theorem dX14_isThing_9 : decode cX14_isThing 9 = .ok (.goto 64, 3) := dk_167 0 64 (dk_at dksX14_isThing_0 9 rfl rfl)
theorem dX14_isThing_12 : decode cX14_isThing 12 = .ok (.iload_n 1, 1) := dk_27 (dk_at dksX14_isThing_0 12 rfl rfl)
theorem dX14_isThing_13 : decode cX14_isThing 13 = .ok (.iconst 1, 1) := dk_4 (dk_at dksX14_isThing_0 13 rfl rfl)
theorem dX14_isThing_14 : decode cX14_isThing 14 = .ok (.if_icmp .ne 17, 3) := dk_160 0 17 (dk_at dksX14_isThing_0 14 rfl rfl)
theorem dX14_isThing_17 : decode cX14_isThing 17 = .ok (.iload_n 2, 1) := dk_28 (dk_at dksX14_isThing_0 17 rfl rfl)
theorem dX14_isThing_18 : decode cX14_isThing 18 = .ok (.iconst 0, 1) := dk_3 (dk_at dksX14_isThing_0 18 rfl rfl)
theorem dX14_isThing_19 : decode cX14_isThing 19 = .ok (.aload_n 0, 1) := dk_42 (dk_at dksX14_isThing_0 19 rfl rfl)
theorem dX14_isThing_20 : decode cX14_isThing 20 = .ok (.getfield 242, 3) := dk_180 0 242 (dk_at dksX14_isThing_0 20 rfl rfl)
theorem dX14_isThing_23 : decode cX14_isThing 23 = .ok (.iconst 1, 1) := dk_4 (dk_at dksX14_isThing_0 23 rfl rfl)
theorem dX14_isThing_24 : decode cX14_isThing 24 = .ok (.isub, 1) := dk_100 (dk_at dksX14_isThing_1 0 rfl rfl)
theorem dX14_isThing_25 : decode cX14_isThing 25 = .ok (.invokestatic 133, 3) := dk_184 0 133 (dk_at dksX14_isThing_1 1 rfl rfl)
theorem dX14_isThing_28 : decode cX14_isThing 28 = .ok (.goto 45, 3) := dk_167 0 45 (dk_at dksX14_isThing_1 4 rfl rfl)
theorem dX14_isThing_31 : decode cX14_isThing 31 = .ok (.iload_n 1, 1) := dk_27 (dk_at dksX14_isThing_1 7 rfl rfl)
theorem dX14_isThing_32 : decode cX14_isThing 32 = .ok (.iconst 3, 1) := dk_6 (dk_at dksX14_isThing_1 8 rfl rfl)
theorem dX14_isThing_33 : decode cX14_isThing 33 = .ok (.if_icmp .ne 10, 3) := dk_160 0 10 (dk_at dksX14_isThing_1 9 rfl rfl)
theorem dX14_isThing_36 : decode cX14_isThing 36 = .ok (.iload_n 2, 1) := dk_28 (dk_at dksX14_isThing_1 12 rfl rfl)
theorem dX14_isThing_37 : decode cX14_isThing 37 = .ok (.invokestatic 152, 3) := dk_184 0 152 (dk_at dksX14_isThing_1 13 rfl rfl)
theorem dX14_isThing_40 : decode cX14_isThing 40 = .ok (.goto 33, 3) := dk_167 0 33 (dk_at dksX14_isThing_1 16 rfl rfl)
theorem dX14_isThing_43 : decode cX14_isThing 43 = .ok (.iload_n 1, 1) := dk_27 (dk_at dksX14_isThing_1 19 rfl rfl)
theorem dX14_isThing_44 : decode cX14_isThing 44 = .ok (.iconst 2, 1) := dk_5 (dk_at dksX14_isThing_1 20 rfl rfl)
theorem dX14_isThing_45 : decode cX14_isThing 45 = .ok (.if_icmp .ne 18, 3) := dk_160 0 18 (dk_at dksX14_isThing_1 21 rfl rfl)
theorem dX14_isThing_48 : decode cX14_isThing 48 = .ok (.aload_n 0, 1) := dk_42 (dk_at dksX14_isThing_2 0 rfl rfl)
theorem dX14_isThing_49 : decode cX14_isThing 49 = .ok (.getfield 130, 3) := dk_180 0 130 (dk_at dksX14_isThing_2 1 rfl rfl)
theorem dX14_isThing_52 : decode cX14_isThing 52 = .ok (.ifCond .le 7, 3) := dk_158 0 7 (dk_at dksX14_isThing_2 4 rfl rfl)
theorem dX14_isThing_55 : decode cX14_isThing 55 = .ok (.iconst 1, 1) := dk_4 (dk_at dksX14_isThing_2 7 rfl rfl)
theorem dX14_isThing_56 : decode cX14_isThing 56 = .ok (.goto 17, 3) := dk_167 0 17 (dk_at dksX14_isThing_2 8 rfl rfl)
theorem dX14_isThing_59 : decode cX14_isThing 59 = .ok (.iconst 0, 1) := dk_3 (dk_at dksX14_isThing_2 11 rfl rfl)
theorem dX14_isThing_60 : decode cX14_isThing 60 = .ok (.goto 13, 3) := dk_167 0 13 (dk_at dksX14_isThing_2 12 rfl rfl)
theorem dX14_isThing_63 : decode cX14_isThing 63 = .ok (.iload_n 1, 1) := dk_27 (dk_at dksX14_isThing_2 15 rfl rfl)
theorem dX14_isThing_64 : decode cX14_isThing 64 = .ok (.iconst 4, 1) := dk_7 (dk_at dksX14_isThing_2 16 rfl rfl)
theorem dX14_isThing_65 : decode cX14_isThing 65 = .ok (.if_icmp .ne 7, 3) := dk_160 0 7 (dk_at dksX14_isThing_2 17 rfl rfl)
theorem dX14_isThing_68 : decode cX14_isThing 68 = .ok (.iconst 1, 1) := dk_4 (dk_at dksX14_isThing_2 20 rfl rfl)
theorem dX14_isThing_69 : decode cX14_isThing 69 = .ok (.goto 4, 3) := dk_167 0 4 (dk_at dksX14_isThing_2 21 rfl rfl)
theorem dX14_isThing_72 : decode cX14_isThing 72 = .ok (.iconst 0, 1) := dk_3 (dk_at dksX14_isThing_3 0 rfl rfl)
theorem dX14_isThing_73 : decode cX14_isThing 73 = .ok (.ireturn, 1) := dk_172 (dk_at dksX14_isThing_3 1 rfl rfl)
abbrev cX14_taken : ByteArray := prog_33_method_101_code
def yX14_taken : MethodName := ⟨RX14, "taken", "(II)I"⟩
def dkwX14_taken_4 : List UInt8 := [182, 1, 197, 167, 0, 5, 16, 243, 172]
abbrev dktX14_taken_4 : List UInt8 := dkwX14_taken_4 ++ []
def dkwX14_taken_3 : List UInt8 := [167, 0, 5, 16, 243, 172, 28, 16, 10, 162, 0, 19, 29, 28, 184, 1, 194, 153, 0, 11, 42, 27]
abbrev dktX14_taken_3 : List UInt8 := dkwX14_taken_3 ++ dktX14_taken_4
def dkwX14_taken_2 : List UInt8 := [160, 0, 28, 28, 16, 10, 42, 180, 0, 115, 27, 46, 96, 160, 0, 12, 42, 180, 0, 118, 27, 46]
abbrev dktX14_taken_2 : List UInt8 := dkwX14_taken_2 ++ dktX14_taken_3
def dkwX14_taken_1 : List UInt8 := [184, 0, 133, 154, 0, 5, 2, 172, 42, 27, 182, 1, 191, 62, 29, 156, 0, 6, 16, 245, 172, 29, 16, 9]
abbrev dktX14_taken_1 : List UInt8 := dkwX14_taken_1 ++ dktX14_taken_2
def dkwX14_taken_0 : List UInt8 := [27, 184, 0, 152, 153, 0, 24, 28, 3, 16, 6, 184, 0, 133, 154, 0, 16, 28, 16, 10, 16, 13]
abbrev dktX14_taken_0 : List UInt8 := dkwX14_taken_0 ++ dktX14_taken_1
theorem dksX14_taken_0 : cX14_taken.data.toList.drop 0 = dktX14_taken_0 := by decide +kernel
theorem dksX14_taken_1 : cX14_taken.data.toList.drop 22 = dktX14_taken_1 := dk_seg dksX14_taken_0 22 rfl rfl
theorem dksX14_taken_2 : cX14_taken.data.toList.drop 46 = dktX14_taken_2 := dk_seg dksX14_taken_1 24 rfl rfl
theorem dksX14_taken_3 : cX14_taken.data.toList.drop 68 = dktX14_taken_3 := dk_seg dksX14_taken_2 22 rfl rfl
theorem dksX14_taken_4 : cX14_taken.data.toList.drop 90 = dktX14_taken_4 := dk_seg dksX14_taken_3 22 rfl rfl
theorem dX14_taken_0 : decode cX14_taken 0 = .ok (.iload_n 1, 1) := dk_27 (dk_at dksX14_taken_0 0 rfl rfl)
theorem dX14_taken_1 : decode cX14_taken 1 = .ok (.invokestatic 152, 3) := dk_184 0 152 (dk_at dksX14_taken_0 1 rfl rfl)
theorem dX14_taken_4 : decode cX14_taken 4 = .ok (.ifCond .eq 24, 3) := dk_153 0 24 (dk_at dksX14_taken_0 4 rfl rfl)
theorem dX14_taken_7 : decode cX14_taken 7 = .ok (.iload_n 2, 1) := dk_28 (dk_at dksX14_taken_0 7 rfl rfl)
theorem dX14_taken_8 : decode cX14_taken 8 = .ok (.iconst 0, 1) := dk_3 (dk_at dksX14_taken_0 8 rfl rfl)
theorem dX14_taken_9 : decode cX14_taken 9 = .ok (.bipush 6, 2) := dk_16 6 (dk_at dksX14_taken_0 9 rfl rfl)
theorem dX14_taken_11 : decode cX14_taken 11 = .ok (.invokestatic 133, 3) := dk_184 0 133 (dk_at dksX14_taken_0 11 rfl rfl)
theorem dX14_taken_14 : decode cX14_taken 14 = .ok (.ifCond .ne 16, 3) := dk_154 0 16 (dk_at dksX14_taken_0 14 rfl rfl)
theorem dX14_taken_17 : decode cX14_taken 17 = .ok (.iload_n 2, 1) := dk_28 (dk_at dksX14_taken_0 17 rfl rfl)
theorem dX14_taken_18 : decode cX14_taken 18 = .ok (.bipush 10, 2) := dk_16 10 (dk_at dksX14_taken_0 18 rfl rfl)
theorem dX14_taken_20 : decode cX14_taken 20 = .ok (.bipush 13, 2) := dk_16 13 (dk_at dksX14_taken_0 20 rfl rfl)
theorem dX14_taken_22 : decode cX14_taken 22 = .ok (.invokestatic 133, 3) := dk_184 0 133 (dk_at dksX14_taken_1 0 rfl rfl)
theorem dX14_taken_25 : decode cX14_taken 25 = .ok (.ifCond .ne 5, 3) := dk_154 0 5 (dk_at dksX14_taken_1 3 rfl rfl)
theorem dX14_taken_28 : decode cX14_taken 28 = .ok (.iconst (-1), 1) := dk_2 (dk_at dksX14_taken_1 6 rfl rfl)
theorem dX14_taken_29 : decode cX14_taken 29 = .ok (.ireturn, 1) := dk_172 (dk_at dksX14_taken_1 7 rfl rfl)
theorem dX14_taken_30 : decode cX14_taken 30 = .ok (.aload_n 0, 1) := dk_42 (dk_at dksX14_taken_1 8 rfl rfl)
theorem dX14_taken_31 : decode cX14_taken 31 = .ok (.iload_n 1, 1) := dk_27 (dk_at dksX14_taken_1 9 rfl rfl)
theorem dX14_taken_32 : decode cX14_taken 32 = .ok (.invokevirtual 447, 3) := dk_182 1 191 (dk_at dksX14_taken_1 10 rfl rfl)
theorem dX14_taken_35 : decode cX14_taken 35 = .ok (.istore_n 3, 1) := dk_62 (dk_at dksX14_taken_1 13 rfl rfl)
theorem dX14_taken_36 : decode cX14_taken 36 = .ok (.iload_n 3, 1) := dk_29 (dk_at dksX14_taken_1 14 rfl rfl)
theorem dX14_taken_37 : decode cX14_taken 37 = .ok (.ifCond .ge 6, 3) := dk_156 0 6 (dk_at dksX14_taken_1 15 rfl rfl)
theorem dX14_taken_40 : decode cX14_taken 40 = .ok (.bipush (-11), 2) := dk_16 245 (dk_at dksX14_taken_1 18 rfl rfl)
theorem dX14_taken_42 : decode cX14_taken 42 = .ok (.ireturn, 1) := dk_172 (dk_at dksX14_taken_1 20 rfl rfl)
theorem dX14_taken_43 : decode cX14_taken 43 = .ok (.iload_n 3, 1) := dk_29 (dk_at dksX14_taken_1 21 rfl rfl)
theorem dX14_taken_44 : decode cX14_taken 44 = .ok (.bipush 9, 2) := dk_16 9 (dk_at dksX14_taken_1 22 rfl rfl)
theorem dX14_taken_46 : decode cX14_taken 46 = .ok (.if_icmp .ne 28, 3) := dk_160 0 28 (dk_at dksX14_taken_2 0 rfl rfl)
theorem dX14_taken_49 : decode cX14_taken 49 = .ok (.iload_n 2, 1) := dk_28 (dk_at dksX14_taken_2 3 rfl rfl)
theorem dX14_taken_50 : decode cX14_taken 50 = .ok (.bipush 10, 2) := dk_16 10 (dk_at dksX14_taken_2 4 rfl rfl)
theorem dX14_taken_52 : decode cX14_taken 52 = .ok (.aload_n 0, 1) := dk_42 (dk_at dksX14_taken_2 6 rfl rfl)
theorem dX14_taken_53 : decode cX14_taken 53 = .ok (.getfield 115, 3) := dk_180 0 115 (dk_at dksX14_taken_2 7 rfl rfl)
theorem dX14_taken_56 : decode cX14_taken 56 = .ok (.iload_n 1, 1) := dk_27 (dk_at dksX14_taken_2 10 rfl rfl)
theorem dX14_taken_57 : decode cX14_taken 57 = .ok (.iaload, 1) := dk_46 (dk_at dksX14_taken_2 11 rfl rfl)
theorem dX14_taken_58 : decode cX14_taken 58 = .ok (.iadd, 1) := dk_96 (dk_at dksX14_taken_2 12 rfl rfl)
theorem dX14_taken_59 : decode cX14_taken 59 = .ok (.if_icmp .ne 12, 3) := dk_160 0 12 (dk_at dksX14_taken_2 13 rfl rfl)
theorem dX14_taken_62 : decode cX14_taken 62 = .ok (.aload_n 0, 1) := dk_42 (dk_at dksX14_taken_2 16 rfl rfl)
theorem dX14_taken_63 : decode cX14_taken 63 = .ok (.getfield 118, 3) := dk_180 0 118 (dk_at dksX14_taken_2 17 rfl rfl)
theorem dX14_taken_66 : decode cX14_taken 66 = .ok (.iload_n 1, 1) := dk_27 (dk_at dksX14_taken_2 20 rfl rfl)
theorem dX14_taken_67 : decode cX14_taken 67 = .ok (.iaload, 1) := dk_46 (dk_at dksX14_taken_2 21 rfl rfl)
theorem dX14_taken_68 : decode cX14_taken 68 = .ok (.goto 5, 3) := dk_167 0 5 (dk_at dksX14_taken_3 0 rfl rfl)
theorem dX14_taken_71 : decode cX14_taken 71 = .ok (.bipush (-13), 2) := dk_16 243 (dk_at dksX14_taken_3 3 rfl rfl)
theorem dX14_taken_73 : decode cX14_taken 73 = .ok (.ireturn, 1) := dk_172 (dk_at dksX14_taken_3 5 rfl rfl)
theorem dX14_taken_74 : decode cX14_taken 74 = .ok (.iload_n 2, 1) := dk_28 (dk_at dksX14_taken_3 6 rfl rfl)
theorem dX14_taken_75 : decode cX14_taken 75 = .ok (.bipush 10, 2) := dk_16 10 (dk_at dksX14_taken_3 7 rfl rfl)
theorem dX14_taken_77 : decode cX14_taken 77 = .ok (.if_icmp .ge 19, 3) := dk_162 0 19 (dk_at dksX14_taken_3 9 rfl rfl)
theorem dX14_taken_80 : decode cX14_taken 80 = .ok (.iload_n 3, 1) := dk_29 (dk_at dksX14_taken_3 12 rfl rfl)
theorem dX14_taken_81 : decode cX14_taken 81 = .ok (.iload_n 2, 1) := dk_28 (dk_at dksX14_taken_3 13 rfl rfl)
theorem dX14_taken_82 : decode cX14_taken 82 = .ok (.invokestatic 450, 3) := dk_184 1 194 (dk_at dksX14_taken_3 14 rfl rfl)
theorem dX14_taken_85 : decode cX14_taken 85 = .ok (.ifCond .eq 11, 3) := dk_153 0 11 (dk_at dksX14_taken_3 17 rfl rfl)
theorem dX14_taken_88 : decode cX14_taken 88 = .ok (.aload_n 0, 1) := dk_42 (dk_at dksX14_taken_3 20 rfl rfl)
theorem dX14_taken_89 : decode cX14_taken 89 = .ok (.iload_n 1, 1) := dk_27 (dk_at dksX14_taken_3 21 rfl rfl)
theorem dX14_taken_90 : decode cX14_taken 90 = .ok (.invokevirtual 453, 3) := dk_182 1 197 (dk_at dksX14_taken_4 0 rfl rfl)
theorem dX14_taken_93 : decode cX14_taken 93 = .ok (.goto 5, 3) := dk_167 0 5 (dk_at dksX14_taken_4 3 rfl rfl)
theorem dX14_taken_96 : decode cX14_taken 96 = .ok (.bipush (-13), 2) := dk_16 243 (dk_at dksX14_taken_4 6 rfl rfl)
theorem dX14_taken_98 : decode cX14_taken 98 = .ok (.ireturn, 1) := dk_172 (dk_at dksX14_taken_4 8 rfl rfl)
abbrev cX14_kindOn : ByteArray := prog_33_method_98_code
def yX14_kindOn : MethodName := ⟨RX14, "kindOn", "(I)I"⟩
def dkwX14_kindOn_4 : List UInt8 := [156, 0, 7, 2, 167, 0, 5, 16, 9, 172]
abbrev dktX14_kindOn_4 : List UInt8 := dkwX14_kindOn_4 ++ []
def dkwX14_kindOn_3 : List UInt8 := [162, 0, 7, 8, 167, 0, 4, 2, 172, 42, 180, 0, 130, 158, 0, 8, 16, 6, 167, 0, 4, 2, 172, 28]
abbrev dktX14_kindOn_3 : List UInt8 := dkwX14_kindOn_3 ++ dktX14_kindOn_4
def dkwX14_kindOn_2 : List UInt8 := [42, 29, 182, 0, 148, 153, 0, 11, 42, 29, 182, 1, 188, 167, 0, 4, 2, 172, 29, 42, 180, 0, 242]
abbrev dktX14_kindOn_2 : List UInt8 := dkwX14_kindOn_2 ++ dktX14_kindOn_3
def dkwX14_kindOn_1 : List UInt8 := [170, 0, 0, 0, 71, 0, 0, 0, 0, 0, 0, 0, 2, 0, 0, 0, 25, 0, 0, 0, 43, 0, 0, 0, 57]
abbrev dktX14_kindOn_1 : List UInt8 := dkwX14_kindOn_1 ++ dktX14_kindOn_2
def dkwX14_kindOn_0 : List UInt8 := [42, 180, 0, 112, 27, 46, 61, 42, 180, 0, 115, 27, 46, 62, 28]
abbrev dktX14_kindOn_0 : List UInt8 := dkwX14_kindOn_0 ++ dktX14_kindOn_1
theorem dksX14_kindOn_0 : cX14_kindOn.data.toList.drop 0 = dktX14_kindOn_0 := by decide +kernel
theorem dksX14_kindOn_1 : cX14_kindOn.data.toList.drop 15 = dktX14_kindOn_1 := dk_seg dksX14_kindOn_0 15 rfl rfl
theorem dksX14_kindOn_2 : cX14_kindOn.data.toList.drop 40 = dktX14_kindOn_2 := dk_seg dksX14_kindOn_1 25 rfl rfl
theorem dksX14_kindOn_3 : cX14_kindOn.data.toList.drop 63 = dktX14_kindOn_3 := dk_seg dksX14_kindOn_2 23 rfl rfl
theorem dksX14_kindOn_4 : cX14_kindOn.data.toList.drop 87 = dktX14_kindOn_4 := dk_seg dksX14_kindOn_3 24 rfl rfl
theorem dX14_kindOn_0 : decode cX14_kindOn 0 = .ok (.aload_n 0, 1) := dk_42 (dk_at dksX14_kindOn_0 0 rfl rfl)
theorem dX14_kindOn_1 : decode cX14_kindOn 1 = .ok (.getfield 112, 3) := dk_180 0 112 (dk_at dksX14_kindOn_0 1 rfl rfl)
theorem dX14_kindOn_4 : decode cX14_kindOn 4 = .ok (.iload_n 1, 1) := dk_27 (dk_at dksX14_kindOn_0 4 rfl rfl)
theorem dX14_kindOn_5 : decode cX14_kindOn 5 = .ok (.iaload, 1) := dk_46 (dk_at dksX14_kindOn_0 5 rfl rfl)
theorem dX14_kindOn_6 : decode cX14_kindOn 6 = .ok (.istore_n 2, 1) := dk_61 (dk_at dksX14_kindOn_0 6 rfl rfl)
theorem dX14_kindOn_7 : decode cX14_kindOn 7 = .ok (.aload_n 0, 1) := dk_42 (dk_at dksX14_kindOn_0 7 rfl rfl)
theorem dX14_kindOn_8 : decode cX14_kindOn 8 = .ok (.getfield 115, 3) := dk_180 0 115 (dk_at dksX14_kindOn_0 8 rfl rfl)
theorem dX14_kindOn_11 : decode cX14_kindOn 11 = .ok (.iload_n 1, 1) := dk_27 (dk_at dksX14_kindOn_0 11 rfl rfl)
theorem dX14_kindOn_12 : decode cX14_kindOn 12 = .ok (.iaload, 1) := dk_46 (dk_at dksX14_kindOn_0 12 rfl rfl)
theorem dX14_kindOn_13 : decode cX14_kindOn 13 = .ok (.istore_n 3, 1) := dk_62 (dk_at dksX14_kindOn_0 13 rfl rfl)
theorem dX14_kindOn_14 : decode cX14_kindOn 14 = .ok (.iload_n 2, 1) := dk_28 (dk_at dksX14_kindOn_0 14 rfl rfl)
theorem dX14_kindOn_15 : decode cX14_kindOn 15 = .ok (.tableswitch 71 0 2 #[25, 43, 57], 25) := by decide +kernel
theorem dX14_kindOn_40 : decode cX14_kindOn 40 = .ok (.aload_n 0, 1) := dk_42 (dk_at dksX14_kindOn_2 0 rfl rfl)
theorem dX14_kindOn_41 : decode cX14_kindOn 41 = .ok (.iload_n 3, 1) := dk_29 (dk_at dksX14_kindOn_2 1 rfl rfl)
theorem dX14_kindOn_42 : decode cX14_kindOn 42 = .ok (.invokevirtual 148, 3) := dk_182 0 148 (dk_at dksX14_kindOn_2 2 rfl rfl)
theorem dX14_kindOn_45 : decode cX14_kindOn 45 = .ok (.ifCond .eq 11, 3) := dk_153 0 11 (dk_at dksX14_kindOn_2 5 rfl rfl)
theorem dX14_kindOn_48 : decode cX14_kindOn 48 = .ok (.aload_n 0, 1) := dk_42 (dk_at dksX14_kindOn_2 8 rfl rfl)
theorem dX14_kindOn_49 : decode cX14_kindOn 49 = .ok (.iload_n 3, 1) := dk_29 (dk_at dksX14_kindOn_2 9 rfl rfl)
theorem dX14_kindOn_50 : decode cX14_kindOn 50 = .ok (.invokevirtual 444, 3) := dk_182 1 188 (dk_at dksX14_kindOn_2 10 rfl rfl)
theorem dX14_kindOn_53 : decode cX14_kindOn 53 = .ok (.goto 4, 3) := dk_167 0 4 (dk_at dksX14_kindOn_2 13 rfl rfl)
theorem dX14_kindOn_56 : decode cX14_kindOn 56 = .ok (.iconst (-1), 1) := dk_2 (dk_at dksX14_kindOn_2 16 rfl rfl)
theorem dX14_kindOn_57 : decode cX14_kindOn 57 = .ok (.ireturn, 1) := dk_172 (dk_at dksX14_kindOn_2 17 rfl rfl)
theorem dX14_kindOn_58 : decode cX14_kindOn 58 = .ok (.iload_n 3, 1) := dk_29 (dk_at dksX14_kindOn_2 18 rfl rfl)
theorem dX14_kindOn_59 : decode cX14_kindOn 59 = .ok (.aload_n 0, 1) := dk_42 (dk_at dksX14_kindOn_2 19 rfl rfl)
theorem dX14_kindOn_60 : decode cX14_kindOn 60 = .ok (.getfield 242, 3) := dk_180 0 242 (dk_at dksX14_kindOn_2 20 rfl rfl)
theorem dX14_kindOn_63 : decode cX14_kindOn 63 = .ok (.if_icmp .ge 7, 3) := dk_162 0 7 (dk_at dksX14_kindOn_3 0 rfl rfl)
theorem dX14_kindOn_66 : decode cX14_kindOn 66 = .ok (.iconst 5, 1) := dk_8 (dk_at dksX14_kindOn_3 3 rfl rfl)
theorem dX14_kindOn_67 : decode cX14_kindOn 67 = .ok (.goto 4, 3) := dk_167 0 4 (dk_at dksX14_kindOn_3 4 rfl rfl)
theorem dX14_kindOn_70 : decode cX14_kindOn 70 = .ok (.iconst (-1), 1) := dk_2 (dk_at dksX14_kindOn_3 7 rfl rfl)
theorem dX14_kindOn_71 : decode cX14_kindOn 71 = .ok (.ireturn, 1) := dk_172 (dk_at dksX14_kindOn_3 8 rfl rfl)
theorem dX14_kindOn_72 : decode cX14_kindOn 72 = .ok (.aload_n 0, 1) := dk_42 (dk_at dksX14_kindOn_3 9 rfl rfl)
theorem dX14_kindOn_73 : decode cX14_kindOn 73 = .ok (.getfield 130, 3) := dk_180 0 130 (dk_at dksX14_kindOn_3 10 rfl rfl)
theorem dX14_kindOn_76 : decode cX14_kindOn 76 = .ok (.ifCond .le 8, 3) := dk_158 0 8 (dk_at dksX14_kindOn_3 13 rfl rfl)
theorem dX14_kindOn_79 : decode cX14_kindOn 79 = .ok (.bipush 6, 2) := dk_16 6 (dk_at dksX14_kindOn_3 16 rfl rfl)
theorem dX14_kindOn_81 : decode cX14_kindOn 81 = .ok (.goto 4, 3) := dk_167 0 4 (dk_at dksX14_kindOn_3 18 rfl rfl)
theorem dX14_kindOn_84 : decode cX14_kindOn 84 = .ok (.iconst (-1), 1) := dk_2 (dk_at dksX14_kindOn_3 21 rfl rfl)
theorem dX14_kindOn_85 : decode cX14_kindOn 85 = .ok (.ireturn, 1) := dk_172 (dk_at dksX14_kindOn_3 22 rfl rfl)
theorem dX14_kindOn_86 : decode cX14_kindOn 86 = .ok (.iload_n 2, 1) := dk_28 (dk_at dksX14_kindOn_3 23 rfl rfl)
theorem dX14_kindOn_87 : decode cX14_kindOn 87 = .ok (.ifCond .ge 7, 3) := dk_156 0 7 (dk_at dksX14_kindOn_4 0 rfl rfl)
theorem dX14_kindOn_90 : decode cX14_kindOn 90 = .ok (.iconst (-1), 1) := dk_2 (dk_at dksX14_kindOn_4 3 rfl rfl)
theorem dX14_kindOn_91 : decode cX14_kindOn 91 = .ok (.goto 5, 3) := dk_167 0 5 (dk_at dksX14_kindOn_4 4 rfl rfl)
theorem dX14_kindOn_94 : decode cX14_kindOn 94 = .ok (.bipush 9, 2) := dk_16 9 (dk_at dksX14_kindOn_4 7 rfl rfl)
theorem dX14_kindOn_96 : decode cX14_kindOn 96 = .ok (.ireturn, 1) := dk_172 (dk_at dksX14_kindOn_4 9 rfl rfl)
abbrev cX14_kindOf : ByteArray := prog_33_method_6_code
def yX14_kindOf : MethodName := ⟨RX14, "kindOf", "(I)I"⟩
def dkwX14_kindOf_0 : List UInt8 := [42, 180, 0, 19, 16, 11, 27, 104, 46, 172]
abbrev dktX14_kindOf_0 : List UInt8 := dkwX14_kindOf_0 ++ []
theorem dksX14_kindOf_0 : cX14_kindOf.data.toList.drop 0 = dktX14_kindOf_0 := by decide +kernel
theorem dX14_kindOf_0 : decode cX14_kindOf 0 = .ok (.aload_n 0, 1) := dk_42 (dk_at dksX14_kindOf_0 0 rfl rfl)
theorem dX14_kindOf_1 : decode cX14_kindOf 1 = .ok (.getfield 19, 3) := dk_180 0 19 (dk_at dksX14_kindOf_0 1 rfl rfl)
theorem dX14_kindOf_4 : decode cX14_kindOf 4 = .ok (.bipush 11, 2) := dk_16 11 (dk_at dksX14_kindOf_0 4 rfl rfl)
theorem dX14_kindOf_6 : decode cX14_kindOf 6 = .ok (.iload_n 1, 1) := dk_27 (dk_at dksX14_kindOf_0 6 rfl rfl)
theorem dX14_kindOf_7 : decode cX14_kindOf 7 = .ok (.imul, 1) := dk_104 (dk_at dksX14_kindOf_0 7 rfl rfl)
theorem dX14_kindOf_8 : decode cX14_kindOf 8 = .ok (.iaload, 1) := dk_46 (dk_at dksX14_kindOf_0 8 rfl rfl)
theorem dX14_kindOf_9 : decode cX14_kindOf 9 = .ok (.ireturn, 1) := dk_172 (dk_at dksX14_kindOf_0 9 rfl rfl)
abbrev cX14_isUnder : ByteArray := prog_33_method_100_code
def yX14_isUnder : MethodName := ⟨RX14, "isUnder", "(II)Z"⟩
def dkwX14_isUnder_4 : List UInt8 := [172]
abbrev dktX14_isUnder_4 : List UInt8 := dkwX14_isUnder_4 ++ []
def dkwX14_isUnder_3 : List UInt8 := [159, 0, 8, 26, 6, 160, 0, 7, 4, 167, 0, 4, 3, 172, 26, 27, 160, 0, 7, 4, 167, 0, 4, 3]
abbrev dktX14_isUnder_3 : List UInt8 := dkwX14_isUnder_3 ++ dktX14_isUnder_4
def dkwX14_isUnder_2 : List UInt8 := [26, 8, 162, 0, 7, 4, 167, 0, 4, 3, 172, 26, 7, 162, 0, 7, 4, 167, 0, 4, 3, 172, 26, 5]
abbrev dktX14_isUnder_2 : List UInt8 := dkwX14_isUnder_2 ++ dktX14_isUnder_3
def dkwX14_isUnder_1 : List UInt8 := [170, 0, 0, 0, 0, 0, 65, 0, 0, 0, 0, 0, 0, 0, 2, 0, 0, 0, 27, 0, 0, 0, 38, 0, 0, 0, 49]
abbrev dktX14_isUnder_1 : List UInt8 := dkwX14_isUnder_1 ++ dktX14_isUnder_2
def dkwX14_isUnder_0 : List UInt8 := [27]
abbrev dktX14_isUnder_0 : List UInt8 := dkwX14_isUnder_0 ++ dktX14_isUnder_1
theorem dksX14_isUnder_0 : cX14_isUnder.data.toList.drop 0 = dktX14_isUnder_0 := by decide +kernel
theorem dksX14_isUnder_1 : cX14_isUnder.data.toList.drop 1 = dktX14_isUnder_1 := dk_seg dksX14_isUnder_0 1 rfl rfl
theorem dksX14_isUnder_2 : cX14_isUnder.data.toList.drop 28 = dktX14_isUnder_2 := dk_seg dksX14_isUnder_1 27 rfl rfl
theorem dksX14_isUnder_3 : cX14_isUnder.data.toList.drop 52 = dktX14_isUnder_3 := dk_seg dksX14_isUnder_2 24 rfl rfl
theorem dksX14_isUnder_4 : cX14_isUnder.data.toList.drop 76 = dktX14_isUnder_4 := dk_seg dksX14_isUnder_3 24 rfl rfl
theorem dX14_isUnder_0 : decode cX14_isUnder 0 = .ok (.iload_n 1, 1) := dk_27 (dk_at dksX14_isUnder_0 0 rfl rfl)
theorem dX14_isUnder_1 : decode cX14_isUnder 1 = .ok (.tableswitch 65 0 2 #[27, 38, 49], 27) := by decide +kernel
theorem dX14_isUnder_28 : decode cX14_isUnder 28 = .ok (.iload_n 0, 1) := dk_26 (dk_at dksX14_isUnder_2 0 rfl rfl)
theorem dX14_isUnder_29 : decode cX14_isUnder 29 = .ok (.iconst 5, 1) := dk_8 (dk_at dksX14_isUnder_2 1 rfl rfl)
theorem dX14_isUnder_30 : decode cX14_isUnder 30 = .ok (.if_icmp .ge 7, 3) := dk_162 0 7 (dk_at dksX14_isUnder_2 2 rfl rfl)
theorem dX14_isUnder_33 : decode cX14_isUnder 33 = .ok (.iconst 1, 1) := dk_4 (dk_at dksX14_isUnder_2 5 rfl rfl)
theorem dX14_isUnder_34 : decode cX14_isUnder 34 = .ok (.goto 4, 3) := dk_167 0 4 (dk_at dksX14_isUnder_2 6 rfl rfl)
theorem dX14_isUnder_37 : decode cX14_isUnder 37 = .ok (.iconst 0, 1) := dk_3 (dk_at dksX14_isUnder_2 9 rfl rfl)
theorem dX14_isUnder_38 : decode cX14_isUnder 38 = .ok (.ireturn, 1) := dk_172 (dk_at dksX14_isUnder_2 10 rfl rfl)
theorem dX14_isUnder_39 : decode cX14_isUnder 39 = .ok (.iload_n 0, 1) := dk_26 (dk_at dksX14_isUnder_2 11 rfl rfl)
theorem dX14_isUnder_40 : decode cX14_isUnder 40 = .ok (.iconst 4, 1) := dk_7 (dk_at dksX14_isUnder_2 12 rfl rfl)
theorem dX14_isUnder_41 : decode cX14_isUnder 41 = .ok (.if_icmp .ge 7, 3) := dk_162 0 7 (dk_at dksX14_isUnder_2 13 rfl rfl)
theorem dX14_isUnder_44 : decode cX14_isUnder 44 = .ok (.iconst 1, 1) := dk_4 (dk_at dksX14_isUnder_2 16 rfl rfl)
theorem dX14_isUnder_45 : decode cX14_isUnder 45 = .ok (.goto 4, 3) := dk_167 0 4 (dk_at dksX14_isUnder_2 17 rfl rfl)
theorem dX14_isUnder_48 : decode cX14_isUnder 48 = .ok (.iconst 0, 1) := dk_3 (dk_at dksX14_isUnder_2 20 rfl rfl)
theorem dX14_isUnder_49 : decode cX14_isUnder 49 = .ok (.ireturn, 1) := dk_172 (dk_at dksX14_isUnder_2 21 rfl rfl)
theorem dX14_isUnder_50 : decode cX14_isUnder 50 = .ok (.iload_n 0, 1) := dk_26 (dk_at dksX14_isUnder_2 22 rfl rfl)
theorem dX14_isUnder_51 : decode cX14_isUnder 51 = .ok (.iconst 2, 1) := dk_5 (dk_at dksX14_isUnder_2 23 rfl rfl)
theorem dX14_isUnder_52 : decode cX14_isUnder 52 = .ok (.if_icmp .eq 8, 3) := dk_159 0 8 (dk_at dksX14_isUnder_3 0 rfl rfl)
theorem dX14_isUnder_55 : decode cX14_isUnder 55 = .ok (.iload_n 0, 1) := dk_26 (dk_at dksX14_isUnder_3 3 rfl rfl)
theorem dX14_isUnder_56 : decode cX14_isUnder 56 = .ok (.iconst 3, 1) := dk_6 (dk_at dksX14_isUnder_3 4 rfl rfl)
theorem dX14_isUnder_57 : decode cX14_isUnder 57 = .ok (.if_icmp .ne 7, 3) := dk_160 0 7 (dk_at dksX14_isUnder_3 5 rfl rfl)
theorem dX14_isUnder_60 : decode cX14_isUnder 60 = .ok (.iconst 1, 1) := dk_4 (dk_at dksX14_isUnder_3 8 rfl rfl)
theorem dX14_isUnder_61 : decode cX14_isUnder 61 = .ok (.goto 4, 3) := dk_167 0 4 (dk_at dksX14_isUnder_3 9 rfl rfl)
theorem dX14_isUnder_64 : decode cX14_isUnder 64 = .ok (.iconst 0, 1) := dk_3 (dk_at dksX14_isUnder_3 12 rfl rfl)
theorem dX14_isUnder_65 : decode cX14_isUnder 65 = .ok (.ireturn, 1) := dk_172 (dk_at dksX14_isUnder_3 13 rfl rfl)
theorem dX14_isUnder_66 : decode cX14_isUnder 66 = .ok (.iload_n 0, 1) := dk_26 (dk_at dksX14_isUnder_3 14 rfl rfl)
theorem dX14_isUnder_67 : decode cX14_isUnder 67 = .ok (.iload_n 1, 1) := dk_27 (dk_at dksX14_isUnder_3 15 rfl rfl)
theorem dX14_isUnder_68 : decode cX14_isUnder 68 = .ok (.if_icmp .ne 7, 3) := dk_160 0 7 (dk_at dksX14_isUnder_3 16 rfl rfl)
theorem dX14_isUnder_71 : decode cX14_isUnder 71 = .ok (.iconst 1, 1) := dk_4 (dk_at dksX14_isUnder_3 19 rfl rfl)
theorem dX14_isUnder_72 : decode cX14_isUnder 72 = .ok (.goto 4, 3) := dk_167 0 4 (dk_at dksX14_isUnder_3 20 rfl rfl)
theorem dX14_isUnder_75 : decode cX14_isUnder 75 = .ok (.iconst 0, 1) := dk_3 (dk_at dksX14_isUnder_3 23 rfl rfl)
theorem dX14_isUnder_76 : decode cX14_isUnder 76 = .ok (.ireturn, 1) := dk_172 (dk_at dksX14_isUnder_4 0 rfl rfl)
abbrev cX14_numberOn : ByteArray := prog_33_method_99_code
def yX14_numberOn : MethodName := ⟨RX14, "numberOn", "(I)I"⟩
def dkwX14_numberOn_0 : List UInt8 := [42, 180, 0, 112, 27, 46, 5, 160, 0, 10, 42, 180, 0, 169, 167, 0, 9, 42, 180, 0, 115, 27, 46, 172]
abbrev dktX14_numberOn_0 : List UInt8 := dkwX14_numberOn_0 ++ []
theorem dksX14_numberOn_0 : cX14_numberOn.data.toList.drop 0 = dktX14_numberOn_0 := by decide +kernel
theorem dX14_numberOn_0 : decode cX14_numberOn 0 = .ok (.aload_n 0, 1) := dk_42 (dk_at dksX14_numberOn_0 0 rfl rfl)
theorem dX14_numberOn_1 : decode cX14_numberOn 1 = .ok (.getfield 112, 3) := dk_180 0 112 (dk_at dksX14_numberOn_0 1 rfl rfl)
theorem dX14_numberOn_4 : decode cX14_numberOn 4 = .ok (.iload_n 1, 1) := dk_27 (dk_at dksX14_numberOn_0 4 rfl rfl)
theorem dX14_numberOn_5 : decode cX14_numberOn 5 = .ok (.iaload, 1) := dk_46 (dk_at dksX14_numberOn_0 5 rfl rfl)
theorem dX14_numberOn_6 : decode cX14_numberOn 6 = .ok (.iconst 2, 1) := dk_5 (dk_at dksX14_numberOn_0 6 rfl rfl)
theorem dX14_numberOn_7 : decode cX14_numberOn 7 = .ok (.if_icmp .ne 10, 3) := dk_160 0 10 (dk_at dksX14_numberOn_0 7 rfl rfl)
theorem dX14_numberOn_10 : decode cX14_numberOn 10 = .ok (.aload_n 0, 1) := dk_42 (dk_at dksX14_numberOn_0 10 rfl rfl)
theorem dX14_numberOn_11 : decode cX14_numberOn 11 = .ok (.getfield 169, 3) := dk_180 0 169 (dk_at dksX14_numberOn_0 11 rfl rfl)
theorem dX14_numberOn_14 : decode cX14_numberOn 14 = .ok (.goto 9, 3) := dk_167 0 9 (dk_at dksX14_numberOn_0 14 rfl rfl)
theorem dX14_numberOn_17 : decode cX14_numberOn 17 = .ok (.aload_n 0, 1) := dk_42 (dk_at dksX14_numberOn_0 17 rfl rfl)
theorem dX14_numberOn_18 : decode cX14_numberOn 18 = .ok (.getfield 115, 3) := dk_180 0 115 (dk_at dksX14_numberOn_0 18 rfl rfl)
theorem dX14_numberOn_21 : decode cX14_numberOn 21 = .ok (.iload_n 1, 1) := dk_27 (dk_at dksX14_numberOn_0 21 rfl rfl)
theorem dX14_numberOn_22 : decode cX14_numberOn 22 = .ok (.iaload, 1) := dk_46 (dk_at dksX14_numberOn_0 22 rfl rfl)
theorem dX14_numberOn_23 : decode cX14_numberOn 23 = .ok (.ireturn, 1) := dk_172 (dk_at dksX14_numberOn_0 23 rfl rfl)
abbrev cX14_act : ByteArray := prog_33_method_110_code
def yX14_act : MethodName := ⟨RX14, "act", "(III)I"⟩
def dkwX14_act_7 : List UInt8 := [167, 0, 5, 21, 4, 172]
abbrev dktX14_act_7 : List UInt8 := dkwX14_act_7 ++ []
def dkwX14_act_6 : List UInt8 := [42, 29, 182, 1, 228, 167, 0, 8, 42, 29, 182, 1, 237, 54, 4, 42, 180, 1, 224, 153, 0, 8, 16, 241]
abbrev dktX14_act_6 : List UInt8 := dkwX14_act_6 ++ dktX14_act_7
def dkwX14_act_5 : List UInt8 := [182, 1, 212, 167, 0, 34, 28, 4, 160, 0, 11, 42, 29, 182, 1, 221, 167, 0, 21, 28, 5, 160, 0, 11]
abbrev dktX14_act_5 : List UInt8 := dkwX14_act_5 ++ dktX14_act_6
def dkwX14_act_4 : List UInt8 := [180, 0, 141, 42, 180, 1, 218, 184, 0, 144, 181, 1, 209, 42, 3, 181, 1, 224, 28, 154, 0, 11, 42, 29]
abbrev dktX14_act_4 : List UInt8 := dkwX14_act_4 ++ dktX14_act_5
def dkwX14_act_3 : List UInt8 := [182, 1, 234, 167, 0, 30, 42, 180, 1, 203, 16, 6, 160, 0, 10, 42, 180, 0, 172, 167, 0, 14, 42]
abbrev dktX14_act_3 : List UInt8 := dkwX14_act_3 ++ dktX14_act_4
def dkwX14_act_2 : List UInt8 := [42, 27, 182, 1, 197, 181, 1, 218, 42, 42, 180, 1, 203, 8, 160, 0, 14, 42, 42, 180, 1, 218]
abbrev dktX14_act_2 : List UInt8 := dkwX14_act_2 ++ dktX14_act_3
def dkwX14_act_1 : List UInt8 := [182, 1, 191, 4, 16, 6, 184, 0, 133, 154, 0, 5, 3, 172, 42, 42, 27, 182, 1, 191, 181, 1, 203, 42]
abbrev dktX14_act_1 : List UInt8 := dkwX14_act_1 ++ dktX14_act_2
def dkwX14_act_0 : List UInt8 := [42, 3, 181, 1, 200, 27, 184, 0, 152, 153, 0, 26, 28, 3, 6, 184, 0, 133, 153, 0, 17, 42, 27]
abbrev dktX14_act_0 : List UInt8 := dkwX14_act_0 ++ dktX14_act_1
theorem dksX14_act_0 : cX14_act.data.toList.drop 0 = dktX14_act_0 := by decide +kernel
theorem dksX14_act_1 : cX14_act.data.toList.drop 23 = dktX14_act_1 := dk_seg dksX14_act_0 23 rfl rfl
theorem dksX14_act_2 : cX14_act.data.toList.drop 47 = dktX14_act_2 := dk_seg dksX14_act_1 24 rfl rfl
theorem dksX14_act_3 : cX14_act.data.toList.drop 69 = dktX14_act_3 := dk_seg dksX14_act_2 22 rfl rfl
theorem dksX14_act_4 : cX14_act.data.toList.drop 92 = dktX14_act_4 := dk_seg dksX14_act_3 23 rfl rfl
theorem dksX14_act_5 : cX14_act.data.toList.drop 116 = dktX14_act_5 := dk_seg dksX14_act_4 24 rfl rfl
theorem dksX14_act_6 : cX14_act.data.toList.drop 140 = dktX14_act_6 := dk_seg dksX14_act_5 24 rfl rfl
theorem dksX14_act_7 : cX14_act.data.toList.drop 164 = dktX14_act_7 := dk_seg dksX14_act_6 24 rfl rfl
theorem dX14_act_0 : decode cX14_act 0 = .ok (.aload_n 0, 1) := dk_42 (dk_at dksX14_act_0 0 rfl rfl)
theorem dX14_act_1 : decode cX14_act 1 = .ok (.iconst 0, 1) := dk_3 (dk_at dksX14_act_0 1 rfl rfl)
theorem dX14_act_2 : decode cX14_act 2 = .ok (.putfield 456, 3) := dk_181 1 200 (dk_at dksX14_act_0 2 rfl rfl)
theorem dX14_act_5 : decode cX14_act 5 = .ok (.iload_n 1, 1) := dk_27 (dk_at dksX14_act_0 5 rfl rfl)
theorem dX14_act_6 : decode cX14_act 6 = .ok (.invokestatic 152, 3) := dk_184 0 152 (dk_at dksX14_act_0 6 rfl rfl)
theorem dX14_act_9 : decode cX14_act 9 = .ok (.ifCond .eq 26, 3) := dk_153 0 26 (dk_at dksX14_act_0 9 rfl rfl)
theorem dX14_act_12 : decode cX14_act 12 = .ok (.iload_n 2, 1) := dk_28 (dk_at dksX14_act_0 12 rfl rfl)
theorem dX14_act_13 : decode cX14_act 13 = .ok (.iconst 0, 1) := dk_3 (dk_at dksX14_act_0 13 rfl rfl)
theorem dX14_act_14 : decode cX14_act 14 = .ok (.iconst 3, 1) := dk_6 (dk_at dksX14_act_0 14 rfl rfl)
theorem dX14_act_15 : decode cX14_act 15 = .ok (.invokestatic 133, 3) := dk_184 0 133 (dk_at dksX14_act_0 15 rfl rfl)
theorem dX14_act_18 : decode cX14_act 18 = .ok (.ifCond .eq 17, 3) := dk_153 0 17 (dk_at dksX14_act_0 18 rfl rfl)
theorem dX14_act_21 : decode cX14_act 21 = .ok (.aload_n 0, 1) := dk_42 (dk_at dksX14_act_0 21 rfl rfl)
theorem dX14_act_22 : decode cX14_act 22 = .ok (.iload_n 1, 1) := dk_27 (dk_at dksX14_act_0 22 rfl rfl)
theorem dX14_act_23 : decode cX14_act 23 = .ok (.invokevirtual 447, 3) := dk_182 1 191 (dk_at dksX14_act_1 0 rfl rfl)
theorem dX14_act_26 : decode cX14_act 26 = .ok (.iconst 1, 1) := dk_4 (dk_at dksX14_act_1 3 rfl rfl)
theorem dX14_act_27 : decode cX14_act 27 = .ok (.bipush 6, 2) := dk_16 6 (dk_at dksX14_act_1 4 rfl rfl)
theorem dX14_act_29 : decode cX14_act 29 = .ok (.invokestatic 133, 3) := dk_184 0 133 (dk_at dksX14_act_1 6 rfl rfl)
theorem dX14_act_32 : decode cX14_act 32 = .ok (.ifCond .ne 5, 3) := dk_154 0 5 (dk_at dksX14_act_1 9 rfl rfl)
theorem dX14_act_35 : decode cX14_act 35 = .ok (.iconst 0, 1) := dk_3 (dk_at dksX14_act_1 12 rfl rfl)
theorem dX14_act_36 : decode cX14_act 36 = .ok (.ireturn, 1) := dk_172 (dk_at dksX14_act_1 13 rfl rfl)
theorem dX14_act_37 : decode cX14_act 37 = .ok (.aload_n 0, 1) := dk_42 (dk_at dksX14_act_1 14 rfl rfl)
theorem dX14_act_38 : decode cX14_act 38 = .ok (.aload_n 0, 1) := dk_42 (dk_at dksX14_act_1 15 rfl rfl)
theorem dX14_act_39 : decode cX14_act 39 = .ok (.iload_n 1, 1) := dk_27 (dk_at dksX14_act_1 16 rfl rfl)
theorem dX14_act_40 : decode cX14_act 40 = .ok (.invokevirtual 447, 3) := dk_182 1 191 (dk_at dksX14_act_1 17 rfl rfl)
theorem dX14_act_43 : decode cX14_act 43 = .ok (.putfield 459, 3) := dk_181 1 203 (dk_at dksX14_act_1 20 rfl rfl)
theorem dX14_act_46 : decode cX14_act 46 = .ok (.aload_n 0, 1) := dk_42 (dk_at dksX14_act_1 23 rfl rfl)
theorem dX14_act_47 : decode cX14_act 47 = .ok (.aload_n 0, 1) := dk_42 (dk_at dksX14_act_2 0 rfl rfl)
theorem dX14_act_48 : decode cX14_act 48 = .ok (.iload_n 1, 1) := dk_27 (dk_at dksX14_act_2 1 rfl rfl)
theorem dX14_act_49 : decode cX14_act 49 = .ok (.invokevirtual 453, 3) := dk_182 1 197 (dk_at dksX14_act_2 2 rfl rfl)
theorem dX14_act_52 : decode cX14_act 52 = .ok (.putfield 474, 3) := dk_181 1 218 (dk_at dksX14_act_2 5 rfl rfl)
theorem dX14_act_55 : decode cX14_act 55 = .ok (.aload_n 0, 1) := dk_42 (dk_at dksX14_act_2 8 rfl rfl)
theorem dX14_act_56 : decode cX14_act 56 = .ok (.aload_n 0, 1) := dk_42 (dk_at dksX14_act_2 9 rfl rfl)
theorem dX14_act_57 : decode cX14_act 57 = .ok (.getfield 459, 3) := dk_180 1 203 (dk_at dksX14_act_2 10 rfl rfl)
theorem dX14_act_60 : decode cX14_act 60 = .ok (.iconst 5, 1) := dk_8 (dk_at dksX14_act_2 13 rfl rfl)
theorem dX14_act_61 : decode cX14_act 61 = .ok (.if_icmp .ne 14, 3) := dk_160 0 14 (dk_at dksX14_act_2 14 rfl rfl)
theorem dX14_act_64 : decode cX14_act 64 = .ok (.aload_n 0, 1) := dk_42 (dk_at dksX14_act_2 17 rfl rfl)
theorem dX14_act_65 : decode cX14_act 65 = .ok (.aload_n 0, 1) := dk_42 (dk_at dksX14_act_2 18 rfl rfl)
theorem dX14_act_66 : decode cX14_act 66 = .ok (.getfield 474, 3) := dk_180 1 218 (dk_at dksX14_act_2 19 rfl rfl)
theorem dX14_act_69 : decode cX14_act 69 = .ok (.invokevirtual 490, 3) := dk_182 1 234 (dk_at dksX14_act_3 0 rfl rfl)
theorem dX14_act_72 : decode cX14_act 72 = .ok (.goto 30, 3) := dk_167 0 30 (dk_at dksX14_act_3 3 rfl rfl)
theorem dX14_act_75 : decode cX14_act 75 = .ok (.aload_n 0, 1) := dk_42 (dk_at dksX14_act_3 6 rfl rfl)
theorem dX14_act_76 : decode cX14_act 76 = .ok (.getfield 459, 3) := dk_180 1 203 (dk_at dksX14_act_3 7 rfl rfl)
theorem dX14_act_79 : decode cX14_act 79 = .ok (.bipush 6, 2) := dk_16 6 (dk_at dksX14_act_3 10 rfl rfl)
theorem dX14_act_81 : decode cX14_act 81 = .ok (.if_icmp .ne 10, 3) := dk_160 0 10 (dk_at dksX14_act_3 12 rfl rfl)
theorem dX14_act_84 : decode cX14_act 84 = .ok (.aload_n 0, 1) := dk_42 (dk_at dksX14_act_3 15 rfl rfl)
theorem dX14_act_85 : decode cX14_act 85 = .ok (.getfield 172, 3) := dk_180 0 172 (dk_at dksX14_act_3 16 rfl rfl)
theorem dX14_act_88 : decode cX14_act 88 = .ok (.goto 14, 3) := dk_167 0 14 (dk_at dksX14_act_3 19 rfl rfl)
theorem dX14_act_91 : decode cX14_act 91 = .ok (.aload_n 0, 1) := dk_42 (dk_at dksX14_act_3 22 rfl rfl)
theorem dX14_act_92 : decode cX14_act 92 = .ok (.getfield 141, 3) := dk_180 0 141 (dk_at dksX14_act_4 0 rfl rfl)
theorem dX14_act_95 : decode cX14_act 95 = .ok (.aload_n 0, 1) := dk_42 (dk_at dksX14_act_4 3 rfl rfl)
theorem dX14_act_96 : decode cX14_act 96 = .ok (.getfield 474, 3) := dk_180 1 218 (dk_at dksX14_act_4 4 rfl rfl)
theorem dX14_act_99 : decode cX14_act 99 = .ok (.invokestatic 144, 3) := dk_184 0 144 (dk_at dksX14_act_4 7 rfl rfl)
theorem dX14_act_102 : decode cX14_act 102 = .ok (.putfield 465, 3) := dk_181 1 209 (dk_at dksX14_act_4 10 rfl rfl)
theorem dX14_act_105 : decode cX14_act 105 = .ok (.aload_n 0, 1) := dk_42 (dk_at dksX14_act_4 13 rfl rfl)
theorem dX14_act_106 : decode cX14_act 106 = .ok (.iconst 0, 1) := dk_3 (dk_at dksX14_act_4 14 rfl rfl)
theorem dX14_act_107 : decode cX14_act 107 = .ok (.putfield 480, 3) := dk_181 1 224 (dk_at dksX14_act_4 15 rfl rfl)
theorem dX14_act_110 : decode cX14_act 110 = .ok (.iload_n 2, 1) := dk_28 (dk_at dksX14_act_4 18 rfl rfl)
theorem dX14_act_111 : decode cX14_act 111 = .ok (.ifCond .ne 11, 3) := dk_154 0 11 (dk_at dksX14_act_4 19 rfl rfl)
theorem dX14_act_114 : decode cX14_act 114 = .ok (.aload_n 0, 1) := dk_42 (dk_at dksX14_act_4 22 rfl rfl)
theorem dX14_act_115 : decode cX14_act 115 = .ok (.iload_n 3, 1) := dk_29 (dk_at dksX14_act_4 23 rfl rfl)
theorem dX14_act_116 : decode cX14_act 116 = .ok (.invokevirtual 468, 3) := dk_182 1 212 (dk_at dksX14_act_5 0 rfl rfl)
theorem dX14_act_119 : decode cX14_act 119 = .ok (.goto 34, 3) := dk_167 0 34 (dk_at dksX14_act_5 3 rfl rfl)
theorem dX14_act_122 : decode cX14_act 122 = .ok (.iload_n 2, 1) := dk_28 (dk_at dksX14_act_5 6 rfl rfl)
theorem dX14_act_123 : decode cX14_act 123 = .ok (.iconst 1, 1) := dk_4 (dk_at dksX14_act_5 7 rfl rfl)
theorem dX14_act_124 : decode cX14_act 124 = .ok (.if_icmp .ne 11, 3) := dk_160 0 11 (dk_at dksX14_act_5 8 rfl rfl)
theorem dX14_act_127 : decode cX14_act 127 = .ok (.aload_n 0, 1) := dk_42 (dk_at dksX14_act_5 11 rfl rfl)
theorem dX14_act_128 : decode cX14_act 128 = .ok (.iload_n 3, 1) := dk_29 (dk_at dksX14_act_5 12 rfl rfl)
theorem dX14_act_129 : decode cX14_act 129 = .ok (.invokevirtual 477, 3) := dk_182 1 221 (dk_at dksX14_act_5 13 rfl rfl)
theorem dX14_act_132 : decode cX14_act 132 = .ok (.goto 21, 3) := dk_167 0 21 (dk_at dksX14_act_5 16 rfl rfl)
theorem dX14_act_135 : decode cX14_act 135 = .ok (.iload_n 2, 1) := dk_28 (dk_at dksX14_act_5 19 rfl rfl)
theorem dX14_act_136 : decode cX14_act 136 = .ok (.iconst 2, 1) := dk_5 (dk_at dksX14_act_5 20 rfl rfl)
theorem dX14_act_137 : decode cX14_act 137 = .ok (.if_icmp .ne 11, 3) := dk_160 0 11 (dk_at dksX14_act_5 21 rfl rfl)
theorem dX14_act_140 : decode cX14_act 140 = .ok (.aload_n 0, 1) := dk_42 (dk_at dksX14_act_6 0 rfl rfl)
theorem dX14_act_141 : decode cX14_act 141 = .ok (.iload_n 3, 1) := dk_29 (dk_at dksX14_act_6 1 rfl rfl)
theorem dX14_act_142 : decode cX14_act 142 = .ok (.invokevirtual 484, 3) := dk_182 1 228 (dk_at dksX14_act_6 2 rfl rfl)
theorem dX14_act_145 : decode cX14_act 145 = .ok (.goto 8, 3) := dk_167 0 8 (dk_at dksX14_act_6 5 rfl rfl)
theorem dX14_act_148 : decode cX14_act 148 = .ok (.aload_n 0, 1) := dk_42 (dk_at dksX14_act_6 8 rfl rfl)
theorem dX14_act_149 : decode cX14_act 149 = .ok (.iload_n 3, 1) := dk_29 (dk_at dksX14_act_6 9 rfl rfl)
theorem dX14_act_150 : decode cX14_act 150 = .ok (.invokevirtual 493, 3) := dk_182 1 237 (dk_at dksX14_act_6 10 rfl rfl)
theorem dX14_act_153 : decode cX14_act 153 = .ok (.istore 4, 2) := dk_54 4 (dk_at dksX14_act_6 13 rfl rfl)
theorem dX14_act_155 : decode cX14_act 155 = .ok (.aload_n 0, 1) := dk_42 (dk_at dksX14_act_6 15 rfl rfl)
theorem dX14_act_156 : decode cX14_act 156 = .ok (.getfield 480, 3) := dk_180 1 224 (dk_at dksX14_act_6 16 rfl rfl)
theorem dX14_act_159 : decode cX14_act 159 = .ok (.ifCond .eq 8, 3) := dk_153 0 8 (dk_at dksX14_act_6 19 rfl rfl)
theorem dX14_act_162 : decode cX14_act 162 = .ok (.bipush (-15), 2) := dk_16 241 (dk_at dksX14_act_6 22 rfl rfl)
theorem dX14_act_164 : decode cX14_act 164 = .ok (.goto 5, 3) := dk_167 0 5 (dk_at dksX14_act_7 0 rfl rfl)
theorem dX14_act_167 : decode cX14_act 167 = .ok (.iload 4, 2) := dk_21 4 (dk_at dksX14_act_7 3 rfl rfl)
theorem dX14_act_169 : decode cX14_act 169 = .ok (.ireturn, 1) := dk_172 (dk_at dksX14_act_7 5 rfl rfl)
abbrev cX14_greatestOf : ByteArray := prog_33_method_109_code
def yX14_greatestOf : MethodName := ⟨RX14, "greatestOf", "(I)I"⟩
def dkwX14_greatestOf_2 : List UInt8 := [167, 255, 216, 28, 172]
abbrev dktX14_greatestOf_2 : List UInt8 := dkwX14_greatestOf_2 ++ []
def dkwX14_greatestOf_1 : List UInt8 := [164, 0, 17, 42, 180, 0, 26, 16, 10, 27, 104, 29, 96, 46, 167, 0, 4, 28, 61, 132, 3, 1]
abbrev dktX14_greatestOf_1 : List UInt8 := dkwX14_greatestOf_1 ++ dktX14_greatestOf_2
def dkwX14_greatestOf_0 : List UInt8 := [3, 61, 3, 62, 29, 16, 10, 162, 0, 40, 42, 180, 0, 26, 16, 10, 27, 104, 29, 96, 46, 28]
abbrev dktX14_greatestOf_0 : List UInt8 := dkwX14_greatestOf_0 ++ dktX14_greatestOf_1
theorem dksX14_greatestOf_0 : cX14_greatestOf.data.toList.drop 0 = dktX14_greatestOf_0 := by decide +kernel
theorem dksX14_greatestOf_1 : cX14_greatestOf.data.toList.drop 22 = dktX14_greatestOf_1 := dk_seg dksX14_greatestOf_0 22 rfl rfl
theorem dksX14_greatestOf_2 : cX14_greatestOf.data.toList.drop 44 = dktX14_greatestOf_2 := dk_seg dksX14_greatestOf_1 22 rfl rfl
theorem dX14_greatestOf_0 : decode cX14_greatestOf 0 = .ok (.iconst 0, 1) := dk_3 (dk_at dksX14_greatestOf_0 0 rfl rfl)
theorem dX14_greatestOf_1 : decode cX14_greatestOf 1 = .ok (.istore_n 2, 1) := dk_61 (dk_at dksX14_greatestOf_0 1 rfl rfl)
theorem dX14_greatestOf_2 : decode cX14_greatestOf 2 = .ok (.iconst 0, 1) := dk_3 (dk_at dksX14_greatestOf_0 2 rfl rfl)
theorem dX14_greatestOf_3 : decode cX14_greatestOf 3 = .ok (.istore_n 3, 1) := dk_62 (dk_at dksX14_greatestOf_0 3 rfl rfl)
theorem dX14_greatestOf_4 : decode cX14_greatestOf 4 = .ok (.iload_n 3, 1) := dk_29 (dk_at dksX14_greatestOf_0 4 rfl rfl)
theorem dX14_greatestOf_5 : decode cX14_greatestOf 5 = .ok (.bipush 10, 2) := dk_16 10 (dk_at dksX14_greatestOf_0 5 rfl rfl)
theorem dX14_greatestOf_7 : decode cX14_greatestOf 7 = .ok (.if_icmp .ge 40, 3) := dk_162 0 40 (dk_at dksX14_greatestOf_0 7 rfl rfl)
theorem dX14_greatestOf_10 : decode cX14_greatestOf 10 = .ok (.aload_n 0, 1) := dk_42 (dk_at dksX14_greatestOf_0 10 rfl rfl)
theorem dX14_greatestOf_11 : decode cX14_greatestOf 11 = .ok (.getfield 26, 3) := dk_180 0 26 (dk_at dksX14_greatestOf_0 11 rfl rfl)
theorem dX14_greatestOf_14 : decode cX14_greatestOf 14 = .ok (.bipush 10, 2) := dk_16 10 (dk_at dksX14_greatestOf_0 14 rfl rfl)
theorem dX14_greatestOf_16 : decode cX14_greatestOf 16 = .ok (.iload_n 1, 1) := dk_27 (dk_at dksX14_greatestOf_0 16 rfl rfl)
theorem dX14_greatestOf_17 : decode cX14_greatestOf 17 = .ok (.imul, 1) := dk_104 (dk_at dksX14_greatestOf_0 17 rfl rfl)
theorem dX14_greatestOf_18 : decode cX14_greatestOf 18 = .ok (.iload_n 3, 1) := dk_29 (dk_at dksX14_greatestOf_0 18 rfl rfl)
theorem dX14_greatestOf_19 : decode cX14_greatestOf 19 = .ok (.iadd, 1) := dk_96 (dk_at dksX14_greatestOf_0 19 rfl rfl)
theorem dX14_greatestOf_20 : decode cX14_greatestOf 20 = .ok (.iaload, 1) := dk_46 (dk_at dksX14_greatestOf_0 20 rfl rfl)
theorem dX14_greatestOf_21 : decode cX14_greatestOf 21 = .ok (.iload_n 2, 1) := dk_28 (dk_at dksX14_greatestOf_0 21 rfl rfl)
theorem dX14_greatestOf_22 : decode cX14_greatestOf 22 = .ok (.if_icmp .le 17, 3) := dk_164 0 17 (dk_at dksX14_greatestOf_1 0 rfl rfl)
theorem dX14_greatestOf_25 : decode cX14_greatestOf 25 = .ok (.aload_n 0, 1) := dk_42 (dk_at dksX14_greatestOf_1 3 rfl rfl)
theorem dX14_greatestOf_26 : decode cX14_greatestOf 26 = .ok (.getfield 26, 3) := dk_180 0 26 (dk_at dksX14_greatestOf_1 4 rfl rfl)
theorem dX14_greatestOf_29 : decode cX14_greatestOf 29 = .ok (.bipush 10, 2) := dk_16 10 (dk_at dksX14_greatestOf_1 7 rfl rfl)
theorem dX14_greatestOf_31 : decode cX14_greatestOf 31 = .ok (.iload_n 1, 1) := dk_27 (dk_at dksX14_greatestOf_1 9 rfl rfl)
theorem dX14_greatestOf_32 : decode cX14_greatestOf 32 = .ok (.imul, 1) := dk_104 (dk_at dksX14_greatestOf_1 10 rfl rfl)
theorem dX14_greatestOf_33 : decode cX14_greatestOf 33 = .ok (.iload_n 3, 1) := dk_29 (dk_at dksX14_greatestOf_1 11 rfl rfl)
theorem dX14_greatestOf_34 : decode cX14_greatestOf 34 = .ok (.iadd, 1) := dk_96 (dk_at dksX14_greatestOf_1 12 rfl rfl)
theorem dX14_greatestOf_35 : decode cX14_greatestOf 35 = .ok (.iaload, 1) := dk_46 (dk_at dksX14_greatestOf_1 13 rfl rfl)
theorem dX14_greatestOf_36 : decode cX14_greatestOf 36 = .ok (.goto 4, 3) := dk_167 0 4 (dk_at dksX14_greatestOf_1 14 rfl rfl)
theorem dX14_greatestOf_39 : decode cX14_greatestOf 39 = .ok (.iload_n 2, 1) := dk_28 (dk_at dksX14_greatestOf_1 17 rfl rfl)
theorem dX14_greatestOf_40 : decode cX14_greatestOf 40 = .ok (.istore_n 2, 1) := dk_61 (dk_at dksX14_greatestOf_1 18 rfl rfl)
theorem dX14_greatestOf_41 : decode cX14_greatestOf 41 = .ok (.iinc 3 1, 3) := dk_132 3 1 (dk_at dksX14_greatestOf_1 19 rfl rfl)
theorem dX14_greatestOf_44 : decode cX14_greatestOf 44 = .ok (.goto (-40), 3) := dk_167 255 216 (dk_at dksX14_greatestOf_2 0 rfl rfl)
theorem dX14_greatestOf_47 : decode cX14_greatestOf 47 = .ok (.iload_n 2, 1) := dk_28 (dk_at dksX14_greatestOf_2 3 rfl rfl)
theorem dX14_greatestOf_48 : decode cX14_greatestOf 48 = .ok (.ireturn, 1) := dk_172 (dk_at dksX14_greatestOf_2 4 rfl rfl)
abbrev cX14_eatsIt : ByteArray := prog_33_method_103_code
def yX14_eatsIt : MethodName := ⟨RX14, "eatsIt", "(I)I"⟩
def dkwX14_eatsIt_5 : List UInt8 := [180, 1, 203, 6, 160, 0, 12, 29, 42, 180, 1, 209, 130, 167, 0, 4, 29, 172]
abbrev dktX14_eatsIt_5 : List UInt8 := dkwX14_eatsIt_5 ++ []
def dkwX14_eatsIt_4 : List UInt8 := [16, 10, 182, 1, 206, 27, 42, 180, 1, 209, 96, 28, 153, 0, 7, 6, 167, 0, 4, 4, 104, 62, 42]
abbrev dktX14_eatsIt_4 : List UInt8 := dkwX14_eatsIt_4 ++ dktX14_eatsIt_5
def dkwX14_eatsIt_3 : List UInt8 := [180, 1, 203, 6, 160, 0, 7, 4, 167, 0, 4, 3, 61, 28, 153, 0, 9, 42, 16, 30, 182, 1, 206, 42]
abbrev dktX14_eatsIt_3 : List UInt8 := dkwX14_eatsIt_3 ++ dktX14_eatsIt_4
def dkwX14_eatsIt_2 : List UInt8 := [180, 1, 203, 6, 160, 0, 9, 42, 16, 40, 182, 1, 206, 42, 180, 1, 203, 5, 159, 0, 11, 42]
abbrev dktX14_eatsIt_2 : List UInt8 := dkwX14_eatsIt_2 ++ dktX14_eatsIt_3
def dkwX14_eatsIt_1 : List UInt8 := [180, 1, 203, 16, 6, 160, 0, 16, 42, 16, 70, 182, 1, 206, 27, 42, 180, 1, 209, 100, 172, 42]
abbrev dktX14_eatsIt_1 : List UInt8 := dkwX14_eatsIt_1 ++ dktX14_eatsIt_2
def dkwX14_eatsIt_0 : List UInt8 := [42, 180, 1, 203, 8, 160, 0, 16, 42, 16, 60, 182, 1, 206, 42, 180, 1, 209, 27, 100, 172, 42]
abbrev dktX14_eatsIt_0 : List UInt8 := dkwX14_eatsIt_0 ++ dktX14_eatsIt_1
theorem dksX14_eatsIt_0 : cX14_eatsIt.data.toList.drop 0 = dktX14_eatsIt_0 := by decide +kernel
theorem dksX14_eatsIt_1 : cX14_eatsIt.data.toList.drop 22 = dktX14_eatsIt_1 := dk_seg dksX14_eatsIt_0 22 rfl rfl
theorem dksX14_eatsIt_2 : cX14_eatsIt.data.toList.drop 44 = dktX14_eatsIt_2 := dk_seg dksX14_eatsIt_1 22 rfl rfl
theorem dksX14_eatsIt_3 : cX14_eatsIt.data.toList.drop 66 = dktX14_eatsIt_3 := dk_seg dksX14_eatsIt_2 22 rfl rfl
theorem dksX14_eatsIt_4 : cX14_eatsIt.data.toList.drop 90 = dktX14_eatsIt_4 := dk_seg dksX14_eatsIt_3 24 rfl rfl
theorem dksX14_eatsIt_5 : cX14_eatsIt.data.toList.drop 113 = dktX14_eatsIt_5 := dk_seg dksX14_eatsIt_4 23 rfl rfl
theorem dX14_eatsIt_0 : decode cX14_eatsIt 0 = .ok (.aload_n 0, 1) := dk_42 (dk_at dksX14_eatsIt_0 0 rfl rfl)
theorem dX14_eatsIt_1 : decode cX14_eatsIt 1 = .ok (.getfield 459, 3) := dk_180 1 203 (dk_at dksX14_eatsIt_0 1 rfl rfl)
theorem dX14_eatsIt_4 : decode cX14_eatsIt 4 = .ok (.iconst 5, 1) := dk_8 (dk_at dksX14_eatsIt_0 4 rfl rfl)
theorem dX14_eatsIt_5 : decode cX14_eatsIt 5 = .ok (.if_icmp .ne 16, 3) := dk_160 0 16 (dk_at dksX14_eatsIt_0 5 rfl rfl)
theorem dX14_eatsIt_8 : decode cX14_eatsIt 8 = .ok (.aload_n 0, 1) := dk_42 (dk_at dksX14_eatsIt_0 8 rfl rfl)
theorem dX14_eatsIt_9 : decode cX14_eatsIt 9 = .ok (.bipush 60, 2) := dk_16 60 (dk_at dksX14_eatsIt_0 9 rfl rfl)
theorem dX14_eatsIt_11 : decode cX14_eatsIt 11 = .ok (.invokevirtual 462, 3) := dk_182 1 206 (dk_at dksX14_eatsIt_0 11 rfl rfl)
theorem dX14_eatsIt_14 : decode cX14_eatsIt 14 = .ok (.aload_n 0, 1) := dk_42 (dk_at dksX14_eatsIt_0 14 rfl rfl)
theorem dX14_eatsIt_15 : decode cX14_eatsIt 15 = .ok (.getfield 465, 3) := dk_180 1 209 (dk_at dksX14_eatsIt_0 15 rfl rfl)
theorem dX14_eatsIt_18 : decode cX14_eatsIt 18 = .ok (.iload_n 1, 1) := dk_27 (dk_at dksX14_eatsIt_0 18 rfl rfl)
theorem dX14_eatsIt_19 : decode cX14_eatsIt 19 = .ok (.isub, 1) := dk_100 (dk_at dksX14_eatsIt_0 19 rfl rfl)
theorem dX14_eatsIt_20 : decode cX14_eatsIt 20 = .ok (.ireturn, 1) := dk_172 (dk_at dksX14_eatsIt_0 20 rfl rfl)
theorem dX14_eatsIt_21 : decode cX14_eatsIt 21 = .ok (.aload_n 0, 1) := dk_42 (dk_at dksX14_eatsIt_0 21 rfl rfl)
theorem dX14_eatsIt_22 : decode cX14_eatsIt 22 = .ok (.getfield 459, 3) := dk_180 1 203 (dk_at dksX14_eatsIt_1 0 rfl rfl)
theorem dX14_eatsIt_25 : decode cX14_eatsIt 25 = .ok (.bipush 6, 2) := dk_16 6 (dk_at dksX14_eatsIt_1 3 rfl rfl)
theorem dX14_eatsIt_27 : decode cX14_eatsIt 27 = .ok (.if_icmp .ne 16, 3) := dk_160 0 16 (dk_at dksX14_eatsIt_1 5 rfl rfl)
theorem dX14_eatsIt_30 : decode cX14_eatsIt 30 = .ok (.aload_n 0, 1) := dk_42 (dk_at dksX14_eatsIt_1 8 rfl rfl)
theorem dX14_eatsIt_31 : decode cX14_eatsIt 31 = .ok (.bipush 70, 2) := dk_16 70 (dk_at dksX14_eatsIt_1 9 rfl rfl)
theorem dX14_eatsIt_33 : decode cX14_eatsIt 33 = .ok (.invokevirtual 462, 3) := dk_182 1 206 (dk_at dksX14_eatsIt_1 11 rfl rfl)
theorem dX14_eatsIt_36 : decode cX14_eatsIt 36 = .ok (.iload_n 1, 1) := dk_27 (dk_at dksX14_eatsIt_1 14 rfl rfl)
theorem dX14_eatsIt_37 : decode cX14_eatsIt 37 = .ok (.aload_n 0, 1) := dk_42 (dk_at dksX14_eatsIt_1 15 rfl rfl)
theorem dX14_eatsIt_38 : decode cX14_eatsIt 38 = .ok (.getfield 465, 3) := dk_180 1 209 (dk_at dksX14_eatsIt_1 16 rfl rfl)
theorem dX14_eatsIt_41 : decode cX14_eatsIt 41 = .ok (.isub, 1) := dk_100 (dk_at dksX14_eatsIt_1 19 rfl rfl)
theorem dX14_eatsIt_42 : decode cX14_eatsIt 42 = .ok (.ireturn, 1) := dk_172 (dk_at dksX14_eatsIt_1 20 rfl rfl)
theorem dX14_eatsIt_43 : decode cX14_eatsIt 43 = .ok (.aload_n 0, 1) := dk_42 (dk_at dksX14_eatsIt_1 21 rfl rfl)
theorem dX14_eatsIt_44 : decode cX14_eatsIt 44 = .ok (.getfield 459, 3) := dk_180 1 203 (dk_at dksX14_eatsIt_2 0 rfl rfl)
theorem dX14_eatsIt_47 : decode cX14_eatsIt 47 = .ok (.iconst 3, 1) := dk_6 (dk_at dksX14_eatsIt_2 3 rfl rfl)
theorem dX14_eatsIt_48 : decode cX14_eatsIt 48 = .ok (.if_icmp .ne 9, 3) := dk_160 0 9 (dk_at dksX14_eatsIt_2 4 rfl rfl)
theorem dX14_eatsIt_51 : decode cX14_eatsIt 51 = .ok (.aload_n 0, 1) := dk_42 (dk_at dksX14_eatsIt_2 7 rfl rfl)
theorem dX14_eatsIt_52 : decode cX14_eatsIt 52 = .ok (.bipush 40, 2) := dk_16 40 (dk_at dksX14_eatsIt_2 8 rfl rfl)
theorem dX14_eatsIt_54 : decode cX14_eatsIt 54 = .ok (.invokevirtual 462, 3) := dk_182 1 206 (dk_at dksX14_eatsIt_2 10 rfl rfl)
theorem dX14_eatsIt_57 : decode cX14_eatsIt 57 = .ok (.aload_n 0, 1) := dk_42 (dk_at dksX14_eatsIt_2 13 rfl rfl)
theorem dX14_eatsIt_58 : decode cX14_eatsIt 58 = .ok (.getfield 459, 3) := dk_180 1 203 (dk_at dksX14_eatsIt_2 14 rfl rfl)
theorem dX14_eatsIt_61 : decode cX14_eatsIt 61 = .ok (.iconst 2, 1) := dk_5 (dk_at dksX14_eatsIt_2 17 rfl rfl)
theorem dX14_eatsIt_62 : decode cX14_eatsIt 62 = .ok (.if_icmp .eq 11, 3) := dk_159 0 11 (dk_at dksX14_eatsIt_2 18 rfl rfl)
theorem dX14_eatsIt_65 : decode cX14_eatsIt 65 = .ok (.aload_n 0, 1) := dk_42 (dk_at dksX14_eatsIt_2 21 rfl rfl)
theorem dX14_eatsIt_66 : decode cX14_eatsIt 66 = .ok (.getfield 459, 3) := dk_180 1 203 (dk_at dksX14_eatsIt_3 0 rfl rfl)
theorem dX14_eatsIt_69 : decode cX14_eatsIt 69 = .ok (.iconst 3, 1) := dk_6 (dk_at dksX14_eatsIt_3 3 rfl rfl)
theorem dX14_eatsIt_70 : decode cX14_eatsIt 70 = .ok (.if_icmp .ne 7, 3) := dk_160 0 7 (dk_at dksX14_eatsIt_3 4 rfl rfl)
theorem dX14_eatsIt_73 : decode cX14_eatsIt 73 = .ok (.iconst 1, 1) := dk_4 (dk_at dksX14_eatsIt_3 7 rfl rfl)
theorem dX14_eatsIt_74 : decode cX14_eatsIt 74 = .ok (.goto 4, 3) := dk_167 0 4 (dk_at dksX14_eatsIt_3 8 rfl rfl)
theorem dX14_eatsIt_77 : decode cX14_eatsIt 77 = .ok (.iconst 0, 1) := dk_3 (dk_at dksX14_eatsIt_3 11 rfl rfl)
theorem dX14_eatsIt_78 : decode cX14_eatsIt 78 = .ok (.istore_n 2, 1) := dk_61 (dk_at dksX14_eatsIt_3 12 rfl rfl)
theorem dX14_eatsIt_79 : decode cX14_eatsIt 79 = .ok (.iload_n 2, 1) := dk_28 (dk_at dksX14_eatsIt_3 13 rfl rfl)
theorem dX14_eatsIt_80 : decode cX14_eatsIt 80 = .ok (.ifCond .eq 9, 3) := dk_153 0 9 (dk_at dksX14_eatsIt_3 14 rfl rfl)
theorem dX14_eatsIt_83 : decode cX14_eatsIt 83 = .ok (.aload_n 0, 1) := dk_42 (dk_at dksX14_eatsIt_3 17 rfl rfl)
theorem dX14_eatsIt_84 : decode cX14_eatsIt 84 = .ok (.bipush 30, 2) := dk_16 30 (dk_at dksX14_eatsIt_3 18 rfl rfl)
theorem dX14_eatsIt_86 : decode cX14_eatsIt 86 = .ok (.invokevirtual 462, 3) := dk_182 1 206 (dk_at dksX14_eatsIt_3 20 rfl rfl)
theorem dX14_eatsIt_89 : decode cX14_eatsIt 89 = .ok (.aload_n 0, 1) := dk_42 (dk_at dksX14_eatsIt_3 23 rfl rfl)
theorem dX14_eatsIt_90 : decode cX14_eatsIt 90 = .ok (.bipush 10, 2) := dk_16 10 (dk_at dksX14_eatsIt_4 0 rfl rfl)
theorem dX14_eatsIt_92 : decode cX14_eatsIt 92 = .ok (.invokevirtual 462, 3) := dk_182 1 206 (dk_at dksX14_eatsIt_4 2 rfl rfl)
theorem dX14_eatsIt_95 : decode cX14_eatsIt 95 = .ok (.iload_n 1, 1) := dk_27 (dk_at dksX14_eatsIt_4 5 rfl rfl)
theorem dX14_eatsIt_96 : decode cX14_eatsIt 96 = .ok (.aload_n 0, 1) := dk_42 (dk_at dksX14_eatsIt_4 6 rfl rfl)
theorem dX14_eatsIt_97 : decode cX14_eatsIt 97 = .ok (.getfield 465, 3) := dk_180 1 209 (dk_at dksX14_eatsIt_4 7 rfl rfl)
theorem dX14_eatsIt_100 : decode cX14_eatsIt 100 = .ok (.iadd, 1) := dk_96 (dk_at dksX14_eatsIt_4 10 rfl rfl)
theorem dX14_eatsIt_101 : decode cX14_eatsIt 101 = .ok (.iload_n 2, 1) := dk_28 (dk_at dksX14_eatsIt_4 11 rfl rfl)
theorem dX14_eatsIt_102 : decode cX14_eatsIt 102 = .ok (.ifCond .eq 7, 3) := dk_153 0 7 (dk_at dksX14_eatsIt_4 12 rfl rfl)
theorem dX14_eatsIt_105 : decode cX14_eatsIt 105 = .ok (.iconst 3, 1) := dk_6 (dk_at dksX14_eatsIt_4 15 rfl rfl)
theorem dX14_eatsIt_106 : decode cX14_eatsIt 106 = .ok (.goto 4, 3) := dk_167 0 4 (dk_at dksX14_eatsIt_4 16 rfl rfl)
theorem dX14_eatsIt_109 : decode cX14_eatsIt 109 = .ok (.iconst 1, 1) := dk_4 (dk_at dksX14_eatsIt_4 19 rfl rfl)
theorem dX14_eatsIt_110 : decode cX14_eatsIt 110 = .ok (.imul, 1) := dk_104 (dk_at dksX14_eatsIt_4 20 rfl rfl)
theorem dX14_eatsIt_111 : decode cX14_eatsIt 111 = .ok (.istore_n 3, 1) := dk_62 (dk_at dksX14_eatsIt_4 21 rfl rfl)
theorem dX14_eatsIt_112 : decode cX14_eatsIt 112 = .ok (.aload_n 0, 1) := dk_42 (dk_at dksX14_eatsIt_4 22 rfl rfl)
theorem dX14_eatsIt_113 : decode cX14_eatsIt 113 = .ok (.getfield 459, 3) := dk_180 1 203 (dk_at dksX14_eatsIt_5 0 rfl rfl)
theorem dX14_eatsIt_116 : decode cX14_eatsIt 116 = .ok (.iconst 3, 1) := dk_6 (dk_at dksX14_eatsIt_5 3 rfl rfl)
theorem dX14_eatsIt_117 : decode cX14_eatsIt 117 = .ok (.if_icmp .ne 12, 3) := dk_160 0 12 (dk_at dksX14_eatsIt_5 4 rfl rfl)
theorem dX14_eatsIt_120 : decode cX14_eatsIt 120 = .ok (.iload_n 3, 1) := dk_29 (dk_at dksX14_eatsIt_5 7 rfl rfl)
theorem dX14_eatsIt_121 : decode cX14_eatsIt 121 = .ok (.aload_n 0, 1) := dk_42 (dk_at dksX14_eatsIt_5 8 rfl rfl)
theorem dX14_eatsIt_122 : decode cX14_eatsIt 122 = .ok (.getfield 465, 3) := dk_180 1 209 (dk_at dksX14_eatsIt_5 9 rfl rfl)
theorem dX14_eatsIt_125 : decode cX14_eatsIt 125 = .ok (.ixor, 1) := dk_130 (dk_at dksX14_eatsIt_5 12 rfl rfl)
theorem dX14_eatsIt_126 : decode cX14_eatsIt 126 = .ok (.goto 4, 3) := dk_167 0 4 (dk_at dksX14_eatsIt_5 13 rfl rfl)
theorem dX14_eatsIt_129 : decode cX14_eatsIt 129 = .ok (.iload_n 3, 1) := dk_29 (dk_at dksX14_eatsIt_5 16 rfl rfl)
theorem dX14_eatsIt_130 : decode cX14_eatsIt 130 = .ok (.ireturn, 1) := dk_172 (dk_at dksX14_eatsIt_5 17 rfl rfl)
abbrev cX14_ran : ByteArray := prog_33_method_102_code
def yX14_ran : MethodName := ⟨RX14, "ran", "(I)V"⟩
def dkwX14_ran_1 : List UInt8 := [4, 96, 181, 1, 200, 177]
abbrev dktX14_ran_1 : List UInt8 := dkwX14_ran_1 ++ []
def dkwX14_ran_0 : List UInt8 := [42, 180, 1, 200, 16, 30, 162, 0, 23, 42, 180, 0, 121, 42, 180, 1, 200, 27, 79, 42, 89, 180, 1, 200]
abbrev dktX14_ran_0 : List UInt8 := dkwX14_ran_0 ++ dktX14_ran_1
theorem dksX14_ran_0 : cX14_ran.data.toList.drop 0 = dktX14_ran_0 := by decide +kernel
theorem dksX14_ran_1 : cX14_ran.data.toList.drop 24 = dktX14_ran_1 := dk_seg dksX14_ran_0 24 rfl rfl
theorem dX14_ran_0 : decode cX14_ran 0 = .ok (.aload_n 0, 1) := dk_42 (dk_at dksX14_ran_0 0 rfl rfl)
theorem dX14_ran_1 : decode cX14_ran 1 = .ok (.getfield 456, 3) := dk_180 1 200 (dk_at dksX14_ran_0 1 rfl rfl)
theorem dX14_ran_4 : decode cX14_ran 4 = .ok (.bipush 30, 2) := dk_16 30 (dk_at dksX14_ran_0 4 rfl rfl)
theorem dX14_ran_6 : decode cX14_ran 6 = .ok (.if_icmp .ge 23, 3) := dk_162 0 23 (dk_at dksX14_ran_0 6 rfl rfl)
theorem dX14_ran_9 : decode cX14_ran 9 = .ok (.aload_n 0, 1) := dk_42 (dk_at dksX14_ran_0 9 rfl rfl)
theorem dX14_ran_10 : decode cX14_ran 10 = .ok (.getfield 121, 3) := dk_180 0 121 (dk_at dksX14_ran_0 10 rfl rfl)
theorem dX14_ran_13 : decode cX14_ran 13 = .ok (.aload_n 0, 1) := dk_42 (dk_at dksX14_ran_0 13 rfl rfl)
theorem dX14_ran_14 : decode cX14_ran 14 = .ok (.getfield 456, 3) := dk_180 1 200 (dk_at dksX14_ran_0 14 rfl rfl)
theorem dX14_ran_17 : decode cX14_ran 17 = .ok (.iload_n 1, 1) := dk_27 (dk_at dksX14_ran_0 17 rfl rfl)
theorem dX14_ran_18 : decode cX14_ran 18 = .ok (.iastore, 1) := dk_79 (dk_at dksX14_ran_0 18 rfl rfl)
theorem dX14_ran_19 : decode cX14_ran 19 = .ok (.aload_n 0, 1) := dk_42 (dk_at dksX14_ran_0 19 rfl rfl)
theorem dX14_ran_20 : decode cX14_ran 20 = .ok (.dup, 1) := dk_89 (dk_at dksX14_ran_0 20 rfl rfl)
theorem dX14_ran_21 : decode cX14_ran 21 = .ok (.getfield 456, 3) := dk_180 1 200 (dk_at dksX14_ran_0 21 rfl rfl)
theorem dX14_ran_24 : decode cX14_ran 24 = .ok (.iconst 1, 1) := dk_4 (dk_at dksX14_ran_1 0 rfl rfl)
theorem dX14_ran_25 : decode cX14_ran 25 = .ok (.iadd, 1) := dk_96 (dk_at dksX14_ran_1 1 rfl rfl)
theorem dX14_ran_26 : decode cX14_ran 26 = .ok (.putfield 456, 3) := dk_181 1 200 (dk_at dksX14_ran_1 2 rfl rfl)
theorem dX14_ran_29 : decode cX14_ran 29 = .ok (.return_, 1) := dk_177 (dk_at dksX14_ran_1 5 rfl rfl)
abbrev cX14_staysIt : ByteArray := prog_33_method_105_code
def yX14_staysIt : MethodName := ⟨RX14, "staysIt", "(I)I"⟩
def dkwX14_staysIt_4 : List UInt8 := [16, 20, 182, 1, 206, 42, 27, 182, 1, 215, 7, 100, 172]
abbrev dktX14_staysIt_4 : List UInt8 := dkwX14_staysIt_4 ++ []
def dkwX14_staysIt_3 : List UInt8 := [182, 1, 212, 42, 180, 1, 218, 96, 172, 42, 16, 71, 182, 1, 206, 27, 42, 180, 1, 218, 104, 172, 42]
abbrev dktX14_staysIt_3 : List UInt8 := dkwX14_staysIt_3 ++ dktX14_staysIt_4
def dkwX14_staysIt_2 : List UInt8 := [42, 16, 50, 182, 1, 206, 3, 42, 27, 182, 1, 215, 100, 172, 42, 16, 61, 182, 1, 206, 42, 27]
abbrev dktX14_staysIt_2 : List UInt8 := dkwX14_staysIt_2 ++ dktX14_staysIt_3
def dkwX14_staysIt_1 : List UInt8 := [170, 0, 0, 0, 0, 0, 0, 72, 0, 0, 0, 4, 0, 0, 0, 6, 0, 0, 0, 28, 0, 0, 0, 42, 0, 0, 0, 59]
abbrev dktX14_staysIt_1 : List UInt8 := dkwX14_staysIt_1 ++ dktX14_staysIt_2
def dkwX14_staysIt_0 : List UInt8 := [42, 180, 1, 203]
abbrev dktX14_staysIt_0 : List UInt8 := dkwX14_staysIt_0 ++ dktX14_staysIt_1
theorem dksX14_staysIt_0 : cX14_staysIt.data.toList.drop 0 = dktX14_staysIt_0 := by decide +kernel
theorem dksX14_staysIt_1 : cX14_staysIt.data.toList.drop 4 = dktX14_staysIt_1 := dk_seg dksX14_staysIt_0 4 rfl rfl
theorem dksX14_staysIt_2 : cX14_staysIt.data.toList.drop 32 = dktX14_staysIt_2 := dk_seg dksX14_staysIt_1 28 rfl rfl
theorem dksX14_staysIt_3 : cX14_staysIt.data.toList.drop 54 = dktX14_staysIt_3 := dk_seg dksX14_staysIt_2 22 rfl rfl
theorem dksX14_staysIt_4 : cX14_staysIt.data.toList.drop 77 = dktX14_staysIt_4 := dk_seg dksX14_staysIt_3 23 rfl rfl
theorem dX14_staysIt_0 : decode cX14_staysIt 0 = .ok (.aload_n 0, 1) := dk_42 (dk_at dksX14_staysIt_0 0 rfl rfl)
theorem dX14_staysIt_1 : decode cX14_staysIt 1 = .ok (.getfield 459, 3) := dk_180 1 203 (dk_at dksX14_staysIt_0 1 rfl rfl)
theorem dX14_staysIt_4 : decode cX14_staysIt 4 = .ok (.tableswitch 72 4 6 #[28, 42, 59], 28) := by decide +kernel
theorem dX14_staysIt_32 : decode cX14_staysIt 32 = .ok (.aload_n 0, 1) := dk_42 (dk_at dksX14_staysIt_2 0 rfl rfl)
theorem dX14_staysIt_33 : decode cX14_staysIt 33 = .ok (.bipush 50, 2) := dk_16 50 (dk_at dksX14_staysIt_2 1 rfl rfl)
theorem dX14_staysIt_35 : decode cX14_staysIt 35 = .ok (.invokevirtual 462, 3) := dk_182 1 206 (dk_at dksX14_staysIt_2 3 rfl rfl)
theorem dX14_staysIt_38 : decode cX14_staysIt 38 = .ok (.iconst 0, 1) := dk_3 (dk_at dksX14_staysIt_2 6 rfl rfl)
theorem dX14_staysIt_39 : decode cX14_staysIt 39 = .ok (.aload_n 0, 1) := dk_42 (dk_at dksX14_staysIt_2 7 rfl rfl)
theorem dX14_staysIt_40 : decode cX14_staysIt 40 = .ok (.iload_n 1, 1) := dk_27 (dk_at dksX14_staysIt_2 8 rfl rfl)
theorem dX14_staysIt_41 : decode cX14_staysIt 41 = .ok (.invokevirtual 471, 3) := dk_182 1 215 (dk_at dksX14_staysIt_2 9 rfl rfl)
theorem dX14_staysIt_44 : decode cX14_staysIt 44 = .ok (.isub, 1) := dk_100 (dk_at dksX14_staysIt_2 12 rfl rfl)
theorem dX14_staysIt_45 : decode cX14_staysIt 45 = .ok (.ireturn, 1) := dk_172 (dk_at dksX14_staysIt_2 13 rfl rfl)
theorem dX14_staysIt_46 : decode cX14_staysIt 46 = .ok (.aload_n 0, 1) := dk_42 (dk_at dksX14_staysIt_2 14 rfl rfl)
theorem dX14_staysIt_47 : decode cX14_staysIt 47 = .ok (.bipush 61, 2) := dk_16 61 (dk_at dksX14_staysIt_2 15 rfl rfl)
theorem dX14_staysIt_49 : decode cX14_staysIt 49 = .ok (.invokevirtual 462, 3) := dk_182 1 206 (dk_at dksX14_staysIt_2 17 rfl rfl)
theorem dX14_staysIt_52 : decode cX14_staysIt 52 = .ok (.aload_n 0, 1) := dk_42 (dk_at dksX14_staysIt_2 20 rfl rfl)
theorem dX14_staysIt_53 : decode cX14_staysIt 53 = .ok (.iload_n 1, 1) := dk_27 (dk_at dksX14_staysIt_2 21 rfl rfl)
theorem dX14_staysIt_54 : decode cX14_staysIt 54 = .ok (.invokevirtual 468, 3) := dk_182 1 212 (dk_at dksX14_staysIt_3 0 rfl rfl)
theorem dX14_staysIt_57 : decode cX14_staysIt 57 = .ok (.aload_n 0, 1) := dk_42 (dk_at dksX14_staysIt_3 3 rfl rfl)
theorem dX14_staysIt_58 : decode cX14_staysIt 58 = .ok (.getfield 474, 3) := dk_180 1 218 (dk_at dksX14_staysIt_3 4 rfl rfl)
theorem dX14_staysIt_61 : decode cX14_staysIt 61 = .ok (.iadd, 1) := dk_96 (dk_at dksX14_staysIt_3 7 rfl rfl)
theorem dX14_staysIt_62 : decode cX14_staysIt 62 = .ok (.ireturn, 1) := dk_172 (dk_at dksX14_staysIt_3 8 rfl rfl)
theorem dX14_staysIt_63 : decode cX14_staysIt 63 = .ok (.aload_n 0, 1) := dk_42 (dk_at dksX14_staysIt_3 9 rfl rfl)
theorem dX14_staysIt_64 : decode cX14_staysIt 64 = .ok (.bipush 71, 2) := dk_16 71 (dk_at dksX14_staysIt_3 10 rfl rfl)
theorem dX14_staysIt_66 : decode cX14_staysIt 66 = .ok (.invokevirtual 462, 3) := dk_182 1 206 (dk_at dksX14_staysIt_3 12 rfl rfl)
theorem dX14_staysIt_69 : decode cX14_staysIt 69 = .ok (.iload_n 1, 1) := dk_27 (dk_at dksX14_staysIt_3 15 rfl rfl)
theorem dX14_staysIt_70 : decode cX14_staysIt 70 = .ok (.aload_n 0, 1) := dk_42 (dk_at dksX14_staysIt_3 16 rfl rfl)
theorem dX14_staysIt_71 : decode cX14_staysIt 71 = .ok (.getfield 474, 3) := dk_180 1 218 (dk_at dksX14_staysIt_3 17 rfl rfl)
theorem dX14_staysIt_74 : decode cX14_staysIt 74 = .ok (.imul, 1) := dk_104 (dk_at dksX14_staysIt_3 20 rfl rfl)
theorem dX14_staysIt_75 : decode cX14_staysIt 75 = .ok (.ireturn, 1) := dk_172 (dk_at dksX14_staysIt_3 21 rfl rfl)
theorem dX14_staysIt_76 : decode cX14_staysIt 76 = .ok (.aload_n 0, 1) := dk_42 (dk_at dksX14_staysIt_3 22 rfl rfl)
theorem dX14_staysIt_77 : decode cX14_staysIt 77 = .ok (.bipush 20, 2) := dk_16 20 (dk_at dksX14_staysIt_4 0 rfl rfl)
theorem dX14_staysIt_79 : decode cX14_staysIt 79 = .ok (.invokevirtual 462, 3) := dk_182 1 206 (dk_at dksX14_staysIt_4 2 rfl rfl)
theorem dX14_staysIt_82 : decode cX14_staysIt 82 = .ok (.aload_n 0, 1) := dk_42 (dk_at dksX14_staysIt_4 5 rfl rfl)
theorem dX14_staysIt_83 : decode cX14_staysIt 83 = .ok (.iload_n 1, 1) := dk_27 (dk_at dksX14_staysIt_4 6 rfl rfl)
theorem dX14_staysIt_84 : decode cX14_staysIt 84 = .ok (.invokevirtual 471, 3) := dk_182 1 215 (dk_at dksX14_staysIt_4 7 rfl rfl)
theorem dX14_staysIt_87 : decode cX14_staysIt 87 = .ok (.iconst 4, 1) := dk_7 (dk_at dksX14_staysIt_4 10 rfl rfl)
theorem dX14_staysIt_88 : decode cX14_staysIt 88 = .ok (.isub, 1) := dk_100 (dk_at dksX14_staysIt_4 11 rfl rfl)
theorem dX14_staysIt_89 : decode cX14_staysIt 89 = .ok (.ireturn, 1) := dk_172 (dk_at dksX14_staysIt_4 12 rfl rfl)
abbrev cX14_patchStays : ByteArray := prog_33_method_104_code
def yX14_patchStays : MethodName := ⟨RX14, "patchStays", "(I)I"⟩
def dkwX14_patchStays_0 : List UInt8 := [42, 16, 11, 182, 1, 206, 42, 27, 182, 1, 212, 5, 104, 172]
abbrev dktX14_patchStays_0 : List UInt8 := dkwX14_patchStays_0 ++ []
theorem dksX14_patchStays_0 : cX14_patchStays.data.toList.drop 0 = dktX14_patchStays_0 := by decide +kernel
theorem dX14_patchStays_0 : decode cX14_patchStays 0 = .ok (.aload_n 0, 1) := dk_42 (dk_at dksX14_patchStays_0 0 rfl rfl)
theorem dX14_patchStays_1 : decode cX14_patchStays 1 = .ok (.bipush 11, 2) := dk_16 11 (dk_at dksX14_patchStays_0 1 rfl rfl)
theorem dX14_patchStays_3 : decode cX14_patchStays 3 = .ok (.invokevirtual 462, 3) := dk_182 1 206 (dk_at dksX14_patchStays_0 3 rfl rfl)
theorem dX14_patchStays_6 : decode cX14_patchStays 6 = .ok (.aload_n 0, 1) := dk_42 (dk_at dksX14_patchStays_0 6 rfl rfl)
theorem dX14_patchStays_7 : decode cX14_patchStays 7 = .ok (.iload_n 1, 1) := dk_27 (dk_at dksX14_patchStays_0 7 rfl rfl)
theorem dX14_patchStays_8 : decode cX14_patchStays 8 = .ok (.invokevirtual 468, 3) := dk_182 1 212 (dk_at dksX14_patchStays_0 8 rfl rfl)
theorem dX14_patchStays_11 : decode cX14_patchStays 11 = .ok (.iconst 2, 1) := dk_5 (dk_at dksX14_patchStays_0 11 rfl rfl)
theorem dX14_patchStays_12 : decode cX14_patchStays 12 = .ok (.imul, 1) := dk_104 (dk_at dksX14_patchStays_0 12 rfl rfl)
theorem dX14_patchStays_13 : decode cX14_patchStays 13 = .ok (.ireturn, 1) := dk_172 (dk_at dksX14_patchStays_0 13 rfl rfl)
abbrev cX14_fliesIt : ByteArray := prog_33_method_106_code
def yX14_fliesIt : MethodName := ⟨RX14, "fliesIt", "(I)I"⟩
def dkwX14_fliesIt_4 : List UInt8 := [172, 28, 42, 180, 1, 209, 42, 180, 1, 218, 100, 108, 172]
abbrev dktX14_fliesIt_4 : List UInt8 := dkwX14_fliesIt_4 ++ []
def dkwX14_fliesIt_3 : List UInt8 := [61, 42, 16, 12, 182, 1, 206, 42, 180, 1, 209, 42, 180, 1, 218, 160, 0, 10, 42, 4, 181, 1, 224, 3]
abbrev dktX14_fliesIt_3 : List UInt8 := dkwX14_fliesIt_3 ++ dktX14_fliesIt_4
def dkwX14_fliesIt_2 : List UInt8 := [182, 1, 221, 96, 172, 27, 61, 42, 180, 1, 203, 6, 160, 0, 13, 42, 16, 41, 182, 1, 206, 27, 4, 100]
abbrev dktX14_fliesIt_2 : List UInt8 := dkwX14_fliesIt_2 ++ dktX14_fliesIt_3
def dkwX14_fliesIt_1 : List UInt8 := [180, 1, 203, 16, 6, 160, 0, 23, 42, 16, 72, 182, 1, 206, 42, 27, 182, 1, 212, 61, 28, 42, 27]
abbrev dktX14_fliesIt_1 : List UInt8 := dkwX14_fliesIt_1 ++ dktX14_fliesIt_2
def dkwX14_fliesIt_0 : List UInt8 := [42, 180, 1, 203, 8, 160, 0, 16, 42, 16, 62, 182, 1, 206, 27, 42, 180, 1, 209, 126, 172, 42]
abbrev dktX14_fliesIt_0 : List UInt8 := dkwX14_fliesIt_0 ++ dktX14_fliesIt_1
theorem dksX14_fliesIt_0 : cX14_fliesIt.data.toList.drop 0 = dktX14_fliesIt_0 := by decide +kernel
theorem dksX14_fliesIt_1 : cX14_fliesIt.data.toList.drop 22 = dktX14_fliesIt_1 := dk_seg dksX14_fliesIt_0 22 rfl rfl
theorem dksX14_fliesIt_2 : cX14_fliesIt.data.toList.drop 45 = dktX14_fliesIt_2 := dk_seg dksX14_fliesIt_1 23 rfl rfl
theorem dksX14_fliesIt_3 : cX14_fliesIt.data.toList.drop 69 = dktX14_fliesIt_3 := dk_seg dksX14_fliesIt_2 24 rfl rfl
theorem dksX14_fliesIt_4 : cX14_fliesIt.data.toList.drop 93 = dktX14_fliesIt_4 := dk_seg dksX14_fliesIt_3 24 rfl rfl
theorem dX14_fliesIt_0 : decode cX14_fliesIt 0 = .ok (.aload_n 0, 1) := dk_42 (dk_at dksX14_fliesIt_0 0 rfl rfl)
theorem dX14_fliesIt_1 : decode cX14_fliesIt 1 = .ok (.getfield 459, 3) := dk_180 1 203 (dk_at dksX14_fliesIt_0 1 rfl rfl)
theorem dX14_fliesIt_4 : decode cX14_fliesIt 4 = .ok (.iconst 5, 1) := dk_8 (dk_at dksX14_fliesIt_0 4 rfl rfl)
theorem dX14_fliesIt_5 : decode cX14_fliesIt 5 = .ok (.if_icmp .ne 16, 3) := dk_160 0 16 (dk_at dksX14_fliesIt_0 5 rfl rfl)
theorem dX14_fliesIt_8 : decode cX14_fliesIt 8 = .ok (.aload_n 0, 1) := dk_42 (dk_at dksX14_fliesIt_0 8 rfl rfl)
theorem dX14_fliesIt_9 : decode cX14_fliesIt 9 = .ok (.bipush 62, 2) := dk_16 62 (dk_at dksX14_fliesIt_0 9 rfl rfl)
theorem dX14_fliesIt_11 : decode cX14_fliesIt 11 = .ok (.invokevirtual 462, 3) := dk_182 1 206 (dk_at dksX14_fliesIt_0 11 rfl rfl)
theorem dX14_fliesIt_14 : decode cX14_fliesIt 14 = .ok (.iload_n 1, 1) := dk_27 (dk_at dksX14_fliesIt_0 14 rfl rfl)
theorem dX14_fliesIt_15 : decode cX14_fliesIt 15 = .ok (.aload_n 0, 1) := dk_42 (dk_at dksX14_fliesIt_0 15 rfl rfl)
theorem dX14_fliesIt_16 : decode cX14_fliesIt 16 = .ok (.getfield 465, 3) := dk_180 1 209 (dk_at dksX14_fliesIt_0 16 rfl rfl)
theorem dX14_fliesIt_19 : decode cX14_fliesIt 19 = .ok (.iand, 1) := dk_126 (dk_at dksX14_fliesIt_0 19 rfl rfl)
theorem dX14_fliesIt_20 : decode cX14_fliesIt 20 = .ok (.ireturn, 1) := dk_172 (dk_at dksX14_fliesIt_0 20 rfl rfl)
theorem dX14_fliesIt_21 : decode cX14_fliesIt 21 = .ok (.aload_n 0, 1) := dk_42 (dk_at dksX14_fliesIt_0 21 rfl rfl)
theorem dX14_fliesIt_22 : decode cX14_fliesIt 22 = .ok (.getfield 459, 3) := dk_180 1 203 (dk_at dksX14_fliesIt_1 0 rfl rfl)
theorem dX14_fliesIt_25 : decode cX14_fliesIt 25 = .ok (.bipush 6, 2) := dk_16 6 (dk_at dksX14_fliesIt_1 3 rfl rfl)
theorem dX14_fliesIt_27 : decode cX14_fliesIt 27 = .ok (.if_icmp .ne 23, 3) := dk_160 0 23 (dk_at dksX14_fliesIt_1 5 rfl rfl)
theorem dX14_fliesIt_30 : decode cX14_fliesIt 30 = .ok (.aload_n 0, 1) := dk_42 (dk_at dksX14_fliesIt_1 8 rfl rfl)
theorem dX14_fliesIt_31 : decode cX14_fliesIt 31 = .ok (.bipush 72, 2) := dk_16 72 (dk_at dksX14_fliesIt_1 9 rfl rfl)
theorem dX14_fliesIt_33 : decode cX14_fliesIt 33 = .ok (.invokevirtual 462, 3) := dk_182 1 206 (dk_at dksX14_fliesIt_1 11 rfl rfl)
theorem dX14_fliesIt_36 : decode cX14_fliesIt 36 = .ok (.aload_n 0, 1) := dk_42 (dk_at dksX14_fliesIt_1 14 rfl rfl)
theorem dX14_fliesIt_37 : decode cX14_fliesIt 37 = .ok (.iload_n 1, 1) := dk_27 (dk_at dksX14_fliesIt_1 15 rfl rfl)
theorem dX14_fliesIt_38 : decode cX14_fliesIt 38 = .ok (.invokevirtual 468, 3) := dk_182 1 212 (dk_at dksX14_fliesIt_1 16 rfl rfl)
theorem dX14_fliesIt_41 : decode cX14_fliesIt 41 = .ok (.istore_n 2, 1) := dk_61 (dk_at dksX14_fliesIt_1 19 rfl rfl)
theorem dX14_fliesIt_42 : decode cX14_fliesIt 42 = .ok (.iload_n 2, 1) := dk_28 (dk_at dksX14_fliesIt_1 20 rfl rfl)
theorem dX14_fliesIt_43 : decode cX14_fliesIt 43 = .ok (.aload_n 0, 1) := dk_42 (dk_at dksX14_fliesIt_1 21 rfl rfl)
theorem dX14_fliesIt_44 : decode cX14_fliesIt 44 = .ok (.iload_n 1, 1) := dk_27 (dk_at dksX14_fliesIt_1 22 rfl rfl)
theorem dX14_fliesIt_45 : decode cX14_fliesIt 45 = .ok (.invokevirtual 477, 3) := dk_182 1 221 (dk_at dksX14_fliesIt_2 0 rfl rfl)
theorem dX14_fliesIt_48 : decode cX14_fliesIt 48 = .ok (.iadd, 1) := dk_96 (dk_at dksX14_fliesIt_2 3 rfl rfl)
theorem dX14_fliesIt_49 : decode cX14_fliesIt 49 = .ok (.ireturn, 1) := dk_172 (dk_at dksX14_fliesIt_2 4 rfl rfl)
theorem dX14_fliesIt_50 : decode cX14_fliesIt 50 = .ok (.iload_n 1, 1) := dk_27 (dk_at dksX14_fliesIt_2 5 rfl rfl)
theorem dX14_fliesIt_51 : decode cX14_fliesIt 51 = .ok (.istore_n 2, 1) := dk_61 (dk_at dksX14_fliesIt_2 6 rfl rfl)
theorem dX14_fliesIt_52 : decode cX14_fliesIt 52 = .ok (.aload_n 0, 1) := dk_42 (dk_at dksX14_fliesIt_2 7 rfl rfl)
theorem dX14_fliesIt_53 : decode cX14_fliesIt 53 = .ok (.getfield 459, 3) := dk_180 1 203 (dk_at dksX14_fliesIt_2 8 rfl rfl)
theorem dX14_fliesIt_56 : decode cX14_fliesIt 56 = .ok (.iconst 3, 1) := dk_6 (dk_at dksX14_fliesIt_2 11 rfl rfl)
theorem dX14_fliesIt_57 : decode cX14_fliesIt 57 = .ok (.if_icmp .ne 13, 3) := dk_160 0 13 (dk_at dksX14_fliesIt_2 12 rfl rfl)
theorem dX14_fliesIt_60 : decode cX14_fliesIt 60 = .ok (.aload_n 0, 1) := dk_42 (dk_at dksX14_fliesIt_2 15 rfl rfl)
theorem dX14_fliesIt_61 : decode cX14_fliesIt 61 = .ok (.bipush 41, 2) := dk_16 41 (dk_at dksX14_fliesIt_2 16 rfl rfl)
theorem dX14_fliesIt_63 : decode cX14_fliesIt 63 = .ok (.invokevirtual 462, 3) := dk_182 1 206 (dk_at dksX14_fliesIt_2 18 rfl rfl)
theorem dX14_fliesIt_66 : decode cX14_fliesIt 66 = .ok (.iload_n 1, 1) := dk_27 (dk_at dksX14_fliesIt_2 21 rfl rfl)
theorem dX14_fliesIt_67 : decode cX14_fliesIt 67 = .ok (.iconst 1, 1) := dk_4 (dk_at dksX14_fliesIt_2 22 rfl rfl)
theorem dX14_fliesIt_68 : decode cX14_fliesIt 68 = .ok (.isub, 1) := dk_100 (dk_at dksX14_fliesIt_2 23 rfl rfl)
theorem dX14_fliesIt_69 : decode cX14_fliesIt 69 = .ok (.istore_n 2, 1) := dk_61 (dk_at dksX14_fliesIt_3 0 rfl rfl)
theorem dX14_fliesIt_70 : decode cX14_fliesIt 70 = .ok (.aload_n 0, 1) := dk_42 (dk_at dksX14_fliesIt_3 1 rfl rfl)
theorem dX14_fliesIt_71 : decode cX14_fliesIt 71 = .ok (.bipush 12, 2) := dk_16 12 (dk_at dksX14_fliesIt_3 2 rfl rfl)
theorem dX14_fliesIt_73 : decode cX14_fliesIt 73 = .ok (.invokevirtual 462, 3) := dk_182 1 206 (dk_at dksX14_fliesIt_3 4 rfl rfl)
theorem dX14_fliesIt_76 : decode cX14_fliesIt 76 = .ok (.aload_n 0, 1) := dk_42 (dk_at dksX14_fliesIt_3 7 rfl rfl)
theorem dX14_fliesIt_77 : decode cX14_fliesIt 77 = .ok (.getfield 465, 3) := dk_180 1 209 (dk_at dksX14_fliesIt_3 8 rfl rfl)
theorem dX14_fliesIt_80 : decode cX14_fliesIt 80 = .ok (.aload_n 0, 1) := dk_42 (dk_at dksX14_fliesIt_3 11 rfl rfl)
theorem dX14_fliesIt_81 : decode cX14_fliesIt 81 = .ok (.getfield 474, 3) := dk_180 1 218 (dk_at dksX14_fliesIt_3 12 rfl rfl)
theorem dX14_fliesIt_84 : decode cX14_fliesIt 84 = .ok (.if_icmp .ne 10, 3) := dk_160 0 10 (dk_at dksX14_fliesIt_3 15 rfl rfl)
theorem dX14_fliesIt_87 : decode cX14_fliesIt 87 = .ok (.aload_n 0, 1) := dk_42 (dk_at dksX14_fliesIt_3 18 rfl rfl)
theorem dX14_fliesIt_88 : decode cX14_fliesIt 88 = .ok (.iconst 1, 1) := dk_4 (dk_at dksX14_fliesIt_3 19 rfl rfl)
theorem dX14_fliesIt_89 : decode cX14_fliesIt 89 = .ok (.putfield 480, 3) := dk_181 1 224 (dk_at dksX14_fliesIt_3 20 rfl rfl)
theorem dX14_fliesIt_92 : decode cX14_fliesIt 92 = .ok (.iconst 0, 1) := dk_3 (dk_at dksX14_fliesIt_3 23 rfl rfl)
theorem dX14_fliesIt_93 : decode cX14_fliesIt 93 = .ok (.ireturn, 1) := dk_172 (dk_at dksX14_fliesIt_4 0 rfl rfl)
theorem dX14_fliesIt_94 : decode cX14_fliesIt 94 = .ok (.iload_n 2, 1) := dk_28 (dk_at dksX14_fliesIt_4 1 rfl rfl)
theorem dX14_fliesIt_95 : decode cX14_fliesIt 95 = .ok (.aload_n 0, 1) := dk_42 (dk_at dksX14_fliesIt_4 2 rfl rfl)
theorem dX14_fliesIt_96 : decode cX14_fliesIt 96 = .ok (.getfield 465, 3) := dk_180 1 209 (dk_at dksX14_fliesIt_4 3 rfl rfl)
theorem dX14_fliesIt_99 : decode cX14_fliesIt 99 = .ok (.aload_n 0, 1) := dk_42 (dk_at dksX14_fliesIt_4 6 rfl rfl)
theorem dX14_fliesIt_100 : decode cX14_fliesIt 100 = .ok (.getfield 474, 3) := dk_180 1 218 (dk_at dksX14_fliesIt_4 7 rfl rfl)
theorem dX14_fliesIt_103 : decode cX14_fliesIt 103 = .ok (.isub, 1) := dk_100 (dk_at dksX14_fliesIt_4 10 rfl rfl)
theorem dX14_fliesIt_104 : decode cX14_fliesIt 104 = .ok (.idiv, 1) := dk_108 (dk_at dksX14_fliesIt_4 11 rfl rfl)
theorem dX14_fliesIt_105 : decode cX14_fliesIt 105 = .ok (.ireturn, 1) := dk_172 (dk_at dksX14_fliesIt_4 12 rfl rfl)
abbrev cX14_tellsIt : ByteArray := prog_33_method_108_code
def yX14_tellsIt : MethodName := ⟨RX14, "tellsIt", "(I)I"⟩
def dkwX14_tellsIt_3 : List UInt8 := [27, 182, 1, 231, 61, 28, 42, 42, 180, 1, 218, 4, 96, 182, 1, 228, 96, 172, 42, 27, 182, 1, 231, 172]
abbrev dktX14_tellsIt_3 : List UInt8 := dkwX14_tellsIt_3 ++ []
def dkwX14_tellsIt_2 : List UInt8 := [172, 42, 180, 1, 203, 5, 159, 0, 11, 42, 180, 1, 203, 6, 160, 0, 28, 42, 16, 31, 182, 1, 206, 42]
abbrev dktX14_tellsIt_2 : List UInt8 := dkwX14_tellsIt_2 ++ dktX14_tellsIt_3
def dkwX14_tellsIt_1 : List UInt8 := [180, 1, 203, 16, 6, 160, 0, 20, 42, 16, 73, 182, 1, 206, 42, 27, 182, 1, 228, 42, 180, 1, 209, 130]
abbrev dktX14_tellsIt_1 : List UInt8 := dkwX14_tellsIt_1 ++ dktX14_tellsIt_2
def dkwX14_tellsIt_0 : List UInt8 := [42, 180, 1, 203, 8, 160, 0, 18, 42, 16, 63, 182, 1, 206, 42, 27, 182, 1, 221, 16, 7, 104, 172, 42]
abbrev dktX14_tellsIt_0 : List UInt8 := dkwX14_tellsIt_0 ++ dktX14_tellsIt_1
theorem dksX14_tellsIt_0 : cX14_tellsIt.data.toList.drop 0 = dktX14_tellsIt_0 := by decide +kernel
theorem dksX14_tellsIt_1 : cX14_tellsIt.data.toList.drop 24 = dktX14_tellsIt_1 := dk_seg dksX14_tellsIt_0 24 rfl rfl
theorem dksX14_tellsIt_2 : cX14_tellsIt.data.toList.drop 48 = dktX14_tellsIt_2 := dk_seg dksX14_tellsIt_1 24 rfl rfl
theorem dksX14_tellsIt_3 : cX14_tellsIt.data.toList.drop 72 = dktX14_tellsIt_3 := dk_seg dksX14_tellsIt_2 24 rfl rfl
theorem dX14_tellsIt_0 : decode cX14_tellsIt 0 = .ok (.aload_n 0, 1) := dk_42 (dk_at dksX14_tellsIt_0 0 rfl rfl)
theorem dX14_tellsIt_1 : decode cX14_tellsIt 1 = .ok (.getfield 459, 3) := dk_180 1 203 (dk_at dksX14_tellsIt_0 1 rfl rfl)
theorem dX14_tellsIt_4 : decode cX14_tellsIt 4 = .ok (.iconst 5, 1) := dk_8 (dk_at dksX14_tellsIt_0 4 rfl rfl)
theorem dX14_tellsIt_5 : decode cX14_tellsIt 5 = .ok (.if_icmp .ne 18, 3) := dk_160 0 18 (dk_at dksX14_tellsIt_0 5 rfl rfl)
theorem dX14_tellsIt_8 : decode cX14_tellsIt 8 = .ok (.aload_n 0, 1) := dk_42 (dk_at dksX14_tellsIt_0 8 rfl rfl)
theorem dX14_tellsIt_9 : decode cX14_tellsIt 9 = .ok (.bipush 63, 2) := dk_16 63 (dk_at dksX14_tellsIt_0 9 rfl rfl)
theorem dX14_tellsIt_11 : decode cX14_tellsIt 11 = .ok (.invokevirtual 462, 3) := dk_182 1 206 (dk_at dksX14_tellsIt_0 11 rfl rfl)
theorem dX14_tellsIt_14 : decode cX14_tellsIt 14 = .ok (.aload_n 0, 1) := dk_42 (dk_at dksX14_tellsIt_0 14 rfl rfl)
theorem dX14_tellsIt_15 : decode cX14_tellsIt 15 = .ok (.iload_n 1, 1) := dk_27 (dk_at dksX14_tellsIt_0 15 rfl rfl)
theorem dX14_tellsIt_16 : decode cX14_tellsIt 16 = .ok (.invokevirtual 477, 3) := dk_182 1 221 (dk_at dksX14_tellsIt_0 16 rfl rfl)
theorem dX14_tellsIt_19 : decode cX14_tellsIt 19 = .ok (.bipush 7, 2) := dk_16 7 (dk_at dksX14_tellsIt_0 19 rfl rfl)
theorem dX14_tellsIt_21 : decode cX14_tellsIt 21 = .ok (.imul, 1) := dk_104 (dk_at dksX14_tellsIt_0 21 rfl rfl)
theorem dX14_tellsIt_22 : decode cX14_tellsIt 22 = .ok (.ireturn, 1) := dk_172 (dk_at dksX14_tellsIt_0 22 rfl rfl)
theorem dX14_tellsIt_23 : decode cX14_tellsIt 23 = .ok (.aload_n 0, 1) := dk_42 (dk_at dksX14_tellsIt_0 23 rfl rfl)
theorem dX14_tellsIt_24 : decode cX14_tellsIt 24 = .ok (.getfield 459, 3) := dk_180 1 203 (dk_at dksX14_tellsIt_1 0 rfl rfl)
theorem dX14_tellsIt_27 : decode cX14_tellsIt 27 = .ok (.bipush 6, 2) := dk_16 6 (dk_at dksX14_tellsIt_1 3 rfl rfl)
theorem dX14_tellsIt_29 : decode cX14_tellsIt 29 = .ok (.if_icmp .ne 20, 3) := dk_160 0 20 (dk_at dksX14_tellsIt_1 5 rfl rfl)
theorem dX14_tellsIt_32 : decode cX14_tellsIt 32 = .ok (.aload_n 0, 1) := dk_42 (dk_at dksX14_tellsIt_1 8 rfl rfl)
theorem dX14_tellsIt_33 : decode cX14_tellsIt 33 = .ok (.bipush 73, 2) := dk_16 73 (dk_at dksX14_tellsIt_1 9 rfl rfl)
theorem dX14_tellsIt_35 : decode cX14_tellsIt 35 = .ok (.invokevirtual 462, 3) := dk_182 1 206 (dk_at dksX14_tellsIt_1 11 rfl rfl)
theorem dX14_tellsIt_38 : decode cX14_tellsIt 38 = .ok (.aload_n 0, 1) := dk_42 (dk_at dksX14_tellsIt_1 14 rfl rfl)
theorem dX14_tellsIt_39 : decode cX14_tellsIt 39 = .ok (.iload_n 1, 1) := dk_27 (dk_at dksX14_tellsIt_1 15 rfl rfl)
theorem dX14_tellsIt_40 : decode cX14_tellsIt 40 = .ok (.invokevirtual 484, 3) := dk_182 1 228 (dk_at dksX14_tellsIt_1 16 rfl rfl)
theorem dX14_tellsIt_43 : decode cX14_tellsIt 43 = .ok (.aload_n 0, 1) := dk_42 (dk_at dksX14_tellsIt_1 19 rfl rfl)
theorem dX14_tellsIt_44 : decode cX14_tellsIt 44 = .ok (.getfield 465, 3) := dk_180 1 209 (dk_at dksX14_tellsIt_1 20 rfl rfl)
theorem dX14_tellsIt_47 : decode cX14_tellsIt 47 = .ok (.ixor, 1) := dk_130 (dk_at dksX14_tellsIt_1 23 rfl rfl)
theorem dX14_tellsIt_48 : decode cX14_tellsIt 48 = .ok (.ireturn, 1) := dk_172 (dk_at dksX14_tellsIt_2 0 rfl rfl)
theorem dX14_tellsIt_49 : decode cX14_tellsIt 49 = .ok (.aload_n 0, 1) := dk_42 (dk_at dksX14_tellsIt_2 1 rfl rfl)
theorem dX14_tellsIt_50 : decode cX14_tellsIt 50 = .ok (.getfield 459, 3) := dk_180 1 203 (dk_at dksX14_tellsIt_2 2 rfl rfl)
theorem dX14_tellsIt_53 : decode cX14_tellsIt 53 = .ok (.iconst 2, 1) := dk_5 (dk_at dksX14_tellsIt_2 5 rfl rfl)
theorem dX14_tellsIt_54 : decode cX14_tellsIt 54 = .ok (.if_icmp .eq 11, 3) := dk_159 0 11 (dk_at dksX14_tellsIt_2 6 rfl rfl)
theorem dX14_tellsIt_57 : decode cX14_tellsIt 57 = .ok (.aload_n 0, 1) := dk_42 (dk_at dksX14_tellsIt_2 9 rfl rfl)
theorem dX14_tellsIt_58 : decode cX14_tellsIt 58 = .ok (.getfield 459, 3) := dk_180 1 203 (dk_at dksX14_tellsIt_2 10 rfl rfl)
theorem dX14_tellsIt_61 : decode cX14_tellsIt 61 = .ok (.iconst 3, 1) := dk_6 (dk_at dksX14_tellsIt_2 13 rfl rfl)
theorem dX14_tellsIt_62 : decode cX14_tellsIt 62 = .ok (.if_icmp .ne 28, 3) := dk_160 0 28 (dk_at dksX14_tellsIt_2 14 rfl rfl)
theorem dX14_tellsIt_65 : decode cX14_tellsIt 65 = .ok (.aload_n 0, 1) := dk_42 (dk_at dksX14_tellsIt_2 17 rfl rfl)
theorem dX14_tellsIt_66 : decode cX14_tellsIt 66 = .ok (.bipush 31, 2) := dk_16 31 (dk_at dksX14_tellsIt_2 18 rfl rfl)
theorem dX14_tellsIt_68 : decode cX14_tellsIt 68 = .ok (.invokevirtual 462, 3) := dk_182 1 206 (dk_at dksX14_tellsIt_2 20 rfl rfl)
theorem dX14_tellsIt_71 : decode cX14_tellsIt 71 = .ok (.aload_n 0, 1) := dk_42 (dk_at dksX14_tellsIt_2 23 rfl rfl)
theorem dX14_tellsIt_72 : decode cX14_tellsIt 72 = .ok (.iload_n 1, 1) := dk_27 (dk_at dksX14_tellsIt_3 0 rfl rfl)
theorem dX14_tellsIt_73 : decode cX14_tellsIt 73 = .ok (.invokevirtual 487, 3) := dk_182 1 231 (dk_at dksX14_tellsIt_3 1 rfl rfl)
theorem dX14_tellsIt_76 : decode cX14_tellsIt 76 = .ok (.istore_n 2, 1) := dk_61 (dk_at dksX14_tellsIt_3 4 rfl rfl)
theorem dX14_tellsIt_77 : decode cX14_tellsIt 77 = .ok (.iload_n 2, 1) := dk_28 (dk_at dksX14_tellsIt_3 5 rfl rfl)
theorem dX14_tellsIt_78 : decode cX14_tellsIt 78 = .ok (.aload_n 0, 1) := dk_42 (dk_at dksX14_tellsIt_3 6 rfl rfl)
theorem dX14_tellsIt_79 : decode cX14_tellsIt 79 = .ok (.aload_n 0, 1) := dk_42 (dk_at dksX14_tellsIt_3 7 rfl rfl)
theorem dX14_tellsIt_80 : decode cX14_tellsIt 80 = .ok (.getfield 474, 3) := dk_180 1 218 (dk_at dksX14_tellsIt_3 8 rfl rfl)
theorem dX14_tellsIt_83 : decode cX14_tellsIt 83 = .ok (.iconst 1, 1) := dk_4 (dk_at dksX14_tellsIt_3 11 rfl rfl)
theorem dX14_tellsIt_84 : decode cX14_tellsIt 84 = .ok (.iadd, 1) := dk_96 (dk_at dksX14_tellsIt_3 12 rfl rfl)
theorem dX14_tellsIt_85 : decode cX14_tellsIt 85 = .ok (.invokevirtual 484, 3) := dk_182 1 228 (dk_at dksX14_tellsIt_3 13 rfl rfl)
theorem dX14_tellsIt_88 : decode cX14_tellsIt 88 = .ok (.iadd, 1) := dk_96 (dk_at dksX14_tellsIt_3 16 rfl rfl)
theorem dX14_tellsIt_89 : decode cX14_tellsIt 89 = .ok (.ireturn, 1) := dk_172 (dk_at dksX14_tellsIt_3 17 rfl rfl)
theorem dX14_tellsIt_90 : decode cX14_tellsIt 90 = .ok (.aload_n 0, 1) := dk_42 (dk_at dksX14_tellsIt_3 18 rfl rfl)
theorem dX14_tellsIt_91 : decode cX14_tellsIt 91 = .ok (.iload_n 1, 1) := dk_27 (dk_at dksX14_tellsIt_3 19 rfl rfl)
theorem dX14_tellsIt_92 : decode cX14_tellsIt 92 = .ok (.invokevirtual 487, 3) := dk_182 1 231 (dk_at dksX14_tellsIt_3 20 rfl rfl)
theorem dX14_tellsIt_95 : decode cX14_tellsIt 95 = .ok (.ireturn, 1) := dk_172 (dk_at dksX14_tellsIt_3 23 rfl rfl)
abbrev cX14_patchTells : ByteArray := prog_33_method_107_code
def yX14_patchTells : MethodName := ⟨RX14, "patchTells", "(I)I"⟩
def dkwX14_patchTells_0 : List UInt8 := [42, 16, 13, 182, 1, 206, 42, 27, 182, 1, 221, 42, 180, 1, 218, 130, 172]
abbrev dktX14_patchTells_0 : List UInt8 := dkwX14_patchTells_0 ++ []
theorem dksX14_patchTells_0 : cX14_patchTells.data.toList.drop 0 = dktX14_patchTells_0 := by decide +kernel
theorem dX14_patchTells_0 : decode cX14_patchTells 0 = .ok (.aload_n 0, 1) := dk_42 (dk_at dksX14_patchTells_0 0 rfl rfl)
theorem dX14_patchTells_1 : decode cX14_patchTells 1 = .ok (.bipush 13, 2) := dk_16 13 (dk_at dksX14_patchTells_0 1 rfl rfl)
theorem dX14_patchTells_3 : decode cX14_patchTells 3 = .ok (.invokevirtual 462, 3) := dk_182 1 206 (dk_at dksX14_patchTells_0 3 rfl rfl)
theorem dX14_patchTells_6 : decode cX14_patchTells 6 = .ok (.aload_n 0, 1) := dk_42 (dk_at dksX14_patchTells_0 6 rfl rfl)
theorem dX14_patchTells_7 : decode cX14_patchTells 7 = .ok (.iload_n 1, 1) := dk_27 (dk_at dksX14_patchTells_0 7 rfl rfl)
theorem dX14_patchTells_8 : decode cX14_patchTells 8 = .ok (.invokevirtual 477, 3) := dk_182 1 221 (dk_at dksX14_patchTells_0 8 rfl rfl)
theorem dX14_patchTells_11 : decode cX14_patchTells 11 = .ok (.aload_n 0, 1) := dk_42 (dk_at dksX14_patchTells_0 11 rfl rfl)
theorem dX14_patchTells_12 : decode cX14_patchTells 12 = .ok (.getfield 474, 3) := dk_180 1 218 (dk_at dksX14_patchTells_0 12 rfl rfl)
theorem dX14_patchTells_15 : decode cX14_patchTells 15 = .ok (.ixor, 1) := dk_130 (dk_at dksX14_patchTells_0 15 rfl rfl)
theorem dX14_patchTells_16 : decode cX14_patchTells 16 = .ok (.ireturn, 1) := dk_172 (dk_at dksX14_patchTells_0 16 rfl rfl)
abbrev cX14_trace : ByteArray := prog_33_method_111_code
def yX14_trace : MethodName := ⟨RX14, "trace", "(I)I"⟩
def dkwX14_trace_1 : List UInt8 := [16, 253, 172]
abbrev dktX14_trace_1 : List UInt8 := dkwX14_trace_1 ++ []
def dkwX14_trace_0 : List UInt8 := [27, 3, 42, 180, 1, 200, 4, 100, 184, 0, 133, 153, 0, 12, 42, 180, 0, 121, 27, 46, 167, 0, 5]
abbrev dktX14_trace_0 : List UInt8 := dkwX14_trace_0 ++ dktX14_trace_1
theorem dksX14_trace_0 : cX14_trace.data.toList.drop 0 = dktX14_trace_0 := by decide +kernel
theorem dksX14_trace_1 : cX14_trace.data.toList.drop 23 = dktX14_trace_1 := dk_seg dksX14_trace_0 23 rfl rfl
theorem dX14_trace_0 : decode cX14_trace 0 = .ok (.iload_n 1, 1) := dk_27 (dk_at dksX14_trace_0 0 rfl rfl)
theorem dX14_trace_1 : decode cX14_trace 1 = .ok (.iconst 0, 1) := dk_3 (dk_at dksX14_trace_0 1 rfl rfl)
theorem dX14_trace_2 : decode cX14_trace 2 = .ok (.aload_n 0, 1) := dk_42 (dk_at dksX14_trace_0 2 rfl rfl)
theorem dX14_trace_3 : decode cX14_trace 3 = .ok (.getfield 456, 3) := dk_180 1 200 (dk_at dksX14_trace_0 3 rfl rfl)
theorem dX14_trace_6 : decode cX14_trace 6 = .ok (.iconst 1, 1) := dk_4 (dk_at dksX14_trace_0 6 rfl rfl)
theorem dX14_trace_7 : decode cX14_trace 7 = .ok (.isub, 1) := dk_100 (dk_at dksX14_trace_0 7 rfl rfl)
theorem dX14_trace_8 : decode cX14_trace 8 = .ok (.invokestatic 133, 3) := dk_184 0 133 (dk_at dksX14_trace_0 8 rfl rfl)
theorem dX14_trace_11 : decode cX14_trace 11 = .ok (.ifCond .eq 12, 3) := dk_153 0 12 (dk_at dksX14_trace_0 11 rfl rfl)
theorem dX14_trace_14 : decode cX14_trace 14 = .ok (.aload_n 0, 1) := dk_42 (dk_at dksX14_trace_0 14 rfl rfl)
theorem dX14_trace_15 : decode cX14_trace 15 = .ok (.getfield 121, 3) := dk_180 0 121 (dk_at dksX14_trace_0 15 rfl rfl)
theorem dX14_trace_18 : decode cX14_trace 18 = .ok (.iload_n 1, 1) := dk_27 (dk_at dksX14_trace_0 18 rfl rfl)
theorem dX14_trace_19 : decode cX14_trace 19 = .ok (.iaload, 1) := dk_46 (dk_at dksX14_trace_0 19 rfl rfl)
theorem dX14_trace_20 : decode cX14_trace 20 = .ok (.goto 5, 3) := dk_167 0 5 (dk_at dksX14_trace_0 20 rfl rfl)
theorem dX14_trace_23 : decode cX14_trace 23 = .ok (.bipush (-3), 2) := dk_16 253 (dk_at dksX14_trace_1 0 rfl rfl)
theorem dX14_trace_25 : decode cX14_trace 25 = .ok (.ireturn, 1) := dk_172 (dk_at dksX14_trace_1 2 rfl rfl)
abbrev cX14_many : ByteArray := prog_33_method_112_code
def yX14_many : MethodName := ⟨RX14, "many", "(I)I"⟩
def dkwX14_many_4 : List UInt8 := [180, 0, 169, 172, 2, 172]
abbrev dktX14_many_4 : List UInt8 := dkwX14_many_4 ++ []
def dkwX14_many_3 : List UInt8 := [172, 42, 180, 1, 200, 172, 42, 180, 0, 166, 172, 42, 180, 0, 172, 172, 42, 180, 0, 7, 172, 42]
abbrev dktX14_many_3 : List UInt8 := dkwX14_many_3 ++ dktX14_many_4
def dkwX14_many_2 : List UInt8 := [42, 180, 0, 130, 172, 42, 180, 0, 242, 172, 42, 180, 1, 137, 172, 42, 180, 1, 176, 172, 42, 180, 1, 31]
abbrev dktX14_many_2 : List UInt8 := dkwX14_many_2 ++ dktX14_many_3
def dkwX14_many_1 : List UInt8 := [170, 0, 0, 0, 0, 0, 105, 0, 0, 0, 0, 0, 0, 0, 9, 0, 0, 0, 55, 0, 0, 0, 60, 0, 0, 0, 65, 0, 0, 0, 70, 0, 0, 0, 75, 0, 0, 0, 80, 0, 0, 0, 85, 0, 0, 0, 90, 0, 0, 0, 95, 0, 0, 0, 100]
abbrev dktX14_many_1 : List UInt8 := dkwX14_many_1 ++ dktX14_many_2
def dkwX14_many_0 : List UInt8 := [27]
abbrev dktX14_many_0 : List UInt8 := dkwX14_many_0 ++ dktX14_many_1
theorem dksX14_many_0 : cX14_many.data.toList.drop 0 = dktX14_many_0 := by decide +kernel
theorem dksX14_many_1 : cX14_many.data.toList.drop 1 = dktX14_many_1 := dk_seg dksX14_many_0 1 rfl rfl
theorem dksX14_many_2 : cX14_many.data.toList.drop 56 = dktX14_many_2 := dk_seg dksX14_many_1 55 rfl rfl
theorem dksX14_many_3 : cX14_many.data.toList.drop 80 = dktX14_many_3 := dk_seg dksX14_many_2 24 rfl rfl
theorem dksX14_many_4 : cX14_many.data.toList.drop 102 = dktX14_many_4 := dk_seg dksX14_many_3 22 rfl rfl
theorem dX14_many_0 : decode cX14_many 0 = .ok (.iload_n 1, 1) := dk_27 (dk_at dksX14_many_0 0 rfl rfl)
theorem dX14_many_1 : decode cX14_many 1 = .ok (.tableswitch 105 0 9 #[55, 60, 65, 70, 75, 80, 85, 90, 95, 100], 55) := by decide +kernel
theorem dX14_many_56 : decode cX14_many 56 = .ok (.aload_n 0, 1) := dk_42 (dk_at dksX14_many_2 0 rfl rfl)
theorem dX14_many_57 : decode cX14_many 57 = .ok (.getfield 130, 3) := dk_180 0 130 (dk_at dksX14_many_2 1 rfl rfl)
theorem dX14_many_60 : decode cX14_many 60 = .ok (.ireturn, 1) := dk_172 (dk_at dksX14_many_2 4 rfl rfl)
theorem dX14_many_61 : decode cX14_many 61 = .ok (.aload_n 0, 1) := dk_42 (dk_at dksX14_many_2 5 rfl rfl)
theorem dX14_many_62 : decode cX14_many 62 = .ok (.getfield 242, 3) := dk_180 0 242 (dk_at dksX14_many_2 6 rfl rfl)
theorem dX14_many_65 : decode cX14_many 65 = .ok (.ireturn, 1) := dk_172 (dk_at dksX14_many_2 9 rfl rfl)
theorem dX14_many_66 : decode cX14_many 66 = .ok (.aload_n 0, 1) := dk_42 (dk_at dksX14_many_2 10 rfl rfl)
theorem dX14_many_67 : decode cX14_many 67 = .ok (.getfield 393, 3) := dk_180 1 137 (dk_at dksX14_many_2 11 rfl rfl)
theorem dX14_many_70 : decode cX14_many 70 = .ok (.ireturn, 1) := dk_172 (dk_at dksX14_many_2 14 rfl rfl)
theorem dX14_many_71 : decode cX14_many 71 = .ok (.aload_n 0, 1) := dk_42 (dk_at dksX14_many_2 15 rfl rfl)
theorem dX14_many_72 : decode cX14_many 72 = .ok (.getfield 432, 3) := dk_180 1 176 (dk_at dksX14_many_2 16 rfl rfl)
theorem dX14_many_75 : decode cX14_many 75 = .ok (.ireturn, 1) := dk_172 (dk_at dksX14_many_2 19 rfl rfl)
theorem dX14_many_76 : decode cX14_many 76 = .ok (.aload_n 0, 1) := dk_42 (dk_at dksX14_many_2 20 rfl rfl)
theorem dX14_many_77 : decode cX14_many 77 = .ok (.getfield 287, 3) := dk_180 1 31 (dk_at dksX14_many_2 21 rfl rfl)
theorem dX14_many_80 : decode cX14_many 80 = .ok (.ireturn, 1) := dk_172 (dk_at dksX14_many_3 0 rfl rfl)
theorem dX14_many_81 : decode cX14_many 81 = .ok (.aload_n 0, 1) := dk_42 (dk_at dksX14_many_3 1 rfl rfl)
theorem dX14_many_82 : decode cX14_many 82 = .ok (.getfield 456, 3) := dk_180 1 200 (dk_at dksX14_many_3 2 rfl rfl)
theorem dX14_many_85 : decode cX14_many 85 = .ok (.ireturn, 1) := dk_172 (dk_at dksX14_many_3 5 rfl rfl)
theorem dX14_many_86 : decode cX14_many 86 = .ok (.aload_n 0, 1) := dk_42 (dk_at dksX14_many_3 6 rfl rfl)
theorem dX14_many_87 : decode cX14_many 87 = .ok (.getfield 166, 3) := dk_180 0 166 (dk_at dksX14_many_3 7 rfl rfl)
theorem dX14_many_90 : decode cX14_many 90 = .ok (.ireturn, 1) := dk_172 (dk_at dksX14_many_3 10 rfl rfl)
theorem dX14_many_91 : decode cX14_many 91 = .ok (.aload_n 0, 1) := dk_42 (dk_at dksX14_many_3 11 rfl rfl)
theorem dX14_many_92 : decode cX14_many 92 = .ok (.getfield 172, 3) := dk_180 0 172 (dk_at dksX14_many_3 12 rfl rfl)
theorem dX14_many_95 : decode cX14_many 95 = .ok (.ireturn, 1) := dk_172 (dk_at dksX14_many_3 15 rfl rfl)
theorem dX14_many_96 : decode cX14_many 96 = .ok (.aload_n 0, 1) := dk_42 (dk_at dksX14_many_3 16 rfl rfl)
theorem dX14_many_97 : decode cX14_many 97 = .ok (.getfield 7, 3) := dk_180 0 7 (dk_at dksX14_many_3 17 rfl rfl)
theorem dX14_many_100 : decode cX14_many 100 = .ok (.ireturn, 1) := dk_172 (dk_at dksX14_many_3 20 rfl rfl)
theorem dX14_many_101 : decode cX14_many 101 = .ok (.aload_n 0, 1) := dk_42 (dk_at dksX14_many_3 21 rfl rfl)
theorem dX14_many_102 : decode cX14_many 102 = .ok (.getfield 169, 3) := dk_180 0 169 (dk_at dksX14_many_4 0 rfl rfl)
theorem dX14_many_105 : decode cX14_many 105 = .ok (.ireturn, 1) := dk_172 (dk_at dksX14_many_4 3 rfl rfl)
theorem dX14_many_106 : decode cX14_many 106 = .ok (.iconst (-1), 1) := dk_2 (dk_at dksX14_many_4 4 rfl rfl)
theorem dX14_many_107 : decode cX14_many 107 = .ok (.ireturn, 1) := dk_172 (dk_at dksX14_many_4 5 rfl rfl)
abbrev cX14_keep : ByteArray := prog_33_method_115_code
def yX14_keep : MethodName := ⟨RX14, "keep", "()I"⟩
def dkwX14_keep_0 : List UInt8 := [42, 4, 182, 1, 247, 42, 4, 181, 1, 250, 4, 172]
abbrev dktX14_keep_0 : List UInt8 := dkwX14_keep_0 ++ []
theorem dksX14_keep_0 : cX14_keep.data.toList.drop 0 = dktX14_keep_0 := by decide +kernel
theorem dX14_keep_0 : decode cX14_keep 0 = .ok (.aload_n 0, 1) := dk_42 (dk_at dksX14_keep_0 0 rfl rfl)
theorem dX14_keep_1 : decode cX14_keep 1 = .ok (.iconst 1, 1) := dk_4 (dk_at dksX14_keep_0 1 rfl rfl)
theorem dX14_keep_2 : decode cX14_keep 2 = .ok (.invokevirtual 503, 3) := dk_182 1 247 (dk_at dksX14_keep_0 2 rfl rfl)
theorem dX14_keep_5 : decode cX14_keep 5 = .ok (.aload_n 0, 1) := dk_42 (dk_at dksX14_keep_0 5 rfl rfl)
theorem dX14_keep_6 : decode cX14_keep 6 = .ok (.iconst 1, 1) := dk_4 (dk_at dksX14_keep_0 6 rfl rfl)
theorem dX14_keep_7 : decode cX14_keep 7 = .ok (.putfield 506, 3) := dk_181 1 250 (dk_at dksX14_keep_0 7 rfl rfl)
theorem dX14_keep_10 : decode cX14_keep 10 = .ok (.iconst 1, 1) := dk_4 (dk_at dksX14_keep_0 10 rfl rfl)
theorem dX14_keep_11 : decode cX14_keep 11 = .ok (.ireturn, 1) := dk_172 (dk_at dksX14_keep_0 11 rfl rfl)
abbrev cX14_moveAll : ByteArray := prog_33_method_114_code
def yX14_moveAll : MethodName := ⟨RX14, "moveAll", "(Z)V"⟩
def dkwX14_moveAll_9 : List UInt8 := [182, 1, 243, 177]
abbrev dktX14_moveAll_9 : List UInt8 := dkwX14_moveAll_9 ++ []
def dkwX14_moveAll_8 : List UInt8 := [182, 1, 243, 42, 42, 180, 0, 32, 16, 6, 27, 182, 1, 243, 42, 42, 180, 0, 35, 17, 0, 210, 27]
abbrev dktX14_moveAll_8 : List UInt8 := dkwX14_moveAll_8 ++ dktX14_moveAll_9
def dkwX14_moveAll_7 : List UInt8 := [182, 1, 243, 42, 42, 180, 0, 26, 16, 40, 27, 182, 1, 243, 42, 42, 180, 0, 29, 16, 6, 27]
abbrev dktX14_moveAll_7 : List UInt8 := dkwX14_moveAll_7 ++ dktX14_moveAll_8
def dkwX14_moveAll_6 : List UInt8 := [182, 1, 243, 42, 42, 180, 0, 19, 16, 44, 27, 182, 1, 243, 42, 42, 180, 0, 23, 16, 16, 27]
abbrev dktX14_moveAll_6 : List UInt8 := dkwX14_moveAll_6 ++ dktX14_moveAll_7
def dkwX14_moveAll_5 : List UInt8 := [180, 1, 137, 79, 42, 180, 0, 127, 16, 11, 42, 180, 0, 141, 79, 42, 42, 180, 0, 127, 16, 12, 27]
abbrev dktX14_moveAll_5 : List UInt8 := dkwX14_moveAll_5 ++ dktX14_moveAll_6
def dkwX14_moveAll_4 : List UInt8 := [42, 180, 0, 130, 79, 42, 180, 0, 127, 16, 9, 42, 180, 0, 242, 79, 42, 180, 0, 127, 16, 10, 42]
abbrev dktX14_moveAll_4 : List UInt8 := dkwX14_moveAll_4 ++ dktX14_moveAll_5
def dkwX14_moveAll_3 : List UInt8 := [16, 6, 42, 180, 1, 9, 79, 42, 180, 0, 127, 16, 7, 42, 180, 1, 12, 79, 42, 180, 0, 127, 16, 8]
abbrev dktX14_moveAll_3 : List UInt8 := dkwX14_moveAll_3 ++ dktX14_moveAll_4
def dkwX14_moveAll_2 : List UInt8 := [180, 0, 127, 7, 42, 180, 0, 13, 79, 42, 180, 0, 127, 8, 42, 180, 0, 16, 79, 42, 180, 0, 127]
abbrev dktX14_moveAll_2 : List UInt8 := dkwX14_moveAll_2 ++ dktX14_moveAll_3
def dkwX14_moveAll_1 : List UInt8 := [79, 42, 180, 0, 127, 5, 42, 180, 0, 7, 79, 42, 180, 0, 127, 6, 42, 180, 0, 169, 79, 42]
abbrev dktX14_moveAll_1 : List UInt8 := dkwX14_moveAll_1 ++ dktX14_moveAll_2
def dkwX14_moveAll_0 : List UInt8 := [42, 3, 181, 1, 240, 42, 180, 0, 127, 3, 42, 180, 0, 166, 79, 42, 180, 0, 127, 4, 42, 180, 0, 172]
abbrev dktX14_moveAll_0 : List UInt8 := dkwX14_moveAll_0 ++ dktX14_moveAll_1
theorem dksX14_moveAll_0 : cX14_moveAll.data.toList.drop 0 = dktX14_moveAll_0 := by decide +kernel
theorem dksX14_moveAll_1 : cX14_moveAll.data.toList.drop 24 = dktX14_moveAll_1 := dk_seg dksX14_moveAll_0 24 rfl rfl
theorem dksX14_moveAll_2 : cX14_moveAll.data.toList.drop 46 = dktX14_moveAll_2 := dk_seg dksX14_moveAll_1 22 rfl rfl
theorem dksX14_moveAll_3 : cX14_moveAll.data.toList.drop 69 = dktX14_moveAll_3 := dk_seg dksX14_moveAll_2 23 rfl rfl
theorem dksX14_moveAll_4 : cX14_moveAll.data.toList.drop 93 = dktX14_moveAll_4 := dk_seg dksX14_moveAll_3 24 rfl rfl
theorem dksX14_moveAll_5 : cX14_moveAll.data.toList.drop 116 = dktX14_moveAll_5 := dk_seg dksX14_moveAll_4 23 rfl rfl
theorem dksX14_moveAll_6 : cX14_moveAll.data.toList.drop 139 = dktX14_moveAll_6 := dk_seg dksX14_moveAll_5 23 rfl rfl
theorem dksX14_moveAll_7 : cX14_moveAll.data.toList.drop 161 = dktX14_moveAll_7 := dk_seg dksX14_moveAll_6 22 rfl rfl
theorem dksX14_moveAll_8 : cX14_moveAll.data.toList.drop 183 = dktX14_moveAll_8 := dk_seg dksX14_moveAll_7 22 rfl rfl
theorem dksX14_moveAll_9 : cX14_moveAll.data.toList.drop 206 = dktX14_moveAll_9 := dk_seg dksX14_moveAll_8 23 rfl rfl
theorem dX14_moveAll_0 : decode cX14_moveAll 0 = .ok (.aload_n 0, 1) := dk_42 (dk_at dksX14_moveAll_0 0 rfl rfl)
theorem dX14_moveAll_1 : decode cX14_moveAll 1 = .ok (.iconst 0, 1) := dk_3 (dk_at dksX14_moveAll_0 1 rfl rfl)
theorem dX14_moveAll_2 : decode cX14_moveAll 2 = .ok (.putfield 496, 3) := dk_181 1 240 (dk_at dksX14_moveAll_0 2 rfl rfl)
theorem dX14_moveAll_5 : decode cX14_moveAll 5 = .ok (.aload_n 0, 1) := dk_42 (dk_at dksX14_moveAll_0 5 rfl rfl)
theorem dX14_moveAll_6 : decode cX14_moveAll 6 = .ok (.getfield 127, 3) := dk_180 0 127 (dk_at dksX14_moveAll_0 6 rfl rfl)
theorem dX14_moveAll_9 : decode cX14_moveAll 9 = .ok (.iconst 0, 1) := dk_3 (dk_at dksX14_moveAll_0 9 rfl rfl)
theorem dX14_moveAll_10 : decode cX14_moveAll 10 = .ok (.aload_n 0, 1) := dk_42 (dk_at dksX14_moveAll_0 10 rfl rfl)
theorem dX14_moveAll_11 : decode cX14_moveAll 11 = .ok (.getfield 166, 3) := dk_180 0 166 (dk_at dksX14_moveAll_0 11 rfl rfl)
theorem dX14_moveAll_14 : decode cX14_moveAll 14 = .ok (.iastore, 1) := dk_79 (dk_at dksX14_moveAll_0 14 rfl rfl)
theorem dX14_moveAll_15 : decode cX14_moveAll 15 = .ok (.aload_n 0, 1) := dk_42 (dk_at dksX14_moveAll_0 15 rfl rfl)
theorem dX14_moveAll_16 : decode cX14_moveAll 16 = .ok (.getfield 127, 3) := dk_180 0 127 (dk_at dksX14_moveAll_0 16 rfl rfl)
theorem dX14_moveAll_19 : decode cX14_moveAll 19 = .ok (.iconst 1, 1) := dk_4 (dk_at dksX14_moveAll_0 19 rfl rfl)
theorem dX14_moveAll_20 : decode cX14_moveAll 20 = .ok (.aload_n 0, 1) := dk_42 (dk_at dksX14_moveAll_0 20 rfl rfl)
theorem dX14_moveAll_21 : decode cX14_moveAll 21 = .ok (.getfield 172, 3) := dk_180 0 172 (dk_at dksX14_moveAll_0 21 rfl rfl)
theorem dX14_moveAll_24 : decode cX14_moveAll 24 = .ok (.iastore, 1) := dk_79 (dk_at dksX14_moveAll_1 0 rfl rfl)
theorem dX14_moveAll_25 : decode cX14_moveAll 25 = .ok (.aload_n 0, 1) := dk_42 (dk_at dksX14_moveAll_1 1 rfl rfl)
theorem dX14_moveAll_26 : decode cX14_moveAll 26 = .ok (.getfield 127, 3) := dk_180 0 127 (dk_at dksX14_moveAll_1 2 rfl rfl)
theorem dX14_moveAll_29 : decode cX14_moveAll 29 = .ok (.iconst 2, 1) := dk_5 (dk_at dksX14_moveAll_1 5 rfl rfl)
theorem dX14_moveAll_30 : decode cX14_moveAll 30 = .ok (.aload_n 0, 1) := dk_42 (dk_at dksX14_moveAll_1 6 rfl rfl)
theorem dX14_moveAll_31 : decode cX14_moveAll 31 = .ok (.getfield 7, 3) := dk_180 0 7 (dk_at dksX14_moveAll_1 7 rfl rfl)
theorem dX14_moveAll_34 : decode cX14_moveAll 34 = .ok (.iastore, 1) := dk_79 (dk_at dksX14_moveAll_1 10 rfl rfl)
theorem dX14_moveAll_35 : decode cX14_moveAll 35 = .ok (.aload_n 0, 1) := dk_42 (dk_at dksX14_moveAll_1 11 rfl rfl)
theorem dX14_moveAll_36 : decode cX14_moveAll 36 = .ok (.getfield 127, 3) := dk_180 0 127 (dk_at dksX14_moveAll_1 12 rfl rfl)
theorem dX14_moveAll_39 : decode cX14_moveAll 39 = .ok (.iconst 3, 1) := dk_6 (dk_at dksX14_moveAll_1 15 rfl rfl)
theorem dX14_moveAll_40 : decode cX14_moveAll 40 = .ok (.aload_n 0, 1) := dk_42 (dk_at dksX14_moveAll_1 16 rfl rfl)
theorem dX14_moveAll_41 : decode cX14_moveAll 41 = .ok (.getfield 169, 3) := dk_180 0 169 (dk_at dksX14_moveAll_1 17 rfl rfl)
theorem dX14_moveAll_44 : decode cX14_moveAll 44 = .ok (.iastore, 1) := dk_79 (dk_at dksX14_moveAll_1 20 rfl rfl)
theorem dX14_moveAll_45 : decode cX14_moveAll 45 = .ok (.aload_n 0, 1) := dk_42 (dk_at dksX14_moveAll_1 21 rfl rfl)
theorem dX14_moveAll_46 : decode cX14_moveAll 46 = .ok (.getfield 127, 3) := dk_180 0 127 (dk_at dksX14_moveAll_2 0 rfl rfl)
theorem dX14_moveAll_49 : decode cX14_moveAll 49 = .ok (.iconst 4, 1) := dk_7 (dk_at dksX14_moveAll_2 3 rfl rfl)
theorem dX14_moveAll_50 : decode cX14_moveAll 50 = .ok (.aload_n 0, 1) := dk_42 (dk_at dksX14_moveAll_2 4 rfl rfl)
theorem dX14_moveAll_51 : decode cX14_moveAll 51 = .ok (.getfield 13, 3) := dk_180 0 13 (dk_at dksX14_moveAll_2 5 rfl rfl)
theorem dX14_moveAll_54 : decode cX14_moveAll 54 = .ok (.iastore, 1) := dk_79 (dk_at dksX14_moveAll_2 8 rfl rfl)
theorem dX14_moveAll_55 : decode cX14_moveAll 55 = .ok (.aload_n 0, 1) := dk_42 (dk_at dksX14_moveAll_2 9 rfl rfl)
theorem dX14_moveAll_56 : decode cX14_moveAll 56 = .ok (.getfield 127, 3) := dk_180 0 127 (dk_at dksX14_moveAll_2 10 rfl rfl)
theorem dX14_moveAll_59 : decode cX14_moveAll 59 = .ok (.iconst 5, 1) := dk_8 (dk_at dksX14_moveAll_2 13 rfl rfl)
theorem dX14_moveAll_60 : decode cX14_moveAll 60 = .ok (.aload_n 0, 1) := dk_42 (dk_at dksX14_moveAll_2 14 rfl rfl)
theorem dX14_moveAll_61 : decode cX14_moveAll 61 = .ok (.getfield 16, 3) := dk_180 0 16 (dk_at dksX14_moveAll_2 15 rfl rfl)
theorem dX14_moveAll_64 : decode cX14_moveAll 64 = .ok (.iastore, 1) := dk_79 (dk_at dksX14_moveAll_2 18 rfl rfl)
theorem dX14_moveAll_65 : decode cX14_moveAll 65 = .ok (.aload_n 0, 1) := dk_42 (dk_at dksX14_moveAll_2 19 rfl rfl)
theorem dX14_moveAll_66 : decode cX14_moveAll 66 = .ok (.getfield 127, 3) := dk_180 0 127 (dk_at dksX14_moveAll_2 20 rfl rfl)
theorem dX14_moveAll_69 : decode cX14_moveAll 69 = .ok (.bipush 6, 2) := dk_16 6 (dk_at dksX14_moveAll_3 0 rfl rfl)
theorem dX14_moveAll_71 : decode cX14_moveAll 71 = .ok (.aload_n 0, 1) := dk_42 (dk_at dksX14_moveAll_3 2 rfl rfl)
theorem dX14_moveAll_72 : decode cX14_moveAll 72 = .ok (.getfield 265, 3) := dk_180 1 9 (dk_at dksX14_moveAll_3 3 rfl rfl)
theorem dX14_moveAll_75 : decode cX14_moveAll 75 = .ok (.iastore, 1) := dk_79 (dk_at dksX14_moveAll_3 6 rfl rfl)
theorem dX14_moveAll_76 : decode cX14_moveAll 76 = .ok (.aload_n 0, 1) := dk_42 (dk_at dksX14_moveAll_3 7 rfl rfl)
theorem dX14_moveAll_77 : decode cX14_moveAll 77 = .ok (.getfield 127, 3) := dk_180 0 127 (dk_at dksX14_moveAll_3 8 rfl rfl)
theorem dX14_moveAll_80 : decode cX14_moveAll 80 = .ok (.bipush 7, 2) := dk_16 7 (dk_at dksX14_moveAll_3 11 rfl rfl)
theorem dX14_moveAll_82 : decode cX14_moveAll 82 = .ok (.aload_n 0, 1) := dk_42 (dk_at dksX14_moveAll_3 13 rfl rfl)
theorem dX14_moveAll_83 : decode cX14_moveAll 83 = .ok (.getfield 268, 3) := dk_180 1 12 (dk_at dksX14_moveAll_3 14 rfl rfl)
theorem dX14_moveAll_86 : decode cX14_moveAll 86 = .ok (.iastore, 1) := dk_79 (dk_at dksX14_moveAll_3 17 rfl rfl)
theorem dX14_moveAll_87 : decode cX14_moveAll 87 = .ok (.aload_n 0, 1) := dk_42 (dk_at dksX14_moveAll_3 18 rfl rfl)
theorem dX14_moveAll_88 : decode cX14_moveAll 88 = .ok (.getfield 127, 3) := dk_180 0 127 (dk_at dksX14_moveAll_3 19 rfl rfl)
theorem dX14_moveAll_91 : decode cX14_moveAll 91 = .ok (.bipush 8, 2) := dk_16 8 (dk_at dksX14_moveAll_3 22 rfl rfl)
theorem dX14_moveAll_93 : decode cX14_moveAll 93 = .ok (.aload_n 0, 1) := dk_42 (dk_at dksX14_moveAll_4 0 rfl rfl)
theorem dX14_moveAll_94 : decode cX14_moveAll 94 = .ok (.getfield 130, 3) := dk_180 0 130 (dk_at dksX14_moveAll_4 1 rfl rfl)
theorem dX14_moveAll_97 : decode cX14_moveAll 97 = .ok (.iastore, 1) := dk_79 (dk_at dksX14_moveAll_4 4 rfl rfl)
theorem dX14_moveAll_98 : decode cX14_moveAll 98 = .ok (.aload_n 0, 1) := dk_42 (dk_at dksX14_moveAll_4 5 rfl rfl)
theorem dX14_moveAll_99 : decode cX14_moveAll 99 = .ok (.getfield 127, 3) := dk_180 0 127 (dk_at dksX14_moveAll_4 6 rfl rfl)
theorem dX14_moveAll_102 : decode cX14_moveAll 102 = .ok (.bipush 9, 2) := dk_16 9 (dk_at dksX14_moveAll_4 9 rfl rfl)
theorem dX14_moveAll_104 : decode cX14_moveAll 104 = .ok (.aload_n 0, 1) := dk_42 (dk_at dksX14_moveAll_4 11 rfl rfl)
theorem dX14_moveAll_105 : decode cX14_moveAll 105 = .ok (.getfield 242, 3) := dk_180 0 242 (dk_at dksX14_moveAll_4 12 rfl rfl)
theorem dX14_moveAll_108 : decode cX14_moveAll 108 = .ok (.iastore, 1) := dk_79 (dk_at dksX14_moveAll_4 15 rfl rfl)
theorem dX14_moveAll_109 : decode cX14_moveAll 109 = .ok (.aload_n 0, 1) := dk_42 (dk_at dksX14_moveAll_4 16 rfl rfl)
theorem dX14_moveAll_110 : decode cX14_moveAll 110 = .ok (.getfield 127, 3) := dk_180 0 127 (dk_at dksX14_moveAll_4 17 rfl rfl)
theorem dX14_moveAll_113 : decode cX14_moveAll 113 = .ok (.bipush 10, 2) := dk_16 10 (dk_at dksX14_moveAll_4 20 rfl rfl)
theorem dX14_moveAll_115 : decode cX14_moveAll 115 = .ok (.aload_n 0, 1) := dk_42 (dk_at dksX14_moveAll_4 22 rfl rfl)
theorem dX14_moveAll_116 : decode cX14_moveAll 116 = .ok (.getfield 393, 3) := dk_180 1 137 (dk_at dksX14_moveAll_5 0 rfl rfl)
theorem dX14_moveAll_119 : decode cX14_moveAll 119 = .ok (.iastore, 1) := dk_79 (dk_at dksX14_moveAll_5 3 rfl rfl)
theorem dX14_moveAll_120 : decode cX14_moveAll 120 = .ok (.aload_n 0, 1) := dk_42 (dk_at dksX14_moveAll_5 4 rfl rfl)
theorem dX14_moveAll_121 : decode cX14_moveAll 121 = .ok (.getfield 127, 3) := dk_180 0 127 (dk_at dksX14_moveAll_5 5 rfl rfl)
theorem dX14_moveAll_124 : decode cX14_moveAll 124 = .ok (.bipush 11, 2) := dk_16 11 (dk_at dksX14_moveAll_5 8 rfl rfl)
theorem dX14_moveAll_126 : decode cX14_moveAll 126 = .ok (.aload_n 0, 1) := dk_42 (dk_at dksX14_moveAll_5 10 rfl rfl)
theorem dX14_moveAll_127 : decode cX14_moveAll 127 = .ok (.getfield 141, 3) := dk_180 0 141 (dk_at dksX14_moveAll_5 11 rfl rfl)
theorem dX14_moveAll_130 : decode cX14_moveAll 130 = .ok (.iastore, 1) := dk_79 (dk_at dksX14_moveAll_5 14 rfl rfl)
theorem dX14_moveAll_131 : decode cX14_moveAll 131 = .ok (.aload_n 0, 1) := dk_42 (dk_at dksX14_moveAll_5 15 rfl rfl)
theorem dX14_moveAll_132 : decode cX14_moveAll 132 = .ok (.aload_n 0, 1) := dk_42 (dk_at dksX14_moveAll_5 16 rfl rfl)
theorem dX14_moveAll_133 : decode cX14_moveAll 133 = .ok (.getfield 127, 3) := dk_180 0 127 (dk_at dksX14_moveAll_5 17 rfl rfl)
theorem dX14_moveAll_136 : decode cX14_moveAll 136 = .ok (.bipush 12, 2) := dk_16 12 (dk_at dksX14_moveAll_5 20 rfl rfl)
theorem dX14_moveAll_138 : decode cX14_moveAll 138 = .ok (.iload_n 1, 1) := dk_27 (dk_at dksX14_moveAll_5 22 rfl rfl)
theorem dX14_moveAll_139 : decode cX14_moveAll 139 = .ok (.invokevirtual 499, 3) := dk_182 1 243 (dk_at dksX14_moveAll_6 0 rfl rfl)
theorem dX14_moveAll_142 : decode cX14_moveAll 142 = .ok (.aload_n 0, 1) := dk_42 (dk_at dksX14_moveAll_6 3 rfl rfl)
theorem dX14_moveAll_143 : decode cX14_moveAll 143 = .ok (.aload_n 0, 1) := dk_42 (dk_at dksX14_moveAll_6 4 rfl rfl)
theorem dX14_moveAll_144 : decode cX14_moveAll 144 = .ok (.getfield 19, 3) := dk_180 0 19 (dk_at dksX14_moveAll_6 5 rfl rfl)
theorem dX14_moveAll_147 : decode cX14_moveAll 147 = .ok (.bipush 44, 2) := dk_16 44 (dk_at dksX14_moveAll_6 8 rfl rfl)
theorem dX14_moveAll_149 : decode cX14_moveAll 149 = .ok (.iload_n 1, 1) := dk_27 (dk_at dksX14_moveAll_6 10 rfl rfl)
theorem dX14_moveAll_150 : decode cX14_moveAll 150 = .ok (.invokevirtual 499, 3) := dk_182 1 243 (dk_at dksX14_moveAll_6 11 rfl rfl)
theorem dX14_moveAll_153 : decode cX14_moveAll 153 = .ok (.aload_n 0, 1) := dk_42 (dk_at dksX14_moveAll_6 14 rfl rfl)
theorem dX14_moveAll_154 : decode cX14_moveAll 154 = .ok (.aload_n 0, 1) := dk_42 (dk_at dksX14_moveAll_6 15 rfl rfl)
theorem dX14_moveAll_155 : decode cX14_moveAll 155 = .ok (.getfield 23, 3) := dk_180 0 23 (dk_at dksX14_moveAll_6 16 rfl rfl)
theorem dX14_moveAll_158 : decode cX14_moveAll 158 = .ok (.bipush 16, 2) := dk_16 16 (dk_at dksX14_moveAll_6 19 rfl rfl)
theorem dX14_moveAll_160 : decode cX14_moveAll 160 = .ok (.iload_n 1, 1) := dk_27 (dk_at dksX14_moveAll_6 21 rfl rfl)
theorem dX14_moveAll_161 : decode cX14_moveAll 161 = .ok (.invokevirtual 499, 3) := dk_182 1 243 (dk_at dksX14_moveAll_7 0 rfl rfl)
theorem dX14_moveAll_164 : decode cX14_moveAll 164 = .ok (.aload_n 0, 1) := dk_42 (dk_at dksX14_moveAll_7 3 rfl rfl)
theorem dX14_moveAll_165 : decode cX14_moveAll 165 = .ok (.aload_n 0, 1) := dk_42 (dk_at dksX14_moveAll_7 4 rfl rfl)
theorem dX14_moveAll_166 : decode cX14_moveAll 166 = .ok (.getfield 26, 3) := dk_180 0 26 (dk_at dksX14_moveAll_7 5 rfl rfl)
theorem dX14_moveAll_169 : decode cX14_moveAll 169 = .ok (.bipush 40, 2) := dk_16 40 (dk_at dksX14_moveAll_7 8 rfl rfl)
theorem dX14_moveAll_171 : decode cX14_moveAll 171 = .ok (.iload_n 1, 1) := dk_27 (dk_at dksX14_moveAll_7 10 rfl rfl)
theorem dX14_moveAll_172 : decode cX14_moveAll 172 = .ok (.invokevirtual 499, 3) := dk_182 1 243 (dk_at dksX14_moveAll_7 11 rfl rfl)
theorem dX14_moveAll_175 : decode cX14_moveAll 175 = .ok (.aload_n 0, 1) := dk_42 (dk_at dksX14_moveAll_7 14 rfl rfl)
theorem dX14_moveAll_176 : decode cX14_moveAll 176 = .ok (.aload_n 0, 1) := dk_42 (dk_at dksX14_moveAll_7 15 rfl rfl)
theorem dX14_moveAll_177 : decode cX14_moveAll 177 = .ok (.getfield 29, 3) := dk_180 0 29 (dk_at dksX14_moveAll_7 16 rfl rfl)
theorem dX14_moveAll_180 : decode cX14_moveAll 180 = .ok (.bipush 6, 2) := dk_16 6 (dk_at dksX14_moveAll_7 19 rfl rfl)
theorem dX14_moveAll_182 : decode cX14_moveAll 182 = .ok (.iload_n 1, 1) := dk_27 (dk_at dksX14_moveAll_7 21 rfl rfl)
theorem dX14_moveAll_183 : decode cX14_moveAll 183 = .ok (.invokevirtual 499, 3) := dk_182 1 243 (dk_at dksX14_moveAll_8 0 rfl rfl)
theorem dX14_moveAll_186 : decode cX14_moveAll 186 = .ok (.aload_n 0, 1) := dk_42 (dk_at dksX14_moveAll_8 3 rfl rfl)
theorem dX14_moveAll_187 : decode cX14_moveAll 187 = .ok (.aload_n 0, 1) := dk_42 (dk_at dksX14_moveAll_8 4 rfl rfl)
theorem dX14_moveAll_188 : decode cX14_moveAll 188 = .ok (.getfield 32, 3) := dk_180 0 32 (dk_at dksX14_moveAll_8 5 rfl rfl)
theorem dX14_moveAll_191 : decode cX14_moveAll 191 = .ok (.bipush 6, 2) := dk_16 6 (dk_at dksX14_moveAll_8 8 rfl rfl)
theorem dX14_moveAll_193 : decode cX14_moveAll 193 = .ok (.iload_n 1, 1) := dk_27 (dk_at dksX14_moveAll_8 10 rfl rfl)
theorem dX14_moveAll_194 : decode cX14_moveAll 194 = .ok (.invokevirtual 499, 3) := dk_182 1 243 (dk_at dksX14_moveAll_8 11 rfl rfl)
theorem dX14_moveAll_197 : decode cX14_moveAll 197 = .ok (.aload_n 0, 1) := dk_42 (dk_at dksX14_moveAll_8 14 rfl rfl)
theorem dX14_moveAll_198 : decode cX14_moveAll 198 = .ok (.aload_n 0, 1) := dk_42 (dk_at dksX14_moveAll_8 15 rfl rfl)
theorem dX14_moveAll_199 : decode cX14_moveAll 199 = .ok (.getfield 35, 3) := dk_180 0 35 (dk_at dksX14_moveAll_8 16 rfl rfl)
theorem dX14_moveAll_202 : decode cX14_moveAll 202 = .ok (.sipush 210, 3) := dk_17 0 210 (dk_at dksX14_moveAll_8 19 rfl rfl)
theorem dX14_moveAll_205 : decode cX14_moveAll 205 = .ok (.iload_n 1, 1) := dk_27 (dk_at dksX14_moveAll_8 22 rfl rfl)
theorem dX14_moveAll_206 : decode cX14_moveAll 206 = .ok (.invokevirtual 499, 3) := dk_182 1 243 (dk_at dksX14_moveAll_9 0 rfl rfl)
theorem dX14_moveAll_209 : decode cX14_moveAll 209 = .ok (.return_, 1) := dk_177 (dk_at dksX14_moveAll_9 3 rfl rfl)
abbrev cX14_move : ByteArray := prog_33_method_113_code
def yX14_move : MethodName := ⟨RX14, "move", "([IIZ)V"⟩
def dkwX14_move_2 : List UInt8 := [96, 181, 1, 240, 132, 4, 1, 167, 255, 204, 177]
abbrev dktX14_move_2 : List UInt8 := dkwX14_move_2 ++ []
def dkwX14_move_1 : List UInt8 := [46, 79, 167, 0, 16, 43, 21, 4, 42, 180, 0, 124, 42, 180, 1, 240, 46, 79, 42, 89, 180, 1, 240, 4]
abbrev dktX14_move_1 : List UInt8 := dkwX14_move_1 ++ dktX14_move_2
def dkwX14_move_0 : List UInt8 := [3, 54, 4, 21, 4, 28, 162, 0, 52, 29, 153, 0, 19, 42, 180, 0, 124, 42, 180, 1, 240, 43, 21, 4]
abbrev dktX14_move_0 : List UInt8 := dkwX14_move_0 ++ dktX14_move_1
theorem dksX14_move_0 : cX14_move.data.toList.drop 0 = dktX14_move_0 := by decide +kernel
theorem dksX14_move_1 : cX14_move.data.toList.drop 24 = dktX14_move_1 := dk_seg dksX14_move_0 24 rfl rfl
theorem dksX14_move_2 : cX14_move.data.toList.drop 48 = dktX14_move_2 := dk_seg dksX14_move_1 24 rfl rfl
theorem dX14_move_0 : decode cX14_move 0 = .ok (.iconst 0, 1) := dk_3 (dk_at dksX14_move_0 0 rfl rfl)
theorem dX14_move_1 : decode cX14_move 1 = .ok (.istore 4, 2) := dk_54 4 (dk_at dksX14_move_0 1 rfl rfl)
theorem dX14_move_3 : decode cX14_move 3 = .ok (.iload 4, 2) := dk_21 4 (dk_at dksX14_move_0 3 rfl rfl)
theorem dX14_move_5 : decode cX14_move 5 = .ok (.iload_n 2, 1) := dk_28 (dk_at dksX14_move_0 5 rfl rfl)
theorem dX14_move_6 : decode cX14_move 6 = .ok (.if_icmp .ge 52, 3) := dk_162 0 52 (dk_at dksX14_move_0 6 rfl rfl)
theorem dX14_move_9 : decode cX14_move 9 = .ok (.iload_n 3, 1) := dk_29 (dk_at dksX14_move_0 9 rfl rfl)
theorem dX14_move_10 : decode cX14_move 10 = .ok (.ifCond .eq 19, 3) := dk_153 0 19 (dk_at dksX14_move_0 10 rfl rfl)
theorem dX14_move_13 : decode cX14_move 13 = .ok (.aload_n 0, 1) := dk_42 (dk_at dksX14_move_0 13 rfl rfl)
theorem dX14_move_14 : decode cX14_move 14 = .ok (.getfield 124, 3) := dk_180 0 124 (dk_at dksX14_move_0 14 rfl rfl)
theorem dX14_move_17 : decode cX14_move 17 = .ok (.aload_n 0, 1) := dk_42 (dk_at dksX14_move_0 17 rfl rfl)
theorem dX14_move_18 : decode cX14_move 18 = .ok (.getfield 496, 3) := dk_180 1 240 (dk_at dksX14_move_0 18 rfl rfl)
theorem dX14_move_21 : decode cX14_move 21 = .ok (.aload_n 1, 1) := dk_43 (dk_at dksX14_move_0 21 rfl rfl)
theorem dX14_move_22 : decode cX14_move 22 = .ok (.iload 4, 2) := dk_21 4 (dk_at dksX14_move_0 22 rfl rfl)
theorem dX14_move_24 : decode cX14_move 24 = .ok (.iaload, 1) := dk_46 (dk_at dksX14_move_1 0 rfl rfl)
theorem dX14_move_25 : decode cX14_move 25 = .ok (.iastore, 1) := dk_79 (dk_at dksX14_move_1 1 rfl rfl)
theorem dX14_move_26 : decode cX14_move 26 = .ok (.goto 16, 3) := dk_167 0 16 (dk_at dksX14_move_1 2 rfl rfl)
theorem dX14_move_29 : decode cX14_move 29 = .ok (.aload_n 1, 1) := dk_43 (dk_at dksX14_move_1 5 rfl rfl)
theorem dX14_move_30 : decode cX14_move 30 = .ok (.iload 4, 2) := dk_21 4 (dk_at dksX14_move_1 6 rfl rfl)
theorem dX14_move_32 : decode cX14_move 32 = .ok (.aload_n 0, 1) := dk_42 (dk_at dksX14_move_1 8 rfl rfl)
theorem dX14_move_33 : decode cX14_move 33 = .ok (.getfield 124, 3) := dk_180 0 124 (dk_at dksX14_move_1 9 rfl rfl)
theorem dX14_move_36 : decode cX14_move 36 = .ok (.aload_n 0, 1) := dk_42 (dk_at dksX14_move_1 12 rfl rfl)
theorem dX14_move_37 : decode cX14_move 37 = .ok (.getfield 496, 3) := dk_180 1 240 (dk_at dksX14_move_1 13 rfl rfl)
theorem dX14_move_40 : decode cX14_move 40 = .ok (.iaload, 1) := dk_46 (dk_at dksX14_move_1 16 rfl rfl)
theorem dX14_move_41 : decode cX14_move 41 = .ok (.iastore, 1) := dk_79 (dk_at dksX14_move_1 17 rfl rfl)
theorem dX14_move_42 : decode cX14_move 42 = .ok (.aload_n 0, 1) := dk_42 (dk_at dksX14_move_1 18 rfl rfl)
theorem dX14_move_43 : decode cX14_move 43 = .ok (.dup, 1) := dk_89 (dk_at dksX14_move_1 19 rfl rfl)
theorem dX14_move_44 : decode cX14_move 44 = .ok (.getfield 496, 3) := dk_180 1 240 (dk_at dksX14_move_1 20 rfl rfl)
theorem dX14_move_47 : decode cX14_move 47 = .ok (.iconst 1, 1) := dk_4 (dk_at dksX14_move_1 23 rfl rfl)
theorem dX14_move_48 : decode cX14_move 48 = .ok (.iadd, 1) := dk_96 (dk_at dksX14_move_2 0 rfl rfl)
theorem dX14_move_49 : decode cX14_move 49 = .ok (.putfield 496, 3) := dk_181 1 240 (dk_at dksX14_move_2 1 rfl rfl)
theorem dX14_move_52 : decode cX14_move 52 = .ok (.iinc 4 1, 3) := dk_132 4 1 (dk_at dksX14_move_2 4 rfl rfl)
theorem dX14_move_55 : decode cX14_move 55 = .ok (.goto (-52), 3) := dk_167 255 204 (dk_at dksX14_move_2 7 rfl rfl)
theorem dX14_move_58 : decode cX14_move 58 = .ok (.return_, 1) := dk_177 (dk_at dksX14_move_2 10 rfl rfl)
abbrev cX14_again : ByteArray := prog_33_method_116_code
def yX14_again : MethodName := ⟨RX14, "again", "()I"⟩
def dkwX14_again_6 : List UInt8 := [181, 0, 141, 42, 2, 181, 0, 70, 42, 89, 180, 0, 38, 4, 96, 181, 0, 38, 4, 172]
abbrev dktX14_again_6 : List UInt8 := dkwX14_again_6 ++ []
def dkwX14_again_5 : List UInt8 := [181, 0, 242, 42, 42, 180, 0, 127, 16, 10, 46, 181, 1, 137, 42, 42, 180, 0, 127, 16, 11, 46]
abbrev dktX14_again_5 : List UInt8 := dkwX14_again_5 ++ dktX14_again_6
def dkwX14_again_4 : List UInt8 := [181, 1, 12, 42, 42, 180, 0, 127, 16, 8, 46, 181, 0, 130, 42, 42, 180, 0, 127, 16, 9, 46]
abbrev dktX14_again_4 : List UInt8 := dkwX14_again_4 ++ dktX14_again_5
def dkwX14_again_3 : List UInt8 := [8, 46, 181, 0, 16, 42, 42, 180, 0, 127, 16, 6, 46, 181, 1, 9, 42, 42, 180, 0, 127, 16, 7, 46]
abbrev dktX14_again_3 : List UInt8 := dkwX14_again_3 ++ dktX14_again_4
def dkwX14_again_2 : List UInt8 := [42, 180, 0, 127, 6, 46, 181, 0, 169, 42, 42, 180, 0, 127, 7, 46, 181, 0, 13, 42, 42, 180, 0, 127]
abbrev dktX14_again_2 : List UInt8 := dkwX14_again_2 ++ dktX14_again_3
def dkwX14_again_1 : List UInt8 := [181, 0, 166, 42, 42, 180, 0, 127, 4, 46, 181, 0, 172, 42, 42, 180, 0, 127, 5, 46, 181, 0, 7, 42]
abbrev dktX14_again_1 : List UInt8 := dkwX14_again_1 ++ dktX14_again_2
def dkwX14_again_0 : List UInt8 := [42, 180, 1, 250, 154, 0, 6, 16, 253, 172, 42, 3, 182, 1, 247, 42, 42, 180, 0, 127, 3, 46]
abbrev dktX14_again_0 : List UInt8 := dkwX14_again_0 ++ dktX14_again_1
theorem dksX14_again_0 : cX14_again.data.toList.drop 0 = dktX14_again_0 := by decide +kernel
theorem dksX14_again_1 : cX14_again.data.toList.drop 22 = dktX14_again_1 := dk_seg dksX14_again_0 22 rfl rfl
theorem dksX14_again_2 : cX14_again.data.toList.drop 46 = dktX14_again_2 := dk_seg dksX14_again_1 24 rfl rfl
theorem dksX14_again_3 : cX14_again.data.toList.drop 70 = dktX14_again_3 := dk_seg dksX14_again_2 24 rfl rfl
theorem dksX14_again_4 : cX14_again.data.toList.drop 94 = dktX14_again_4 := dk_seg dksX14_again_3 24 rfl rfl
theorem dksX14_again_5 : cX14_again.data.toList.drop 116 = dktX14_again_5 := dk_seg dksX14_again_4 22 rfl rfl
theorem dksX14_again_6 : cX14_again.data.toList.drop 138 = dktX14_again_6 := dk_seg dksX14_again_5 22 rfl rfl
theorem dX14_again_0 : decode cX14_again 0 = .ok (.aload_n 0, 1) := dk_42 (dk_at dksX14_again_0 0 rfl rfl)
theorem dX14_again_1 : decode cX14_again 1 = .ok (.getfield 506, 3) := dk_180 1 250 (dk_at dksX14_again_0 1 rfl rfl)
theorem dX14_again_4 : decode cX14_again 4 = .ok (.ifCond .ne 6, 3) := dk_154 0 6 (dk_at dksX14_again_0 4 rfl rfl)
theorem dX14_again_7 : decode cX14_again 7 = .ok (.bipush (-3), 2) := dk_16 253 (dk_at dksX14_again_0 7 rfl rfl)
theorem dX14_again_9 : decode cX14_again 9 = .ok (.ireturn, 1) := dk_172 (dk_at dksX14_again_0 9 rfl rfl)
theorem dX14_again_10 : decode cX14_again 10 = .ok (.aload_n 0, 1) := dk_42 (dk_at dksX14_again_0 10 rfl rfl)
theorem dX14_again_11 : decode cX14_again 11 = .ok (.iconst 0, 1) := dk_3 (dk_at dksX14_again_0 11 rfl rfl)
theorem dX14_again_12 : decode cX14_again 12 = .ok (.invokevirtual 503, 3) := dk_182 1 247 (dk_at dksX14_again_0 12 rfl rfl)
theorem dX14_again_15 : decode cX14_again 15 = .ok (.aload_n 0, 1) := dk_42 (dk_at dksX14_again_0 15 rfl rfl)
theorem dX14_again_16 : decode cX14_again 16 = .ok (.aload_n 0, 1) := dk_42 (dk_at dksX14_again_0 16 rfl rfl)
theorem dX14_again_17 : decode cX14_again 17 = .ok (.getfield 127, 3) := dk_180 0 127 (dk_at dksX14_again_0 17 rfl rfl)
theorem dX14_again_20 : decode cX14_again 20 = .ok (.iconst 0, 1) := dk_3 (dk_at dksX14_again_0 20 rfl rfl)
theorem dX14_again_21 : decode cX14_again 21 = .ok (.iaload, 1) := dk_46 (dk_at dksX14_again_0 21 rfl rfl)
theorem dX14_again_22 : decode cX14_again 22 = .ok (.putfield 166, 3) := dk_181 0 166 (dk_at dksX14_again_1 0 rfl rfl)
theorem dX14_again_25 : decode cX14_again 25 = .ok (.aload_n 0, 1) := dk_42 (dk_at dksX14_again_1 3 rfl rfl)
theorem dX14_again_26 : decode cX14_again 26 = .ok (.aload_n 0, 1) := dk_42 (dk_at dksX14_again_1 4 rfl rfl)
theorem dX14_again_27 : decode cX14_again 27 = .ok (.getfield 127, 3) := dk_180 0 127 (dk_at dksX14_again_1 5 rfl rfl)
theorem dX14_again_30 : decode cX14_again 30 = .ok (.iconst 1, 1) := dk_4 (dk_at dksX14_again_1 8 rfl rfl)
theorem dX14_again_31 : decode cX14_again 31 = .ok (.iaload, 1) := dk_46 (dk_at dksX14_again_1 9 rfl rfl)
theorem dX14_again_32 : decode cX14_again 32 = .ok (.putfield 172, 3) := dk_181 0 172 (dk_at dksX14_again_1 10 rfl rfl)
theorem dX14_again_35 : decode cX14_again 35 = .ok (.aload_n 0, 1) := dk_42 (dk_at dksX14_again_1 13 rfl rfl)
theorem dX14_again_36 : decode cX14_again 36 = .ok (.aload_n 0, 1) := dk_42 (dk_at dksX14_again_1 14 rfl rfl)
theorem dX14_again_37 : decode cX14_again 37 = .ok (.getfield 127, 3) := dk_180 0 127 (dk_at dksX14_again_1 15 rfl rfl)
theorem dX14_again_40 : decode cX14_again 40 = .ok (.iconst 2, 1) := dk_5 (dk_at dksX14_again_1 18 rfl rfl)
theorem dX14_again_41 : decode cX14_again 41 = .ok (.iaload, 1) := dk_46 (dk_at dksX14_again_1 19 rfl rfl)
theorem dX14_again_42 : decode cX14_again 42 = .ok (.putfield 7, 3) := dk_181 0 7 (dk_at dksX14_again_1 20 rfl rfl)
theorem dX14_again_45 : decode cX14_again 45 = .ok (.aload_n 0, 1) := dk_42 (dk_at dksX14_again_1 23 rfl rfl)
theorem dX14_again_46 : decode cX14_again 46 = .ok (.aload_n 0, 1) := dk_42 (dk_at dksX14_again_2 0 rfl rfl)
theorem dX14_again_47 : decode cX14_again 47 = .ok (.getfield 127, 3) := dk_180 0 127 (dk_at dksX14_again_2 1 rfl rfl)
theorem dX14_again_50 : decode cX14_again 50 = .ok (.iconst 3, 1) := dk_6 (dk_at dksX14_again_2 4 rfl rfl)
theorem dX14_again_51 : decode cX14_again 51 = .ok (.iaload, 1) := dk_46 (dk_at dksX14_again_2 5 rfl rfl)
theorem dX14_again_52 : decode cX14_again 52 = .ok (.putfield 169, 3) := dk_181 0 169 (dk_at dksX14_again_2 6 rfl rfl)
theorem dX14_again_55 : decode cX14_again 55 = .ok (.aload_n 0, 1) := dk_42 (dk_at dksX14_again_2 9 rfl rfl)
theorem dX14_again_56 : decode cX14_again 56 = .ok (.aload_n 0, 1) := dk_42 (dk_at dksX14_again_2 10 rfl rfl)
theorem dX14_again_57 : decode cX14_again 57 = .ok (.getfield 127, 3) := dk_180 0 127 (dk_at dksX14_again_2 11 rfl rfl)
theorem dX14_again_60 : decode cX14_again 60 = .ok (.iconst 4, 1) := dk_7 (dk_at dksX14_again_2 14 rfl rfl)
theorem dX14_again_61 : decode cX14_again 61 = .ok (.iaload, 1) := dk_46 (dk_at dksX14_again_2 15 rfl rfl)
theorem dX14_again_62 : decode cX14_again 62 = .ok (.putfield 13, 3) := dk_181 0 13 (dk_at dksX14_again_2 16 rfl rfl)
theorem dX14_again_65 : decode cX14_again 65 = .ok (.aload_n 0, 1) := dk_42 (dk_at dksX14_again_2 19 rfl rfl)
theorem dX14_again_66 : decode cX14_again 66 = .ok (.aload_n 0, 1) := dk_42 (dk_at dksX14_again_2 20 rfl rfl)
theorem dX14_again_67 : decode cX14_again 67 = .ok (.getfield 127, 3) := dk_180 0 127 (dk_at dksX14_again_2 21 rfl rfl)
theorem dX14_again_70 : decode cX14_again 70 = .ok (.iconst 5, 1) := dk_8 (dk_at dksX14_again_3 0 rfl rfl)
theorem dX14_again_71 : decode cX14_again 71 = .ok (.iaload, 1) := dk_46 (dk_at dksX14_again_3 1 rfl rfl)
theorem dX14_again_72 : decode cX14_again 72 = .ok (.putfield 16, 3) := dk_181 0 16 (dk_at dksX14_again_3 2 rfl rfl)
theorem dX14_again_75 : decode cX14_again 75 = .ok (.aload_n 0, 1) := dk_42 (dk_at dksX14_again_3 5 rfl rfl)
theorem dX14_again_76 : decode cX14_again 76 = .ok (.aload_n 0, 1) := dk_42 (dk_at dksX14_again_3 6 rfl rfl)
theorem dX14_again_77 : decode cX14_again 77 = .ok (.getfield 127, 3) := dk_180 0 127 (dk_at dksX14_again_3 7 rfl rfl)
theorem dX14_again_80 : decode cX14_again 80 = .ok (.bipush 6, 2) := dk_16 6 (dk_at dksX14_again_3 10 rfl rfl)
theorem dX14_again_82 : decode cX14_again 82 = .ok (.iaload, 1) := dk_46 (dk_at dksX14_again_3 12 rfl rfl)
theorem dX14_again_83 : decode cX14_again 83 = .ok (.putfield 265, 3) := dk_181 1 9 (dk_at dksX14_again_3 13 rfl rfl)
theorem dX14_again_86 : decode cX14_again 86 = .ok (.aload_n 0, 1) := dk_42 (dk_at dksX14_again_3 16 rfl rfl)
theorem dX14_again_87 : decode cX14_again 87 = .ok (.aload_n 0, 1) := dk_42 (dk_at dksX14_again_3 17 rfl rfl)
theorem dX14_again_88 : decode cX14_again 88 = .ok (.getfield 127, 3) := dk_180 0 127 (dk_at dksX14_again_3 18 rfl rfl)
theorem dX14_again_91 : decode cX14_again 91 = .ok (.bipush 7, 2) := dk_16 7 (dk_at dksX14_again_3 21 rfl rfl)
theorem dX14_again_93 : decode cX14_again 93 = .ok (.iaload, 1) := dk_46 (dk_at dksX14_again_3 23 rfl rfl)
theorem dX14_again_94 : decode cX14_again 94 = .ok (.putfield 268, 3) := dk_181 1 12 (dk_at dksX14_again_4 0 rfl rfl)
theorem dX14_again_97 : decode cX14_again 97 = .ok (.aload_n 0, 1) := dk_42 (dk_at dksX14_again_4 3 rfl rfl)
theorem dX14_again_98 : decode cX14_again 98 = .ok (.aload_n 0, 1) := dk_42 (dk_at dksX14_again_4 4 rfl rfl)
theorem dX14_again_99 : decode cX14_again 99 = .ok (.getfield 127, 3) := dk_180 0 127 (dk_at dksX14_again_4 5 rfl rfl)
theorem dX14_again_102 : decode cX14_again 102 = .ok (.bipush 8, 2) := dk_16 8 (dk_at dksX14_again_4 8 rfl rfl)
theorem dX14_again_104 : decode cX14_again 104 = .ok (.iaload, 1) := dk_46 (dk_at dksX14_again_4 10 rfl rfl)
theorem dX14_again_105 : decode cX14_again 105 = .ok (.putfield 130, 3) := dk_181 0 130 (dk_at dksX14_again_4 11 rfl rfl)
theorem dX14_again_108 : decode cX14_again 108 = .ok (.aload_n 0, 1) := dk_42 (dk_at dksX14_again_4 14 rfl rfl)
theorem dX14_again_109 : decode cX14_again 109 = .ok (.aload_n 0, 1) := dk_42 (dk_at dksX14_again_4 15 rfl rfl)
theorem dX14_again_110 : decode cX14_again 110 = .ok (.getfield 127, 3) := dk_180 0 127 (dk_at dksX14_again_4 16 rfl rfl)
theorem dX14_again_113 : decode cX14_again 113 = .ok (.bipush 9, 2) := dk_16 9 (dk_at dksX14_again_4 19 rfl rfl)
theorem dX14_again_115 : decode cX14_again 115 = .ok (.iaload, 1) := dk_46 (dk_at dksX14_again_4 21 rfl rfl)
theorem dX14_again_116 : decode cX14_again 116 = .ok (.putfield 242, 3) := dk_181 0 242 (dk_at dksX14_again_5 0 rfl rfl)
theorem dX14_again_119 : decode cX14_again 119 = .ok (.aload_n 0, 1) := dk_42 (dk_at dksX14_again_5 3 rfl rfl)
theorem dX14_again_120 : decode cX14_again 120 = .ok (.aload_n 0, 1) := dk_42 (dk_at dksX14_again_5 4 rfl rfl)
theorem dX14_again_121 : decode cX14_again 121 = .ok (.getfield 127, 3) := dk_180 0 127 (dk_at dksX14_again_5 5 rfl rfl)
theorem dX14_again_124 : decode cX14_again 124 = .ok (.bipush 10, 2) := dk_16 10 (dk_at dksX14_again_5 8 rfl rfl)
theorem dX14_again_126 : decode cX14_again 126 = .ok (.iaload, 1) := dk_46 (dk_at dksX14_again_5 10 rfl rfl)
theorem dX14_again_127 : decode cX14_again 127 = .ok (.putfield 393, 3) := dk_181 1 137 (dk_at dksX14_again_5 11 rfl rfl)
theorem dX14_again_130 : decode cX14_again 130 = .ok (.aload_n 0, 1) := dk_42 (dk_at dksX14_again_5 14 rfl rfl)
theorem dX14_again_131 : decode cX14_again 131 = .ok (.aload_n 0, 1) := dk_42 (dk_at dksX14_again_5 15 rfl rfl)
theorem dX14_again_132 : decode cX14_again 132 = .ok (.getfield 127, 3) := dk_180 0 127 (dk_at dksX14_again_5 16 rfl rfl)
theorem dX14_again_135 : decode cX14_again 135 = .ok (.bipush 11, 2) := dk_16 11 (dk_at dksX14_again_5 19 rfl rfl)
theorem dX14_again_137 : decode cX14_again 137 = .ok (.iaload, 1) := dk_46 (dk_at dksX14_again_5 21 rfl rfl)
theorem dX14_again_138 : decode cX14_again 138 = .ok (.putfield 141, 3) := dk_181 0 141 (dk_at dksX14_again_6 0 rfl rfl)
theorem dX14_again_141 : decode cX14_again 141 = .ok (.aload_n 0, 1) := dk_42 (dk_at dksX14_again_6 3 rfl rfl)
theorem dX14_again_142 : decode cX14_again 142 = .ok (.iconst (-1), 1) := dk_2 (dk_at dksX14_again_6 4 rfl rfl)
theorem dX14_again_143 : decode cX14_again 143 = .ok (.putfield 70, 3) := dk_181 0 70 (dk_at dksX14_again_6 5 rfl rfl)
theorem dX14_again_146 : decode cX14_again 146 = .ok (.aload_n 0, 1) := dk_42 (dk_at dksX14_again_6 8 rfl rfl)
theorem dX14_again_147 : decode cX14_again 147 = .ok (.dup, 1) := dk_89 (dk_at dksX14_again_6 9 rfl rfl)
theorem dX14_again_148 : decode cX14_again 148 = .ok (.getfield 38, 3) := dk_180 0 38 (dk_at dksX14_again_6 10 rfl rfl)
theorem dX14_again_151 : decode cX14_again 151 = .ok (.iconst 1, 1) := dk_4 (dk_at dksX14_again_6 13 rfl rfl)
theorem dX14_again_152 : decode cX14_again 152 = .ok (.iadd, 1) := dk_96 (dk_at dksX14_again_6 14 rfl rfl)
theorem dX14_again_153 : decode cX14_again 153 = .ok (.putfield 38, 3) := dk_181 0 38 (dk_at dksX14_again_6 15 rfl rfl)
theorem dX14_again_156 : decode cX14_again 156 = .ok (.iconst 1, 1) := dk_4 (dk_at dksX14_again_6 18 rfl rfl)
theorem dX14_again_157 : decode cX14_again 157 = .ok (.ireturn, 1) := dk_172 (dk_at dksX14_again_6 19 rfl rfl)
theorem q123 : (Jvm.Cond.initialized "HungryHedgeModel") ∈ lw_all := lw_g (lw_at lw_m1 18 rfl) rfl
theorem q1690 : (Jvm.Cond.instantiable "HungryHedgeModel" (74 : Nat)) ∈ lw_all := lw_g (lw_at lw_m7 145 rfl) rfl
theorem q1692 : (Jvm.Cond.instanceMethod ({ cls := "HungryHedgeModel", name := "<init>", desc := "()V" } : Jvm.MethodName)) ∈ lw_all := lw_g (lw_at lw_m7 147 rfl) rfl
theorem q1693 : (Jvm.Cond.code ({ cls := "HungryHedgeModel", name := "<init>", desc := "()V" } : Jvm.MethodName) prog_33_method_1_code (1 : Nat) (Option.none : Option Jvm.ClassFile.FieldType)) ∈ lw_all := lw_g (lw_at lw_m7 148 rfl) rfl
theorem q1694 : (Jvm.Cond.methodLink "HungryHedgeModel" (1 : Nat) ({ cls := "java/lang/Object", name := "<init>", desc := "()V" } : Jvm.MethodName)) ∈ lw_all := lw_g (lw_at lw_m7 149 rfl) rfl
theorem q1695 : (Jvm.Cond.constant "HungryHedgeModel" (41 : Nat) (201684 : Int32)) ∈ lw_all := lw_g (lw_at lw_m7 150 rfl) rfl
theorem q1696 : (Jvm.Cond.fieldLink "HungryHedgeModel" (166 : Nat) "HungryHedgeModel" "minute" "I") ∈ lw_all := lw_g (lw_at lw_m7 151 rfl) rfl
theorem q1697 : (Jvm.Cond.fieldLink "HungryHedgeModel" (172 : Nat) "HungryHedgeModel" "got" "I") ∈ lw_all := lw_g (lw_at lw_m7 152 rfl) rfl
theorem q1698 : (Jvm.Cond.fieldLink "HungryHedgeModel" (7 : Nat) "HungryHedgeModel" "dusk" "I") ∈ lw_all := lw_g (lw_at lw_m7 153 rfl) rfl
theorem q1699 : (Jvm.Cond.fieldLink "HungryHedgeModel" (169 : Nat) "HungryHedgeModel" "place" "I") ∈ lw_all := lw_g (lw_at lw_m7 154 rfl) rfl
theorem q1700 : (Jvm.Cond.fieldLink "HungryHedgeModel" (13 : Nat) "HungryHedgeModel" "journey" "I") ∈ lw_all := lw_g (lw_at lw_m7 155 rfl) rfl
theorem q1701 : (Jvm.Cond.fieldLink "HungryHedgeModel" (16 : Nat) "HungryHedgeModel" "force" "I") ∈ lw_all := lw_g (lw_at lw_m7 156 rfl) rfl
theorem q1702 : (Jvm.Cond.fieldLink "HungryHedgeModel" (265 : Nat) "HungryHedgeModel" "strong" "I") ∈ lw_all := lw_g (lw_at lw_m7 157 rfl) rfl
theorem q1703 : (Jvm.Cond.fieldLink "HungryHedgeModel" (268 : Nat) "HungryHedgeModel" "weak" "I") ∈ lw_all := lw_g (lw_at lw_m7 158 rfl) rfl
theorem q1704 : (Jvm.Cond.fieldLink "HungryHedgeModel" (130 : Nat) "HungryHedgeModel" "patches" "I") ∈ lw_all := lw_g (lw_at lw_m7 159 rfl) rfl
theorem q1705 : (Jvm.Cond.fieldLink "HungryHedgeModel" (242 : Nat) "HungryHedgeModel" "risks" "I") ∈ lw_all := lw_g (lw_at lw_m7 160 rfl) rfl
theorem q1706 : (Jvm.Cond.fieldLink "HungryHedgeModel" (393 : Nat) "HungryHedgeModel" "clauses" "I") ∈ lw_all := lw_g (lw_at lw_m7 161 rfl) rfl
theorem q1707 : (Jvm.Cond.fieldLink "HungryHedgeModel" (19 : Nat) "HungryHedgeModel" "patch" "[I") ∈ lw_all := lw_g (lw_at lw_m7 162 rfl) rfl
theorem q1708 : (Jvm.Cond.fieldLink "HungryHedgeModel" (141 : Nat) "HungryHedgeModel" "food" "I") ∈ lw_all := lw_g (lw_at lw_m7 163 rfl) rfl
theorem q1709 : (Jvm.Cond.fieldLink "HungryHedgeModel" (23 : Nat) "HungryHedgeModel" "mile" "[I") ∈ lw_all := lw_g (lw_at lw_m7 164 rfl) rfl
theorem q1710 : (Jvm.Cond.fieldLink "HungryHedgeModel" (26 : Nat) "HungryHedgeModel" "risk" "[I") ∈ lw_all := lw_g (lw_at lw_m7 165 rfl) rfl
theorem q1711 : (Jvm.Cond.fieldLink "HungryHedgeModel" (29 : Nat) "HungryHedgeModel" "clauseEnd" "[I") ∈ lw_all := lw_g (lw_at lw_m7 166 rfl) rfl
theorem q1712 : (Jvm.Cond.fieldLink "HungryHedgeModel" (32 : Nat) "HungryHedgeModel" "clauseDoes" "[I") ∈ lw_all := lw_g (lw_at lw_m7 167 rfl) rfl
theorem q1713 : (Jvm.Cond.fieldLink "HungryHedgeModel" (35 : Nat) "HungryHedgeModel" "way" "[I") ∈ lw_all := lw_g (lw_at lw_m7 168 rfl) rfl
theorem q1714 : (Jvm.Cond.fieldLink "HungryHedgeModel" (38 : Nat) "HungryHedgeModel" "stamp" "I") ∈ lw_all := lw_g (lw_at lw_m7 169 rfl) rfl
theorem q1715 : (Jvm.Cond.fieldLink "HungryHedgeModel" (187 : Nat) "HungryHedgeModel" "nextMinute" "I") ∈ lw_all := lw_g (lw_at lw_m7 170 rfl) rfl
theorem q1716 : (Jvm.Cond.fieldLink "HungryHedgeModel" (181 : Nat) "HungryHedgeModel" "nextPlace" "I") ∈ lw_all := lw_g (lw_at lw_m7 171 rfl) rfl
theorem q1717 : (Jvm.Cond.fieldLink "HungryHedgeModel" (178 : Nat) "HungryHedgeModel" "nextFood" "I") ∈ lw_all := lw_g (lw_at lw_m7 172 rfl) rfl
theorem q1718 : (Jvm.Cond.fieldLink "HungryHedgeModel" (175 : Nat) "HungryHedgeModel" "nextGot" "I") ∈ lw_all := lw_g (lw_at lw_m7 173 rfl) rfl
theorem q1719 : (Jvm.Cond.fieldLink "HungryHedgeModel" (42 : Nat) "HungryHedgeModel" "found" "[I") ∈ lw_all := lw_g (lw_at lw_m7 174 rfl) rfl
theorem q1720 : (Jvm.Cond.fieldLink "HungryHedgeModel" (45 : Nat) "HungryHedgeModel" "pileMinute" "[I") ∈ lw_all := lw_g (lw_at lw_m7 175 rfl) rfl
theorem q1721 : (Jvm.Cond.fieldLink "HungryHedgeModel" (48 : Nat) "HungryHedgeModel" "pilePlace" "[I") ∈ lw_all := lw_g (lw_at lw_m7 176 rfl) rfl
theorem q1722 : (Jvm.Cond.fieldLink "HungryHedgeModel" (51 : Nat) "HungryHedgeModel" "pileFood" "[I") ∈ lw_all := lw_g (lw_at lw_m7 177 rfl) rfl
theorem q1723 : (Jvm.Cond.fieldLink "HungryHedgeModel" (54 : Nat) "HungryHedgeModel" "pileAct" "[I") ∈ lw_all := lw_g (lw_at lw_m7 178 rfl) rfl
theorem q1724 : (Jvm.Cond.fieldLink "HungryHedgeModel" (57 : Nat) "HungryHedgeModel" "pileMost" "[I") ∈ lw_all := lw_g (lw_at lw_m7 179 rfl) rfl
theorem q1725 : (Jvm.Cond.fieldLink "HungryHedgeModel" (60 : Nat) "HungryHedgeModel" "stays" "[I") ∈ lw_all := lw_g (lw_at lw_m7 180 rfl) rfl
theorem q1726 : (Jvm.Cond.fieldLink "HungryHedgeModel" (63 : Nat) "HungryHedgeModel" "bestStays" "[I") ∈ lw_all := lw_g (lw_at lw_m7 181 rfl) rfl
theorem q1727 : (Jvm.Cond.fieldLink "HungryHedgeModel" (221 : Nat) "HungryHedgeModel" "roundGot" "I") ∈ lw_all := lw_g (lw_at lw_m7 182 rfl) rfl
theorem q1728 : (Jvm.Cond.fieldLink "HungryHedgeModel" (224 : Nat) "HungryHedgeModel" "roundTime" "I") ∈ lw_all := lw_g (lw_at lw_m7 183 rfl) rfl
theorem q1729 : (Jvm.Cond.fieldLink "HungryHedgeModel" (66 : Nat) "HungryHedgeModel" "dares" "[J") ∈ lw_all := lw_g (lw_at lw_m7 184 rfl) rfl
theorem q1730 : (Jvm.Cond.fieldLink "HungryHedgeModel" (70 : Nat) "HungryHedgeModel" "dared" "I") ∈ lw_all := lw_g (lw_at lw_m7 185 rfl) rfl
theorem q1731 : (Jvm.Cond.fieldLink "HungryHedgeModel" (73 : Nat) "HungryHedgeModel" "alikes" "[J") ∈ lw_all := lw_g (lw_at lw_m7 186 rfl) rfl
theorem q1732 : (Jvm.Cond.fieldLink "HungryHedgeModel" (76 : Nat) "HungryHedgeModel" "spread" "[I") ∈ lw_all := lw_g (lw_at lw_m7 187 rfl) rfl
theorem q1733 : (Jvm.Cond.fieldLink "HungryHedgeModel" (79 : Nat) "HungryHedgeModel" "weighs" "[I") ∈ lw_all := lw_g (lw_at lw_m7 188 rfl) rfl
theorem q1734 : (Jvm.Cond.fieldLink "HungryHedgeModel" (82 : Nat) "HungryHedgeModel" "tape" "[I") ∈ lw_all := lw_g (lw_at lw_m7 189 rfl) rfl
theorem q1735 : (Jvm.Cond.fieldLink "HungryHedgeModel" (287 : Nat) "HungryHedgeModel" "tapeMany" "I") ∈ lw_all := lw_g (lw_at lw_m7 190 rfl) rfl
theorem q1736 : (Jvm.Cond.fieldLink "HungryHedgeModel" (302 : Nat) "HungryHedgeModel" "tokenKind" "I") ∈ lw_all := lw_g (lw_at lw_m7 191 rfl) rfl
theorem q1737 : (Jvm.Cond.fieldLink "HungryHedgeModel" (295 : Nat) "HungryHedgeModel" "tokenAt" "I") ∈ lw_all := lw_g (lw_at lw_m7 192 rfl) rfl
theorem q1738 : (Jvm.Cond.fieldLink "HungryHedgeModel" (292 : Nat) "HungryHedgeModel" "tokenEnd" "I") ∈ lw_all := lw_g (lw_at lw_m7 193 rfl) rfl
theorem q1739 : (Jvm.Cond.fieldLink "HungryHedgeModel" (298 : Nat) "HungryHedgeModel" "tokenValue" "J") ∈ lw_all := lw_g (lw_at lw_m7 194 rfl) rfl
theorem q1740 : (Jvm.Cond.fieldLink "HungryHedgeModel" (317 : Nat) "HungryHedgeModel" "fault" "I") ∈ lw_all := lw_g (lw_at lw_m7 195 rfl) rfl
theorem q1741 : (Jvm.Cond.fieldLink "HungryHedgeModel" (85 : Nat) "HungryHedgeModel" "fresh" "[I") ∈ lw_all := lw_g (lw_at lw_m7 196 rfl) rfl
theorem q1742 : (Jvm.Cond.fieldLink "HungryHedgeModel" (88 : Nat) "HungryHedgeModel" "waiting" "[I") ∈ lw_all := lw_g (lw_at lw_m7 197 rfl) rfl
theorem q1743 : (Jvm.Cond.fieldLink "HungryHedgeModel" (91 : Nat) "HungryHedgeModel" "freshEnd" "[I") ∈ lw_all := lw_g (lw_at lw_m7 198 rfl) rfl
theorem q1744 : (Jvm.Cond.fieldLink "HungryHedgeModel" (94 : Nat) "HungryHedgeModel" "freshDoes" "[I") ∈ lw_all := lw_g (lw_at lw_m7 199 rfl) rfl
theorem q1745 : (Jvm.Cond.fieldLink "HungryHedgeModel" (333 : Nat) "HungryHedgeModel" "freshMany" "I") ∈ lw_all := lw_g (lw_at lw_m7 200 rfl) rfl
theorem q1746 : (Jvm.Cond.fieldLink "HungryHedgeModel" (336 : Nat) "HungryHedgeModel" "waits" "I") ∈ lw_all := lw_g (lw_at lw_m7 201 rfl) rfl
theorem q1747 : (Jvm.Cond.fieldLink "HungryHedgeModel" (402 : Nat) "HungryHedgeModel" "askedMinute" "I") ∈ lw_all := lw_g (lw_at lw_m7 202 rfl) rfl
theorem q1748 : (Jvm.Cond.fieldLink "HungryHedgeModel" (399 : Nat) "HungryHedgeModel" "askedPlace" "I") ∈ lw_all := lw_g (lw_at lw_m7 203 rfl) rfl
theorem q1749 : (Jvm.Cond.fieldLink "HungryHedgeModel" (396 : Nat) "HungryHedgeModel" "askedFood" "I") ∈ lw_all := lw_g (lw_at lw_m7 204 rfl) rfl
theorem q1750 : (Jvm.Cond.fieldLink "HungryHedgeModel" (405 : Nat) "HungryHedgeModel" "askedGot" "I") ∈ lw_all := lw_g (lw_at lw_m7 205 rfl) rfl
theorem q1751 : (Jvm.Cond.fieldLink "HungryHedgeModel" (97 : Nat) "HungryHedgeModel" "stack" "[I") ∈ lw_all := lw_g (lw_at lw_m7 206 rfl) rfl
theorem q1752 : (Jvm.Cond.fieldLink "HungryHedgeModel" (100 : Nat) "HungryHedgeModel" "rows" "[I") ∈ lw_all := lw_g (lw_at lw_m7 207 rfl) rfl
theorem q1753 : (Jvm.Cond.fieldLink "HungryHedgeModel" (432 : Nat) "HungryHedgeModel" "rowMany" "I") ∈ lw_all := lw_g (lw_at lw_m7 208 rfl) rfl
theorem q1754 : (Jvm.Cond.fieldLink "HungryHedgeModel" (103 : Nat) "HungryHedgeModel" "sorts" "[I") ∈ lw_all := lw_g (lw_at lw_m7 209 rfl) rfl
theorem q1755 : (Jvm.Cond.fieldLink "HungryHedgeModel" (106 : Nat) "HungryHedgeModel" "sizes" "[I") ∈ lw_all := lw_g (lw_at lw_m7 210 rfl) rfl
theorem q1756 : (Jvm.Cond.fieldLink "HungryHedgeModel" (109 : Nat) "HungryHedgeModel" "sheets" "[J") ∈ lw_all := lw_g (lw_at lw_m7 211 rfl) rfl
theorem q1757 : (Jvm.Cond.fieldLink "HungryHedgeModel" (112 : Nat) "HungryHedgeModel" "held" "[I") ∈ lw_all := lw_g (lw_at lw_m7 212 rfl) rfl
theorem q1758 : (Jvm.Cond.fieldLink "HungryHedgeModel" (115 : Nat) "HungryHedgeModel" "heldNumber" "[I") ∈ lw_all := lw_g (lw_at lw_m7 213 rfl) rfl
theorem q1759 : (Jvm.Cond.fieldLink "HungryHedgeModel" (118 : Nat) "HungryHedgeModel" "heldSize" "[I") ∈ lw_all := lw_g (lw_at lw_m7 214 rfl) rfl
theorem q1760 : (Jvm.Cond.fieldLink "HungryHedgeModel" (459 : Nat) "HungryHedgeModel" "kind" "I") ∈ lw_all := lw_g (lw_at lw_m7 215 rfl) rfl
theorem q1761 : (Jvm.Cond.fieldLink "HungryHedgeModel" (474 : Nat) "HungryHedgeModel" "number" "I") ∈ lw_all := lw_g (lw_at lw_m7 216 rfl) rfl
theorem q1762 : (Jvm.Cond.fieldLink "HungryHedgeModel" (465 : Nat) "HungryHedgeModel" "its" "I") ∈ lw_all := lw_g (lw_at lw_m7 217 rfl) rfl
theorem q1763 : (Jvm.Cond.fieldLink "HungryHedgeModel" (121 : Nat) "HungryHedgeModel" "traced" "[I") ∈ lw_all := lw_g (lw_at lw_m7 218 rfl) rfl
theorem q1764 : (Jvm.Cond.fieldLink "HungryHedgeModel" (456 : Nat) "HungryHedgeModel" "bodies" "I") ∈ lw_all := lw_g (lw_at lw_m7 219 rfl) rfl
theorem q1765 : (Jvm.Cond.fieldLink "HungryHedgeModel" (480 : Nat) "HungryHedgeModel" "isParted" "Z") ∈ lw_all := lw_g (lw_at lw_m7 220 rfl) rfl
theorem q1766 : (Jvm.Cond.fieldLink "HungryHedgeModel" (506 : Nat) "HungryHedgeModel" "isKept" "Z") ∈ lw_all := lw_g (lw_at lw_m7 221 rfl) rfl
theorem q1767 : (Jvm.Cond.fieldLink "HungryHedgeModel" (124 : Nat) "HungryHedgeModel" "kept" "[I") ∈ lw_all := lw_g (lw_at lw_m7 222 rfl) rfl
theorem q1768 : (Jvm.Cond.fieldLink "HungryHedgeModel" (496 : Nat) "HungryHedgeModel" "movedTo" "I") ∈ lw_all := lw_g (lw_at lw_m7 223 rfl) rfl
theorem q1769 : (Jvm.Cond.fieldLink "HungryHedgeModel" (127 : Nat) "HungryHedgeModel" "counts" "[I") ∈ lw_all := lw_g (lw_at lw_m7 224 rfl) rfl
theorem q1770 : (Jvm.Cond.lays "HungryHedgeModel" "HungryHedgeModel" "minute" "I") ∈ lw_all := lw_g (lw_at lw_m7 225 rfl) rfl
theorem q1771 : (Jvm.Cond.soleField "HungryHedgeModel" "minute") ∈ lw_all := lw_g (lw_at lw_m7 226 rfl) rfl
theorem q1772 : (Jvm.Cond.lays "HungryHedgeModel" "HungryHedgeModel" "got" "I") ∈ lw_all := lw_g (lw_at lw_m7 227 rfl) rfl
theorem q1773 : (Jvm.Cond.soleField "HungryHedgeModel" "got") ∈ lw_all := lw_g (lw_at lw_m7 228 rfl) rfl
theorem q1774 : (Jvm.Cond.lays "HungryHedgeModel" "HungryHedgeModel" "dusk" "I") ∈ lw_all := lw_g (lw_at lw_m7 229 rfl) rfl
theorem q1775 : (Jvm.Cond.soleField "HungryHedgeModel" "dusk") ∈ lw_all := lw_g (lw_at lw_m7 230 rfl) rfl
theorem q1776 : (Jvm.Cond.lays "HungryHedgeModel" "HungryHedgeModel" "place" "I") ∈ lw_all := lw_g (lw_at lw_m7 231 rfl) rfl
theorem q1777 : (Jvm.Cond.soleField "HungryHedgeModel" "place") ∈ lw_all := lw_g (lw_at lw_m7 232 rfl) rfl
theorem q1778 : (Jvm.Cond.lays "HungryHedgeModel" "HungryHedgeModel" "journey" "I") ∈ lw_all := lw_g (lw_at lw_m7 233 rfl) rfl
theorem q1779 : (Jvm.Cond.soleField "HungryHedgeModel" "journey") ∈ lw_all := lw_g (lw_at lw_m7 234 rfl) rfl
theorem q1780 : (Jvm.Cond.lays "HungryHedgeModel" "HungryHedgeModel" "force" "I") ∈ lw_all := lw_g (lw_at lw_m7 235 rfl) rfl
theorem q1781 : (Jvm.Cond.soleField "HungryHedgeModel" "force") ∈ lw_all := lw_g (lw_at lw_m7 236 rfl) rfl
theorem q1782 : (Jvm.Cond.lays "HungryHedgeModel" "HungryHedgeModel" "strong" "I") ∈ lw_all := lw_g (lw_at lw_m7 237 rfl) rfl
theorem q1783 : (Jvm.Cond.soleField "HungryHedgeModel" "strong") ∈ lw_all := lw_g (lw_at lw_m7 238 rfl) rfl
theorem q1784 : (Jvm.Cond.lays "HungryHedgeModel" "HungryHedgeModel" "weak" "I") ∈ lw_all := lw_g (lw_at lw_m7 239 rfl) rfl
theorem q1785 : (Jvm.Cond.soleField "HungryHedgeModel" "weak") ∈ lw_all := lw_g (lw_at lw_m8 0 rfl) rfl
theorem q1786 : (Jvm.Cond.lays "HungryHedgeModel" "HungryHedgeModel" "patches" "I") ∈ lw_all := lw_g (lw_at lw_m8 1 rfl) rfl
theorem q1787 : (Jvm.Cond.soleField "HungryHedgeModel" "patches") ∈ lw_all := lw_g (lw_at lw_m8 2 rfl) rfl
theorem q1788 : (Jvm.Cond.lays "HungryHedgeModel" "HungryHedgeModel" "risks" "I") ∈ lw_all := lw_g (lw_at lw_m8 3 rfl) rfl
theorem q1789 : (Jvm.Cond.soleField "HungryHedgeModel" "risks") ∈ lw_all := lw_g (lw_at lw_m8 4 rfl) rfl
theorem q1790 : (Jvm.Cond.lays "HungryHedgeModel" "HungryHedgeModel" "clauses" "I") ∈ lw_all := lw_g (lw_at lw_m8 5 rfl) rfl
theorem q1791 : (Jvm.Cond.soleField "HungryHedgeModel" "clauses") ∈ lw_all := lw_g (lw_at lw_m8 6 rfl) rfl
theorem q1792 : (Jvm.Cond.laysFinal "HungryHedgeModel" "HungryHedgeModel" "patch" "[I") ∈ lw_all := lw_g (lw_at lw_m8 7 rfl) rfl
theorem q1793 : (Jvm.Cond.soleField "HungryHedgeModel" "patch") ∈ lw_all := lw_g (lw_at lw_m8 8 rfl) rfl
theorem q1794 : (Jvm.Cond.lays "HungryHedgeModel" "HungryHedgeModel" "food" "I") ∈ lw_all := lw_g (lw_at lw_m8 9 rfl) rfl
theorem q1795 : (Jvm.Cond.soleField "HungryHedgeModel" "food") ∈ lw_all := lw_g (lw_at lw_m8 10 rfl) rfl
theorem q1796 : (Jvm.Cond.laysFinal "HungryHedgeModel" "HungryHedgeModel" "mile" "[I") ∈ lw_all := lw_g (lw_at lw_m8 11 rfl) rfl
theorem q1797 : (Jvm.Cond.soleField "HungryHedgeModel" "mile") ∈ lw_all := lw_g (lw_at lw_m8 12 rfl) rfl
theorem q1798 : (Jvm.Cond.laysFinal "HungryHedgeModel" "HungryHedgeModel" "risk" "[I") ∈ lw_all := lw_g (lw_at lw_m8 13 rfl) rfl
theorem q1799 : (Jvm.Cond.soleField "HungryHedgeModel" "risk") ∈ lw_all := lw_g (lw_at lw_m8 14 rfl) rfl
theorem q1800 : (Jvm.Cond.laysFinal "HungryHedgeModel" "HungryHedgeModel" "clauseEnd" "[I") ∈ lw_all := lw_g (lw_at lw_m8 15 rfl) rfl
theorem q1801 : (Jvm.Cond.soleField "HungryHedgeModel" "clauseEnd") ∈ lw_all := lw_g (lw_at lw_m8 16 rfl) rfl
theorem q1802 : (Jvm.Cond.laysFinal "HungryHedgeModel" "HungryHedgeModel" "clauseDoes" "[I") ∈ lw_all := lw_g (lw_at lw_m8 17 rfl) rfl
theorem q1803 : (Jvm.Cond.soleField "HungryHedgeModel" "clauseDoes") ∈ lw_all := lw_g (lw_at lw_m8 18 rfl) rfl
theorem q1804 : (Jvm.Cond.laysFinal "HungryHedgeModel" "HungryHedgeModel" "way" "[I") ∈ lw_all := lw_g (lw_at lw_m8 19 rfl) rfl
theorem q1805 : (Jvm.Cond.soleField "HungryHedgeModel" "way") ∈ lw_all := lw_g (lw_at lw_m8 20 rfl) rfl
theorem q1806 : (Jvm.Cond.lays "HungryHedgeModel" "HungryHedgeModel" "stamp" "I") ∈ lw_all := lw_g (lw_at lw_m8 21 rfl) rfl
theorem q1807 : (Jvm.Cond.soleField "HungryHedgeModel" "stamp") ∈ lw_all := lw_g (lw_at lw_m8 22 rfl) rfl
theorem q1808 : (Jvm.Cond.lays "HungryHedgeModel" "HungryHedgeModel" "nextMinute" "I") ∈ lw_all := lw_g (lw_at lw_m8 23 rfl) rfl
theorem q1809 : (Jvm.Cond.soleField "HungryHedgeModel" "nextMinute") ∈ lw_all := lw_g (lw_at lw_m8 24 rfl) rfl
theorem q1810 : (Jvm.Cond.lays "HungryHedgeModel" "HungryHedgeModel" "nextPlace" "I") ∈ lw_all := lw_g (lw_at lw_m8 25 rfl) rfl
theorem q1811 : (Jvm.Cond.soleField "HungryHedgeModel" "nextPlace") ∈ lw_all := lw_g (lw_at lw_m8 26 rfl) rfl
theorem q1812 : (Jvm.Cond.lays "HungryHedgeModel" "HungryHedgeModel" "nextFood" "I") ∈ lw_all := lw_g (lw_at lw_m8 27 rfl) rfl
theorem q1813 : (Jvm.Cond.soleField "HungryHedgeModel" "nextFood") ∈ lw_all := lw_g (lw_at lw_m8 28 rfl) rfl
theorem q1814 : (Jvm.Cond.lays "HungryHedgeModel" "HungryHedgeModel" "nextGot" "I") ∈ lw_all := lw_g (lw_at lw_m8 29 rfl) rfl
theorem q1815 : (Jvm.Cond.soleField "HungryHedgeModel" "nextGot") ∈ lw_all := lw_g (lw_at lw_m8 30 rfl) rfl
theorem q1816 : (Jvm.Cond.laysFinal "HungryHedgeModel" "HungryHedgeModel" "found" "[I") ∈ lw_all := lw_g (lw_at lw_m8 31 rfl) rfl
theorem q1817 : (Jvm.Cond.soleField "HungryHedgeModel" "found") ∈ lw_all := lw_g (lw_at lw_m8 32 rfl) rfl
theorem q1818 : (Jvm.Cond.laysFinal "HungryHedgeModel" "HungryHedgeModel" "pileMinute" "[I") ∈ lw_all := lw_g (lw_at lw_m8 33 rfl) rfl
theorem q1819 : (Jvm.Cond.soleField "HungryHedgeModel" "pileMinute") ∈ lw_all := lw_g (lw_at lw_m8 34 rfl) rfl
theorem q1820 : (Jvm.Cond.laysFinal "HungryHedgeModel" "HungryHedgeModel" "pilePlace" "[I") ∈ lw_all := lw_g (lw_at lw_m8 35 rfl) rfl
theorem q1821 : (Jvm.Cond.soleField "HungryHedgeModel" "pilePlace") ∈ lw_all := lw_g (lw_at lw_m8 36 rfl) rfl
theorem q1822 : (Jvm.Cond.laysFinal "HungryHedgeModel" "HungryHedgeModel" "pileFood" "[I") ∈ lw_all := lw_g (lw_at lw_m8 37 rfl) rfl
theorem q1823 : (Jvm.Cond.soleField "HungryHedgeModel" "pileFood") ∈ lw_all := lw_g (lw_at lw_m8 38 rfl) rfl
theorem q1824 : (Jvm.Cond.laysFinal "HungryHedgeModel" "HungryHedgeModel" "pileAct" "[I") ∈ lw_all := lw_g (lw_at lw_m8 39 rfl) rfl
theorem q1825 : (Jvm.Cond.soleField "HungryHedgeModel" "pileAct") ∈ lw_all := lw_g (lw_at lw_m8 40 rfl) rfl
theorem q1826 : (Jvm.Cond.laysFinal "HungryHedgeModel" "HungryHedgeModel" "pileMost" "[I") ∈ lw_all := lw_g (lw_at lw_m8 41 rfl) rfl
theorem q1827 : (Jvm.Cond.soleField "HungryHedgeModel" "pileMost") ∈ lw_all := lw_g (lw_at lw_m8 42 rfl) rfl
theorem q1828 : (Jvm.Cond.laysFinal "HungryHedgeModel" "HungryHedgeModel" "stays" "[I") ∈ lw_all := lw_g (lw_at lw_m8 43 rfl) rfl
theorem q1829 : (Jvm.Cond.soleField "HungryHedgeModel" "stays") ∈ lw_all := lw_g (lw_at lw_m8 44 rfl) rfl
theorem q1830 : (Jvm.Cond.laysFinal "HungryHedgeModel" "HungryHedgeModel" "bestStays" "[I") ∈ lw_all := lw_g (lw_at lw_m8 45 rfl) rfl
theorem q1831 : (Jvm.Cond.soleField "HungryHedgeModel" "bestStays") ∈ lw_all := lw_g (lw_at lw_m8 46 rfl) rfl
theorem q1832 : (Jvm.Cond.lays "HungryHedgeModel" "HungryHedgeModel" "roundGot" "I") ∈ lw_all := lw_g (lw_at lw_m8 47 rfl) rfl
theorem q1833 : (Jvm.Cond.soleField "HungryHedgeModel" "roundGot") ∈ lw_all := lw_g (lw_at lw_m8 48 rfl) rfl
theorem q1834 : (Jvm.Cond.lays "HungryHedgeModel" "HungryHedgeModel" "roundTime" "I") ∈ lw_all := lw_g (lw_at lw_m8 49 rfl) rfl
theorem q1835 : (Jvm.Cond.soleField "HungryHedgeModel" "roundTime") ∈ lw_all := lw_g (lw_at lw_m8 50 rfl) rfl
theorem q1836 : (Jvm.Cond.laysFinal "HungryHedgeModel" "HungryHedgeModel" "dares" "[J") ∈ lw_all := lw_g (lw_at lw_m8 51 rfl) rfl
theorem q1837 : (Jvm.Cond.soleField "HungryHedgeModel" "dares") ∈ lw_all := lw_g (lw_at lw_m8 52 rfl) rfl
theorem q1838 : (Jvm.Cond.lays "HungryHedgeModel" "HungryHedgeModel" "dared" "I") ∈ lw_all := lw_g (lw_at lw_m8 53 rfl) rfl
theorem q1839 : (Jvm.Cond.soleField "HungryHedgeModel" "dared") ∈ lw_all := lw_g (lw_at lw_m8 54 rfl) rfl
theorem q1840 : (Jvm.Cond.laysFinal "HungryHedgeModel" "HungryHedgeModel" "alikes" "[J") ∈ lw_all := lw_g (lw_at lw_m8 55 rfl) rfl
theorem q1841 : (Jvm.Cond.soleField "HungryHedgeModel" "alikes") ∈ lw_all := lw_g (lw_at lw_m8 56 rfl) rfl
theorem q1842 : (Jvm.Cond.laysFinal "HungryHedgeModel" "HungryHedgeModel" "spread" "[I") ∈ lw_all := lw_g (lw_at lw_m8 57 rfl) rfl
theorem q1843 : (Jvm.Cond.soleField "HungryHedgeModel" "spread") ∈ lw_all := lw_g (lw_at lw_m8 58 rfl) rfl
theorem q1844 : (Jvm.Cond.laysFinal "HungryHedgeModel" "HungryHedgeModel" "weighs" "[I") ∈ lw_all := lw_g (lw_at lw_m8 59 rfl) rfl
theorem q1845 : (Jvm.Cond.soleField "HungryHedgeModel" "weighs") ∈ lw_all := lw_g (lw_at lw_m8 60 rfl) rfl
theorem q1846 : (Jvm.Cond.laysFinal "HungryHedgeModel" "HungryHedgeModel" "tape" "[I") ∈ lw_all := lw_g (lw_at lw_m8 61 rfl) rfl
theorem q1847 : (Jvm.Cond.soleField "HungryHedgeModel" "tape") ∈ lw_all := lw_g (lw_at lw_m8 62 rfl) rfl
theorem q1848 : (Jvm.Cond.lays "HungryHedgeModel" "HungryHedgeModel" "tapeMany" "I") ∈ lw_all := lw_g (lw_at lw_m8 63 rfl) rfl
theorem q1849 : (Jvm.Cond.soleField "HungryHedgeModel" "tapeMany") ∈ lw_all := lw_g (lw_at lw_m8 64 rfl) rfl
theorem q1850 : (Jvm.Cond.lays "HungryHedgeModel" "HungryHedgeModel" "tokenKind" "I") ∈ lw_all := lw_g (lw_at lw_m8 65 rfl) rfl
theorem q1851 : (Jvm.Cond.soleField "HungryHedgeModel" "tokenKind") ∈ lw_all := lw_g (lw_at lw_m8 66 rfl) rfl
theorem q1852 : (Jvm.Cond.lays "HungryHedgeModel" "HungryHedgeModel" "tokenAt" "I") ∈ lw_all := lw_g (lw_at lw_m8 67 rfl) rfl
theorem q1853 : (Jvm.Cond.soleField "HungryHedgeModel" "tokenAt") ∈ lw_all := lw_g (lw_at lw_m8 68 rfl) rfl
theorem q1854 : (Jvm.Cond.lays "HungryHedgeModel" "HungryHedgeModel" "tokenEnd" "I") ∈ lw_all := lw_g (lw_at lw_m8 69 rfl) rfl
theorem q1855 : (Jvm.Cond.soleField "HungryHedgeModel" "tokenEnd") ∈ lw_all := lw_g (lw_at lw_m8 70 rfl) rfl
theorem q1856 : (Jvm.Cond.lays "HungryHedgeModel" "HungryHedgeModel" "tokenValue" "J") ∈ lw_all := lw_g (lw_at lw_m8 71 rfl) rfl
theorem q1857 : (Jvm.Cond.soleField "HungryHedgeModel" "tokenValue") ∈ lw_all := lw_g (lw_at lw_m8 72 rfl) rfl
theorem q1858 : (Jvm.Cond.lays "HungryHedgeModel" "HungryHedgeModel" "fault" "I") ∈ lw_all := lw_g (lw_at lw_m8 73 rfl) rfl
theorem q1859 : (Jvm.Cond.soleField "HungryHedgeModel" "fault") ∈ lw_all := lw_g (lw_at lw_m8 74 rfl) rfl
theorem q1860 : (Jvm.Cond.laysFinal "HungryHedgeModel" "HungryHedgeModel" "fresh" "[I") ∈ lw_all := lw_g (lw_at lw_m8 75 rfl) rfl
theorem q1861 : (Jvm.Cond.soleField "HungryHedgeModel" "fresh") ∈ lw_all := lw_g (lw_at lw_m8 76 rfl) rfl
theorem q1862 : (Jvm.Cond.laysFinal "HungryHedgeModel" "HungryHedgeModel" "waiting" "[I") ∈ lw_all := lw_g (lw_at lw_m8 77 rfl) rfl
theorem q1863 : (Jvm.Cond.soleField "HungryHedgeModel" "waiting") ∈ lw_all := lw_g (lw_at lw_m8 78 rfl) rfl
theorem q1864 : (Jvm.Cond.laysFinal "HungryHedgeModel" "HungryHedgeModel" "freshEnd" "[I") ∈ lw_all := lw_g (lw_at lw_m8 79 rfl) rfl
theorem q1865 : (Jvm.Cond.soleField "HungryHedgeModel" "freshEnd") ∈ lw_all := lw_g (lw_at lw_m8 80 rfl) rfl
theorem q1866 : (Jvm.Cond.laysFinal "HungryHedgeModel" "HungryHedgeModel" "freshDoes" "[I") ∈ lw_all := lw_g (lw_at lw_m8 81 rfl) rfl
theorem q1867 : (Jvm.Cond.soleField "HungryHedgeModel" "freshDoes") ∈ lw_all := lw_g (lw_at lw_m8 82 rfl) rfl
theorem q1868 : (Jvm.Cond.lays "HungryHedgeModel" "HungryHedgeModel" "freshMany" "I") ∈ lw_all := lw_g (lw_at lw_m8 83 rfl) rfl
theorem q1869 : (Jvm.Cond.soleField "HungryHedgeModel" "freshMany") ∈ lw_all := lw_g (lw_at lw_m8 84 rfl) rfl
theorem q1870 : (Jvm.Cond.lays "HungryHedgeModel" "HungryHedgeModel" "waits" "I") ∈ lw_all := lw_g (lw_at lw_m8 85 rfl) rfl
theorem q1871 : (Jvm.Cond.soleField "HungryHedgeModel" "waits") ∈ lw_all := lw_g (lw_at lw_m8 86 rfl) rfl
theorem q1872 : (Jvm.Cond.lays "HungryHedgeModel" "HungryHedgeModel" "askedMinute" "I") ∈ lw_all := lw_g (lw_at lw_m8 87 rfl) rfl
theorem q1873 : (Jvm.Cond.soleField "HungryHedgeModel" "askedMinute") ∈ lw_all := lw_g (lw_at lw_m8 88 rfl) rfl
theorem q1874 : (Jvm.Cond.lays "HungryHedgeModel" "HungryHedgeModel" "askedPlace" "I") ∈ lw_all := lw_g (lw_at lw_m8 89 rfl) rfl
theorem q1875 : (Jvm.Cond.soleField "HungryHedgeModel" "askedPlace") ∈ lw_all := lw_g (lw_at lw_m8 90 rfl) rfl
theorem q1876 : (Jvm.Cond.lays "HungryHedgeModel" "HungryHedgeModel" "askedFood" "I") ∈ lw_all := lw_g (lw_at lw_m8 91 rfl) rfl
theorem q1877 : (Jvm.Cond.soleField "HungryHedgeModel" "askedFood") ∈ lw_all := lw_g (lw_at lw_m8 92 rfl) rfl
theorem q1878 : (Jvm.Cond.lays "HungryHedgeModel" "HungryHedgeModel" "askedGot" "I") ∈ lw_all := lw_g (lw_at lw_m8 93 rfl) rfl
theorem q1879 : (Jvm.Cond.soleField "HungryHedgeModel" "askedGot") ∈ lw_all := lw_g (lw_at lw_m8 94 rfl) rfl
theorem q1880 : (Jvm.Cond.laysFinal "HungryHedgeModel" "HungryHedgeModel" "stack" "[I") ∈ lw_all := lw_g (lw_at lw_m8 95 rfl) rfl
theorem q1881 : (Jvm.Cond.soleField "HungryHedgeModel" "stack") ∈ lw_all := lw_g (lw_at lw_m8 96 rfl) rfl
theorem q1882 : (Jvm.Cond.laysFinal "HungryHedgeModel" "HungryHedgeModel" "rows" "[I") ∈ lw_all := lw_g (lw_at lw_m8 97 rfl) rfl
theorem q1883 : (Jvm.Cond.soleField "HungryHedgeModel" "rows") ∈ lw_all := lw_g (lw_at lw_m8 98 rfl) rfl
theorem q1884 : (Jvm.Cond.lays "HungryHedgeModel" "HungryHedgeModel" "rowMany" "I") ∈ lw_all := lw_g (lw_at lw_m8 99 rfl) rfl
theorem q1885 : (Jvm.Cond.soleField "HungryHedgeModel" "rowMany") ∈ lw_all := lw_g (lw_at lw_m8 100 rfl) rfl
theorem q1886 : (Jvm.Cond.laysFinal "HungryHedgeModel" "HungryHedgeModel" "sorts" "[I") ∈ lw_all := lw_g (lw_at lw_m8 101 rfl) rfl
theorem q1887 : (Jvm.Cond.soleField "HungryHedgeModel" "sorts") ∈ lw_all := lw_g (lw_at lw_m8 102 rfl) rfl
theorem q1888 : (Jvm.Cond.laysFinal "HungryHedgeModel" "HungryHedgeModel" "sizes" "[I") ∈ lw_all := lw_g (lw_at lw_m8 103 rfl) rfl
theorem q1889 : (Jvm.Cond.soleField "HungryHedgeModel" "sizes") ∈ lw_all := lw_g (lw_at lw_m8 104 rfl) rfl
theorem q1890 : (Jvm.Cond.laysFinal "HungryHedgeModel" "HungryHedgeModel" "sheets" "[J") ∈ lw_all := lw_g (lw_at lw_m8 105 rfl) rfl
theorem q1891 : (Jvm.Cond.soleField "HungryHedgeModel" "sheets") ∈ lw_all := lw_g (lw_at lw_m8 106 rfl) rfl
theorem q1892 : (Jvm.Cond.laysFinal "HungryHedgeModel" "HungryHedgeModel" "held" "[I") ∈ lw_all := lw_g (lw_at lw_m8 107 rfl) rfl
theorem q1893 : (Jvm.Cond.soleField "HungryHedgeModel" "held") ∈ lw_all := lw_g (lw_at lw_m8 108 rfl) rfl
theorem q1894 : (Jvm.Cond.laysFinal "HungryHedgeModel" "HungryHedgeModel" "heldNumber" "[I") ∈ lw_all := lw_g (lw_at lw_m8 109 rfl) rfl
theorem q1895 : (Jvm.Cond.soleField "HungryHedgeModel" "heldNumber") ∈ lw_all := lw_g (lw_at lw_m8 110 rfl) rfl
theorem q1896 : (Jvm.Cond.laysFinal "HungryHedgeModel" "HungryHedgeModel" "heldSize" "[I") ∈ lw_all := lw_g (lw_at lw_m8 111 rfl) rfl
theorem q1897 : (Jvm.Cond.soleField "HungryHedgeModel" "heldSize") ∈ lw_all := lw_g (lw_at lw_m8 112 rfl) rfl
theorem q1898 : (Jvm.Cond.lays "HungryHedgeModel" "HungryHedgeModel" "kind" "I") ∈ lw_all := lw_g (lw_at lw_m8 113 rfl) rfl
theorem q1899 : (Jvm.Cond.soleField "HungryHedgeModel" "kind") ∈ lw_all := lw_g (lw_at lw_m8 114 rfl) rfl
theorem q1900 : (Jvm.Cond.lays "HungryHedgeModel" "HungryHedgeModel" "number" "I") ∈ lw_all := lw_g (lw_at lw_m8 115 rfl) rfl
theorem q1901 : (Jvm.Cond.soleField "HungryHedgeModel" "number") ∈ lw_all := lw_g (lw_at lw_m8 116 rfl) rfl
theorem q1902 : (Jvm.Cond.lays "HungryHedgeModel" "HungryHedgeModel" "its" "I") ∈ lw_all := lw_g (lw_at lw_m8 117 rfl) rfl
theorem q1903 : (Jvm.Cond.soleField "HungryHedgeModel" "its") ∈ lw_all := lw_g (lw_at lw_m8 118 rfl) rfl
theorem q1904 : (Jvm.Cond.laysFinal "HungryHedgeModel" "HungryHedgeModel" "traced" "[I") ∈ lw_all := lw_g (lw_at lw_m8 119 rfl) rfl
theorem q1905 : (Jvm.Cond.soleField "HungryHedgeModel" "traced") ∈ lw_all := lw_g (lw_at lw_m8 120 rfl) rfl
theorem q1906 : (Jvm.Cond.lays "HungryHedgeModel" "HungryHedgeModel" "bodies" "I") ∈ lw_all := lw_g (lw_at lw_m8 121 rfl) rfl
theorem q1907 : (Jvm.Cond.soleField "HungryHedgeModel" "bodies") ∈ lw_all := lw_g (lw_at lw_m8 122 rfl) rfl
theorem q1908 : (Jvm.Cond.lays "HungryHedgeModel" "HungryHedgeModel" "isParted" "Z") ∈ lw_all := lw_g (lw_at lw_m8 123 rfl) rfl
theorem q1909 : (Jvm.Cond.soleField "HungryHedgeModel" "isParted") ∈ lw_all := lw_g (lw_at lw_m8 124 rfl) rfl
theorem q1910 : (Jvm.Cond.lays "HungryHedgeModel" "HungryHedgeModel" "isKept" "Z") ∈ lw_all := lw_g (lw_at lw_m8 125 rfl) rfl
theorem q1911 : (Jvm.Cond.soleField "HungryHedgeModel" "isKept") ∈ lw_all := lw_g (lw_at lw_m8 126 rfl) rfl
theorem q1912 : (Jvm.Cond.laysFinal "HungryHedgeModel" "HungryHedgeModel" "kept" "[I") ∈ lw_all := lw_g (lw_at lw_m8 127 rfl) rfl
theorem q1913 : (Jvm.Cond.soleField "HungryHedgeModel" "kept") ∈ lw_all := lw_g (lw_at lw_m8 128 rfl) rfl
theorem q1914 : (Jvm.Cond.lays "HungryHedgeModel" "HungryHedgeModel" "movedTo" "I") ∈ lw_all := lw_g (lw_at lw_m8 129 rfl) rfl
theorem q1915 : (Jvm.Cond.soleField "HungryHedgeModel" "movedTo") ∈ lw_all := lw_g (lw_at lw_m8 130 rfl) rfl
theorem q1916 : (Jvm.Cond.laysFinal "HungryHedgeModel" "HungryHedgeModel" "counts" "[I") ∈ lw_all := lw_g (lw_at lw_m8 131 rfl) rfl
theorem q1917 : (Jvm.Cond.soleField "HungryHedgeModel" "counts") ∈ lw_all := lw_g (lw_at lw_m8 132 rfl) rfl
theorem q1918 : (Jvm.Cond.superclass "HungryHedgeModel" "java/lang/Object") ∈ lw_all := lw_g (lw_at lw_m8 133 rfl) rfl
theorem q1920 : (Jvm.Cond.instanceMethod ({ cls := "HungryHedgeModel", name := "patch", desc := "(III)I" } : Jvm.MethodName)) ∈ lw_all := lw_g (lw_at lw_m8 135 rfl) rfl
theorem q1921 : (Jvm.Cond.selects "HungryHedgeModel" ({ cls := "HungryHedgeModel", name := "patch", desc := "(III)I" } : Jvm.MethodName) ({ cls := "HungryHedgeModel", name := "patch", desc := "(III)I" } : Jvm.MethodName)) ∈ lw_all := lw_g (lw_at lw_m8 136 rfl) rfl
theorem q1922 : (Jvm.Cond.code ({ cls := "HungryHedgeModel", name := "patch", desc := "(III)I" } : Jvm.MethodName) prog_33_method_9_code (6 : Nat) (Option.some Jvm.ClassFile.FieldType.int)) ∈ lw_all := lw_g (lw_at lw_m8 137 rfl) rfl
theorem q1923 : (Jvm.Cond.methodLink "HungryHedgeModel" (133 : Nat) ({ cls := "HungryHedgeModel", name := "in", desc := "(III)Z" } : Jvm.MethodName)) ∈ lw_all := lw_g (lw_at lw_m8 138 rfl) rfl
theorem q1924 : (Jvm.Cond.static ({ cls := "HungryHedgeModel", name := "in", desc := "(III)Z" } : Jvm.MethodName)) ∈ lw_all := lw_g (lw_at lw_m8 139 rfl) rfl
theorem q1925 : (Jvm.Cond.code ({ cls := "HungryHedgeModel", name := "in", desc := "(III)Z" } : Jvm.MethodName) prog_33_method_2_code (3 : Nat) (Option.some Jvm.ClassFile.FieldType.boolean)) ∈ lw_all := lw_g (lw_at lw_m8 140 rfl) rfl
theorem q1926 : (Jvm.Cond.methodLink "HungryHedgeModel" (144 : Nat) ({ cls := "HungryHedgeModel", name := "foodIn", desc := "(II)I" } : Jvm.MethodName)) ∈ lw_all := lw_g (lw_at lw_m8 141 rfl) rfl
theorem q1927 : (Jvm.Cond.static ({ cls := "HungryHedgeModel", name := "foodIn", desc := "(II)I" } : Jvm.MethodName)) ∈ lw_all := lw_g (lw_at lw_m8 142 rfl) rfl
theorem q1928 : (Jvm.Cond.code ({ cls := "HungryHedgeModel", name := "foodIn", desc := "(II)I" } : Jvm.MethodName) prog_33_method_5_code (2 : Nat) (Option.some Jvm.ClassFile.FieldType.int)) ∈ lw_all := lw_g (lw_at lw_m8 143 rfl) rfl
theorem q1929 : (Jvm.Cond.methodLink "HungryHedgeModel" (137 : Nat) ({ cls := "HungryHedgeModel", name := "unit", desc := "(I)I" } : Jvm.MethodName)) ∈ lw_all := lw_g (lw_at lw_m8 144 rfl) rfl
theorem q1930 : (Jvm.Cond.static ({ cls := "HungryHedgeModel", name := "unit", desc := "(I)I" } : Jvm.MethodName)) ∈ lw_all := lw_g (lw_at lw_m8 145 rfl) rfl
theorem q1931 : (Jvm.Cond.code ({ cls := "HungryHedgeModel", name := "unit", desc := "(I)I" } : Jvm.MethodName) prog_33_method_4_code (1 : Nat) (Option.some Jvm.ClassFile.FieldType.int)) ∈ lw_all := lw_g (lw_at lw_m8 146 rfl) rfl
theorem q1933 : (Jvm.Cond.instanceMethod ({ cls := "HungryHedgeModel", name := "patchOf", desc := "(II)I" } : Jvm.MethodName)) ∈ lw_all := lw_g (lw_at lw_m8 148 rfl) rfl
theorem q1934 : (Jvm.Cond.selects "HungryHedgeModel" ({ cls := "HungryHedgeModel", name := "patchOf", desc := "(II)I" } : Jvm.MethodName) ({ cls := "HungryHedgeModel", name := "patchOf", desc := "(II)I" } : Jvm.MethodName)) ∈ lw_all := lw_g (lw_at lw_m8 149 rfl) rfl
theorem q1935 : (Jvm.Cond.code ({ cls := "HungryHedgeModel", name := "patchOf", desc := "(II)I" } : Jvm.MethodName) prog_33_method_10_code (3 : Nat) (Option.some Jvm.ClassFile.FieldType.int)) ∈ lw_all := lw_g (lw_at lw_m8 150 rfl) rfl
theorem q1936 : (Jvm.Cond.methodLink "HungryHedgeModel" (148 : Nat) ({ cls := "HungryHedgeModel", name := "isPatch", desc := "(I)Z" } : Jvm.MethodName)) ∈ lw_all := lw_g (lw_at lw_m8 151 rfl) rfl
theorem q1937 : (Jvm.Cond.privateMethod ({ cls := "HungryHedgeModel", name := "isPatch", desc := "(I)Z" } : Jvm.MethodName)) ∈ lw_tbl := lw_at lw_m8 152 rfl
theorem q1938 : (Jvm.Cond.instanceMethod ({ cls := "HungryHedgeModel", name := "isPatch", desc := "(I)Z" } : Jvm.MethodName)) ∈ lw_all := lw_g (lw_at lw_m8 153 rfl) rfl
theorem q1939 : (Jvm.Cond.code ({ cls := "HungryHedgeModel", name := "isPatch", desc := "(I)Z" } : Jvm.MethodName) prog_33_method_3_code (2 : Nat) (Option.some Jvm.ClassFile.FieldType.boolean)) ∈ lw_all := lw_g (lw_at lw_m8 154 rfl) rfl
theorem q1941 : (Jvm.Cond.instanceMethod ({ cls := "HungryHedgeModel", name := "yields", desc := "(II)I" } : Jvm.MethodName)) ∈ lw_all := lw_g (lw_at lw_m8 156 rfl) rfl
theorem q1942 : (Jvm.Cond.selects "HungryHedgeModel" ({ cls := "HungryHedgeModel", name := "yields", desc := "(II)I" } : Jvm.MethodName) ({ cls := "HungryHedgeModel", name := "yields", desc := "(II)I" } : Jvm.MethodName)) ∈ lw_all := lw_g (lw_at lw_m8 157 rfl) rfl
theorem q1943 : (Jvm.Cond.code ({ cls := "HungryHedgeModel", name := "yields", desc := "(II)I" } : Jvm.MethodName) prog_33_method_11_code (6 : Nat) (Option.some Jvm.ClassFile.FieldType.int)) ∈ lw_all := lw_g (lw_at lw_m8 158 rfl) rfl
theorem q1944 : (Jvm.Cond.methodLink "HungryHedgeModel" (152 : Nat) ({ cls := "HungryHedgeModel", name := "isShelf", desc := "(I)Z" } : Jvm.MethodName)) ∈ lw_all := lw_g (lw_at lw_m8 159 rfl) rfl
theorem q1945 : (Jvm.Cond.static ({ cls := "HungryHedgeModel", name := "isShelf", desc := "(I)Z" } : Jvm.MethodName)) ∈ lw_all := lw_g (lw_at lw_m8 160 rfl) rfl
theorem q1946 : (Jvm.Cond.code ({ cls := "HungryHedgeModel", name := "isShelf", desc := "(I)Z" } : Jvm.MethodName) prog_33_method_90_code (1 : Nat) (Option.some Jvm.ClassFile.FieldType.boolean)) ∈ lw_all := lw_g (lw_at lw_m8 161 rfl) rfl
theorem q1947 : (Jvm.Cond.methodLink "HungryHedgeModel" (155 : Nat) ({ cls := "HungryHedgeModel", name := "lacksSort", desc := "(II)I" } : Jvm.MethodName)) ∈ lw_all := lw_g (lw_at lw_m8 162 rfl) rfl
theorem q1948 : (Jvm.Cond.privateMethod ({ cls := "HungryHedgeModel", name := "lacksSort", desc := "(II)I" } : Jvm.MethodName)) ∈ lw_tbl := lw_at lw_m8 163 rfl
theorem q1949 : (Jvm.Cond.instanceMethod ({ cls := "HungryHedgeModel", name := "lacksSort", desc := "(II)I" } : Jvm.MethodName)) ∈ lw_all := lw_g (lw_at lw_m8 164 rfl) rfl
theorem q1950 : (Jvm.Cond.code ({ cls := "HungryHedgeModel", name := "lacksSort", desc := "(II)I" } : Jvm.MethodName) prog_33_method_93_code (3 : Nat) (Option.some Jvm.ClassFile.FieldType.int)) ∈ lw_all := lw_g (lw_at lw_m8 165 rfl) rfl
theorem q1951 : (Jvm.Cond.constantLong "HungryHedgeModel" (158 : Nat) (30 : Int64)) ∈ lw_all := lw_g (lw_at lw_m8 166 rfl) rfl
theorem q1953 : (Jvm.Cond.instanceMethod ({ cls := "HungryHedgeModel", name := "yieldOf", desc := "(II)I" } : Jvm.MethodName)) ∈ lw_all := lw_g (lw_at lw_m8 168 rfl) rfl
theorem q1954 : (Jvm.Cond.selects "HungryHedgeModel" ({ cls := "HungryHedgeModel", name := "yieldOf", desc := "(II)I" } : Jvm.MethodName) ({ cls := "HungryHedgeModel", name := "yieldOf", desc := "(II)I" } : Jvm.MethodName)) ∈ lw_all := lw_g (lw_at lw_m8 169 rfl) rfl
theorem q1955 : (Jvm.Cond.code ({ cls := "HungryHedgeModel", name := "yieldOf", desc := "(II)I" } : Jvm.MethodName) prog_33_method_12_code (3 : Nat) (Option.some Jvm.ClassFile.FieldType.int)) ∈ lw_all := lw_g (lw_at lw_m8 170 rfl) rfl
theorem q1956 : (Jvm.Cond.methodLink "HungryHedgeModel" (160 : Nat) ({ cls := "HungryHedgeModel", name := "yieldIn", desc := "(II)I" } : Jvm.MethodName)) ∈ lw_all := lw_g (lw_at lw_m8 171 rfl) rfl
theorem q1957 : (Jvm.Cond.privateMethod ({ cls := "HungryHedgeModel", name := "yieldIn", desc := "(II)I" } : Jvm.MethodName)) ∈ lw_tbl := lw_at lw_m8 172 rfl
theorem q1958 : (Jvm.Cond.instanceMethod ({ cls := "HungryHedgeModel", name := "yieldIn", desc := "(II)I" } : Jvm.MethodName)) ∈ lw_all := lw_g (lw_at lw_m8 173 rfl) rfl
theorem q1959 : (Jvm.Cond.code ({ cls := "HungryHedgeModel", name := "yieldIn", desc := "(II)I" } : Jvm.MethodName) prog_33_method_8_code (3 : Nat) (Option.some Jvm.ClassFile.FieldType.int)) ∈ lw_all := lw_g (lw_at lw_m8 174 rfl) rfl
theorem q1961 : (Jvm.Cond.instanceMethod ({ cls := "HungryHedgeModel", name := "lay", desc := "(III)I" } : Jvm.MethodName)) ∈ lw_all := lw_g (lw_at lw_m8 176 rfl) rfl
theorem q1962 : (Jvm.Cond.selects "HungryHedgeModel" ({ cls := "HungryHedgeModel", name := "lay", desc := "(III)I" } : Jvm.MethodName) ({ cls := "HungryHedgeModel", name := "lay", desc := "(III)I" } : Jvm.MethodName)) ∈ lw_all := lw_g (lw_at lw_m8 177 rfl) rfl
theorem q1963 : (Jvm.Cond.code ({ cls := "HungryHedgeModel", name := "lay", desc := "(III)I" } : Jvm.MethodName) prog_33_method_13_code (5 : Nat) (Option.some Jvm.ClassFile.FieldType.int)) ∈ lw_all := lw_g (lw_at lw_m8 178 rfl) rfl
theorem q1964 : (Jvm.Cond.methodLink "HungryHedgeModel" (163 : Nat) ({ cls := "HungryHedgeModel", name := "topOf", desc := "(I)I" } : Jvm.MethodName)) ∈ lw_all := lw_g (lw_at lw_m8 179 rfl) rfl
theorem q1965 : (Jvm.Cond.privateMethod ({ cls := "HungryHedgeModel", name := "topOf", desc := "(I)I" } : Jvm.MethodName)) ∈ lw_tbl := lw_at lw_m8 180 rfl
theorem q1966 : (Jvm.Cond.instanceMethod ({ cls := "HungryHedgeModel", name := "topOf", desc := "(I)I" } : Jvm.MethodName)) ∈ lw_all := lw_g (lw_at lw_m8 181 rfl) rfl
theorem q1967 : (Jvm.Cond.code ({ cls := "HungryHedgeModel", name := "topOf", desc := "(I)I" } : Jvm.MethodName) prog_33_method_7_code (2 : Nat) (Option.some Jvm.ClassFile.FieldType.int)) ∈ lw_all := lw_g (lw_at lw_m8 182 rfl) rfl
theorem q1969 : (Jvm.Cond.instanceMethod ({ cls := "HungryHedgeModel", name := "way", desc := "(III)I" } : Jvm.MethodName)) ∈ lw_all := lw_g (lw_at lw_m8 184 rfl) rfl
theorem q1970 : (Jvm.Cond.selects "HungryHedgeModel" ({ cls := "HungryHedgeModel", name := "way", desc := "(III)I" } : Jvm.MethodName) ({ cls := "HungryHedgeModel", name := "way", desc := "(III)I" } : Jvm.MethodName)) ∈ lw_all := lw_g (lw_at lw_m8 185 rfl) rfl
theorem q1971 : (Jvm.Cond.code ({ cls := "HungryHedgeModel", name := "way", desc := "(III)I" } : Jvm.MethodName) prog_33_method_14_code (5 : Nat) (Option.some Jvm.ClassFile.FieldType.int)) ∈ lw_all := lw_g (lw_at lw_m8 186 rfl) rfl
theorem q1973 : (Jvm.Cond.instanceMethod ({ cls := "HungryHedgeModel", name := "dusk", desc := "(I)I" } : Jvm.MethodName)) ∈ lw_all := lw_g (lw_at lw_m8 188 rfl) rfl
theorem q1974 : (Jvm.Cond.selects "HungryHedgeModel" ({ cls := "HungryHedgeModel", name := "dusk", desc := "(I)I" } : Jvm.MethodName) ({ cls := "HungryHedgeModel", name := "dusk", desc := "(I)I" } : Jvm.MethodName)) ∈ lw_all := lw_g (lw_at lw_m8 189 rfl) rfl
theorem q1975 : (Jvm.Cond.code ({ cls := "HungryHedgeModel", name := "dusk", desc := "(I)I" } : Jvm.MethodName) prog_33_method_15_code (3 : Nat) (Option.some Jvm.ClassFile.FieldType.int)) ∈ lw_all := lw_g (lw_at lw_m8 190 rfl) rfl
theorem q1977 : (Jvm.Cond.instanceMethod ({ cls := "HungryHedgeModel", name := "perch", desc := "(I)I" } : Jvm.MethodName)) ∈ lw_all := lw_g (lw_at lw_m8 192 rfl) rfl
theorem q1978 : (Jvm.Cond.selects "HungryHedgeModel" ({ cls := "HungryHedgeModel", name := "perch", desc := "(I)I" } : Jvm.MethodName) ({ cls := "HungryHedgeModel", name := "perch", desc := "(I)I" } : Jvm.MethodName)) ∈ lw_all := lw_g (lw_at lw_m8 193 rfl) rfl
theorem q1979 : (Jvm.Cond.code ({ cls := "HungryHedgeModel", name := "perch", desc := "(I)I" } : Jvm.MethodName) prog_33_method_16_code (3 : Nat) (Option.some Jvm.ClassFile.FieldType.int)) ∈ lw_all := lw_g (lw_at lw_m8 194 rfl) rfl
theorem q1981 : (Jvm.Cond.instanceMethod ({ cls := "HungryHedgeModel", name := "dawn", desc := "()I" } : Jvm.MethodName)) ∈ lw_all := lw_g (lw_at lw_m8 196 rfl) rfl
theorem q1982 : (Jvm.Cond.selects "HungryHedgeModel" ({ cls := "HungryHedgeModel", name := "dawn", desc := "()I" } : Jvm.MethodName) ({ cls := "HungryHedgeModel", name := "dawn", desc := "()I" } : Jvm.MethodName)) ∈ lw_all := lw_g (lw_at lw_m8 197 rfl) rfl
theorem q1983 : (Jvm.Cond.code ({ cls := "HungryHedgeModel", name := "dawn", desc := "()I" } : Jvm.MethodName) prog_33_method_17_code (3 : Nat) (Option.some Jvm.ClassFile.FieldType.int)) ∈ lw_all := lw_g (lw_at lw_m8 198 rfl) rfl
theorem q1985 : (Jvm.Cond.instanceMethod ({ cls := "HungryHedgeModel", name := "does", desc := "(I)I" } : Jvm.MethodName)) ∈ lw_all := lw_g (lw_at lw_m8 200 rfl) rfl
theorem q1986 : (Jvm.Cond.selects "HungryHedgeModel" ({ cls := "HungryHedgeModel", name := "does", desc := "(I)I" } : Jvm.MethodName) ({ cls := "HungryHedgeModel", name := "does", desc := "(I)I" } : Jvm.MethodName)) ∈ lw_all := lw_g (lw_at lw_m8 201 rfl) rfl
theorem q1987 : (Jvm.Cond.code ({ cls := "HungryHedgeModel", name := "does", desc := "(I)I" } : Jvm.MethodName) prog_33_method_26_code (2 : Nat) (Option.some Jvm.ClassFile.FieldType.int)) ∈ lw_all := lw_g (lw_at lw_m8 202 rfl) rfl
theorem q1988 : (Jvm.Cond.methodLink "HungryHedgeModel" (205 : Nat) ({ cls := "HungryHedgeModel", name := "isAct", desc := "(I)Z" } : Jvm.MethodName)) ∈ lw_all := lw_g (lw_at lw_m8 203 rfl) rfl
theorem q1989 : (Jvm.Cond.static ({ cls := "HungryHedgeModel", name := "isAct", desc := "(I)Z" } : Jvm.MethodName)) ∈ lw_all := lw_g (lw_at lw_m8 204 rfl) rfl
theorem q1990 : (Jvm.Cond.code ({ cls := "HungryHedgeModel", name := "isAct", desc := "(I)Z" } : Jvm.MethodName) prog_33_method_24_code (1 : Nat) (Option.some Jvm.ClassFile.FieldType.boolean)) ∈ lw_all := lw_g (lw_at lw_m8 205 rfl) rfl
theorem q1991 : (Jvm.Cond.methodLink "HungryHedgeModel" (201 : Nat) ({ cls := "HungryHedgeModel", name := "leads", desc := "(IIII)Z" } : Jvm.MethodName)) ∈ lw_all := lw_g (lw_at lw_m8 206 rfl) rfl
theorem q1992 : (Jvm.Cond.privateMethod ({ cls := "HungryHedgeModel", name := "leads", desc := "(IIII)Z" } : Jvm.MethodName)) ∈ lw_tbl := lw_at lw_m8 207 rfl
theorem q1993 : (Jvm.Cond.instanceMethod ({ cls := "HungryHedgeModel", name := "leads", desc := "(IIII)Z" } : Jvm.MethodName)) ∈ lw_all := lw_g (lw_at lw_m8 208 rfl) rfl
theorem q1994 : (Jvm.Cond.code ({ cls := "HungryHedgeModel", name := "leads", desc := "(IIII)Z" } : Jvm.MethodName) prog_33_method_19_code (7 : Nat) (Option.some Jvm.ClassFile.FieldType.boolean)) ∈ lw_all := lw_g (lw_at lw_m8 209 rfl) rfl
theorem q1995 : (Jvm.Cond.methodLink "HungryHedgeModel" (184 : Nat) ({ cls := "HungryHedgeModel", name := "filled", desc := "(II)I" } : Jvm.MethodName)) ∈ lw_all := lw_g (lw_at lw_m8 210 rfl) rfl
theorem q1996 : (Jvm.Cond.privateMethod ({ cls := "HungryHedgeModel", name := "filled", desc := "(II)I" } : Jvm.MethodName)) ∈ lw_tbl := lw_at lw_m8 211 rfl
theorem q1997 : (Jvm.Cond.instanceMethod ({ cls := "HungryHedgeModel", name := "filled", desc := "(II)I" } : Jvm.MethodName)) ∈ lw_all := lw_g (lw_at lw_m8 212 rfl) rfl
theorem q1998 : (Jvm.Cond.code ({ cls := "HungryHedgeModel", name := "filled", desc := "(II)I" } : Jvm.MethodName) prog_33_method_18_code (6 : Nat) (Option.some Jvm.ClassFile.FieldType.int)) ∈ lw_all := lw_g (lw_at lw_m8 213 rfl) rfl
theorem q1999 : (Jvm.Cond.methodLink "HungryHedgeModel" (208 : Nat) ({ cls := "HungryHedgeModel", name := "goes", desc := "()V" } : Jvm.MethodName)) ∈ lw_all := lw_g (lw_at lw_m8 214 rfl) rfl
theorem q2000 : (Jvm.Cond.privateMethod ({ cls := "HungryHedgeModel", name := "goes", desc := "()V" } : Jvm.MethodName)) ∈ lw_tbl := lw_at lw_m8 215 rfl
theorem q2001 : (Jvm.Cond.instanceMethod ({ cls := "HungryHedgeModel", name := "goes", desc := "()V" } : Jvm.MethodName)) ∈ lw_all := lw_g (lw_at lw_m8 216 rfl) rfl
theorem q2002 : (Jvm.Cond.code ({ cls := "HungryHedgeModel", name := "goes", desc := "()V" } : Jvm.MethodName) prog_33_method_25_code (1 : Nat) (Option.none : Option Jvm.ClassFile.FieldType)) ∈ lw_all := lw_g (lw_at lw_m8 217 rfl) rfl
theorem q2004 : (Jvm.Cond.instanceMethod ({ cls := "HungryHedgeModel", name := "best", desc := "()I" } : Jvm.MethodName)) ∈ lw_all := lw_g (lw_at lw_m8 219 rfl) rfl
theorem q2005 : (Jvm.Cond.selects "HungryHedgeModel" ({ cls := "HungryHedgeModel", name := "best", desc := "()I" } : Jvm.MethodName) ({ cls := "HungryHedgeModel", name := "best", desc := "()I" } : Jvm.MethodName)) ∈ lw_all := lw_g (lw_at lw_m8 220 rfl) rfl
theorem q2006 : (Jvm.Cond.code ({ cls := "HungryHedgeModel", name := "best", desc := "()I" } : Jvm.MethodName) prog_33_method_27_code (1 : Nat) (Option.some Jvm.ClassFile.FieldType.int)) ∈ lw_all := lw_g (lw_at lw_m8 221 rfl) rfl
theorem q2007 : (Jvm.Cond.methodLink "HungryHedgeModel" (211 : Nat) ({ cls := "HungryHedgeModel", name := "most", desc := "(III)I" } : Jvm.MethodName)) ∈ lw_all := lw_g (lw_at lw_m8 222 rfl) rfl
theorem q2008 : (Jvm.Cond.privateMethod ({ cls := "HungryHedgeModel", name := "most", desc := "(III)I" } : Jvm.MethodName)) ∈ lw_tbl := lw_at lw_m8 223 rfl
theorem q2009 : (Jvm.Cond.instanceMethod ({ cls := "HungryHedgeModel", name := "most", desc := "(III)I" } : Jvm.MethodName)) ∈ lw_all := lw_g (lw_at lw_m8 224 rfl) rfl
theorem q2010 : (Jvm.Cond.code ({ cls := "HungryHedgeModel", name := "most", desc := "(III)I" } : Jvm.MethodName) prog_33_method_23_code (9 : Nat) (Option.some Jvm.ClassFile.FieldType.int)) ∈ lw_all := lw_g (lw_at lw_m8 225 rfl) rfl
theorem q2011 : (Jvm.Cond.methodLink "HungryHedgeModel" (190 : Nat) ({ cls := "HungryHedgeModel", name := "keyOf", desc := "(III)I" } : Jvm.MethodName)) ∈ lw_all := lw_g (lw_at lw_m8 226 rfl) rfl
theorem q2012 : (Jvm.Cond.static ({ cls := "HungryHedgeModel", name := "keyOf", desc := "(III)I" } : Jvm.MethodName)) ∈ lw_all := lw_g (lw_at lw_m8 227 rfl) rfl
theorem q2013 : (Jvm.Cond.code ({ cls := "HungryHedgeModel", name := "keyOf", desc := "(III)I" } : Jvm.MethodName) prog_33_method_20_code (3 : Nat) (Option.some Jvm.ClassFile.FieldType.int)) ∈ lw_all := lw_g (lw_at lw_m8 228 rfl) rfl
theorem q2014 : (Jvm.Cond.methodLink "HungryHedgeModel" (194 : Nat) ({ cls := "HungryHedgeModel", name := "isFound", desc := "(I)Z" } : Jvm.MethodName)) ∈ lw_all := lw_g (lw_at lw_m8 229 rfl) rfl
theorem q2015 : (Jvm.Cond.privateMethod ({ cls := "HungryHedgeModel", name := "isFound", desc := "(I)Z" } : Jvm.MethodName)) ∈ lw_tbl := lw_at lw_m8 230 rfl
theorem q2016 : (Jvm.Cond.instanceMethod ({ cls := "HungryHedgeModel", name := "isFound", desc := "(I)Z" } : Jvm.MethodName)) ∈ lw_all := lw_g (lw_at lw_m8 231 rfl) rfl
theorem q2017 : (Jvm.Cond.code ({ cls := "HungryHedgeModel", name := "isFound", desc := "(I)Z" } : Jvm.MethodName) prog_33_method_21_code (2 : Nat) (Option.some Jvm.ClassFile.FieldType.boolean)) ∈ lw_all := lw_g (lw_at lw_m8 232 rfl) rfl
theorem q2018 : (Jvm.Cond.methodLink "HungryHedgeModel" (197 : Nat) ({ cls := "HungryHedgeModel", name := "pile", desc := "(IIII)V" } : Jvm.MethodName)) ∈ lw_all := lw_g (lw_at lw_m8 233 rfl) rfl
theorem q2019 : (Jvm.Cond.privateMethod ({ cls := "HungryHedgeModel", name := "pile", desc := "(IIII)V" } : Jvm.MethodName)) ∈ lw_tbl := lw_at lw_m8 234 rfl
theorem q2020 : (Jvm.Cond.instanceMethod ({ cls := "HungryHedgeModel", name := "pile", desc := "(IIII)V" } : Jvm.MethodName)) ∈ lw_all := lw_g (lw_at lw_m8 235 rfl) rfl
theorem q2021 : (Jvm.Cond.code ({ cls := "HungryHedgeModel", name := "pile", desc := "(IIII)V" } : Jvm.MethodName) prog_33_method_22_code (5 : Nat) (Option.none : Option Jvm.ClassFile.FieldType)) ∈ lw_all := lw_g (lw_at lw_m8 236 rfl) rfl
theorem q2023 : (Jvm.Cond.instanceMethod ({ cls := "HungryHedgeModel", name := "first", desc := "()I" } : Jvm.MethodName)) ∈ lw_all := lw_g (lw_at lw_m8 238 rfl) rfl
theorem q2024 : (Jvm.Cond.selects "HungryHedgeModel" ({ cls := "HungryHedgeModel", name := "first", desc := "()I" } : Jvm.MethodName) ({ cls := "HungryHedgeModel", name := "first", desc := "()I" } : Jvm.MethodName)) ∈ lw_all := lw_g (lw_at lw_m8 239 rfl) rfl
theorem q2025 : (Jvm.Cond.code ({ cls := "HungryHedgeModel", name := "first", desc := "()I" } : Jvm.MethodName) prog_33_method_30_code (1 : Nat) (Option.some Jvm.ClassFile.FieldType.int)) ∈ lw_all := lw_g (lw_at lw_m9 0 rfl) rfl
theorem q2026 : (Jvm.Cond.methodLink "HungryHedgeModel" (218 : Nat) ({ cls := "HungryHedgeModel", name := "firstOf", desc := "(III)I" } : Jvm.MethodName)) ∈ lw_all := lw_g (lw_at lw_m9 1 rfl) rfl
theorem q2027 : (Jvm.Cond.privateMethod ({ cls := "HungryHedgeModel", name := "firstOf", desc := "(III)I" } : Jvm.MethodName)) ∈ lw_tbl := lw_at lw_m9 2 rfl
theorem q2028 : (Jvm.Cond.instanceMethod ({ cls := "HungryHedgeModel", name := "firstOf", desc := "(III)I" } : Jvm.MethodName)) ∈ lw_all := lw_g (lw_at lw_m9 3 rfl) rfl
theorem q2029 : (Jvm.Cond.code ({ cls := "HungryHedgeModel", name := "firstOf", desc := "(III)I" } : Jvm.MethodName) prog_33_method_29_code (6 : Nat) (Option.some Jvm.ClassFile.FieldType.int)) ∈ lw_all := lw_g (lw_at lw_m9 4 rfl) rfl
theorem q2030 : (Jvm.Cond.methodLink "HungryHedgeModel" (214 : Nat) ({ cls := "HungryHedgeModel", name := "mostBy", desc := "(IIII)I" } : Jvm.MethodName)) ∈ lw_all := lw_g (lw_at lw_m9 5 rfl) rfl
theorem q2031 : (Jvm.Cond.privateMethod ({ cls := "HungryHedgeModel", name := "mostBy", desc := "(IIII)I" } : Jvm.MethodName)) ∈ lw_tbl := lw_at lw_m9 6 rfl
theorem q2032 : (Jvm.Cond.instanceMethod ({ cls := "HungryHedgeModel", name := "mostBy", desc := "(IIII)I" } : Jvm.MethodName)) ∈ lw_all := lw_g (lw_at lw_m9 7 rfl) rfl
theorem q2033 : (Jvm.Cond.code ({ cls := "HungryHedgeModel", name := "mostBy", desc := "(IIII)I" } : Jvm.MethodName) prog_33_method_28_code (6 : Nat) (Option.some Jvm.ClassFile.FieldType.int)) ∈ lw_all := lw_g (lw_at lw_m9 8 rfl) rfl
theorem q2035 : (Jvm.Cond.instanceMethod ({ cls := "HungryHedgeModel", name := "with", desc := "(I)I" } : Jvm.MethodName)) ∈ lw_all := lw_g (lw_at lw_m9 10 rfl) rfl
theorem q2036 : (Jvm.Cond.selects "HungryHedgeModel" ({ cls := "HungryHedgeModel", name := "with", desc := "(I)I" } : Jvm.MethodName) ({ cls := "HungryHedgeModel", name := "with", desc := "(I)I" } : Jvm.MethodName)) ∈ lw_all := lw_g (lw_at lw_m9 11 rfl) rfl
theorem q2037 : (Jvm.Cond.code ({ cls := "HungryHedgeModel", name := "with", desc := "(I)I" } : Jvm.MethodName) prog_33_method_31_code (3 : Nat) (Option.some Jvm.ClassFile.FieldType.int)) ∈ lw_all := lw_g (lw_at lw_m9 12 rfl) rfl
theorem q2039 : (Jvm.Cond.instanceMethod ({ cls := "HungryHedgeModel", name := "journey", desc := "(I)I" } : Jvm.MethodName)) ∈ lw_all := lw_g (lw_at lw_m9 14 rfl) rfl
theorem q2040 : (Jvm.Cond.selects "HungryHedgeModel" ({ cls := "HungryHedgeModel", name := "journey", desc := "(I)I" } : Jvm.MethodName) ({ cls := "HungryHedgeModel", name := "journey", desc := "(I)I" } : Jvm.MethodName)) ∈ lw_all := lw_g (lw_at lw_m9 15 rfl) rfl
theorem q2041 : (Jvm.Cond.code ({ cls := "HungryHedgeModel", name := "journey", desc := "(I)I" } : Jvm.MethodName) prog_33_method_32_code (3 : Nat) (Option.some Jvm.ClassFile.FieldType.int)) ∈ lw_all := lw_g (lw_at lw_m9 16 rfl) rfl
theorem q2043 : (Jvm.Cond.instanceMethod ({ cls := "HungryHedgeModel", name := "rate", desc := "(I)I" } : Jvm.MethodName)) ∈ lw_all := lw_g (lw_at lw_m9 18 rfl) rfl
theorem q2044 : (Jvm.Cond.selects "HungryHedgeModel" ({ cls := "HungryHedgeModel", name := "rate", desc := "(I)I" } : Jvm.MethodName) ({ cls := "HungryHedgeModel", name := "rate", desc := "(I)I" } : Jvm.MethodName)) ∈ lw_all := lw_g (lw_at lw_m9 19 rfl) rfl
theorem q2045 : (Jvm.Cond.code ({ cls := "HungryHedgeModel", name := "rate", desc := "(I)I" } : Jvm.MethodName) prog_33_method_37_code (2 : Nat) (Option.some Jvm.ClassFile.FieldType.int)) ∈ lw_all := lw_g (lw_at lw_m9 20 rfl) rfl
theorem q2046 : (Jvm.Cond.methodLink "HungryHedgeModel" (234 : Nat) ({ cls := "HungryHedgeModel", name := "findRound", desc := "()V" } : Jvm.MethodName)) ∈ lw_all := lw_g (lw_at lw_m9 21 rfl) rfl
theorem q2047 : (Jvm.Cond.privateMethod ({ cls := "HungryHedgeModel", name := "findRound", desc := "()V" } : Jvm.MethodName)) ∈ lw_tbl := lw_at lw_m9 22 rfl
theorem q2048 : (Jvm.Cond.instanceMethod ({ cls := "HungryHedgeModel", name := "findRound", desc := "()V" } : Jvm.MethodName)) ∈ lw_all := lw_g (lw_at lw_m9 23 rfl) rfl
theorem q2049 : (Jvm.Cond.code ({ cls := "HungryHedgeModel", name := "findRound", desc := "()V" } : Jvm.MethodName) prog_33_method_36_code (5 : Nat) (Option.none : Option Jvm.ClassFile.FieldType)) ∈ lw_all := lw_g (lw_at lw_m9 24 rfl) rfl
theorem q2050 : (Jvm.Cond.methodLink "HungryHedgeModel" (227 : Nat) ({ cls := "HungryHedgeModel", name := "brings", desc := "(II)I" } : Jvm.MethodName)) ∈ lw_all := lw_g (lw_at lw_m9 25 rfl) rfl
theorem q2051 : (Jvm.Cond.privateMethod ({ cls := "HungryHedgeModel", name := "brings", desc := "(II)I" } : Jvm.MethodName)) ∈ lw_tbl := lw_at lw_m9 26 rfl
theorem q2052 : (Jvm.Cond.instanceMethod ({ cls := "HungryHedgeModel", name := "brings", desc := "(II)I" } : Jvm.MethodName)) ∈ lw_all := lw_g (lw_at lw_m9 27 rfl) rfl
theorem q2053 : (Jvm.Cond.code ({ cls := "HungryHedgeModel", name := "brings", desc := "(II)I" } : Jvm.MethodName) prog_33_method_33_code (5 : Nat) (Option.some Jvm.ClassFile.FieldType.int)) ∈ lw_all := lw_g (lw_at lw_m9 28 rfl) rfl
theorem q2054 : (Jvm.Cond.methodLink "HungryHedgeModel" (230 : Nat) ({ cls := "HungryHedgeModel", name := "goesOn", desc := "()Z" } : Jvm.MethodName)) ∈ lw_all := lw_g (lw_at lw_m9 29 rfl) rfl
theorem q2055 : (Jvm.Cond.privateMethod ({ cls := "HungryHedgeModel", name := "goesOn", desc := "()Z" } : Jvm.MethodName)) ∈ lw_tbl := lw_at lw_m9 30 rfl
theorem q2056 : (Jvm.Cond.instanceMethod ({ cls := "HungryHedgeModel", name := "goesOn", desc := "()Z" } : Jvm.MethodName)) ∈ lw_all := lw_g (lw_at lw_m9 31 rfl) rfl
theorem q2057 : (Jvm.Cond.code ({ cls := "HungryHedgeModel", name := "goesOn", desc := "()Z" } : Jvm.MethodName) prog_33_method_35_code (2 : Nat) (Option.some Jvm.ClassFile.FieldType.boolean)) ∈ lw_all := lw_g (lw_at lw_m9 32 rfl) rfl
theorem q2058 : (Jvm.Cond.methodLink "HungryHedgeModel" (237 : Nat) ({ cls := "HungryHedgeModel", name := "divisor", desc := "(II)I" } : Jvm.MethodName)) ∈ lw_all := lw_g (lw_at lw_m9 33 rfl) rfl
theorem q2059 : (Jvm.Cond.static ({ cls := "HungryHedgeModel", name := "divisor", desc := "(II)I" } : Jvm.MethodName)) ∈ lw_all := lw_g (lw_at lw_m9 34 rfl) rfl
theorem q2060 : (Jvm.Cond.code ({ cls := "HungryHedgeModel", name := "divisor", desc := "(II)I" } : Jvm.MethodName) prog_33_method_34_code (5 : Nat) (Option.some Jvm.ClassFile.FieldType.int)) ∈ lw_all := lw_g (lw_at lw_m9 35 rfl) rfl
theorem q2062 : (Jvm.Cond.instanceMethod ({ cls := "HungryHedgeModel", name := "stay", desc := "(I)I" } : Jvm.MethodName)) ∈ lw_all := lw_g (lw_at lw_m9 37 rfl) rfl
theorem q2063 : (Jvm.Cond.selects "HungryHedgeModel" ({ cls := "HungryHedgeModel", name := "stay", desc := "(I)I" } : Jvm.MethodName) ({ cls := "HungryHedgeModel", name := "stay", desc := "(I)I" } : Jvm.MethodName)) ∈ lw_all := lw_g (lw_at lw_m9 38 rfl) rfl
theorem q2064 : (Jvm.Cond.code ({ cls := "HungryHedgeModel", name := "stay", desc := "(I)I" } : Jvm.MethodName) prog_33_method_38_code (2 : Nat) (Option.some Jvm.ClassFile.FieldType.int)) ∈ lw_all := lw_g (lw_at lw_m9 39 rfl) rfl
theorem q2066 : (Jvm.Cond.instanceMethod ({ cls := "HungryHedgeModel", name := "load", desc := "(III)I" } : Jvm.MethodName)) ∈ lw_all := lw_g (lw_at lw_m9 41 rfl) rfl
theorem q2067 : (Jvm.Cond.selects "HungryHedgeModel" ({ cls := "HungryHedgeModel", name := "load", desc := "(III)I" } : Jvm.MethodName) ({ cls := "HungryHedgeModel", name := "load", desc := "(III)I" } : Jvm.MethodName)) ∈ lw_all := lw_g (lw_at lw_m9 42 rfl) rfl
theorem q2068 : (Jvm.Cond.code ({ cls := "HungryHedgeModel", name := "load", desc := "(III)I" } : Jvm.MethodName) prog_33_method_39_code (7 : Nat) (Option.some Jvm.ClassFile.FieldType.int)) ∈ lw_all := lw_g (lw_at lw_m9 43 rfl) rfl
theorem q2070 : (Jvm.Cond.instanceMethod ({ cls := "HungryHedgeModel", name := "risk", desc := "(I)I" } : Jvm.MethodName)) ∈ lw_all := lw_g (lw_at lw_m9 45 rfl) rfl
theorem q2071 : (Jvm.Cond.selects "HungryHedgeModel" ({ cls := "HungryHedgeModel", name := "risk", desc := "(I)I" } : Jvm.MethodName) ({ cls := "HungryHedgeModel", name := "risk", desc := "(I)I" } : Jvm.MethodName)) ∈ lw_all := lw_g (lw_at lw_m9 46 rfl) rfl
theorem q2072 : (Jvm.Cond.code ({ cls := "HungryHedgeModel", name := "risk", desc := "(I)I" } : Jvm.MethodName) prog_33_method_40_code (5 : Nat) (Option.some Jvm.ClassFile.FieldType.int)) ∈ lw_all := lw_g (lw_at lw_m9 47 rfl) rfl
theorem q2073 : (Jvm.Cond.constantLong "HungryHedgeModel" (240 : Nat) (20 : Int64)) ∈ lw_all := lw_g (lw_at lw_m9 48 rfl) rfl
theorem q2075 : (Jvm.Cond.instanceMethod ({ cls := "HungryHedgeModel", name := "dare", desc := "(II)J" } : Jvm.MethodName)) ∈ lw_all := lw_g (lw_at lw_m9 50 rfl) rfl
theorem q2076 : (Jvm.Cond.selects "HungryHedgeModel" ({ cls := "HungryHedgeModel", name := "dare", desc := "(II)J" } : Jvm.MethodName) ({ cls := "HungryHedgeModel", name := "dare", desc := "(II)J" } : Jvm.MethodName)) ∈ lw_all := lw_g (lw_at lw_m9 51 rfl) rfl
theorem q2077 : (Jvm.Cond.code ({ cls := "HungryHedgeModel", name := "dare", desc := "(II)J" } : Jvm.MethodName) prog_33_method_45_code (3 : Nat) (Option.some Jvm.ClassFile.FieldType.long)) ∈ lw_all := lw_g (lw_at lw_m9 52 rfl) rfl
theorem q2078 : (Jvm.Cond.methodLink "HungryHedgeModel" (255 : Nat) ({ cls := "HungryHedgeModel", name := "isDare", desc := "(II)Z" } : Jvm.MethodName)) ∈ lw_all := lw_g (lw_at lw_m9 53 rfl) rfl
theorem q2079 : (Jvm.Cond.static ({ cls := "HungryHedgeModel", name := "isDare", desc := "(II)Z" } : Jvm.MethodName)) ∈ lw_all := lw_g (lw_at lw_m9 54 rfl) rfl
theorem q2080 : (Jvm.Cond.code ({ cls := "HungryHedgeModel", name := "isDare", desc := "(II)Z" } : Jvm.MethodName) prog_33_method_44_code (2 : Nat) (Option.some Jvm.ClassFile.FieldType.boolean)) ∈ lw_all := lw_g (lw_at lw_m9 55 rfl) rfl
theorem q2081 : (Jvm.Cond.constantLong "HungryHedgeModel" (259 : Nat) (-1 : Int64)) ∈ lw_all := lw_g (lw_at lw_m9 56 rfl) rfl
theorem q2082 : (Jvm.Cond.methodLink "HungryHedgeModel" (261 : Nat) ({ cls := "HungryHedgeModel", name := "findDares", desc := "(I)V" } : Jvm.MethodName)) ∈ lw_all := lw_g (lw_at lw_m9 57 rfl) rfl
theorem q2083 : (Jvm.Cond.privateMethod ({ cls := "HungryHedgeModel", name := "findDares", desc := "(I)V" } : Jvm.MethodName)) ∈ lw_tbl := lw_at lw_m9 58 rfl
theorem q2084 : (Jvm.Cond.instanceMethod ({ cls := "HungryHedgeModel", name := "findDares", desc := "(I)V" } : Jvm.MethodName)) ∈ lw_all := lw_g (lw_at lw_m9 59 rfl) rfl
theorem q2085 : (Jvm.Cond.code ({ cls := "HungryHedgeModel", name := "findDares", desc := "(I)V" } : Jvm.MethodName) prog_33_method_43_code (8 : Nat) (Option.none : Option Jvm.ClassFile.FieldType)) ∈ lw_all := lw_g (lw_at lw_m9 60 rfl) rfl
theorem q2086 : (Jvm.Cond.methodLink "HungryHedgeModel" (247 : Nat) ({ cls := "HungryHedgeModel", name := "cases", desc := "(I)J" } : Jvm.MethodName)) ∈ lw_all := lw_g (lw_at lw_m9 61 rfl) rfl
theorem q2087 : (Jvm.Cond.static ({ cls := "HungryHedgeModel", name := "cases", desc := "(I)J" } : Jvm.MethodName)) ∈ lw_all := lw_g (lw_at lw_m9 62 rfl) rfl
theorem q2088 : (Jvm.Cond.code ({ cls := "HungryHedgeModel", name := "cases", desc := "(I)J" } : Jvm.MethodName) prog_33_method_41_code (4 : Nat) (Option.some Jvm.ClassFile.FieldType.long)) ∈ lw_all := lw_g (lw_at lw_m9 63 rfl) rfl
theorem q2089 : (Jvm.Cond.constantLong "HungryHedgeModel" (245 : Nat) (10 : Int64)) ∈ lw_all := lw_g (lw_at lw_m9 64 rfl) rfl
theorem q2090 : (Jvm.Cond.methodLink "HungryHedgeModel" (251 : Nat) ({ cls := "HungryHedgeModel", name := "casesBy", desc := "(III)J" } : Jvm.MethodName)) ∈ lw_all := lw_g (lw_at lw_m9 65 rfl) rfl
theorem q2091 : (Jvm.Cond.privateMethod ({ cls := "HungryHedgeModel", name := "casesBy", desc := "(III)J" } : Jvm.MethodName)) ∈ lw_tbl := lw_at lw_m9 66 rfl
theorem q2092 : (Jvm.Cond.instanceMethod ({ cls := "HungryHedgeModel", name := "casesBy", desc := "(III)J" } : Jvm.MethodName)) ∈ lw_all := lw_g (lw_at lw_m9 67 rfl) rfl
theorem q2093 : (Jvm.Cond.code ({ cls := "HungryHedgeModel", name := "casesBy", desc := "(III)J" } : Jvm.MethodName) prog_33_method_42_code (8 : Nat) (Option.some Jvm.ClassFile.FieldType.long)) ∈ lw_all := lw_g (lw_at lw_m9 68 rfl) rfl
theorem q2095 : (Jvm.Cond.instanceMethod ({ cls := "HungryHedgeModel", name := "bold", desc := "(II)I" } : Jvm.MethodName)) ∈ lw_all := lw_g (lw_at lw_m9 70 rfl) rfl
theorem q2096 : (Jvm.Cond.selects "HungryHedgeModel" ({ cls := "HungryHedgeModel", name := "bold", desc := "(II)I" } : Jvm.MethodName) ({ cls := "HungryHedgeModel", name := "bold", desc := "(II)I" } : Jvm.MethodName)) ∈ lw_all := lw_g (lw_at lw_m9 71 rfl) rfl
theorem q2097 : (Jvm.Cond.code ({ cls := "HungryHedgeModel", name := "bold", desc := "(II)I" } : Jvm.MethodName) prog_33_method_46_code (4 : Nat) (Option.some Jvm.ClassFile.FieldType.int)) ∈ lw_all := lw_g (lw_at lw_m9 72 rfl) rfl
theorem q2099 : (Jvm.Cond.instanceMethod ({ cls := "HungryHedgeModel", name := "alike", desc := "(III)J" } : Jvm.MethodName)) ∈ lw_all := lw_g (lw_at lw_m9 74 rfl) rfl
theorem q2100 : (Jvm.Cond.selects "HungryHedgeModel" ({ cls := "HungryHedgeModel", name := "alike", desc := "(III)J" } : Jvm.MethodName) ({ cls := "HungryHedgeModel", name := "alike", desc := "(III)J" } : Jvm.MethodName)) ∈ lw_all := lw_g (lw_at lw_m9 75 rfl) rfl
theorem q2101 : (Jvm.Cond.code ({ cls := "HungryHedgeModel", name := "alike", desc := "(III)J" } : Jvm.MethodName) prog_33_method_47_code (10 : Nat) (Option.some Jvm.ClassFile.FieldType.long)) ∈ lw_all := lw_g (lw_at lw_m9 76 rfl) rfl
theorem q2103 : (Jvm.Cond.instanceMethod ({ cls := "HungryHedgeModel", name := "flock", desc := "(II)I" } : Jvm.MethodName)) ∈ lw_all := lw_g (lw_at lw_m9 78 rfl) rfl
theorem q2104 : (Jvm.Cond.selects "HungryHedgeModel" ({ cls := "HungryHedgeModel", name := "flock", desc := "(II)I" } : Jvm.MethodName) ({ cls := "HungryHedgeModel", name := "flock", desc := "(II)I" } : Jvm.MethodName)) ∈ lw_all := lw_g (lw_at lw_m9 79 rfl) rfl
theorem q2105 : (Jvm.Cond.code ({ cls := "HungryHedgeModel", name := "flock", desc := "(II)I" } : Jvm.MethodName) prog_33_method_48_code (4 : Nat) (Option.some Jvm.ClassFile.FieldType.int)) ∈ lw_all := lw_g (lw_at lw_m9 80 rfl) rfl
theorem q2107 : (Jvm.Cond.instanceMethod ({ cls := "HungryHedgeModel", name := "rests", desc := "()I" } : Jvm.MethodName)) ∈ lw_all := lw_g (lw_at lw_m9 82 rfl) rfl
theorem q2108 : (Jvm.Cond.selects "HungryHedgeModel" ({ cls := "HungryHedgeModel", name := "rests", desc := "()I" } : Jvm.MethodName) ({ cls := "HungryHedgeModel", name := "rests", desc := "()I" } : Jvm.MethodName)) ∈ lw_all := lw_g (lw_at lw_m9 83 rfl) rfl
theorem q2109 : (Jvm.Cond.code ({ cls := "HungryHedgeModel", name := "rests", desc := "()I" } : Jvm.MethodName) prog_33_method_54_code (1 : Nat) (Option.some Jvm.ClassFile.FieldType.int)) ∈ lw_all := lw_g (lw_at lw_m9 84 rfl) rfl
theorem q2110 : (Jvm.Cond.methodLink "HungryHedgeModel" (284 : Nat) ({ cls := "HungryHedgeModel", name := "findRest", desc := "(I)I" } : Jvm.MethodName)) ∈ lw_all := lw_g (lw_at lw_m9 85 rfl) rfl
theorem q2111 : (Jvm.Cond.privateMethod ({ cls := "HungryHedgeModel", name := "findRest", desc := "(I)I" } : Jvm.MethodName)) ∈ lw_tbl := lw_at lw_m9 86 rfl
theorem q2112 : (Jvm.Cond.instanceMethod ({ cls := "HungryHedgeModel", name := "findRest", desc := "(I)I" } : Jvm.MethodName)) ∈ lw_all := lw_g (lw_at lw_m9 87 rfl) rfl
theorem q2113 : (Jvm.Cond.code ({ cls := "HungryHedgeModel", name := "findRest", desc := "(I)I" } : Jvm.MethodName) prog_33_method_53_code (5 : Nat) (Option.some Jvm.ClassFile.FieldType.int)) ∈ lw_all := lw_g (lw_at lw_m9 88 rfl) rfl
theorem q2114 : (Jvm.Cond.methodLink "HungryHedgeModel" (274 : Nat) ({ cls := "HungryHedgeModel", name := "lays", desc := "(II)V" } : Jvm.MethodName)) ∈ lw_all := lw_g (lw_at lw_m9 89 rfl) rfl
theorem q2115 : (Jvm.Cond.privateMethod ({ cls := "HungryHedgeModel", name := "lays", desc := "(II)V" } : Jvm.MethodName)) ∈ lw_tbl := lw_at lw_m9 90 rfl
theorem q2116 : (Jvm.Cond.instanceMethod ({ cls := "HungryHedgeModel", name := "lays", desc := "(II)V" } : Jvm.MethodName)) ∈ lw_all := lw_g (lw_at lw_m9 91 rfl) rfl
theorem q2117 : (Jvm.Cond.code ({ cls := "HungryHedgeModel", name := "lays", desc := "(II)V" } : Jvm.MethodName) prog_33_method_51_code (4 : Nat) (Option.none : Option Jvm.ClassFile.FieldType)) ∈ lw_all := lw_g (lw_at lw_m9 92 rfl) rfl
theorem q2118 : (Jvm.Cond.methodLink "HungryHedgeModel" (278 : Nat) ({ cls := "HungryHedgeModel", name := "isRest", desc := "()Z" } : Jvm.MethodName)) ∈ lw_all := lw_g (lw_at lw_m9 93 rfl) rfl
theorem q2119 : (Jvm.Cond.privateMethod ({ cls := "HungryHedgeModel", name := "isRest", desc := "()Z" } : Jvm.MethodName)) ∈ lw_tbl := lw_at lw_m9 94 rfl
theorem q2120 : (Jvm.Cond.instanceMethod ({ cls := "HungryHedgeModel", name := "isRest", desc := "()Z" } : Jvm.MethodName)) ∈ lw_all := lw_g (lw_at lw_m9 95 rfl) rfl
theorem q2121 : (Jvm.Cond.code ({ cls := "HungryHedgeModel", name := "isRest", desc := "()Z" } : Jvm.MethodName) prog_33_method_50_code (3 : Nat) (Option.some Jvm.ClassFile.FieldType.boolean)) ∈ lw_all := lw_g (lw_at lw_m9 96 rfl) rfl
theorem q2122 : (Jvm.Cond.methodLink "HungryHedgeModel" (271 : Nat) ({ cls := "HungryHedgeModel", name := "isContent", desc := "(II)Z" } : Jvm.MethodName)) ∈ lw_all := lw_g (lw_at lw_m9 97 rfl) rfl
theorem q2123 : (Jvm.Cond.privateMethod ({ cls := "HungryHedgeModel", name := "isContent", desc := "(II)Z" } : Jvm.MethodName)) ∈ lw_tbl := lw_at lw_m9 98 rfl
theorem q2124 : (Jvm.Cond.instanceMethod ({ cls := "HungryHedgeModel", name := "isContent", desc := "(II)Z" } : Jvm.MethodName)) ∈ lw_all := lw_g (lw_at lw_m9 99 rfl) rfl
theorem q2125 : (Jvm.Cond.code ({ cls := "HungryHedgeModel", name := "isContent", desc := "(II)Z" } : Jvm.MethodName) prog_33_method_49_code (5 : Nat) (Option.some Jvm.ClassFile.FieldType.boolean)) ∈ lw_all := lw_g (lw_at lw_m9 100 rfl) rfl
theorem q2126 : (Jvm.Cond.methodLink "HungryHedgeModel" (281 : Nat) ({ cls := "HungryHedgeModel", name := "shifts", desc := "(I)Z" } : Jvm.MethodName)) ∈ lw_all := lw_g (lw_at lw_m9 101 rfl) rfl
theorem q2127 : (Jvm.Cond.privateMethod ({ cls := "HungryHedgeModel", name := "shifts", desc := "(I)Z" } : Jvm.MethodName)) ∈ lw_tbl := lw_at lw_m9 102 rfl
theorem q2128 : (Jvm.Cond.instanceMethod ({ cls := "HungryHedgeModel", name := "shifts", desc := "(I)Z" } : Jvm.MethodName)) ∈ lw_all := lw_g (lw_at lw_m9 103 rfl) rfl
theorem q2129 : (Jvm.Cond.code ({ cls := "HungryHedgeModel", name := "shifts", desc := "(I)Z" } : Jvm.MethodName) prog_33_method_52_code (4 : Nat) (Option.some Jvm.ClassFile.FieldType.boolean)) ∈ lw_all := lw_g (lw_at lw_m9 104 rfl) rfl
theorem q2131 : (Jvm.Cond.instanceMethod ({ cls := "HungryHedgeModel", name := "restOf", desc := "(II)I" } : Jvm.MethodName)) ∈ lw_all := lw_g (lw_at lw_m9 106 rfl) rfl
theorem q2132 : (Jvm.Cond.selects "HungryHedgeModel" ({ cls := "HungryHedgeModel", name := "restOf", desc := "(II)I" } : Jvm.MethodName) ({ cls := "HungryHedgeModel", name := "restOf", desc := "(II)I" } : Jvm.MethodName)) ∈ lw_all := lw_g (lw_at lw_m9 107 rfl) rfl
theorem q2133 : (Jvm.Cond.code ({ cls := "HungryHedgeModel", name := "restOf", desc := "(II)I" } : Jvm.MethodName) prog_33_method_55_code (3 : Nat) (Option.some Jvm.ClassFile.FieldType.int)) ∈ lw_all := lw_g (lw_at lw_m9 108 rfl) rfl
theorem q2135 : (Jvm.Cond.instanceMethod ({ cls := "HungryHedgeModel", name := "finders", desc := "(III)I" } : Jvm.MethodName)) ∈ lw_all := lw_g (lw_at lw_m9 110 rfl) rfl
theorem q2136 : (Jvm.Cond.selects "HungryHedgeModel" ({ cls := "HungryHedgeModel", name := "finders", desc := "(III)I" } : Jvm.MethodName) ({ cls := "HungryHedgeModel", name := "finders", desc := "(III)I" } : Jvm.MethodName)) ∈ lw_all := lw_g (lw_at lw_m9 111 rfl) rfl
theorem q2137 : (Jvm.Cond.code ({ cls := "HungryHedgeModel", name := "finders", desc := "(III)I" } : Jvm.MethodName) prog_33_method_56_code (10 : Nat) (Option.some Jvm.ClassFile.FieldType.int)) ∈ lw_all := lw_g (lw_at lw_m9 112 rfl) rfl
theorem q2139 : (Jvm.Cond.instanceMethod ({ cls := "HungryHedgeModel", name := "feed", desc := "(JI)I" } : Jvm.MethodName)) ∈ lw_all := lw_g (lw_at lw_m9 114 rfl) rfl
theorem q2140 : (Jvm.Cond.selects "HungryHedgeModel" ({ cls := "HungryHedgeModel", name := "feed", desc := "(JI)I" } : Jvm.MethodName) ({ cls := "HungryHedgeModel", name := "feed", desc := "(JI)I" } : Jvm.MethodName)) ∈ lw_all := lw_g (lw_at lw_m9 115 rfl) rfl
theorem q2141 : (Jvm.Cond.code ({ cls := "HungryHedgeModel", name := "feed", desc := "(JI)I" } : Jvm.MethodName) prog_33_method_57_code (5 : Nat) (Option.some Jvm.ClassFile.FieldType.int)) ∈ lw_all := lw_g (lw_at lw_m9 116 rfl) rfl
theorem q2142 : (Jvm.Cond.constantLong "HungryHedgeModel" (290 : Nat) (255 : Int64)) ∈ lw_all := lw_g (lw_at lw_m9 117 rfl) rfl
theorem q2144 : (Jvm.Cond.instanceMethod ({ cls := "HungryHedgeModel", name := "read", desc := "()I" } : Jvm.MethodName)) ∈ lw_all := lw_g (lw_at lw_m9 119 rfl) rfl
theorem q2145 : (Jvm.Cond.selects "HungryHedgeModel" ({ cls := "HungryHedgeModel", name := "read", desc := "()I" } : Jvm.MethodName) ({ cls := "HungryHedgeModel", name := "read", desc := "()I" } : Jvm.MethodName)) ∈ lw_all := lw_g (lw_at lw_m9 120 rfl) rfl
theorem q2146 : (Jvm.Cond.code ({ cls := "HungryHedgeModel", name := "read", desc := "()I" } : Jvm.MethodName) prog_33_method_74_code (4 : Nat) (Option.some Jvm.ClassFile.FieldType.int)) ∈ lw_all := lw_g (lw_at lw_m9 121 rfl) rfl
theorem q2147 : (Jvm.Cond.methodLink "HungryHedgeModel" (323 : Nat) ({ cls := "HungryHedgeModel", name := "advance", desc := "()V" } : Jvm.MethodName)) ∈ lw_all := lw_g (lw_at lw_m9 122 rfl) rfl
theorem q2148 : (Jvm.Cond.privateMethod ({ cls := "HungryHedgeModel", name := "advance", desc := "()V" } : Jvm.MethodName)) ∈ lw_tbl := lw_at lw_m9 123 rfl
theorem q2149 : (Jvm.Cond.instanceMethod ({ cls := "HungryHedgeModel", name := "advance", desc := "()V" } : Jvm.MethodName)) ∈ lw_all := lw_g (lw_at lw_m9 124 rfl) rfl
theorem q2150 : (Jvm.Cond.code ({ cls := "HungryHedgeModel", name := "advance", desc := "()V" } : Jvm.MethodName) prog_33_method_60_code (2 : Nat) (Option.none : Option Jvm.ClassFile.FieldType)) ∈ lw_all := lw_g (lw_at lw_m9 125 rfl) rfl
theorem q2151 : (Jvm.Cond.methodLink "HungryHedgeModel" (305 : Nat) ({ cls := "HungryHedgeModel", name := "isLetter", desc := "(I)Z" } : Jvm.MethodName)) ∈ lw_all := lw_g (lw_at lw_m9 126 rfl) rfl
theorem q2152 : (Jvm.Cond.static ({ cls := "HungryHedgeModel", name := "isLetter", desc := "(I)Z" } : Jvm.MethodName)) ∈ lw_all := lw_g (lw_at lw_m9 127 rfl) rfl
theorem q2153 : (Jvm.Cond.code ({ cls := "HungryHedgeModel", name := "isLetter", desc := "(I)Z" } : Jvm.MethodName) prog_33_method_58_code (1 : Nat) (Option.some Jvm.ClassFile.FieldType.boolean)) ∈ lw_all := lw_g (lw_at lw_m9 128 rfl) rfl
theorem q2154 : (Jvm.Cond.constantLong "HungryHedgeModel" (308 : Nat) (27 : Int64)) ∈ lw_all := lw_g (lw_at lw_m9 129 rfl) rfl
theorem q2155 : (Jvm.Cond.constantLong "HungryHedgeModel" (310 : Nat) (96 : Int64)) ∈ lw_all := lw_g (lw_at lw_m9 130 rfl) rfl
theorem q2156 : (Jvm.Cond.methodLink "HungryHedgeModel" (312 : Nat) ({ cls := "HungryHedgeModel", name := "isDigit", desc := "(I)Z" } : Jvm.MethodName)) ∈ lw_all := lw_g (lw_at lw_m9 131 rfl) rfl
theorem q2157 : (Jvm.Cond.static ({ cls := "HungryHedgeModel", name := "isDigit", desc := "(I)Z" } : Jvm.MethodName)) ∈ lw_all := lw_g (lw_at lw_m9 132 rfl) rfl
theorem q2158 : (Jvm.Cond.code ({ cls := "HungryHedgeModel", name := "isDigit", desc := "(I)Z" } : Jvm.MethodName) prog_33_method_59_code (1 : Nat) (Option.some Jvm.ClassFile.FieldType.boolean)) ∈ lw_all := lw_g (lw_at lw_m9 133 rfl) rfl
theorem q2159 : (Jvm.Cond.constantLong "HungryHedgeModel" (315 : Nat) (48 : Int64)) ∈ lw_all := lw_g (lw_at lw_m9 134 rfl) rfl
theorem q2160 : (Jvm.Cond.methodLink "HungryHedgeModel" (320 : Nat) ({ cls := "HungryHedgeModel", name := "isGood", desc := "()Z" } : Jvm.MethodName)) ∈ lw_all := lw_g (lw_at lw_m9 135 rfl) rfl
theorem q2161 : (Jvm.Cond.privateMethod ({ cls := "HungryHedgeModel", name := "isGood", desc := "()Z" } : Jvm.MethodName)) ∈ lw_tbl := lw_at lw_m9 136 rfl
theorem q2162 : (Jvm.Cond.instanceMethod ({ cls := "HungryHedgeModel", name := "isGood", desc := "()Z" } : Jvm.MethodName)) ∈ lw_all := lw_g (lw_at lw_m9 137 rfl) rfl
theorem q2163 : (Jvm.Cond.code ({ cls := "HungryHedgeModel", name := "isGood", desc := "()Z" } : Jvm.MethodName) prog_33_method_61_code (1 : Nat) (Option.some Jvm.ClassFile.FieldType.boolean)) ∈ lw_all := lw_g (lw_at lw_m9 138 rfl) rfl
theorem q2164 : (Jvm.Cond.constantLong "HungryHedgeModel" (386 : Nat) (121882 : Int64)) ∈ lw_all := lw_g (lw_at lw_m9 139 rfl) rfl
theorem q2165 : (Jvm.Cond.methodLink "HungryHedgeModel" (344 : Nat) ({ cls := "HungryHedgeModel", name := "isWord", desc := "(J)Z" } : Jvm.MethodName)) ∈ lw_all := lw_g (lw_at lw_m9 140 rfl) rfl
theorem q2166 : (Jvm.Cond.privateMethod ({ cls := "HungryHedgeModel", name := "isWord", desc := "(J)Z" } : Jvm.MethodName)) ∈ lw_tbl := lw_at lw_m9 141 rfl
theorem q2167 : (Jvm.Cond.instanceMethod ({ cls := "HungryHedgeModel", name := "isWord", desc := "(J)Z" } : Jvm.MethodName)) ∈ lw_all := lw_g (lw_at lw_m9 142 rfl) rfl
theorem q2168 : (Jvm.Cond.code ({ cls := "HungryHedgeModel", name := "isWord", desc := "(J)Z" } : Jvm.MethodName) prog_33_method_63_code (3 : Nat) (Option.some Jvm.ClassFile.FieldType.boolean)) ∈ lw_all := lw_g (lw_at lw_m9 143 rfl) rfl
theorem q2169 : (Jvm.Cond.constantLong "HungryHedgeModel" (388 : Nat) (204 : Int64)) ∈ lw_all := lw_g (lw_at lw_m9 144 rfl) rfl
theorem q2170 : (Jvm.Cond.methodLink "HungryHedgeModel" (329 : Nat) ({ cls := "HungryHedgeModel", name := "want", desc := "(Z)V" } : Jvm.MethodName)) ∈ lw_all := lw_g (lw_at lw_m9 145 rfl) rfl
theorem q2171 : (Jvm.Cond.privateMethod ({ cls := "HungryHedgeModel", name := "want", desc := "(Z)V" } : Jvm.MethodName)) ∈ lw_tbl := lw_at lw_m9 146 rfl
theorem q2172 : (Jvm.Cond.instanceMethod ({ cls := "HungryHedgeModel", name := "want", desc := "(Z)V" } : Jvm.MethodName)) ∈ lw_all := lw_g (lw_at lw_m9 147 rfl) rfl
theorem q2173 : (Jvm.Cond.code ({ cls := "HungryHedgeModel", name := "want", desc := "(Z)V" } : Jvm.MethodName) prog_33_method_65_code (2 : Nat) (Option.none : Option Jvm.ClassFile.FieldType)) ∈ lw_all := lw_g (lw_at lw_m9 148 rfl) rfl
theorem q2174 : (Jvm.Cond.methodLink "HungryHedgeModel" (326 : Nat) ({ cls := "HungryHedgeModel", name := "faulty", desc := "()V" } : Jvm.MethodName)) ∈ lw_all := lw_g (lw_at lw_m9 149 rfl) rfl
theorem q2175 : (Jvm.Cond.privateMethod ({ cls := "HungryHedgeModel", name := "faulty", desc := "()V" } : Jvm.MethodName)) ∈ lw_tbl := lw_at lw_m9 150 rfl
theorem q2176 : (Jvm.Cond.instanceMethod ({ cls := "HungryHedgeModel", name := "faulty", desc := "()V" } : Jvm.MethodName)) ∈ lw_all := lw_g (lw_at lw_m9 151 rfl) rfl
theorem q2177 : (Jvm.Cond.code ({ cls := "HungryHedgeModel", name := "faulty", desc := "()V" } : Jvm.MethodName) prog_33_method_62_code (1 : Nat) (Option.none : Option Jvm.ClassFile.FieldType)) ∈ lw_all := lw_g (lw_at lw_m9 152 rfl) rfl
theorem q2178 : (Jvm.Cond.methodLink "HungryHedgeModel" (362 : Nat) ({ cls := "HungryHedgeModel", name := "wantNumber", desc := "(I)I" } : Jvm.MethodName)) ∈ lw_all := lw_g (lw_at lw_m9 153 rfl) rfl
theorem q2179 : (Jvm.Cond.privateMethod ({ cls := "HungryHedgeModel", name := "wantNumber", desc := "(I)I" } : Jvm.MethodName)) ∈ lw_tbl := lw_at lw_m9 154 rfl
theorem q2180 : (Jvm.Cond.instanceMethod ({ cls := "HungryHedgeModel", name := "wantNumber", desc := "(I)I" } : Jvm.MethodName)) ∈ lw_all := lw_g (lw_at lw_m9 155 rfl) rfl
theorem q2181 : (Jvm.Cond.code ({ cls := "HungryHedgeModel", name := "wantNumber", desc := "(I)I" } : Jvm.MethodName) prog_33_method_66_code (3 : Nat) (Option.some Jvm.ClassFile.FieldType.int)) ∈ lw_all := lw_g (lw_at lw_m9 156 rfl) rfl
theorem q2182 : (Jvm.Cond.methodLink "HungryHedgeModel" (390 : Nat) ({ cls := "HungryHedgeModel", name := "wantCond", desc := "()V" } : Jvm.MethodName)) ∈ lw_all := lw_g (lw_at lw_m9 157 rfl) rfl
theorem q2183 : (Jvm.Cond.privateMethod ({ cls := "HungryHedgeModel", name := "wantCond", desc := "()V" } : Jvm.MethodName)) ∈ lw_tbl := lw_at lw_m9 158 rfl
theorem q2184 : (Jvm.Cond.instanceMethod ({ cls := "HungryHedgeModel", name := "wantCond", desc := "()V" } : Jvm.MethodName)) ∈ lw_all := lw_g (lw_at lw_m9 159 rfl) rfl
theorem q2185 : (Jvm.Cond.code ({ cls := "HungryHedgeModel", name := "wantCond", desc := "()V" } : Jvm.MethodName) prog_33_method_73_code (5 : Nat) (Option.none : Option Jvm.ClassFile.FieldType)) ∈ lw_all := lw_g (lw_at lw_m9 160 rfl) rfl
theorem q2186 : (Jvm.Cond.constantLong "HungryHedgeModel" (371 : Nat) (10631 : Int64)) ∈ lw_all := lw_g (lw_at lw_m9 161 rfl) rfl
theorem q2187 : (Jvm.Cond.methodLink "HungryHedgeModel" (373 : Nat) ({ cls := "HungryHedgeModel", name := "hold", desc := "(I)V" } : Jvm.MethodName)) ∈ lw_all := lw_g (lw_at lw_m9 162 rfl) rfl
theorem q2188 : (Jvm.Cond.privateMethod ({ cls := "HungryHedgeModel", name := "hold", desc := "(I)V" } : Jvm.MethodName)) ∈ lw_tbl := lw_at lw_m9 163 rfl
theorem q2189 : (Jvm.Cond.instanceMethod ({ cls := "HungryHedgeModel", name := "hold", desc := "(I)V" } : Jvm.MethodName)) ∈ lw_all := lw_g (lw_at lw_m9 164 rfl) rfl
theorem q2190 : (Jvm.Cond.code ({ cls := "HungryHedgeModel", name := "hold", desc := "(I)V" } : Jvm.MethodName) prog_33_method_69_code (2 : Nat) (Option.none : Option Jvm.ClassFile.FieldType)) ∈ lw_all := lw_g (lw_at lw_m9 165 rfl) rfl
theorem q2191 : (Jvm.Cond.methodLink "HungryHedgeModel" (368 : Nat) ({ cls := "HungryHedgeModel", name := "isMark", desc := "(I)Z" } : Jvm.MethodName)) ∈ lw_all := lw_g (lw_at lw_m9 166 rfl) rfl
theorem q2192 : (Jvm.Cond.privateMethod ({ cls := "HungryHedgeModel", name := "isMark", desc := "(I)Z" } : Jvm.MethodName)) ∈ lw_tbl := lw_at lw_m9 167 rfl
theorem q2193 : (Jvm.Cond.instanceMethod ({ cls := "HungryHedgeModel", name := "isMark", desc := "(I)Z" } : Jvm.MethodName)) ∈ lw_all := lw_g (lw_at lw_m9 168 rfl) rfl
theorem q2194 : (Jvm.Cond.code ({ cls := "HungryHedgeModel", name := "isMark", desc := "(I)Z" } : Jvm.MethodName) prog_33_method_64_code (2 : Nat) (Option.some Jvm.ClassFile.FieldType.boolean)) ∈ lw_all := lw_g (lw_at lw_m9 169 rfl) rfl
theorem q2195 : (Jvm.Cond.methodLink "HungryHedgeModel" (376 : Nat) ({ cls := "HungryHedgeModel", name := "wantAsk", desc := "()V" } : Jvm.MethodName)) ∈ lw_all := lw_g (lw_at lw_m9 170 rfl) rfl
theorem q2196 : (Jvm.Cond.privateMethod ({ cls := "HungryHedgeModel", name := "wantAsk", desc := "()V" } : Jvm.MethodName)) ∈ lw_tbl := lw_at lw_m9 171 rfl
theorem q2197 : (Jvm.Cond.instanceMethod ({ cls := "HungryHedgeModel", name := "wantAsk", desc := "()V" } : Jvm.MethodName)) ∈ lw_all := lw_g (lw_at lw_m9 172 rfl) rfl
theorem q2198 : (Jvm.Cond.code ({ cls := "HungryHedgeModel", name := "wantAsk", desc := "()V" } : Jvm.MethodName) prog_33_method_72_code (2 : Nat) (Option.none : Option Jvm.ClassFile.FieldType)) ∈ lw_all := lw_g (lw_at lw_m9 173 rfl) rfl
theorem q2199 : (Jvm.Cond.methodLink "HungryHedgeModel" (365 : Nat) ({ cls := "HungryHedgeModel", name := "wantValue", desc := "()V" } : Jvm.MethodName)) ∈ lw_all := lw_g (lw_at lw_m9 174 rfl) rfl
theorem q2200 : (Jvm.Cond.privateMethod ({ cls := "HungryHedgeModel", name := "wantValue", desc := "()V" } : Jvm.MethodName)) ∈ lw_tbl := lw_at lw_m9 175 rfl
theorem q2201 : (Jvm.Cond.instanceMethod ({ cls := "HungryHedgeModel", name := "wantValue", desc := "()V" } : Jvm.MethodName)) ∈ lw_all := lw_g (lw_at lw_m9 176 rfl) rfl
theorem q2202 : (Jvm.Cond.code ({ cls := "HungryHedgeModel", name := "wantValue", desc := "()V" } : Jvm.MethodName) prog_33_method_71_code (4 : Nat) (Option.none : Option Jvm.ClassFile.FieldType)) ∈ lw_all := lw_g (lw_at lw_m9 177 rfl) rfl
theorem q2203 : (Jvm.Cond.methodLink "HungryHedgeModel" (354 : Nat) ({ cls := "HungryHedgeModel", name := "wordHere", desc := "()I" } : Jvm.MethodName)) ∈ lw_all := lw_g (lw_at lw_m9 178 rfl) rfl
theorem q2204 : (Jvm.Cond.privateMethod ({ cls := "HungryHedgeModel", name := "wordHere", desc := "()I" } : Jvm.MethodName)) ∈ lw_tbl := lw_at lw_m9 179 rfl
theorem q2205 : (Jvm.Cond.instanceMethod ({ cls := "HungryHedgeModel", name := "wordHere", desc := "()I" } : Jvm.MethodName)) ∈ lw_all := lw_g (lw_at lw_m9 180 rfl) rfl
theorem q2206 : (Jvm.Cond.code ({ cls := "HungryHedgeModel", name := "wordHere", desc := "()I" } : Jvm.MethodName) prog_33_method_70_code (1 : Nat) (Option.some Jvm.ClassFile.FieldType.int)) ∈ lw_all := lw_g (lw_at lw_m9 181 rfl) rfl
theorem q2207 : (Jvm.Cond.constantLong "HungryHedgeModel" (342 : Nat) (13467145 : Int64)) ∈ lw_all := lw_g (lw_at lw_m9 182 rfl) rfl
theorem q2208 : (Jvm.Cond.constantLong "HungryHedgeModel" (348 : Nat) (240023 : Int64)) ∈ lw_all := lw_g (lw_at lw_m9 183 rfl) rfl
theorem q2209 : (Jvm.Cond.constantLong "HungryHedgeModel" (350 : Nat) (5528 : Int64)) ∈ lw_all := lw_g (lw_at lw_m9 184 rfl) rfl
theorem q2210 : (Jvm.Cond.constantLong "HungryHedgeModel" (352 : Nat) (161600 : Int64)) ∈ lw_all := lw_g (lw_at lw_m9 185 rfl) rfl
theorem q2211 : (Jvm.Cond.constantLong "HungryHedgeModel" (358 : Nat) (129442 : Int64)) ∈ lw_all := lw_g (lw_at lw_m9 186 rfl) rfl
theorem q2212 : (Jvm.Cond.methodLink "HungryHedgeModel" (339 : Nat) ({ cls := "HungryHedgeModel", name := "emit", desc := "(I)V" } : Jvm.MethodName)) ∈ lw_all := lw_g (lw_at lw_m9 187 rfl) rfl
theorem q2213 : (Jvm.Cond.privateMethod ({ cls := "HungryHedgeModel", name := "emit", desc := "(I)V" } : Jvm.MethodName)) ∈ lw_tbl := lw_at lw_m9 188 rfl
theorem q2214 : (Jvm.Cond.instanceMethod ({ cls := "HungryHedgeModel", name := "emit", desc := "(I)V" } : Jvm.MethodName)) ∈ lw_all := lw_g (lw_at lw_m9 189 rfl) rfl
theorem q2215 : (Jvm.Cond.code ({ cls := "HungryHedgeModel", name := "emit", desc := "(I)V" } : Jvm.MethodName) prog_33_method_67_code (2 : Nat) (Option.none : Option Jvm.ClassFile.FieldType)) ∈ lw_all := lw_g (lw_at lw_m9 190 rfl) rfl
theorem q2216 : (Jvm.Cond.constantLong "HungryHedgeModel" (360 : Nat) (7094782 : Int64)) ∈ lw_all := lw_g (lw_at lw_m9 191 rfl) rfl
theorem q2217 : (Jvm.Cond.methodLink "HungryHedgeModel" (379 : Nat) ({ cls := "HungryHedgeModel", name := "settle", desc := "(I)V" } : Jvm.MethodName)) ∈ lw_all := lw_g (lw_at lw_m9 192 rfl) rfl
theorem q2218 : (Jvm.Cond.privateMethod ({ cls := "HungryHedgeModel", name := "settle", desc := "(I)V" } : Jvm.MethodName)) ∈ lw_tbl := lw_at lw_m9 193 rfl
theorem q2219 : (Jvm.Cond.instanceMethod ({ cls := "HungryHedgeModel", name := "settle", desc := "(I)V" } : Jvm.MethodName)) ∈ lw_all := lw_g (lw_at lw_m9 194 rfl) rfl
theorem q2220 : (Jvm.Cond.code ({ cls := "HungryHedgeModel", name := "settle", desc := "(I)V" } : Jvm.MethodName) prog_33_method_68_code (2 : Nat) (Option.none : Option Jvm.ClassFile.FieldType)) ∈ lw_all := lw_g (lw_at lw_m9 195 rfl) rfl
theorem q2221 : (Jvm.Cond.constantLong "HungryHedgeModel" (382 : Nat) (1111 : Int64)) ∈ lw_all := lw_g (lw_at lw_m9 196 rfl) rfl
theorem q2222 : (Jvm.Cond.constantLong "HungryHedgeModel" (384 : Nat) (423 : Int64)) ∈ lw_all := lw_g (lw_at lw_m9 197 rfl) rfl
theorem q2224 : (Jvm.Cond.instanceMethod ({ cls := "HungryHedgeModel", name := "ruled", desc := "()I" } : Jvm.MethodName)) ∈ lw_all := lw_g (lw_at lw_m9 199 rfl) rfl
theorem q2225 : (Jvm.Cond.selects "HungryHedgeModel" ({ cls := "HungryHedgeModel", name := "ruled", desc := "()I" } : Jvm.MethodName) ({ cls := "HungryHedgeModel", name := "ruled", desc := "()I" } : Jvm.MethodName)) ∈ lw_all := lw_g (lw_at lw_m9 200 rfl) rfl
theorem q2226 : (Jvm.Cond.code ({ cls := "HungryHedgeModel", name := "ruled", desc := "()I" } : Jvm.MethodName) prog_33_method_81_code (1 : Nat) (Option.some Jvm.ClassFile.FieldType.int)) ∈ lw_all := lw_g (lw_at lw_m9 201 rfl) rfl
theorem q2227 : (Jvm.Cond.methodLink "HungryHedgeModel" (420 : Nat) ({ cls := "HungryHedgeModel", name := "askHere", desc := "()V" } : Jvm.MethodName)) ∈ lw_all := lw_g (lw_at lw_m9 202 rfl) rfl
theorem q2228 : (Jvm.Cond.privateMethod ({ cls := "HungryHedgeModel", name := "askHere", desc := "()V" } : Jvm.MethodName)) ∈ lw_tbl := lw_at lw_m9 203 rfl
theorem q2229 : (Jvm.Cond.instanceMethod ({ cls := "HungryHedgeModel", name := "askHere", desc := "()V" } : Jvm.MethodName)) ∈ lw_all := lw_g (lw_at lw_m9 204 rfl) rfl
theorem q2230 : (Jvm.Cond.code ({ cls := "HungryHedgeModel", name := "askHere", desc := "()V" } : Jvm.MethodName) prog_33_method_80_code (1 : Nat) (Option.none : Option Jvm.ClassFile.FieldType)) ∈ lw_all := lw_g (lw_at lw_m9 205 rfl) rfl
theorem q2231 : (Jvm.Cond.methodLink "HungryHedgeModel" (423 : Nat) ({ cls := "HungryHedgeModel", name := "ruledThere", desc := "()I" } : Jvm.MethodName)) ∈ lw_all := lw_g (lw_at lw_m9 206 rfl) rfl
theorem q2232 : (Jvm.Cond.privateMethod ({ cls := "HungryHedgeModel", name := "ruledThere", desc := "()I" } : Jvm.MethodName)) ∈ lw_tbl := lw_at lw_m9 207 rfl
theorem q2233 : (Jvm.Cond.instanceMethod ({ cls := "HungryHedgeModel", name := "ruledThere", desc := "()I" } : Jvm.MethodName)) ∈ lw_all := lw_g (lw_at lw_m9 208 rfl) rfl
theorem q2234 : (Jvm.Cond.code ({ cls := "HungryHedgeModel", name := "ruledThere", desc := "()I" } : Jvm.MethodName) prog_33_method_79_code (2 : Nat) (Option.some Jvm.ClassFile.FieldType.int)) ∈ lw_all := lw_g (lw_at lw_m9 209 rfl) rfl
theorem q2235 : (Jvm.Cond.methodLink "HungryHedgeModel" (417 : Nat) ({ cls := "HungryHedgeModel", name := "clauseThere", desc := "()I" } : Jvm.MethodName)) ∈ lw_all := lw_g (lw_at lw_m9 210 rfl) rfl
theorem q2236 : (Jvm.Cond.privateMethod ({ cls := "HungryHedgeModel", name := "clauseThere", desc := "()I" } : Jvm.MethodName)) ∈ lw_tbl := lw_at lw_m9 211 rfl
theorem q2237 : (Jvm.Cond.instanceMethod ({ cls := "HungryHedgeModel", name := "clauseThere", desc := "()I" } : Jvm.MethodName)) ∈ lw_all := lw_g (lw_at lw_m9 212 rfl) rfl
theorem q2238 : (Jvm.Cond.code ({ cls := "HungryHedgeModel", name := "clauseThere", desc := "()I" } : Jvm.MethodName) prog_33_method_78_code (2 : Nat) (Option.some Jvm.ClassFile.FieldType.int)) ∈ lw_all := lw_g (lw_at lw_m9 213 rfl) rfl
theorem q2239 : (Jvm.Cond.methodLink "HungryHedgeModel" (414 : Nat) ({ cls := "HungryHedgeModel", name := "holds", desc := "(I)Z" } : Jvm.MethodName)) ∈ lw_all := lw_g (lw_at lw_m9 214 rfl) rfl
theorem q2240 : (Jvm.Cond.privateMethod ({ cls := "HungryHedgeModel", name := "holds", desc := "(I)Z" } : Jvm.MethodName)) ∈ lw_tbl := lw_at lw_m9 215 rfl
theorem q2241 : (Jvm.Cond.instanceMethod ({ cls := "HungryHedgeModel", name := "holds", desc := "(I)Z" } : Jvm.MethodName)) ∈ lw_all := lw_g (lw_at lw_m9 216 rfl) rfl
theorem q2242 : (Jvm.Cond.code ({ cls := "HungryHedgeModel", name := "holds", desc := "(I)Z" } : Jvm.MethodName) prog_33_method_77_code (5 : Nat) (Option.some Jvm.ClassFile.FieldType.boolean)) ∈ lw_all := lw_g (lw_at lw_m9 217 rfl) rfl
theorem q2243 : (Jvm.Cond.methodLink "HungryHedgeModel" (408 : Nat) ({ cls := "HungryHedgeModel", name := "joined", desc := "(III)I" } : Jvm.MethodName)) ∈ lw_all := lw_g (lw_at lw_m9 218 rfl) rfl
theorem q2244 : (Jvm.Cond.static ({ cls := "HungryHedgeModel", name := "joined", desc := "(III)I" } : Jvm.MethodName)) ∈ lw_all := lw_g (lw_at lw_m9 219 rfl) rfl
theorem q2245 : (Jvm.Cond.code ({ cls := "HungryHedgeModel", name := "joined", desc := "(III)I" } : Jvm.MethodName) prog_33_method_76_code (3 : Nat) (Option.some Jvm.ClassFile.FieldType.int)) ∈ lw_all := lw_g (lw_at lw_m9 220 rfl) rfl
theorem q2246 : (Jvm.Cond.methodLink "HungryHedgeModel" (411 : Nat) ({ cls := "HungryHedgeModel", name := "valueOf", desc := "(I)I" } : Jvm.MethodName)) ∈ lw_all := lw_g (lw_at lw_m9 221 rfl) rfl
theorem q2247 : (Jvm.Cond.privateMethod ({ cls := "HungryHedgeModel", name := "valueOf", desc := "(I)I" } : Jvm.MethodName)) ∈ lw_tbl := lw_at lw_m9 222 rfl
theorem q2248 : (Jvm.Cond.instanceMethod ({ cls := "HungryHedgeModel", name := "valueOf", desc := "(I)I" } : Jvm.MethodName)) ∈ lw_all := lw_g (lw_at lw_m9 223 rfl) rfl
theorem q2249 : (Jvm.Cond.code ({ cls := "HungryHedgeModel", name := "valueOf", desc := "(I)I" } : Jvm.MethodName) prog_33_method_75_code (3 : Nat) (Option.some Jvm.ClassFile.FieldType.int)) ∈ lw_all := lw_g (lw_at lw_m9 224 rfl) rfl
theorem q2251 : (Jvm.Cond.instanceMethod ({ cls := "HungryHedgeModel", name := "clause", desc := "()I" } : Jvm.MethodName)) ∈ lw_all := lw_g (lw_at lw_m9 226 rfl) rfl
theorem q2252 : (Jvm.Cond.selects "HungryHedgeModel" ({ cls := "HungryHedgeModel", name := "clause", desc := "()I" } : Jvm.MethodName) ({ cls := "HungryHedgeModel", name := "clause", desc := "()I" } : Jvm.MethodName)) ∈ lw_all := lw_g (lw_at lw_m9 227 rfl) rfl
theorem q2253 : (Jvm.Cond.code ({ cls := "HungryHedgeModel", name := "clause", desc := "()I" } : Jvm.MethodName) prog_33_method_82_code (2 : Nat) (Option.some Jvm.ClassFile.FieldType.int)) ∈ lw_all := lw_g (lw_at lw_m9 228 rfl) rfl
theorem q2255 : (Jvm.Cond.instanceMethod ({ cls := "HungryHedgeModel", name := "run", desc := "()I" } : Jvm.MethodName)) ∈ lw_all := lw_g (lw_at lw_m9 230 rfl) rfl
theorem q2256 : (Jvm.Cond.selects "HungryHedgeModel" ({ cls := "HungryHedgeModel", name := "run", desc := "()I" } : Jvm.MethodName) ({ cls := "HungryHedgeModel", name := "run", desc := "()I" } : Jvm.MethodName)) ∈ lw_all := lw_g (lw_at lw_m9 231 rfl) rfl
theorem q2257 : (Jvm.Cond.code ({ cls := "HungryHedgeModel", name := "run", desc := "()I" } : Jvm.MethodName) prog_33_method_83_code (3 : Nat) (Option.some Jvm.ClassFile.FieldType.int)) ∈ lw_all := lw_g (lw_at lw_m9 232 rfl) rfl
theorem q2259 : (Jvm.Cond.instanceMethod ({ cls := "HungryHedgeModel", name := "loss", desc := "()I" } : Jvm.MethodName)) ∈ lw_all := lw_g (lw_at lw_m9 234 rfl) rfl
theorem q2260 : (Jvm.Cond.selects "HungryHedgeModel" ({ cls := "HungryHedgeModel", name := "loss", desc := "()I" } : Jvm.MethodName) ({ cls := "HungryHedgeModel", name := "loss", desc := "()I" } : Jvm.MethodName)) ∈ lw_all := lw_g (lw_at lw_m9 235 rfl) rfl
theorem q2261 : (Jvm.Cond.code ({ cls := "HungryHedgeModel", name := "loss", desc := "()I" } : Jvm.MethodName) prog_33_method_84_code (1 : Nat) (Option.some Jvm.ClassFile.FieldType.int)) ∈ lw_all := lw_g (lw_at lw_m9 236 rfl) rfl
theorem q2262 : (Jvm.Cond.methodLink "HungryHedgeModel" (426 : Nat) ({ cls := "HungryHedgeModel", name := "best", desc := "()I" } : Jvm.MethodName)) ∈ lw_all := lw_g (lw_at lw_m9 237 rfl) rfl
theorem q2263 : (Jvm.Cond.methodLink "HungryHedgeModel" (429 : Nat) ({ cls := "HungryHedgeModel", name := "run", desc := "()I" } : Jvm.MethodName)) ∈ lw_all := lw_g (lw_at lw_m9 238 rfl) rfl
theorem q2265 : (Jvm.Cond.instanceMethod ({ cls := "HungryHedgeModel", name := "prove", desc := "()I" } : Jvm.MethodName)) ∈ lw_all := lw_g (lw_at lw_m10 0 rfl) rfl
theorem q2266 : (Jvm.Cond.selects "HungryHedgeModel" ({ cls := "HungryHedgeModel", name := "prove", desc := "()I" } : Jvm.MethodName) ({ cls := "HungryHedgeModel", name := "prove", desc := "()I" } : Jvm.MethodName)) ∈ lw_all := lw_g (lw_at lw_m10 1 rfl) rfl
theorem q2267 : (Jvm.Cond.code ({ cls := "HungryHedgeModel", name := "prove", desc := "()I" } : Jvm.MethodName) prog_33_method_85_code (6 : Nat) (Option.some Jvm.ClassFile.FieldType.int)) ∈ lw_all := lw_g (lw_at lw_m10 2 rfl) rfl
theorem q2269 : (Jvm.Cond.instanceMethod ({ cls := "HungryHedgeModel", name := "row", desc := "(II)I" } : Jvm.MethodName)) ∈ lw_all := lw_g (lw_at lw_m10 4 rfl) rfl
theorem q2270 : (Jvm.Cond.selects "HungryHedgeModel" ({ cls := "HungryHedgeModel", name := "row", desc := "(II)I" } : Jvm.MethodName) ({ cls := "HungryHedgeModel", name := "row", desc := "(II)I" } : Jvm.MethodName)) ∈ lw_all := lw_g (lw_at lw_m10 5 rfl) rfl
theorem q2271 : (Jvm.Cond.code ({ cls := "HungryHedgeModel", name := "row", desc := "(II)I" } : Jvm.MethodName) prog_33_method_87_code (3 : Nat) (Option.some Jvm.ClassFile.FieldType.int)) ∈ lw_all := lw_g (lw_at lw_m10 6 rfl) rfl
theorem q2272 : (Jvm.Cond.methodLink "HungryHedgeModel" (435 : Nat) ({ cls := "HungryHedgeModel", name := "isRow", desc := "(II)Z" } : Jvm.MethodName)) ∈ lw_all := lw_g (lw_at lw_m10 7 rfl) rfl
theorem q2273 : (Jvm.Cond.privateMethod ({ cls := "HungryHedgeModel", name := "isRow", desc := "(II)Z" } : Jvm.MethodName)) ∈ lw_tbl := lw_at lw_m10 8 rfl
theorem q2274 : (Jvm.Cond.instanceMethod ({ cls := "HungryHedgeModel", name := "isRow", desc := "(II)Z" } : Jvm.MethodName)) ∈ lw_all := lw_g (lw_at lw_m10 9 rfl) rfl
theorem q2275 : (Jvm.Cond.code ({ cls := "HungryHedgeModel", name := "isRow", desc := "(II)Z" } : Jvm.MethodName) prog_33_method_86_code (3 : Nat) (Option.some Jvm.ClassFile.FieldType.boolean)) ∈ lw_all := lw_g (lw_at lw_m10 10 rfl) rfl
theorem q2277 : (Jvm.Cond.instanceMethod ({ cls := "HungryHedgeModel", name := "alterRow", desc := "(III)I" } : Jvm.MethodName)) ∈ lw_all := lw_g (lw_at lw_m10 12 rfl) rfl
theorem q2278 : (Jvm.Cond.selects "HungryHedgeModel" ({ cls := "HungryHedgeModel", name := "alterRow", desc := "(III)I" } : Jvm.MethodName) ({ cls := "HungryHedgeModel", name := "alterRow", desc := "(III)I" } : Jvm.MethodName)) ∈ lw_all := lw_g (lw_at lw_m10 13 rfl) rfl
theorem q2279 : (Jvm.Cond.code ({ cls := "HungryHedgeModel", name := "alterRow", desc := "(III)I" } : Jvm.MethodName) prog_33_method_88_code (5 : Nat) (Option.some Jvm.ClassFile.FieldType.int)) ∈ lw_all := lw_g (lw_at lw_m10 14 rfl) rfl
theorem q2281 : (Jvm.Cond.instanceMethod ({ cls := "HungryHedgeModel", name := "judge", desc := "()I" } : Jvm.MethodName)) ∈ lw_all := lw_g (lw_at lw_m10 16 rfl) rfl
theorem q2282 : (Jvm.Cond.selects "HungryHedgeModel" ({ cls := "HungryHedgeModel", name := "judge", desc := "()I" } : Jvm.MethodName) ({ cls := "HungryHedgeModel", name := "judge", desc := "()I" } : Jvm.MethodName)) ∈ lw_all := lw_g (lw_at lw_m10 17 rfl) rfl
theorem q2283 : (Jvm.Cond.code ({ cls := "HungryHedgeModel", name := "judge", desc := "()I" } : Jvm.MethodName) prog_33_method_89_code (7 : Nat) (Option.some Jvm.ClassFile.FieldType.int)) ∈ lw_all := lw_g (lw_at lw_m10 18 rfl) rfl
theorem q2285 : (Jvm.Cond.instanceMethod ({ cls := "HungryHedgeModel", name := "sheet", desc := "(III)I" } : Jvm.MethodName)) ∈ lw_all := lw_g (lw_at lw_m10 20 rfl) rfl
theorem q2286 : (Jvm.Cond.selects "HungryHedgeModel" ({ cls := "HungryHedgeModel", name := "sheet", desc := "(III)I" } : Jvm.MethodName) ({ cls := "HungryHedgeModel", name := "sheet", desc := "(III)I" } : Jvm.MethodName)) ∈ lw_all := lw_g (lw_at lw_m10 21 rfl) rfl
theorem q2287 : (Jvm.Cond.code ({ cls := "HungryHedgeModel", name := "sheet", desc := "(III)I" } : Jvm.MethodName) prog_33_method_91_code (5 : Nat) (Option.some Jvm.ClassFile.FieldType.int)) ∈ lw_all := lw_g (lw_at lw_m10 22 rfl) rfl
theorem q2289 : (Jvm.Cond.instanceMethod ({ cls := "HungryHedgeModel", name := "put", desc := "(III)I" } : Jvm.MethodName)) ∈ lw_all := lw_g (lw_at lw_m10 24 rfl) rfl
theorem q2290 : (Jvm.Cond.selects "HungryHedgeModel" ({ cls := "HungryHedgeModel", name := "put", desc := "(III)I" } : Jvm.MethodName) ({ cls := "HungryHedgeModel", name := "put", desc := "(III)I" } : Jvm.MethodName)) ∈ lw_all := lw_g (lw_at lw_m10 25 rfl) rfl
theorem q2291 : (Jvm.Cond.code ({ cls := "HungryHedgeModel", name := "put", desc := "(III)I" } : Jvm.MethodName) prog_33_method_92_code (4 : Nat) (Option.some Jvm.ClassFile.FieldType.int)) ∈ lw_all := lw_g (lw_at lw_m10 26 rfl) rfl
theorem q2293 : (Jvm.Cond.instanceMethod ({ cls := "HungryHedgeModel", name := "item", desc := "(III)I" } : Jvm.MethodName)) ∈ lw_all := lw_g (lw_at lw_m10 28 rfl) rfl
theorem q2294 : (Jvm.Cond.selects "HungryHedgeModel" ({ cls := "HungryHedgeModel", name := "item", desc := "(III)I" } : Jvm.MethodName) ({ cls := "HungryHedgeModel", name := "item", desc := "(III)I" } : Jvm.MethodName)) ∈ lw_all := lw_g (lw_at lw_m10 29 rfl) rfl
theorem q2295 : (Jvm.Cond.code ({ cls := "HungryHedgeModel", name := "item", desc := "(III)I" } : Jvm.MethodName) prog_33_method_94_code (5 : Nat) (Option.some Jvm.ClassFile.FieldType.int)) ∈ lw_all := lw_g (lw_at lw_m10 30 rfl) rfl
theorem q2297 : (Jvm.Cond.instanceMethod ({ cls := "HungryHedgeModel", name := "acts", desc := "(III)I" } : Jvm.MethodName)) ∈ lw_all := lw_g (lw_at lw_m10 32 rfl) rfl
theorem q2298 : (Jvm.Cond.selects "HungryHedgeModel" ({ cls := "HungryHedgeModel", name := "acts", desc := "(III)I" } : Jvm.MethodName) ({ cls := "HungryHedgeModel", name := "acts", desc := "(III)I" } : Jvm.MethodName)) ∈ lw_all := lw_g (lw_at lw_m10 33 rfl) rfl
theorem q2299 : (Jvm.Cond.code ({ cls := "HungryHedgeModel", name := "acts", desc := "(III)I" } : Jvm.MethodName) prog_33_method_95_code (7 : Nat) (Option.some Jvm.ClassFile.FieldType.int)) ∈ lw_all := lw_g (lw_at lw_m10 34 rfl) rfl
theorem q2300 : (Jvm.Cond.methodLink "HungryHedgeModel" (438 : Nat) ({ cls := "HungryHedgeModel", name := "does", desc := "(I)I" } : Jvm.MethodName)) ∈ lw_all := lw_g (lw_at lw_m10 35 rfl) rfl
theorem q2302 : (Jvm.Cond.instanceMethod ({ cls := "HungryHedgeModel", name := "shelf", desc := "(III)I" } : Jvm.MethodName)) ∈ lw_all := lw_g (lw_at lw_m10 37 rfl) rfl
theorem q2303 : (Jvm.Cond.selects "HungryHedgeModel" ({ cls := "HungryHedgeModel", name := "shelf", desc := "(III)I" } : Jvm.MethodName) ({ cls := "HungryHedgeModel", name := "shelf", desc := "(III)I" } : Jvm.MethodName)) ∈ lw_all := lw_g (lw_at lw_m10 38 rfl) rfl
theorem q2304 : (Jvm.Cond.code ({ cls := "HungryHedgeModel", name := "shelf", desc := "(III)I" } : Jvm.MethodName) prog_33_method_97_code (4 : Nat) (Option.some Jvm.ClassFile.FieldType.int)) ∈ lw_all := lw_g (lw_at lw_m10 39 rfl) rfl
theorem q2305 : (Jvm.Cond.methodLink "HungryHedgeModel" (441 : Nat) ({ cls := "HungryHedgeModel", name := "isThing", desc := "(II)Z" } : Jvm.MethodName)) ∈ lw_all := lw_g (lw_at lw_m10 40 rfl) rfl
theorem q2306 : (Jvm.Cond.privateMethod ({ cls := "HungryHedgeModel", name := "isThing", desc := "(II)Z" } : Jvm.MethodName)) ∈ lw_tbl := lw_at lw_m10 41 rfl
theorem q2307 : (Jvm.Cond.instanceMethod ({ cls := "HungryHedgeModel", name := "isThing", desc := "(II)Z" } : Jvm.MethodName)) ∈ lw_all := lw_g (lw_at lw_m10 42 rfl) rfl
theorem q2308 : (Jvm.Cond.code ({ cls := "HungryHedgeModel", name := "isThing", desc := "(II)Z" } : Jvm.MethodName) prog_33_method_96_code (3 : Nat) (Option.some Jvm.ClassFile.FieldType.boolean)) ∈ lw_all := lw_g (lw_at lw_m10 43 rfl) rfl
theorem q2310 : (Jvm.Cond.instanceMethod ({ cls := "HungryHedgeModel", name := "taken", desc := "(II)I" } : Jvm.MethodName)) ∈ lw_all := lw_g (lw_at lw_m10 45 rfl) rfl
theorem q2311 : (Jvm.Cond.selects "HungryHedgeModel" ({ cls := "HungryHedgeModel", name := "taken", desc := "(II)I" } : Jvm.MethodName) ({ cls := "HungryHedgeModel", name := "taken", desc := "(II)I" } : Jvm.MethodName)) ∈ lw_all := lw_g (lw_at lw_m10 46 rfl) rfl
theorem q2312 : (Jvm.Cond.code ({ cls := "HungryHedgeModel", name := "taken", desc := "(II)I" } : Jvm.MethodName) prog_33_method_101_code (4 : Nat) (Option.some Jvm.ClassFile.FieldType.int)) ∈ lw_all := lw_g (lw_at lw_m10 47 rfl) rfl
theorem q2313 : (Jvm.Cond.methodLink "HungryHedgeModel" (447 : Nat) ({ cls := "HungryHedgeModel", name := "kindOn", desc := "(I)I" } : Jvm.MethodName)) ∈ lw_all := lw_g (lw_at lw_m10 48 rfl) rfl
theorem q2314 : (Jvm.Cond.privateMethod ({ cls := "HungryHedgeModel", name := "kindOn", desc := "(I)I" } : Jvm.MethodName)) ∈ lw_tbl := lw_at lw_m10 49 rfl
theorem q2315 : (Jvm.Cond.instanceMethod ({ cls := "HungryHedgeModel", name := "kindOn", desc := "(I)I" } : Jvm.MethodName)) ∈ lw_all := lw_g (lw_at lw_m10 50 rfl) rfl
theorem q2316 : (Jvm.Cond.code ({ cls := "HungryHedgeModel", name := "kindOn", desc := "(I)I" } : Jvm.MethodName) prog_33_method_98_code (4 : Nat) (Option.some Jvm.ClassFile.FieldType.int)) ∈ lw_all := lw_g (lw_at lw_m10 51 rfl) rfl
theorem q2317 : (Jvm.Cond.methodLink "HungryHedgeModel" (444 : Nat) ({ cls := "HungryHedgeModel", name := "kindOf", desc := "(I)I" } : Jvm.MethodName)) ∈ lw_all := lw_g (lw_at lw_m10 52 rfl) rfl
theorem q2318 : (Jvm.Cond.privateMethod ({ cls := "HungryHedgeModel", name := "kindOf", desc := "(I)I" } : Jvm.MethodName)) ∈ lw_tbl := lw_at lw_m10 53 rfl
theorem q2319 : (Jvm.Cond.instanceMethod ({ cls := "HungryHedgeModel", name := "kindOf", desc := "(I)I" } : Jvm.MethodName)) ∈ lw_all := lw_g (lw_at lw_m10 54 rfl) rfl
theorem q2320 : (Jvm.Cond.code ({ cls := "HungryHedgeModel", name := "kindOf", desc := "(I)I" } : Jvm.MethodName) prog_33_method_6_code (2 : Nat) (Option.some Jvm.ClassFile.FieldType.int)) ∈ lw_all := lw_g (lw_at lw_m10 55 rfl) rfl
theorem q2321 : (Jvm.Cond.methodLink "HungryHedgeModel" (450 : Nat) ({ cls := "HungryHedgeModel", name := "isUnder", desc := "(II)Z" } : Jvm.MethodName)) ∈ lw_all := lw_g (lw_at lw_m10 56 rfl) rfl
theorem q2322 : (Jvm.Cond.static ({ cls := "HungryHedgeModel", name := "isUnder", desc := "(II)Z" } : Jvm.MethodName)) ∈ lw_all := lw_g (lw_at lw_m10 57 rfl) rfl
theorem q2323 : (Jvm.Cond.code ({ cls := "HungryHedgeModel", name := "isUnder", desc := "(II)Z" } : Jvm.MethodName) prog_33_method_100_code (2 : Nat) (Option.some Jvm.ClassFile.FieldType.boolean)) ∈ lw_all := lw_g (lw_at lw_m10 58 rfl) rfl
theorem q2324 : (Jvm.Cond.methodLink "HungryHedgeModel" (453 : Nat) ({ cls := "HungryHedgeModel", name := "numberOn", desc := "(I)I" } : Jvm.MethodName)) ∈ lw_all := lw_g (lw_at lw_m10 59 rfl) rfl
theorem q2325 : (Jvm.Cond.privateMethod ({ cls := "HungryHedgeModel", name := "numberOn", desc := "(I)I" } : Jvm.MethodName)) ∈ lw_tbl := lw_at lw_m10 60 rfl
theorem q2326 : (Jvm.Cond.instanceMethod ({ cls := "HungryHedgeModel", name := "numberOn", desc := "(I)I" } : Jvm.MethodName)) ∈ lw_all := lw_g (lw_at lw_m10 61 rfl) rfl
theorem q2327 : (Jvm.Cond.code ({ cls := "HungryHedgeModel", name := "numberOn", desc := "(I)I" } : Jvm.MethodName) prog_33_method_99_code (2 : Nat) (Option.some Jvm.ClassFile.FieldType.int)) ∈ lw_all := lw_g (lw_at lw_m10 62 rfl) rfl
theorem q2329 : (Jvm.Cond.instanceMethod ({ cls := "HungryHedgeModel", name := "act", desc := "(III)I" } : Jvm.MethodName)) ∈ lw_all := lw_g (lw_at lw_m10 64 rfl) rfl
theorem q2330 : (Jvm.Cond.selects "HungryHedgeModel" ({ cls := "HungryHedgeModel", name := "act", desc := "(III)I" } : Jvm.MethodName) ({ cls := "HungryHedgeModel", name := "act", desc := "(III)I" } : Jvm.MethodName)) ∈ lw_all := lw_g (lw_at lw_m10 65 rfl) rfl
theorem q2331 : (Jvm.Cond.code ({ cls := "HungryHedgeModel", name := "act", desc := "(III)I" } : Jvm.MethodName) prog_33_method_110_code (5 : Nat) (Option.some Jvm.ClassFile.FieldType.int)) ∈ lw_all := lw_g (lw_at lw_m10 66 rfl) rfl
theorem q2332 : (Jvm.Cond.methodLink "HungryHedgeModel" (490 : Nat) ({ cls := "HungryHedgeModel", name := "greatestOf", desc := "(I)I" } : Jvm.MethodName)) ∈ lw_all := lw_g (lw_at lw_m10 67 rfl) rfl
theorem q2333 : (Jvm.Cond.privateMethod ({ cls := "HungryHedgeModel", name := "greatestOf", desc := "(I)I" } : Jvm.MethodName)) ∈ lw_tbl := lw_at lw_m10 68 rfl
theorem q2334 : (Jvm.Cond.instanceMethod ({ cls := "HungryHedgeModel", name := "greatestOf", desc := "(I)I" } : Jvm.MethodName)) ∈ lw_all := lw_g (lw_at lw_m10 69 rfl) rfl
theorem q2335 : (Jvm.Cond.code ({ cls := "HungryHedgeModel", name := "greatestOf", desc := "(I)I" } : Jvm.MethodName) prog_33_method_109_code (4 : Nat) (Option.some Jvm.ClassFile.FieldType.int)) ∈ lw_all := lw_g (lw_at lw_m10 70 rfl) rfl
theorem q2336 : (Jvm.Cond.methodLink "HungryHedgeModel" (468 : Nat) ({ cls := "HungryHedgeModel", name := "eatsIt", desc := "(I)I" } : Jvm.MethodName)) ∈ lw_all := lw_g (lw_at lw_m10 71 rfl) rfl
theorem q2337 : (Jvm.Cond.privateMethod ({ cls := "HungryHedgeModel", name := "eatsIt", desc := "(I)I" } : Jvm.MethodName)) ∈ lw_tbl := lw_at lw_m10 72 rfl
theorem q2338 : (Jvm.Cond.instanceMethod ({ cls := "HungryHedgeModel", name := "eatsIt", desc := "(I)I" } : Jvm.MethodName)) ∈ lw_all := lw_g (lw_at lw_m10 73 rfl) rfl
theorem q2339 : (Jvm.Cond.code ({ cls := "HungryHedgeModel", name := "eatsIt", desc := "(I)I" } : Jvm.MethodName) prog_33_method_103_code (4 : Nat) (Option.some Jvm.ClassFile.FieldType.int)) ∈ lw_all := lw_g (lw_at lw_m10 74 rfl) rfl
theorem q2340 : (Jvm.Cond.methodLink "HungryHedgeModel" (462 : Nat) ({ cls := "HungryHedgeModel", name := "ran", desc := "(I)V" } : Jvm.MethodName)) ∈ lw_all := lw_g (lw_at lw_m10 75 rfl) rfl
theorem q2341 : (Jvm.Cond.privateMethod ({ cls := "HungryHedgeModel", name := "ran", desc := "(I)V" } : Jvm.MethodName)) ∈ lw_tbl := lw_at lw_m10 76 rfl
theorem q2342 : (Jvm.Cond.instanceMethod ({ cls := "HungryHedgeModel", name := "ran", desc := "(I)V" } : Jvm.MethodName)) ∈ lw_all := lw_g (lw_at lw_m10 77 rfl) rfl
theorem q2343 : (Jvm.Cond.code ({ cls := "HungryHedgeModel", name := "ran", desc := "(I)V" } : Jvm.MethodName) prog_33_method_102_code (2 : Nat) (Option.none : Option Jvm.ClassFile.FieldType)) ∈ lw_all := lw_g (lw_at lw_m10 78 rfl) rfl
theorem q2344 : (Jvm.Cond.methodLink "HungryHedgeModel" (477 : Nat) ({ cls := "HungryHedgeModel", name := "staysIt", desc := "(I)I" } : Jvm.MethodName)) ∈ lw_all := lw_g (lw_at lw_m10 79 rfl) rfl
theorem q2345 : (Jvm.Cond.privateMethod ({ cls := "HungryHedgeModel", name := "staysIt", desc := "(I)I" } : Jvm.MethodName)) ∈ lw_tbl := lw_at lw_m10 80 rfl
theorem q2346 : (Jvm.Cond.instanceMethod ({ cls := "HungryHedgeModel", name := "staysIt", desc := "(I)I" } : Jvm.MethodName)) ∈ lw_all := lw_g (lw_at lw_m10 81 rfl) rfl
theorem q2347 : (Jvm.Cond.code ({ cls := "HungryHedgeModel", name := "staysIt", desc := "(I)I" } : Jvm.MethodName) prog_33_method_105_code (2 : Nat) (Option.some Jvm.ClassFile.FieldType.int)) ∈ lw_all := lw_g (lw_at lw_m10 82 rfl) rfl
theorem q2348 : (Jvm.Cond.methodLink "HungryHedgeModel" (471 : Nat) ({ cls := "HungryHedgeModel", name := "patchStays", desc := "(I)I" } : Jvm.MethodName)) ∈ lw_all := lw_g (lw_at lw_m10 83 rfl) rfl
theorem q2349 : (Jvm.Cond.privateMethod ({ cls := "HungryHedgeModel", name := "patchStays", desc := "(I)I" } : Jvm.MethodName)) ∈ lw_tbl := lw_at lw_m10 84 rfl
theorem q2350 : (Jvm.Cond.instanceMethod ({ cls := "HungryHedgeModel", name := "patchStays", desc := "(I)I" } : Jvm.MethodName)) ∈ lw_all := lw_g (lw_at lw_m10 85 rfl) rfl
theorem q2351 : (Jvm.Cond.code ({ cls := "HungryHedgeModel", name := "patchStays", desc := "(I)I" } : Jvm.MethodName) prog_33_method_104_code (2 : Nat) (Option.some Jvm.ClassFile.FieldType.int)) ∈ lw_all := lw_g (lw_at lw_m10 86 rfl) rfl
theorem q2352 : (Jvm.Cond.methodLink "HungryHedgeModel" (484 : Nat) ({ cls := "HungryHedgeModel", name := "fliesIt", desc := "(I)I" } : Jvm.MethodName)) ∈ lw_all := lw_g (lw_at lw_m10 87 rfl) rfl
theorem q2353 : (Jvm.Cond.privateMethod ({ cls := "HungryHedgeModel", name := "fliesIt", desc := "(I)I" } : Jvm.MethodName)) ∈ lw_tbl := lw_at lw_m10 88 rfl
theorem q2354 : (Jvm.Cond.instanceMethod ({ cls := "HungryHedgeModel", name := "fliesIt", desc := "(I)I" } : Jvm.MethodName)) ∈ lw_all := lw_g (lw_at lw_m10 89 rfl) rfl
theorem q2355 : (Jvm.Cond.code ({ cls := "HungryHedgeModel", name := "fliesIt", desc := "(I)I" } : Jvm.MethodName) prog_33_method_106_code (3 : Nat) (Option.some Jvm.ClassFile.FieldType.int)) ∈ lw_all := lw_g (lw_at lw_m10 90 rfl) rfl
theorem q2356 : (Jvm.Cond.methodLink "HungryHedgeModel" (493 : Nat) ({ cls := "HungryHedgeModel", name := "tellsIt", desc := "(I)I" } : Jvm.MethodName)) ∈ lw_all := lw_g (lw_at lw_m10 91 rfl) rfl
theorem q2357 : (Jvm.Cond.privateMethod ({ cls := "HungryHedgeModel", name := "tellsIt", desc := "(I)I" } : Jvm.MethodName)) ∈ lw_tbl := lw_at lw_m10 92 rfl
theorem q2358 : (Jvm.Cond.instanceMethod ({ cls := "HungryHedgeModel", name := "tellsIt", desc := "(I)I" } : Jvm.MethodName)) ∈ lw_all := lw_g (lw_at lw_m10 93 rfl) rfl
theorem q2359 : (Jvm.Cond.code ({ cls := "HungryHedgeModel", name := "tellsIt", desc := "(I)I" } : Jvm.MethodName) prog_33_method_108_code (3 : Nat) (Option.some Jvm.ClassFile.FieldType.int)) ∈ lw_all := lw_g (lw_at lw_m10 94 rfl) rfl
theorem q2360 : (Jvm.Cond.methodLink "HungryHedgeModel" (487 : Nat) ({ cls := "HungryHedgeModel", name := "patchTells", desc := "(I)I" } : Jvm.MethodName)) ∈ lw_all := lw_g (lw_at lw_m10 95 rfl) rfl
theorem q2361 : (Jvm.Cond.privateMethod ({ cls := "HungryHedgeModel", name := "patchTells", desc := "(I)I" } : Jvm.MethodName)) ∈ lw_tbl := lw_at lw_m10 96 rfl
theorem q2362 : (Jvm.Cond.instanceMethod ({ cls := "HungryHedgeModel", name := "patchTells", desc := "(I)I" } : Jvm.MethodName)) ∈ lw_all := lw_g (lw_at lw_m10 97 rfl) rfl
theorem q2363 : (Jvm.Cond.code ({ cls := "HungryHedgeModel", name := "patchTells", desc := "(I)I" } : Jvm.MethodName) prog_33_method_107_code (2 : Nat) (Option.some Jvm.ClassFile.FieldType.int)) ∈ lw_all := lw_g (lw_at lw_m10 98 rfl) rfl
theorem q2365 : (Jvm.Cond.instanceMethod ({ cls := "HungryHedgeModel", name := "trace", desc := "(I)I" } : Jvm.MethodName)) ∈ lw_all := lw_g (lw_at lw_m10 100 rfl) rfl
theorem q2366 : (Jvm.Cond.selects "HungryHedgeModel" ({ cls := "HungryHedgeModel", name := "trace", desc := "(I)I" } : Jvm.MethodName) ({ cls := "HungryHedgeModel", name := "trace", desc := "(I)I" } : Jvm.MethodName)) ∈ lw_all := lw_g (lw_at lw_m10 101 rfl) rfl
theorem q2367 : (Jvm.Cond.code ({ cls := "HungryHedgeModel", name := "trace", desc := "(I)I" } : Jvm.MethodName) prog_33_method_111_code (2 : Nat) (Option.some Jvm.ClassFile.FieldType.int)) ∈ lw_all := lw_g (lw_at lw_m10 102 rfl) rfl
theorem q2369 : (Jvm.Cond.instanceMethod ({ cls := "HungryHedgeModel", name := "many", desc := "(I)I" } : Jvm.MethodName)) ∈ lw_all := lw_g (lw_at lw_m10 104 rfl) rfl
theorem q2370 : (Jvm.Cond.selects "HungryHedgeModel" ({ cls := "HungryHedgeModel", name := "many", desc := "(I)I" } : Jvm.MethodName) ({ cls := "HungryHedgeModel", name := "many", desc := "(I)I" } : Jvm.MethodName)) ∈ lw_all := lw_g (lw_at lw_m10 105 rfl) rfl
theorem q2371 : (Jvm.Cond.code ({ cls := "HungryHedgeModel", name := "many", desc := "(I)I" } : Jvm.MethodName) prog_33_method_112_code (2 : Nat) (Option.some Jvm.ClassFile.FieldType.int)) ∈ lw_all := lw_g (lw_at lw_m10 106 rfl) rfl
theorem q2373 : (Jvm.Cond.instanceMethod ({ cls := "HungryHedgeModel", name := "keep", desc := "()I" } : Jvm.MethodName)) ∈ lw_all := lw_g (lw_at lw_m10 108 rfl) rfl
theorem q2374 : (Jvm.Cond.selects "HungryHedgeModel" ({ cls := "HungryHedgeModel", name := "keep", desc := "()I" } : Jvm.MethodName) ({ cls := "HungryHedgeModel", name := "keep", desc := "()I" } : Jvm.MethodName)) ∈ lw_all := lw_g (lw_at lw_m10 109 rfl) rfl
theorem q2375 : (Jvm.Cond.code ({ cls := "HungryHedgeModel", name := "keep", desc := "()I" } : Jvm.MethodName) prog_33_method_115_code (1 : Nat) (Option.some Jvm.ClassFile.FieldType.int)) ∈ lw_all := lw_g (lw_at lw_m10 110 rfl) rfl
theorem q2376 : (Jvm.Cond.methodLink "HungryHedgeModel" (503 : Nat) ({ cls := "HungryHedgeModel", name := "moveAll", desc := "(Z)V" } : Jvm.MethodName)) ∈ lw_all := lw_g (lw_at lw_m10 111 rfl) rfl
theorem q2377 : (Jvm.Cond.privateMethod ({ cls := "HungryHedgeModel", name := "moveAll", desc := "(Z)V" } : Jvm.MethodName)) ∈ lw_tbl := lw_at lw_m10 112 rfl
theorem q2378 : (Jvm.Cond.instanceMethod ({ cls := "HungryHedgeModel", name := "moveAll", desc := "(Z)V" } : Jvm.MethodName)) ∈ lw_all := lw_g (lw_at lw_m10 113 rfl) rfl
theorem q2379 : (Jvm.Cond.code ({ cls := "HungryHedgeModel", name := "moveAll", desc := "(Z)V" } : Jvm.MethodName) prog_33_method_114_code (2 : Nat) (Option.none : Option Jvm.ClassFile.FieldType)) ∈ lw_all := lw_g (lw_at lw_m10 114 rfl) rfl
theorem q2380 : (Jvm.Cond.methodLink "HungryHedgeModel" (499 : Nat) ({ cls := "HungryHedgeModel", name := "move", desc := "([IIZ)V" } : Jvm.MethodName)) ∈ lw_all := lw_g (lw_at lw_m10 115 rfl) rfl
theorem q2381 : (Jvm.Cond.privateMethod ({ cls := "HungryHedgeModel", name := "move", desc := "([IIZ)V" } : Jvm.MethodName)) ∈ lw_tbl := lw_at lw_m10 116 rfl
theorem q2382 : (Jvm.Cond.instanceMethod ({ cls := "HungryHedgeModel", name := "move", desc := "([IIZ)V" } : Jvm.MethodName)) ∈ lw_all := lw_g (lw_at lw_m10 117 rfl) rfl
theorem q2383 : (Jvm.Cond.code ({ cls := "HungryHedgeModel", name := "move", desc := "([IIZ)V" } : Jvm.MethodName) prog_33_method_113_code (5 : Nat) (Option.none : Option Jvm.ClassFile.FieldType)) ∈ lw_all := lw_g (lw_at lw_m10 118 rfl) rfl
theorem q2385 : (Jvm.Cond.instanceMethod ({ cls := "HungryHedgeModel", name := "again", desc := "()I" } : Jvm.MethodName)) ∈ lw_all := lw_g (lw_at lw_m10 120 rfl) rfl
theorem q2386 : (Jvm.Cond.selects "HungryHedgeModel" ({ cls := "HungryHedgeModel", name := "again", desc := "()I" } : Jvm.MethodName) ({ cls := "HungryHedgeModel", name := "again", desc := "()I" } : Jvm.MethodName)) ∈ lw_all := lw_g (lw_at lw_m10 121 rfl) rfl
theorem q2387 : (Jvm.Cond.code ({ cls := "HungryHedgeModel", name := "again", desc := "()I" } : Jvm.MethodName) prog_33_method_116_code (1 : Nat) (Option.some Jvm.ClassFile.FieldType.int)) ∈ lw_all := lw_g (lw_at lw_m10 122 rfl) rfl
theorem in_X14 : ∀ w ∈ wsX140, w ∈ lw_all := lw_in wsX140 [1770, 1772, 1774, 1776, 1778, 1780, 1782, 1784, 1786, 1788, 1790, 1792, 1794, 1796, 1798, 1800, 1802, 1804, 1806, 1808, 1810, 1812, 1814, 1816, 1818, 1820, 1822, 1824, 1826, 1828, 1830, 1832, 1834, 1836, 1838, 1840, 1842, 1844, 1846, 1848, 1850, 1852, 1854, 1856, 1858, 1860, 1862, 1864, 1866, 1868, 1870, 1872, 1874, 1876, 1878, 1880, 1882, 1884, 1886, 1888, 1890, 1892, 1894, 1896, 1898, 1900, 1902, 1904, 1906, 1908, 1910, 1912, 1914, 1916] (by decide +kernel) (by decide +kernel)
