/-! HungryHedge$Kept -/
set_option maxRecDepth 100000
def RX1 : String := "HungryHedge$Kept"
def TX1 : u_T := fun k => match k with
  | 0 => ("HungryHedge$Kept", "patches", "I", false)
  | 1 => ("HungryHedge$Kept", "risks", "I", false)
  | 2 => ("HungryHedge$Kept", "clauses", "I", false)
  | 3 => ("HungryHedge$Kept", "dusk", "I", false)
  | 4 => ("HungryHedge$Kept", "journey", "I", false)
  | 5 => ("HungryHedge$Kept", "strong", "I", false)
  | 6 => ("HungryHedge$Kept", "weak", "I", false)
  | 7 => ("HungryHedge$Kept", "force", "I", false)
  | 8 => ("HungryHedge$Kept", "kind", "[I", true)
  | 9 => ("HungryHedge$Kept", "top", "[I", true)
  | 10 => ("HungryHedge$Kept", "fill", "[I", true)
  | 11 => ("HungryHedge$Kept", "rich", "[I", true)
  | 12 => ("HungryHedge$Kept", "yields", "[I", true)
  | 13 => ("HungryHedge$Kept", "miles", "[I", true)
  | 14 => ("HungryHedge$Kept", "risk", "[LHungryHedge$Risk;", true)
  | 15 => ("HungryHedge$Kept", "clause", "[LHungryHedge$Clause;", true)
  | _ => ("HungryHedge$Kept", "now", "LHungryHedge$Trip;", true)
def tyX1 : Nat → FieldType := fun k => match k with
  | 0 => .int
  | 1 => .int
  | 2 => .int
  | 3 => .int
  | 4 => .int
  | 5 => .int
  | 6 => .int
  | 7 => .int
  | 8 => .array .int
  | 9 => .array .int
  | 10 => .array .int
  | 11 => .array .int
  | 12 => .array .int
  | 13 => .array .int
  | 14 => .array (.object "HungryHedge$Risk")
  | 15 => .array (.object "HungryHedge$Clause")
  | _ => .object "HungryHedge$Trip"
abbrev wsX10 : List Cond := u_ws RX1 TX1 17
set_option maxRecDepth 100000 in
theorem nmX1 : ∀ a, a < 17 → ∀ b, b < 17 → a ≠ b → (TX1 a).2.1 ≠ (TX1 b).2.1 := by decide +kernel
set_option maxRecDepth 100000 in
theorem tyX1_ok : ∀ k, k < 17 → parseFieldDescriptor (TX1 k).2.2.1 = some (tyX1 k) := by decide +kernel
abbrev cX1_init : ByteArray := prog_16_method_1_code
def yX1_init : MethodName := ⟨RX1, "<init>", "()V"⟩
def dkwX1_init_3 : List UInt8 := [42, 16, 6, 189, 0, 46, 181, 0, 48, 42, 187, 0, 52, 89, 183, 0, 54, 181, 0, 55, 177]
abbrev dktX1_init_3 : List UInt8 := dkwX1_init_3 ++ []
def dkwX1_init_2 : List UInt8 := [42, 16, 28, 188, 10, 181, 0, 34, 42, 16, 16, 188, 10, 181, 0, 37, 42, 7, 189, 0, 40, 181, 0, 42]
abbrev dktX1_init_2 : List UInt8 := dkwX1_init_2 ++ dktX1_init_3
def dkwX1_init_1 : List UInt8 := [181, 0, 21, 42, 7, 188, 10, 181, 0, 25, 42, 7, 188, 10, 181, 0, 28, 42, 7, 188, 10, 181, 0, 31]
abbrev dktX1_init_1 : List UInt8 := dkwX1_init_1 ++ dktX1_init_2
def dkwX1_init_0 : List UInt8 := [42, 183, 0, 3, 42, 16, 10, 181, 0, 9, 42, 8, 181, 0, 15, 42, 5, 181, 0, 18, 42, 7, 188, 10]
abbrev dktX1_init_0 : List UInt8 := dkwX1_init_0 ++ dktX1_init_1
theorem dksX1_init_0 : cX1_init.data.toList.drop 0 = dktX1_init_0 := by decide +kernel
theorem dksX1_init_1 : cX1_init.data.toList.drop 24 = dktX1_init_1 := dk_seg dksX1_init_0 24 rfl rfl
theorem dksX1_init_2 : cX1_init.data.toList.drop 48 = dktX1_init_2 := dk_seg dksX1_init_1 24 rfl rfl
theorem dksX1_init_3 : cX1_init.data.toList.drop 72 = dktX1_init_3 := dk_seg dksX1_init_2 24 rfl rfl
theorem dX1_init_0 : decode cX1_init 0 = .ok (.aload_n 0, 1) := dk_42 (dk_at dksX1_init_0 0 rfl rfl)
theorem dX1_init_1 : decode cX1_init 1 = .ok (.invokespecial 3, 3) := dk_183 0 3 (dk_at dksX1_init_0 1 rfl rfl)
theorem dX1_init_4 : decode cX1_init 4 = .ok (.aload_n 0, 1) := dk_42 (dk_at dksX1_init_0 4 rfl rfl)
theorem dX1_init_5 : decode cX1_init 5 = .ok (.bipush 10, 2) := dk_16 10 (dk_at dksX1_init_0 5 rfl rfl)
theorem dX1_init_7 : decode cX1_init 7 = .ok (.putfield 9, 3) := dk_181 0 9 (dk_at dksX1_init_0 7 rfl rfl)
theorem dX1_init_10 : decode cX1_init 10 = .ok (.aload_n 0, 1) := dk_42 (dk_at dksX1_init_0 10 rfl rfl)
theorem dX1_init_11 : decode cX1_init 11 = .ok (.iconst 5, 1) := dk_8 (dk_at dksX1_init_0 11 rfl rfl)
theorem dX1_init_12 : decode cX1_init 12 = .ok (.putfield 15, 3) := dk_181 0 15 (dk_at dksX1_init_0 12 rfl rfl)
theorem dX1_init_15 : decode cX1_init 15 = .ok (.aload_n 0, 1) := dk_42 (dk_at dksX1_init_0 15 rfl rfl)
theorem dX1_init_16 : decode cX1_init 16 = .ok (.iconst 2, 1) := dk_5 (dk_at dksX1_init_0 16 rfl rfl)
theorem dX1_init_17 : decode cX1_init 17 = .ok (.putfield 18, 3) := dk_181 0 18 (dk_at dksX1_init_0 17 rfl rfl)
theorem dX1_init_20 : decode cX1_init 20 = .ok (.aload_n 0, 1) := dk_42 (dk_at dksX1_init_0 20 rfl rfl)
theorem dX1_init_21 : decode cX1_init 21 = .ok (.iconst 4, 1) := dk_7 (dk_at dksX1_init_0 21 rfl rfl)
theorem dX1_init_22 : decode cX1_init 22 = .ok (.newarray .int, 2) := dk_188_10 (dk_at dksX1_init_0 22 rfl rfl)
theorem dX1_init_24 : decode cX1_init 24 = .ok (.putfield 21, 3) := dk_181 0 21 (dk_at dksX1_init_1 0 rfl rfl)
theorem dX1_init_27 : decode cX1_init 27 = .ok (.aload_n 0, 1) := dk_42 (dk_at dksX1_init_1 3 rfl rfl)
theorem dX1_init_28 : decode cX1_init 28 = .ok (.iconst 4, 1) := dk_7 (dk_at dksX1_init_1 4 rfl rfl)
theorem dX1_init_29 : decode cX1_init 29 = .ok (.newarray .int, 2) := dk_188_10 (dk_at dksX1_init_1 5 rfl rfl)
theorem dX1_init_31 : decode cX1_init 31 = .ok (.putfield 25, 3) := dk_181 0 25 (dk_at dksX1_init_1 7 rfl rfl)
theorem dX1_init_34 : decode cX1_init 34 = .ok (.aload_n 0, 1) := dk_42 (dk_at dksX1_init_1 10 rfl rfl)
theorem dX1_init_35 : decode cX1_init 35 = .ok (.iconst 4, 1) := dk_7 (dk_at dksX1_init_1 11 rfl rfl)
theorem dX1_init_36 : decode cX1_init 36 = .ok (.newarray .int, 2) := dk_188_10 (dk_at dksX1_init_1 12 rfl rfl)
theorem dX1_init_38 : decode cX1_init 38 = .ok (.putfield 28, 3) := dk_181 0 28 (dk_at dksX1_init_1 14 rfl rfl)
theorem dX1_init_41 : decode cX1_init 41 = .ok (.aload_n 0, 1) := dk_42 (dk_at dksX1_init_1 17 rfl rfl)
theorem dX1_init_42 : decode cX1_init 42 = .ok (.iconst 4, 1) := dk_7 (dk_at dksX1_init_1 18 rfl rfl)
theorem dX1_init_43 : decode cX1_init 43 = .ok (.newarray .int, 2) := dk_188_10 (dk_at dksX1_init_1 19 rfl rfl)
theorem dX1_init_45 : decode cX1_init 45 = .ok (.putfield 31, 3) := dk_181 0 31 (dk_at dksX1_init_1 21 rfl rfl)
theorem dX1_init_48 : decode cX1_init 48 = .ok (.aload_n 0, 1) := dk_42 (dk_at dksX1_init_2 0 rfl rfl)
theorem dX1_init_49 : decode cX1_init 49 = .ok (.bipush 28, 2) := dk_16 28 (dk_at dksX1_init_2 1 rfl rfl)
theorem dX1_init_51 : decode cX1_init 51 = .ok (.newarray .int, 2) := dk_188_10 (dk_at dksX1_init_2 3 rfl rfl)
theorem dX1_init_53 : decode cX1_init 53 = .ok (.putfield 34, 3) := dk_181 0 34 (dk_at dksX1_init_2 5 rfl rfl)
theorem dX1_init_56 : decode cX1_init 56 = .ok (.aload_n 0, 1) := dk_42 (dk_at dksX1_init_2 8 rfl rfl)
theorem dX1_init_57 : decode cX1_init 57 = .ok (.bipush 16, 2) := dk_16 16 (dk_at dksX1_init_2 9 rfl rfl)
theorem dX1_init_59 : decode cX1_init 59 = .ok (.newarray .int, 2) := dk_188_10 (dk_at dksX1_init_2 11 rfl rfl)
theorem dX1_init_61 : decode cX1_init 61 = .ok (.putfield 37, 3) := dk_181 0 37 (dk_at dksX1_init_2 13 rfl rfl)
theorem dX1_init_64 : decode cX1_init 64 = .ok (.aload_n 0, 1) := dk_42 (dk_at dksX1_init_2 16 rfl rfl)
theorem dX1_init_65 : decode cX1_init 65 = .ok (.iconst 4, 1) := dk_7 (dk_at dksX1_init_2 17 rfl rfl)
theorem dX1_init_66 : decode cX1_init 66 = .ok (.anewarray 40, 3) := dk_189 0 40 (dk_at dksX1_init_2 18 rfl rfl)
theorem dX1_init_69 : decode cX1_init 69 = .ok (.putfield 42, 3) := dk_181 0 42 (dk_at dksX1_init_2 21 rfl rfl)
theorem dX1_init_72 : decode cX1_init 72 = .ok (.aload_n 0, 1) := dk_42 (dk_at dksX1_init_3 0 rfl rfl)
theorem dX1_init_73 : decode cX1_init 73 = .ok (.bipush 6, 2) := dk_16 6 (dk_at dksX1_init_3 1 rfl rfl)
theorem dX1_init_75 : decode cX1_init 75 = .ok (.anewarray 46, 3) := dk_189 0 46 (dk_at dksX1_init_3 3 rfl rfl)
theorem dX1_init_78 : decode cX1_init 78 = .ok (.putfield 48, 3) := dk_181 0 48 (dk_at dksX1_init_3 6 rfl rfl)
theorem dX1_init_81 : decode cX1_init 81 = .ok (.aload_n 0, 1) := dk_42 (dk_at dksX1_init_3 9 rfl rfl)
theorem dX1_init_82 : decode cX1_init 82 = .ok (.new 52, 3) := dk_187 0 52 (dk_at dksX1_init_3 10 rfl rfl)
theorem dX1_init_85 : decode cX1_init 85 = .ok (.dup, 1) := dk_89 (dk_at dksX1_init_3 13 rfl rfl)
theorem dX1_init_86 : decode cX1_init 86 = .ok (.invokespecial 54, 3) := dk_183 0 54 (dk_at dksX1_init_3 14 rfl rfl)
theorem dX1_init_89 : decode cX1_init 89 = .ok (.putfield 55, 3) := dk_181 0 55 (dk_at dksX1_init_3 17 rfl rfl)
theorem dX1_init_92 : decode cX1_init 92 = .ok (.return_, 1) := dk_177 (dk_at dksX1_init_3 20 rfl rfl)
abbrev cX1_brings : ByteArray := prog_16_method_4_code
def yX1_brings : MethodName := ⟨RX1, "brings", "(II)I"⟩
def dkwX1_brings_0 : List UInt8 := [42, 180, 0, 34, 16, 7, 27, 104, 28, 96, 46, 172]
abbrev dktX1_brings_0 : List UInt8 := dkwX1_brings_0 ++ []
theorem dksX1_brings_0 : cX1_brings.data.toList.drop 0 = dktX1_brings_0 := by decide +kernel
theorem dX1_brings_0 : decode cX1_brings 0 = .ok (.aload_n 0, 1) := dk_42 (dk_at dksX1_brings_0 0 rfl rfl)
theorem dX1_brings_1 : decode cX1_brings 1 = .ok (.getfield 34, 3) := dk_180 0 34 (dk_at dksX1_brings_0 1 rfl rfl)
theorem dX1_brings_4 : decode cX1_brings 4 = .ok (.bipush 7, 2) := dk_16 7 (dk_at dksX1_brings_0 4 rfl rfl)
theorem dX1_brings_6 : decode cX1_brings 6 = .ok (.iload_n 1, 1) := dk_27 (dk_at dksX1_brings_0 6 rfl rfl)
theorem dX1_brings_7 : decode cX1_brings 7 = .ok (.imul, 1) := dk_104 (dk_at dksX1_brings_0 7 rfl rfl)
theorem dX1_brings_8 : decode cX1_brings 8 = .ok (.iload_n 2, 1) := dk_28 (dk_at dksX1_brings_0 8 rfl rfl)
theorem dX1_brings_9 : decode cX1_brings 9 = .ok (.iadd, 1) := dk_96 (dk_at dksX1_brings_0 9 rfl rfl)
theorem dX1_brings_10 : decode cX1_brings 10 = .ok (.iaload, 1) := dk_46 (dk_at dksX1_brings_0 10 rfl rfl)
theorem dX1_brings_11 : decode cX1_brings 11 = .ok (.ireturn, 1) := dk_172 (dk_at dksX1_brings_0 11 rfl rfl)
abbrev cX1_takes : ByteArray := prog_16_method_5_code
def yX1_takes : MethodName := ⟨RX1, "takes", "(LHungryHedge$Trip;I)I"⟩
def dkwX1_takes_2 : List UInt8 := [43, 180, 0, 91, 29, 96, 42, 180, 0, 9, 163, 0, 7, 29, 167, 0, 4, 3, 172]
abbrev dktX1_takes_2 : List UInt8 := dkwX1_takes_2 ++ []
def dkwX1_takes_1 : List UInt8 := [172, 28, 2, 160, 0, 7, 4, 167, 0, 16, 42, 180, 0, 37, 7, 43, 180, 0, 88, 104, 28, 96, 46, 62]
abbrev dktX1_takes_1 : List UInt8 := dkwX1_takes_1 ++ dktX1_takes_2
def dkwX1_takes_0 : List UInt8 := [42, 180, 0, 65, 153, 0, 19, 28, 42, 180, 0, 65, 162, 0, 11, 28, 43, 180, 0, 88, 160, 0, 5, 3]
abbrev dktX1_takes_0 : List UInt8 := dkwX1_takes_0 ++ dktX1_takes_1
theorem dksX1_takes_0 : cX1_takes.data.toList.drop 0 = dktX1_takes_0 := by decide +kernel
theorem dksX1_takes_1 : cX1_takes.data.toList.drop 24 = dktX1_takes_1 := dk_seg dksX1_takes_0 24 rfl rfl
theorem dksX1_takes_2 : cX1_takes.data.toList.drop 48 = dktX1_takes_2 := dk_seg dksX1_takes_1 24 rfl rfl
theorem dX1_takes_0 : decode cX1_takes 0 = .ok (.aload_n 0, 1) := dk_42 (dk_at dksX1_takes_0 0 rfl rfl)
theorem dX1_takes_1 : decode cX1_takes 1 = .ok (.getfield 65, 3) := dk_180 0 65 (dk_at dksX1_takes_0 1 rfl rfl)
theorem dX1_takes_4 : decode cX1_takes 4 = .ok (.ifCond .eq 19, 3) := dk_153 0 19 (dk_at dksX1_takes_0 4 rfl rfl)
theorem dX1_takes_7 : decode cX1_takes 7 = .ok (.iload_n 2, 1) := dk_28 (dk_at dksX1_takes_0 7 rfl rfl)
theorem dX1_takes_8 : decode cX1_takes 8 = .ok (.aload_n 0, 1) := dk_42 (dk_at dksX1_takes_0 8 rfl rfl)
theorem dX1_takes_9 : decode cX1_takes 9 = .ok (.getfield 65, 3) := dk_180 0 65 (dk_at dksX1_takes_0 9 rfl rfl)
theorem dX1_takes_12 : decode cX1_takes 12 = .ok (.if_icmp .ge 11, 3) := dk_162 0 11 (dk_at dksX1_takes_0 12 rfl rfl)
theorem dX1_takes_15 : decode cX1_takes 15 = .ok (.iload_n 2, 1) := dk_28 (dk_at dksX1_takes_0 15 rfl rfl)
theorem dX1_takes_16 : decode cX1_takes 16 = .ok (.aload_n 1, 1) := dk_43 (dk_at dksX1_takes_0 16 rfl rfl)
theorem dX1_takes_17 : decode cX1_takes 17 = .ok (.getfield 88, 3) := dk_180 0 88 (dk_at dksX1_takes_0 17 rfl rfl)
theorem dX1_takes_20 : decode cX1_takes 20 = .ok (.if_icmp .ne 5, 3) := dk_160 0 5 (dk_at dksX1_takes_0 20 rfl rfl)
theorem dX1_takes_23 : decode cX1_takes 23 = .ok (.iconst 0, 1) := dk_3 (dk_at dksX1_takes_0 23 rfl rfl)
theorem dX1_takes_24 : decode cX1_takes 24 = .ok (.ireturn, 1) := dk_172 (dk_at dksX1_takes_1 0 rfl rfl)
theorem dX1_takes_25 : decode cX1_takes 25 = .ok (.iload_n 2, 1) := dk_28 (dk_at dksX1_takes_1 1 rfl rfl)
theorem dX1_takes_26 : decode cX1_takes 26 = .ok (.iconst (-1), 1) := dk_2 (dk_at dksX1_takes_1 2 rfl rfl)
theorem dX1_takes_27 : decode cX1_takes 27 = .ok (.if_icmp .ne 7, 3) := dk_160 0 7 (dk_at dksX1_takes_1 3 rfl rfl)
theorem dX1_takes_30 : decode cX1_takes 30 = .ok (.iconst 1, 1) := dk_4 (dk_at dksX1_takes_1 6 rfl rfl)
theorem dX1_takes_31 : decode cX1_takes 31 = .ok (.goto 16, 3) := dk_167 0 16 (dk_at dksX1_takes_1 7 rfl rfl)
theorem dX1_takes_34 : decode cX1_takes 34 = .ok (.aload_n 0, 1) := dk_42 (dk_at dksX1_takes_1 10 rfl rfl)
theorem dX1_takes_35 : decode cX1_takes 35 = .ok (.getfield 37, 3) := dk_180 0 37 (dk_at dksX1_takes_1 11 rfl rfl)
theorem dX1_takes_38 : decode cX1_takes 38 = .ok (.iconst 4, 1) := dk_7 (dk_at dksX1_takes_1 14 rfl rfl)
theorem dX1_takes_39 : decode cX1_takes 39 = .ok (.aload_n 1, 1) := dk_43 (dk_at dksX1_takes_1 15 rfl rfl)
theorem dX1_takes_40 : decode cX1_takes 40 = .ok (.getfield 88, 3) := dk_180 0 88 (dk_at dksX1_takes_1 16 rfl rfl)
theorem dX1_takes_43 : decode cX1_takes 43 = .ok (.imul, 1) := dk_104 (dk_at dksX1_takes_1 19 rfl rfl)
theorem dX1_takes_44 : decode cX1_takes 44 = .ok (.iload_n 2, 1) := dk_28 (dk_at dksX1_takes_1 20 rfl rfl)
theorem dX1_takes_45 : decode cX1_takes 45 = .ok (.iadd, 1) := dk_96 (dk_at dksX1_takes_1 21 rfl rfl)
theorem dX1_takes_46 : decode cX1_takes 46 = .ok (.iaload, 1) := dk_46 (dk_at dksX1_takes_1 22 rfl rfl)
theorem dX1_takes_47 : decode cX1_takes 47 = .ok (.istore_n 3, 1) := dk_62 (dk_at dksX1_takes_1 23 rfl rfl)
theorem dX1_takes_48 : decode cX1_takes 48 = .ok (.aload_n 1, 1) := dk_43 (dk_at dksX1_takes_2 0 rfl rfl)
theorem dX1_takes_49 : decode cX1_takes 49 = .ok (.getfield 91, 3) := dk_180 0 91 (dk_at dksX1_takes_2 1 rfl rfl)
theorem dX1_takes_52 : decode cX1_takes 52 = .ok (.iload_n 3, 1) := dk_29 (dk_at dksX1_takes_2 4 rfl rfl)
theorem dX1_takes_53 : decode cX1_takes 53 = .ok (.iadd, 1) := dk_96 (dk_at dksX1_takes_2 5 rfl rfl)
theorem dX1_takes_54 : decode cX1_takes 54 = .ok (.aload_n 0, 1) := dk_42 (dk_at dksX1_takes_2 6 rfl rfl)
theorem dX1_takes_55 : decode cX1_takes 55 = .ok (.getfield 9, 3) := dk_180 0 9 (dk_at dksX1_takes_2 7 rfl rfl)
theorem dX1_takes_58 : decode cX1_takes 58 = .ok (.if_icmp .gt 7, 3) := dk_163 0 7 (dk_at dksX1_takes_2 10 rfl rfl)
theorem dX1_takes_61 : decode cX1_takes 61 = .ok (.iload_n 3, 1) := dk_29 (dk_at dksX1_takes_2 13 rfl rfl)
theorem dX1_takes_62 : decode cX1_takes 62 = .ok (.goto 4, 3) := dk_167 0 4 (dk_at dksX1_takes_2 14 rfl rfl)
theorem dX1_takes_65 : decode cX1_takes 65 = .ok (.iconst 0, 1) := dk_3 (dk_at dksX1_takes_2 17 rfl rfl)
theorem dX1_takes_66 : decode cX1_takes 66 = .ok (.ireturn, 1) := dk_172 (dk_at dksX1_takes_2 18 rfl rfl)
abbrev cX1_does : ByteArray := prog_16_method_7_code
def yX1_does : MethodName := ⟨RX1, "does", "(LHungryHedge$Trip;I)V"⟩
def dkwX1_does_4 : List UInt8 := [28, 181, 0, 88, 177]
abbrev dktX1_does_4 : List UInt8 := dkwX1_does_4 ++ []
def dkwX1_does_3 : List UInt8 := [42, 43, 182, 0, 116, 132, 4, 1, 167, 255, 242, 43, 28, 2, 160, 0, 10, 43, 180, 0, 88, 167, 0, 4]
abbrev dktX1_does_3 : List UInt8 := dkwX1_does_3 ++ dktX1_does_4
def dkwX1_does_2 : List UInt8 := [43, 180, 0, 94, 43, 180, 0, 88, 46, 4, 100, 184, 0, 113, 79, 3, 54, 4, 21, 4, 29, 162, 0, 14]
abbrev dktX1_does_2 : List UInt8 := dkwX1_does_2 ++ dktX1_does_3
def dkwX1_does_1 : List UInt8 := [180, 0, 94, 43, 180, 0, 88, 46, 182, 0, 110, 96, 181, 0, 107, 43, 180, 0, 94, 43, 180, 0, 88, 3]
abbrev dktX1_does_1 : List UInt8 := dkwX1_does_1 ++ dktX1_does_2
def dkwX1_does_0 : List UInt8 := [42, 43, 28, 182, 0, 103, 62, 28, 2, 160, 0, 53, 43, 89, 180, 0, 107, 42, 43, 180, 0, 88, 43]
abbrev dktX1_does_0 : List UInt8 := dkwX1_does_0 ++ dktX1_does_1
theorem dksX1_does_0 : cX1_does.data.toList.drop 0 = dktX1_does_0 := by decide +kernel
theorem dksX1_does_1 : cX1_does.data.toList.drop 23 = dktX1_does_1 := dk_seg dksX1_does_0 23 rfl rfl
theorem dksX1_does_2 : cX1_does.data.toList.drop 47 = dktX1_does_2 := dk_seg dksX1_does_1 24 rfl rfl
theorem dksX1_does_3 : cX1_does.data.toList.drop 71 = dktX1_does_3 := dk_seg dksX1_does_2 24 rfl rfl
theorem dksX1_does_4 : cX1_does.data.toList.drop 95 = dktX1_does_4 := dk_seg dksX1_does_3 24 rfl rfl
theorem dX1_does_0 : decode cX1_does 0 = .ok (.aload_n 0, 1) := dk_42 (dk_at dksX1_does_0 0 rfl rfl)
theorem dX1_does_1 : decode cX1_does 1 = .ok (.aload_n 1, 1) := dk_43 (dk_at dksX1_does_0 1 rfl rfl)
theorem dX1_does_2 : decode cX1_does 2 = .ok (.iload_n 2, 1) := dk_28 (dk_at dksX1_does_0 2 rfl rfl)
theorem dX1_does_3 : decode cX1_does 3 = .ok (.invokevirtual 103, 3) := dk_182 0 103 (dk_at dksX1_does_0 3 rfl rfl)
theorem dX1_does_6 : decode cX1_does 6 = .ok (.istore_n 3, 1) := dk_62 (dk_at dksX1_does_0 6 rfl rfl)
theorem dX1_does_7 : decode cX1_does 7 = .ok (.iload_n 2, 1) := dk_28 (dk_at dksX1_does_0 7 rfl rfl)
theorem dX1_does_8 : decode cX1_does 8 = .ok (.iconst (-1), 1) := dk_2 (dk_at dksX1_does_0 8 rfl rfl)
theorem dX1_does_9 : decode cX1_does 9 = .ok (.if_icmp .ne 53, 3) := dk_160 0 53 (dk_at dksX1_does_0 9 rfl rfl)
theorem dX1_does_12 : decode cX1_does 12 = .ok (.aload_n 1, 1) := dk_43 (dk_at dksX1_does_0 12 rfl rfl)
theorem dX1_does_13 : decode cX1_does 13 = .ok (.dup, 1) := dk_89 (dk_at dksX1_does_0 13 rfl rfl)
theorem dX1_does_14 : decode cX1_does 14 = .ok (.getfield 107, 3) := dk_180 0 107 (dk_at dksX1_does_0 14 rfl rfl)
theorem dX1_does_17 : decode cX1_does 17 = .ok (.aload_n 0, 1) := dk_42 (dk_at dksX1_does_0 17 rfl rfl)
theorem dX1_does_18 : decode cX1_does 18 = .ok (.aload_n 1, 1) := dk_43 (dk_at dksX1_does_0 18 rfl rfl)
theorem dX1_does_19 : decode cX1_does 19 = .ok (.getfield 88, 3) := dk_180 0 88 (dk_at dksX1_does_0 19 rfl rfl)
theorem dX1_does_22 : decode cX1_does 22 = .ok (.aload_n 1, 1) := dk_43 (dk_at dksX1_does_0 22 rfl rfl)
theorem dX1_does_23 : decode cX1_does 23 = .ok (.getfield 94, 3) := dk_180 0 94 (dk_at dksX1_does_1 0 rfl rfl)
theorem dX1_does_26 : decode cX1_does 26 = .ok (.aload_n 1, 1) := dk_43 (dk_at dksX1_does_1 3 rfl rfl)
theorem dX1_does_27 : decode cX1_does 27 = .ok (.getfield 88, 3) := dk_180 0 88 (dk_at dksX1_does_1 4 rfl rfl)
theorem dX1_does_30 : decode cX1_does 30 = .ok (.iaload, 1) := dk_46 (dk_at dksX1_does_1 7 rfl rfl)
theorem dX1_does_31 : decode cX1_does 31 = .ok (.invokevirtual 110, 3) := dk_182 0 110 (dk_at dksX1_does_1 8 rfl rfl)
theorem dX1_does_34 : decode cX1_does 34 = .ok (.iadd, 1) := dk_96 (dk_at dksX1_does_1 11 rfl rfl)
theorem dX1_does_35 : decode cX1_does 35 = .ok (.putfield 107, 3) := dk_181 0 107 (dk_at dksX1_does_1 12 rfl rfl)
theorem dX1_does_38 : decode cX1_does 38 = .ok (.aload_n 1, 1) := dk_43 (dk_at dksX1_does_1 15 rfl rfl)
theorem dX1_does_39 : decode cX1_does 39 = .ok (.getfield 94, 3) := dk_180 0 94 (dk_at dksX1_does_1 16 rfl rfl)
theorem dX1_does_42 : decode cX1_does 42 = .ok (.aload_n 1, 1) := dk_43 (dk_at dksX1_does_1 19 rfl rfl)
theorem dX1_does_43 : decode cX1_does 43 = .ok (.getfield 88, 3) := dk_180 0 88 (dk_at dksX1_does_1 20 rfl rfl)
theorem dX1_does_46 : decode cX1_does 46 = .ok (.iconst 0, 1) := dk_3 (dk_at dksX1_does_1 23 rfl rfl)
theorem dX1_does_47 : decode cX1_does 47 = .ok (.aload_n 1, 1) := dk_43 (dk_at dksX1_does_2 0 rfl rfl)
theorem dX1_does_48 : decode cX1_does 48 = .ok (.getfield 94, 3) := dk_180 0 94 (dk_at dksX1_does_2 1 rfl rfl)
theorem dX1_does_51 : decode cX1_does 51 = .ok (.aload_n 1, 1) := dk_43 (dk_at dksX1_does_2 4 rfl rfl)
theorem dX1_does_52 : decode cX1_does 52 = .ok (.getfield 88, 3) := dk_180 0 88 (dk_at dksX1_does_2 5 rfl rfl)
theorem dX1_does_55 : decode cX1_does 55 = .ok (.iaload, 1) := dk_46 (dk_at dksX1_does_2 8 rfl rfl)
theorem dX1_does_56 : decode cX1_does 56 = .ok (.iconst 1, 1) := dk_4 (dk_at dksX1_does_2 9 rfl rfl)
theorem dX1_does_57 : decode cX1_does 57 = .ok (.isub, 1) := dk_100 (dk_at dksX1_does_2 10 rfl rfl)
theorem dX1_does_58 : decode cX1_does 58 = .ok (.invokestatic 113, 3) := dk_184 0 113 (dk_at dksX1_does_2 11 rfl rfl)
theorem dX1_does_61 : decode cX1_does 61 = .ok (.iastore, 1) := dk_79 (dk_at dksX1_does_2 14 rfl rfl)
theorem dX1_does_62 : decode cX1_does 62 = .ok (.iconst 0, 1) := dk_3 (dk_at dksX1_does_2 15 rfl rfl)
theorem dX1_does_63 : decode cX1_does 63 = .ok (.istore 4, 2) := dk_54 4 (dk_at dksX1_does_2 16 rfl rfl)
theorem dX1_does_65 : decode cX1_does 65 = .ok (.iload 4, 2) := dk_21 4 (dk_at dksX1_does_2 18 rfl rfl)
theorem dX1_does_67 : decode cX1_does 67 = .ok (.iload_n 3, 1) := dk_29 (dk_at dksX1_does_2 20 rfl rfl)
theorem dX1_does_68 : decode cX1_does 68 = .ok (.if_icmp .ge 14, 3) := dk_162 0 14 (dk_at dksX1_does_2 21 rfl rfl)
theorem dX1_does_71 : decode cX1_does 71 = .ok (.aload_n 0, 1) := dk_42 (dk_at dksX1_does_3 0 rfl rfl)
theorem dX1_does_72 : decode cX1_does 72 = .ok (.aload_n 1, 1) := dk_43 (dk_at dksX1_does_3 1 rfl rfl)
theorem dX1_does_73 : decode cX1_does 73 = .ok (.invokevirtual 116, 3) := dk_182 0 116 (dk_at dksX1_does_3 2 rfl rfl)
theorem dX1_does_76 : decode cX1_does 76 = .ok (.iinc 4 1, 3) := dk_132 4 1 (dk_at dksX1_does_3 5 rfl rfl)
theorem dX1_does_79 : decode cX1_does 79 = .ok (.goto (-14), 3) := dk_167 255 242 (dk_at dksX1_does_3 8 rfl rfl)
theorem dX1_does_82 : decode cX1_does 82 = .ok (.aload_n 1, 1) := dk_43 (dk_at dksX1_does_3 11 rfl rfl)
theorem dX1_does_83 : decode cX1_does 83 = .ok (.iload_n 2, 1) := dk_28 (dk_at dksX1_does_3 12 rfl rfl)
theorem dX1_does_84 : decode cX1_does 84 = .ok (.iconst (-1), 1) := dk_2 (dk_at dksX1_does_3 13 rfl rfl)
theorem dX1_does_85 : decode cX1_does 85 = .ok (.if_icmp .ne 10, 3) := dk_160 0 10 (dk_at dksX1_does_3 14 rfl rfl)
theorem dX1_does_88 : decode cX1_does 88 = .ok (.aload_n 1, 1) := dk_43 (dk_at dksX1_does_3 17 rfl rfl)
theorem dX1_does_89 : decode cX1_does 89 = .ok (.getfield 88, 3) := dk_180 0 88 (dk_at dksX1_does_3 18 rfl rfl)
theorem dX1_does_92 : decode cX1_does 92 = .ok (.goto 4, 3) := dk_167 0 4 (dk_at dksX1_does_3 21 rfl rfl)
theorem dX1_does_95 : decode cX1_does 95 = .ok (.iload_n 2, 1) := dk_28 (dk_at dksX1_does_4 0 rfl rfl)
theorem dX1_does_96 : decode cX1_does 96 = .ok (.putfield 88, 3) := dk_181 0 88 (dk_at dksX1_does_4 1 rfl rfl)
theorem dX1_does_99 : decode cX1_does 99 = .ok (.return_, 1) := dk_177 (dk_at dksX1_does_4 4 rfl rfl)
abbrev cX1_passes : ByteArray := prog_16_method_6_code
def yX1_passes : MethodName := ⟨RX1, "passes", "(LHungryHedge$Trip;)V"⟩
def dkwX1_passes_3 : List UInt8 := [184, 0, 97, 167, 0, 9, 43, 180, 0, 94, 28, 46, 79, 132, 2, 1, 167, 255, 180, 177]
abbrev dktX1_passes_3 : List UInt8 := dkwX1_passes_3 ++ []
def dkwX1_passes_2 : List UInt8 := [62, 43, 180, 0, 94, 28, 29, 153, 0, 23, 42, 180, 0, 25, 28, 46, 43, 180, 0, 94, 28, 46, 4, 96]
abbrev dktX1_passes_2 : List UInt8 := dkwX1_passes_2 ++ dktX1_passes_3
def dkwX1_passes_1 : List UInt8 := [28, 46, 158, 0, 21, 43, 180, 0, 91, 42, 180, 0, 28, 28, 46, 112, 154, 0, 7, 4, 167, 0, 4, 3]
abbrev dktX1_passes_1 : List UInt8 := dkwX1_passes_1 ++ dktX1_passes_2
def dkwX1_passes_0 : List UInt8 := [43, 89, 180, 0, 91, 4, 96, 181, 0, 91, 3, 61, 28, 42, 180, 0, 65, 162, 0, 74, 42, 180, 0, 28]
abbrev dktX1_passes_0 : List UInt8 := dkwX1_passes_0 ++ dktX1_passes_1
theorem dksX1_passes_0 : cX1_passes.data.toList.drop 0 = dktX1_passes_0 := by decide +kernel
theorem dksX1_passes_1 : cX1_passes.data.toList.drop 24 = dktX1_passes_1 := dk_seg dksX1_passes_0 24 rfl rfl
theorem dksX1_passes_2 : cX1_passes.data.toList.drop 48 = dktX1_passes_2 := dk_seg dksX1_passes_1 24 rfl rfl
theorem dksX1_passes_3 : cX1_passes.data.toList.drop 72 = dktX1_passes_3 := dk_seg dksX1_passes_2 24 rfl rfl
theorem dX1_passes_0 : decode cX1_passes 0 = .ok (.aload_n 1, 1) := dk_43 (dk_at dksX1_passes_0 0 rfl rfl)
theorem dX1_passes_1 : decode cX1_passes 1 = .ok (.dup, 1) := dk_89 (dk_at dksX1_passes_0 1 rfl rfl)
theorem dX1_passes_2 : decode cX1_passes 2 = .ok (.getfield 91, 3) := dk_180 0 91 (dk_at dksX1_passes_0 2 rfl rfl)
theorem dX1_passes_5 : decode cX1_passes 5 = .ok (.iconst 1, 1) := dk_4 (dk_at dksX1_passes_0 5 rfl rfl)
theorem dX1_passes_6 : decode cX1_passes 6 = .ok (.iadd, 1) := dk_96 (dk_at dksX1_passes_0 6 rfl rfl)
theorem dX1_passes_7 : decode cX1_passes 7 = .ok (.putfield 91, 3) := dk_181 0 91 (dk_at dksX1_passes_0 7 rfl rfl)
theorem dX1_passes_10 : decode cX1_passes 10 = .ok (.iconst 0, 1) := dk_3 (dk_at dksX1_passes_0 10 rfl rfl)
theorem dX1_passes_11 : decode cX1_passes 11 = .ok (.istore_n 2, 1) := dk_61 (dk_at dksX1_passes_0 11 rfl rfl)
theorem dX1_passes_12 : decode cX1_passes 12 = .ok (.iload_n 2, 1) := dk_28 (dk_at dksX1_passes_0 12 rfl rfl)
theorem dX1_passes_13 : decode cX1_passes 13 = .ok (.aload_n 0, 1) := dk_42 (dk_at dksX1_passes_0 13 rfl rfl)
theorem dX1_passes_14 : decode cX1_passes 14 = .ok (.getfield 65, 3) := dk_180 0 65 (dk_at dksX1_passes_0 14 rfl rfl)
theorem dX1_passes_17 : decode cX1_passes 17 = .ok (.if_icmp .ge 74, 3) := dk_162 0 74 (dk_at dksX1_passes_0 17 rfl rfl)
theorem dX1_passes_20 : decode cX1_passes 20 = .ok (.aload_n 0, 1) := dk_42 (dk_at dksX1_passes_0 20 rfl rfl)
theorem dX1_passes_21 : decode cX1_passes 21 = .ok (.getfield 28, 3) := dk_180 0 28 (dk_at dksX1_passes_0 21 rfl rfl)
theorem dX1_passes_24 : decode cX1_passes 24 = .ok (.iload_n 2, 1) := dk_28 (dk_at dksX1_passes_1 0 rfl rfl)
theorem dX1_passes_25 : decode cX1_passes 25 = .ok (.iaload, 1) := dk_46 (dk_at dksX1_passes_1 1 rfl rfl)
theorem dX1_passes_26 : decode cX1_passes 26 = .ok (.ifCond .le 21, 3) := dk_158 0 21 (dk_at dksX1_passes_1 2 rfl rfl)
theorem dX1_passes_29 : decode cX1_passes 29 = .ok (.aload_n 1, 1) := dk_43 (dk_at dksX1_passes_1 5 rfl rfl)
theorem dX1_passes_30 : decode cX1_passes 30 = .ok (.getfield 91, 3) := dk_180 0 91 (dk_at dksX1_passes_1 6 rfl rfl)
theorem dX1_passes_33 : decode cX1_passes 33 = .ok (.aload_n 0, 1) := dk_42 (dk_at dksX1_passes_1 9 rfl rfl)
theorem dX1_passes_34 : decode cX1_passes 34 = .ok (.getfield 28, 3) := dk_180 0 28 (dk_at dksX1_passes_1 10 rfl rfl)
theorem dX1_passes_37 : decode cX1_passes 37 = .ok (.iload_n 2, 1) := dk_28 (dk_at dksX1_passes_1 13 rfl rfl)
theorem dX1_passes_38 : decode cX1_passes 38 = .ok (.iaload, 1) := dk_46 (dk_at dksX1_passes_1 14 rfl rfl)
theorem dX1_passes_39 : decode cX1_passes 39 = .ok (.irem, 1) := dk_112 (dk_at dksX1_passes_1 15 rfl rfl)
theorem dX1_passes_40 : decode cX1_passes 40 = .ok (.ifCond .ne 7, 3) := dk_154 0 7 (dk_at dksX1_passes_1 16 rfl rfl)
theorem dX1_passes_43 : decode cX1_passes 43 = .ok (.iconst 1, 1) := dk_4 (dk_at dksX1_passes_1 19 rfl rfl)
theorem dX1_passes_44 : decode cX1_passes 44 = .ok (.goto 4, 3) := dk_167 0 4 (dk_at dksX1_passes_1 20 rfl rfl)
theorem dX1_passes_47 : decode cX1_passes 47 = .ok (.iconst 0, 1) := dk_3 (dk_at dksX1_passes_1 23 rfl rfl)
theorem dX1_passes_48 : decode cX1_passes 48 = .ok (.istore_n 3, 1) := dk_62 (dk_at dksX1_passes_2 0 rfl rfl)
theorem dX1_passes_49 : decode cX1_passes 49 = .ok (.aload_n 1, 1) := dk_43 (dk_at dksX1_passes_2 1 rfl rfl)
theorem dX1_passes_50 : decode cX1_passes 50 = .ok (.getfield 94, 3) := dk_180 0 94 (dk_at dksX1_passes_2 2 rfl rfl)
theorem dX1_passes_53 : decode cX1_passes 53 = .ok (.iload_n 2, 1) := dk_28 (dk_at dksX1_passes_2 5 rfl rfl)
theorem dX1_passes_54 : decode cX1_passes 54 = .ok (.iload_n 3, 1) := dk_29 (dk_at dksX1_passes_2 6 rfl rfl)
theorem dX1_passes_55 : decode cX1_passes 55 = .ok (.ifCond .eq 23, 3) := dk_153 0 23 (dk_at dksX1_passes_2 7 rfl rfl)
theorem dX1_passes_58 : decode cX1_passes 58 = .ok (.aload_n 0, 1) := dk_42 (dk_at dksX1_passes_2 10 rfl rfl)
theorem dX1_passes_59 : decode cX1_passes 59 = .ok (.getfield 25, 3) := dk_180 0 25 (dk_at dksX1_passes_2 11 rfl rfl)
theorem dX1_passes_62 : decode cX1_passes 62 = .ok (.iload_n 2, 1) := dk_28 (dk_at dksX1_passes_2 14 rfl rfl)
theorem dX1_passes_63 : decode cX1_passes 63 = .ok (.iaload, 1) := dk_46 (dk_at dksX1_passes_2 15 rfl rfl)
theorem dX1_passes_64 : decode cX1_passes 64 = .ok (.aload_n 1, 1) := dk_43 (dk_at dksX1_passes_2 16 rfl rfl)
theorem dX1_passes_65 : decode cX1_passes 65 = .ok (.getfield 94, 3) := dk_180 0 94 (dk_at dksX1_passes_2 17 rfl rfl)
theorem dX1_passes_68 : decode cX1_passes 68 = .ok (.iload_n 2, 1) := dk_28 (dk_at dksX1_passes_2 20 rfl rfl)
theorem dX1_passes_69 : decode cX1_passes 69 = .ok (.iaload, 1) := dk_46 (dk_at dksX1_passes_2 21 rfl rfl)
theorem dX1_passes_70 : decode cX1_passes 70 = .ok (.iconst 1, 1) := dk_4 (dk_at dksX1_passes_2 22 rfl rfl)
theorem dX1_passes_71 : decode cX1_passes 71 = .ok (.iadd, 1) := dk_96 (dk_at dksX1_passes_2 23 rfl rfl)
theorem dX1_passes_72 : decode cX1_passes 72 = .ok (.invokestatic 97, 3) := dk_184 0 97 (dk_at dksX1_passes_3 0 rfl rfl)
theorem dX1_passes_75 : decode cX1_passes 75 = .ok (.goto 9, 3) := dk_167 0 9 (dk_at dksX1_passes_3 3 rfl rfl)
theorem dX1_passes_78 : decode cX1_passes 78 = .ok (.aload_n 1, 1) := dk_43 (dk_at dksX1_passes_3 6 rfl rfl)
theorem dX1_passes_79 : decode cX1_passes 79 = .ok (.getfield 94, 3) := dk_180 0 94 (dk_at dksX1_passes_3 7 rfl rfl)
theorem dX1_passes_82 : decode cX1_passes 82 = .ok (.iload_n 2, 1) := dk_28 (dk_at dksX1_passes_3 10 rfl rfl)
theorem dX1_passes_83 : decode cX1_passes 83 = .ok (.iaload, 1) := dk_46 (dk_at dksX1_passes_3 11 rfl rfl)
theorem dX1_passes_84 : decode cX1_passes 84 = .ok (.iastore, 1) := dk_79 (dk_at dksX1_passes_3 12 rfl rfl)
theorem dX1_passes_85 : decode cX1_passes 85 = .ok (.iinc 2 1, 3) := dk_132 2 1 (dk_at dksX1_passes_3 13 rfl rfl)
theorem dX1_passes_88 : decode cX1_passes 88 = .ok (.goto (-76), 3) := dk_167 255 180 (dk_at dksX1_passes_3 16 rfl rfl)
theorem dX1_passes_91 : decode cX1_passes 91 = .ok (.return_, 1) := dk_177 (dk_at dksX1_passes_3 19 rfl rfl)
abbrev cX1_become : ByteArray := prog_16_method_3_code
def yX1_become : MethodName := ⟨RX1, "become", "(LHungryHedge$Kept;)V"⟩
def dkwX1_become_7 : List UInt8 := [180, 0, 55, 182, 0, 84, 177]
abbrev dktX1_become_7 : List UInt8 := dkwX1_become_7 ++ []
def dkwX1_become_6 : List UInt8 := [7, 184, 0, 59, 43, 180, 0, 48, 3, 42, 180, 0, 48, 3, 16, 6, 184, 0, 59, 42, 180, 0, 55, 43]
abbrev dktX1_become_6 : List UInt8 := dkwX1_become_6 ++ dktX1_become_7
def dkwX1_become_5 : List UInt8 := [184, 0, 80, 43, 180, 0, 37, 42, 180, 0, 37, 184, 0, 80, 43, 180, 0, 42, 3, 42, 180, 0, 42, 3]
abbrev dktX1_become_5 : List UInt8 := dkwX1_become_5 ++ dktX1_become_6
def dkwX1_become_4 : List UInt8 := [184, 0, 80, 43, 180, 0, 31, 42, 180, 0, 31, 184, 0, 80, 43, 180, 0, 34, 42, 180, 0, 34]
abbrev dktX1_become_4 : List UInt8 := dkwX1_become_4 ++ dktX1_become_5
def dkwX1_become_3 : List UInt8 := [184, 0, 80, 43, 180, 0, 25, 42, 180, 0, 25, 184, 0, 80, 43, 180, 0, 28, 42, 180, 0, 28]
abbrev dktX1_become_3 : List UInt8 := dkwX1_become_3 ++ dktX1_become_4
def dkwX1_become_2 : List UInt8 := [42, 43, 180, 0, 77, 181, 0, 77, 42, 43, 180, 0, 18, 181, 0, 18, 43, 180, 0, 21, 42, 180, 0, 21]
abbrev dktX1_become_2 : List UInt8 := dkwX1_become_2 ++ dktX1_become_3
def dkwX1_become_1 : List UInt8 := [42, 43, 180, 0, 9, 181, 0, 9, 42, 43, 180, 0, 15, 181, 0, 15, 42, 43, 180, 0, 74, 181, 0, 74]
abbrev dktX1_become_1 : List UInt8 := dkwX1_become_1 ++ dktX1_become_2
def dkwX1_become_0 : List UInt8 := [42, 43, 180, 0, 65, 181, 0, 65, 42, 43, 180, 0, 68, 181, 0, 68, 42, 43, 180, 0, 71, 181, 0, 71]
abbrev dktX1_become_0 : List UInt8 := dkwX1_become_0 ++ dktX1_become_1
theorem dksX1_become_0 : cX1_become.data.toList.drop 0 = dktX1_become_0 := by decide +kernel
theorem dksX1_become_1 : cX1_become.data.toList.drop 24 = dktX1_become_1 := dk_seg dksX1_become_0 24 rfl rfl
theorem dksX1_become_2 : cX1_become.data.toList.drop 48 = dktX1_become_2 := dk_seg dksX1_become_1 24 rfl rfl
theorem dksX1_become_3 : cX1_become.data.toList.drop 72 = dktX1_become_3 := dk_seg dksX1_become_2 24 rfl rfl
theorem dksX1_become_4 : cX1_become.data.toList.drop 94 = dktX1_become_4 := dk_seg dksX1_become_3 22 rfl rfl
theorem dksX1_become_5 : cX1_become.data.toList.drop 116 = dktX1_become_5 := dk_seg dksX1_become_4 22 rfl rfl
theorem dksX1_become_6 : cX1_become.data.toList.drop 140 = dktX1_become_6 := dk_seg dksX1_become_5 24 rfl rfl
theorem dksX1_become_7 : cX1_become.data.toList.drop 164 = dktX1_become_7 := dk_seg dksX1_become_6 24 rfl rfl
theorem dX1_become_0 : decode cX1_become 0 = .ok (.aload_n 0, 1) := dk_42 (dk_at dksX1_become_0 0 rfl rfl)
theorem dX1_become_1 : decode cX1_become 1 = .ok (.aload_n 1, 1) := dk_43 (dk_at dksX1_become_0 1 rfl rfl)
theorem dX1_become_2 : decode cX1_become 2 = .ok (.getfield 65, 3) := dk_180 0 65 (dk_at dksX1_become_0 2 rfl rfl)
theorem dX1_become_5 : decode cX1_become 5 = .ok (.putfield 65, 3) := dk_181 0 65 (dk_at dksX1_become_0 5 rfl rfl)
theorem dX1_become_8 : decode cX1_become 8 = .ok (.aload_n 0, 1) := dk_42 (dk_at dksX1_become_0 8 rfl rfl)
theorem dX1_become_9 : decode cX1_become 9 = .ok (.aload_n 1, 1) := dk_43 (dk_at dksX1_become_0 9 rfl rfl)
theorem dX1_become_10 : decode cX1_become 10 = .ok (.getfield 68, 3) := dk_180 0 68 (dk_at dksX1_become_0 10 rfl rfl)
theorem dX1_become_13 : decode cX1_become 13 = .ok (.putfield 68, 3) := dk_181 0 68 (dk_at dksX1_become_0 13 rfl rfl)
theorem dX1_become_16 : decode cX1_become 16 = .ok (.aload_n 0, 1) := dk_42 (dk_at dksX1_become_0 16 rfl rfl)
theorem dX1_become_17 : decode cX1_become 17 = .ok (.aload_n 1, 1) := dk_43 (dk_at dksX1_become_0 17 rfl rfl)
theorem dX1_become_18 : decode cX1_become 18 = .ok (.getfield 71, 3) := dk_180 0 71 (dk_at dksX1_become_0 18 rfl rfl)
theorem dX1_become_21 : decode cX1_become 21 = .ok (.putfield 71, 3) := dk_181 0 71 (dk_at dksX1_become_0 21 rfl rfl)
theorem dX1_become_24 : decode cX1_become 24 = .ok (.aload_n 0, 1) := dk_42 (dk_at dksX1_become_1 0 rfl rfl)
theorem dX1_become_25 : decode cX1_become 25 = .ok (.aload_n 1, 1) := dk_43 (dk_at dksX1_become_1 1 rfl rfl)
theorem dX1_become_26 : decode cX1_become 26 = .ok (.getfield 9, 3) := dk_180 0 9 (dk_at dksX1_become_1 2 rfl rfl)
theorem dX1_become_29 : decode cX1_become 29 = .ok (.putfield 9, 3) := dk_181 0 9 (dk_at dksX1_become_1 5 rfl rfl)
theorem dX1_become_32 : decode cX1_become 32 = .ok (.aload_n 0, 1) := dk_42 (dk_at dksX1_become_1 8 rfl rfl)
theorem dX1_become_33 : decode cX1_become 33 = .ok (.aload_n 1, 1) := dk_43 (dk_at dksX1_become_1 9 rfl rfl)
theorem dX1_become_34 : decode cX1_become 34 = .ok (.getfield 15, 3) := dk_180 0 15 (dk_at dksX1_become_1 10 rfl rfl)
theorem dX1_become_37 : decode cX1_become 37 = .ok (.putfield 15, 3) := dk_181 0 15 (dk_at dksX1_become_1 13 rfl rfl)
theorem dX1_become_40 : decode cX1_become 40 = .ok (.aload_n 0, 1) := dk_42 (dk_at dksX1_become_1 16 rfl rfl)
theorem dX1_become_41 : decode cX1_become 41 = .ok (.aload_n 1, 1) := dk_43 (dk_at dksX1_become_1 17 rfl rfl)
theorem dX1_become_42 : decode cX1_become 42 = .ok (.getfield 74, 3) := dk_180 0 74 (dk_at dksX1_become_1 18 rfl rfl)
theorem dX1_become_45 : decode cX1_become 45 = .ok (.putfield 74, 3) := dk_181 0 74 (dk_at dksX1_become_1 21 rfl rfl)
theorem dX1_become_48 : decode cX1_become 48 = .ok (.aload_n 0, 1) := dk_42 (dk_at dksX1_become_2 0 rfl rfl)
theorem dX1_become_49 : decode cX1_become 49 = .ok (.aload_n 1, 1) := dk_43 (dk_at dksX1_become_2 1 rfl rfl)
theorem dX1_become_50 : decode cX1_become 50 = .ok (.getfield 77, 3) := dk_180 0 77 (dk_at dksX1_become_2 2 rfl rfl)
theorem dX1_become_53 : decode cX1_become 53 = .ok (.putfield 77, 3) := dk_181 0 77 (dk_at dksX1_become_2 5 rfl rfl)
theorem dX1_become_56 : decode cX1_become 56 = .ok (.aload_n 0, 1) := dk_42 (dk_at dksX1_become_2 8 rfl rfl)
theorem dX1_become_57 : decode cX1_become 57 = .ok (.aload_n 1, 1) := dk_43 (dk_at dksX1_become_2 9 rfl rfl)
theorem dX1_become_58 : decode cX1_become 58 = .ok (.getfield 18, 3) := dk_180 0 18 (dk_at dksX1_become_2 10 rfl rfl)
theorem dX1_become_61 : decode cX1_become 61 = .ok (.putfield 18, 3) := dk_181 0 18 (dk_at dksX1_become_2 13 rfl rfl)
theorem dX1_become_64 : decode cX1_become 64 = .ok (.aload_n 1, 1) := dk_43 (dk_at dksX1_become_2 16 rfl rfl)
theorem dX1_become_65 : decode cX1_become 65 = .ok (.getfield 21, 3) := dk_180 0 21 (dk_at dksX1_become_2 17 rfl rfl)
theorem dX1_become_68 : decode cX1_become 68 = .ok (.aload_n 0, 1) := dk_42 (dk_at dksX1_become_2 20 rfl rfl)
theorem dX1_become_69 : decode cX1_become 69 = .ok (.getfield 21, 3) := dk_180 0 21 (dk_at dksX1_become_2 21 rfl rfl)
theorem dX1_become_72 : decode cX1_become 72 = .ok (.invokestatic 80, 3) := dk_184 0 80 (dk_at dksX1_become_3 0 rfl rfl)
theorem dX1_become_75 : decode cX1_become 75 = .ok (.aload_n 1, 1) := dk_43 (dk_at dksX1_become_3 3 rfl rfl)
theorem dX1_become_76 : decode cX1_become 76 = .ok (.getfield 25, 3) := dk_180 0 25 (dk_at dksX1_become_3 4 rfl rfl)
theorem dX1_become_79 : decode cX1_become 79 = .ok (.aload_n 0, 1) := dk_42 (dk_at dksX1_become_3 7 rfl rfl)
theorem dX1_become_80 : decode cX1_become 80 = .ok (.getfield 25, 3) := dk_180 0 25 (dk_at dksX1_become_3 8 rfl rfl)
theorem dX1_become_83 : decode cX1_become 83 = .ok (.invokestatic 80, 3) := dk_184 0 80 (dk_at dksX1_become_3 11 rfl rfl)
theorem dX1_become_86 : decode cX1_become 86 = .ok (.aload_n 1, 1) := dk_43 (dk_at dksX1_become_3 14 rfl rfl)
theorem dX1_become_87 : decode cX1_become 87 = .ok (.getfield 28, 3) := dk_180 0 28 (dk_at dksX1_become_3 15 rfl rfl)
theorem dX1_become_90 : decode cX1_become 90 = .ok (.aload_n 0, 1) := dk_42 (dk_at dksX1_become_3 18 rfl rfl)
theorem dX1_become_91 : decode cX1_become 91 = .ok (.getfield 28, 3) := dk_180 0 28 (dk_at dksX1_become_3 19 rfl rfl)
theorem dX1_become_94 : decode cX1_become 94 = .ok (.invokestatic 80, 3) := dk_184 0 80 (dk_at dksX1_become_4 0 rfl rfl)
theorem dX1_become_97 : decode cX1_become 97 = .ok (.aload_n 1, 1) := dk_43 (dk_at dksX1_become_4 3 rfl rfl)
theorem dX1_become_98 : decode cX1_become 98 = .ok (.getfield 31, 3) := dk_180 0 31 (dk_at dksX1_become_4 4 rfl rfl)
theorem dX1_become_101 : decode cX1_become 101 = .ok (.aload_n 0, 1) := dk_42 (dk_at dksX1_become_4 7 rfl rfl)
theorem dX1_become_102 : decode cX1_become 102 = .ok (.getfield 31, 3) := dk_180 0 31 (dk_at dksX1_become_4 8 rfl rfl)
theorem dX1_become_105 : decode cX1_become 105 = .ok (.invokestatic 80, 3) := dk_184 0 80 (dk_at dksX1_become_4 11 rfl rfl)
theorem dX1_become_108 : decode cX1_become 108 = .ok (.aload_n 1, 1) := dk_43 (dk_at dksX1_become_4 14 rfl rfl)
theorem dX1_become_109 : decode cX1_become 109 = .ok (.getfield 34, 3) := dk_180 0 34 (dk_at dksX1_become_4 15 rfl rfl)
theorem dX1_become_112 : decode cX1_become 112 = .ok (.aload_n 0, 1) := dk_42 (dk_at dksX1_become_4 18 rfl rfl)
theorem dX1_become_113 : decode cX1_become 113 = .ok (.getfield 34, 3) := dk_180 0 34 (dk_at dksX1_become_4 19 rfl rfl)
theorem dX1_become_116 : decode cX1_become 116 = .ok (.invokestatic 80, 3) := dk_184 0 80 (dk_at dksX1_become_5 0 rfl rfl)
theorem dX1_become_119 : decode cX1_become 119 = .ok (.aload_n 1, 1) := dk_43 (dk_at dksX1_become_5 3 rfl rfl)
theorem dX1_become_120 : decode cX1_become 120 = .ok (.getfield 37, 3) := dk_180 0 37 (dk_at dksX1_become_5 4 rfl rfl)
theorem dX1_become_123 : decode cX1_become 123 = .ok (.aload_n 0, 1) := dk_42 (dk_at dksX1_become_5 7 rfl rfl)
theorem dX1_become_124 : decode cX1_become 124 = .ok (.getfield 37, 3) := dk_180 0 37 (dk_at dksX1_become_5 8 rfl rfl)
theorem dX1_become_127 : decode cX1_become 127 = .ok (.invokestatic 80, 3) := dk_184 0 80 (dk_at dksX1_become_5 11 rfl rfl)
theorem dX1_become_130 : decode cX1_become 130 = .ok (.aload_n 1, 1) := dk_43 (dk_at dksX1_become_5 14 rfl rfl)
theorem dX1_become_131 : decode cX1_become 131 = .ok (.getfield 42, 3) := dk_180 0 42 (dk_at dksX1_become_5 15 rfl rfl)
theorem dX1_become_134 : decode cX1_become 134 = .ok (.iconst 0, 1) := dk_3 (dk_at dksX1_become_5 18 rfl rfl)
theorem dX1_become_135 : decode cX1_become 135 = .ok (.aload_n 0, 1) := dk_42 (dk_at dksX1_become_5 19 rfl rfl)
theorem dX1_become_136 : decode cX1_become 136 = .ok (.getfield 42, 3) := dk_180 0 42 (dk_at dksX1_become_5 20 rfl rfl)
theorem dX1_become_139 : decode cX1_become 139 = .ok (.iconst 0, 1) := dk_3 (dk_at dksX1_become_5 23 rfl rfl)
theorem dX1_become_140 : decode cX1_become 140 = .ok (.iconst 4, 1) := dk_7 (dk_at dksX1_become_6 0 rfl rfl)
theorem dX1_become_141 : decode cX1_become 141 = .ok (.invokestatic 59, 3) := dk_184 0 59 (dk_at dksX1_become_6 1 rfl rfl)
theorem dX1_become_144 : decode cX1_become 144 = .ok (.aload_n 1, 1) := dk_43 (dk_at dksX1_become_6 4 rfl rfl)
theorem dX1_become_145 : decode cX1_become 145 = .ok (.getfield 48, 3) := dk_180 0 48 (dk_at dksX1_become_6 5 rfl rfl)
theorem dX1_become_148 : decode cX1_become 148 = .ok (.iconst 0, 1) := dk_3 (dk_at dksX1_become_6 8 rfl rfl)
theorem dX1_become_149 : decode cX1_become 149 = .ok (.aload_n 0, 1) := dk_42 (dk_at dksX1_become_6 9 rfl rfl)
theorem dX1_become_150 : decode cX1_become 150 = .ok (.getfield 48, 3) := dk_180 0 48 (dk_at dksX1_become_6 10 rfl rfl)
theorem dX1_become_153 : decode cX1_become 153 = .ok (.iconst 0, 1) := dk_3 (dk_at dksX1_become_6 13 rfl rfl)
theorem dX1_become_154 : decode cX1_become 154 = .ok (.bipush 6, 2) := dk_16 6 (dk_at dksX1_become_6 14 rfl rfl)
theorem dX1_become_156 : decode cX1_become 156 = .ok (.invokestatic 59, 3) := dk_184 0 59 (dk_at dksX1_become_6 16 rfl rfl)
theorem dX1_become_159 : decode cX1_become 159 = .ok (.aload_n 0, 1) := dk_42 (dk_at dksX1_become_6 19 rfl rfl)
theorem dX1_become_160 : decode cX1_become 160 = .ok (.getfield 55, 3) := dk_180 0 55 (dk_at dksX1_become_6 20 rfl rfl)
theorem dX1_become_163 : decode cX1_become 163 = .ok (.aload_n 1, 1) := dk_43 (dk_at dksX1_become_6 23 rfl rfl)
theorem dX1_become_164 : decode cX1_become 164 = .ok (.getfield 55, 3) := dk_180 0 55 (dk_at dksX1_become_7 0 rfl rfl)
theorem dX1_become_167 : decode cX1_become 167 = .ok (.invokevirtual 84, 3) := dk_182 0 84 (dk_at dksX1_become_7 3 rfl rfl)
theorem dX1_become_170 : decode cX1_become 170 = .ok (.return_, 1) := dk_177 (dk_at dksX1_become_7 6 rfl rfl)
abbrev cX1_copy : ByteArray := prog_16_method_2_code
def yX1_copy : MethodName := ⟨RX1, "copy", "([I[I)V"⟩
def dkwX1_copy_0 : List UInt8 := [42, 3, 43, 3, 43, 190, 184, 0, 59, 177]
abbrev dktX1_copy_0 : List UInt8 := dkwX1_copy_0 ++ []
theorem dksX1_copy_0 : cX1_copy.data.toList.drop 0 = dktX1_copy_0 := by decide +kernel
theorem dX1_copy_0 : decode cX1_copy 0 = .ok (.aload_n 0, 1) := dk_42 (dk_at dksX1_copy_0 0 rfl rfl)
theorem dX1_copy_1 : decode cX1_copy 1 = .ok (.iconst 0, 1) := dk_3 (dk_at dksX1_copy_0 1 rfl rfl)
theorem dX1_copy_2 : decode cX1_copy 2 = .ok (.aload_n 1, 1) := dk_43 (dk_at dksX1_copy_0 2 rfl rfl)
theorem dX1_copy_3 : decode cX1_copy 3 = .ok (.iconst 0, 1) := dk_3 (dk_at dksX1_copy_0 3 rfl rfl)
theorem dX1_copy_4 : decode cX1_copy 4 = .ok (.aload_n 1, 1) := dk_43 (dk_at dksX1_copy_0 4 rfl rfl)
theorem dX1_copy_5 : decode cX1_copy 5 = .ok (.arraylength, 1) := dk_190 (dk_at dksX1_copy_0 5 rfl rfl)
theorem dX1_copy_6 : decode cX1_copy 6 = .ok (.invokestatic 59, 3) := dk_184 0 59 (dk_at dksX1_copy_0 6 rfl rfl)
theorem dX1_copy_9 : decode cX1_copy 9 = .ok (.return_, 1) := dk_177 (dk_at dksX1_copy_0 9 rfl rfl)
theorem q107 : (Jvm.Cond.initialized "HungryHedge$Kept") ∈ lw_all := lw_g (lw_at lw_m1 2 rfl) rfl
theorem q156 : (Jvm.Cond.instantiable "HungryHedge$Kept" (17 : Nat)) ∈ lw_all := lw_g (lw_at lw_m1 51 rfl) rfl
theorem q158 : (Jvm.Cond.instanceMethod ({ cls := "HungryHedge$Kept", name := "<init>", desc := "()V" } : Jvm.MethodName)) ∈ lw_all := lw_g (lw_at lw_m1 53 rfl) rfl
theorem q159 : (Jvm.Cond.code ({ cls := "HungryHedge$Kept", name := "<init>", desc := "()V" } : Jvm.MethodName) prog_16_method_1_code (1 : Nat) (Option.none : Option Jvm.ClassFile.FieldType)) ∈ lw_all := lw_g (lw_at lw_m1 54 rfl) rfl
theorem q160 : (Jvm.Cond.methodLink "HungryHedge$Kept" (3 : Nat) ({ cls := "java/lang/Object", name := "<init>", desc := "()V" } : Jvm.MethodName)) ∈ lw_all := lw_g (lw_at lw_m1 55 rfl) rfl
theorem q161 : (Jvm.Cond.classLink "HungryHedge$Kept" (40 : Nat) "HungryHedge$Risk") ∈ lw_all := lw_g (lw_at lw_m1 56 rfl) rfl
theorem q163 : (Jvm.Cond.classLink "HungryHedge$Kept" (46 : Nat) "HungryHedge$Clause") ∈ lw_all := lw_g (lw_at lw_m1 58 rfl) rfl
theorem q165 : (Jvm.Cond.classLink "HungryHedge$Kept" (52 : Nat) "HungryHedge$Trip") ∈ lw_all := lw_g (lw_at lw_m1 60 rfl) rfl
theorem q167 : (Jvm.Cond.methodLinkNest "HungryHedge$Kept" (54 : Nat) ({ cls := "HungryHedge$Trip", name := "<init>", desc := "()V" } : Jvm.MethodName) "HungryHedge") ∈ lw_tbl := lw_at lw_m1 62 rfl
theorem q173 : (Jvm.Cond.fieldLinkNest "HungryHedge$Kept" (88 : Nat) "HungryHedge$Trip" "at" "I" "HungryHedge") ∈ lw_tbl := lw_at lw_m1 68 rfl
theorem q177 : (Jvm.Cond.fieldLinkNest "HungryHedge$Kept" (91 : Nat) "HungryHedge$Trip" "minute" "I" "HungryHedge") ∈ lw_tbl := lw_at lw_m1 72 rfl
theorem q181 : (Jvm.Cond.fieldLinkNest "HungryHedge$Kept" (107 : Nat) "HungryHedge$Trip" "got" "I" "HungryHedge") ∈ lw_tbl := lw_at lw_m1 76 rfl
theorem q185 : (Jvm.Cond.fieldLinkNest "HungryHedge$Kept" (94 : Nat) "HungryHedge$Trip" "food" "[I" "HungryHedge") ∈ lw_tbl := lw_at lw_m1 80 rfl
theorem q199 : (Jvm.Cond.fieldLink "HungryHedge$Kept" (65 : Nat) "HungryHedge$Kept" "patches" "I") ∈ lw_all := lw_g (lw_at lw_m1 94 rfl) rfl
theorem q202 : (Jvm.Cond.fieldLink "HungryHedge$Kept" (68 : Nat) "HungryHedge$Kept" "risks" "I") ∈ lw_all := lw_g (lw_at lw_m1 97 rfl) rfl
theorem q205 : (Jvm.Cond.fieldLink "HungryHedge$Kept" (71 : Nat) "HungryHedge$Kept" "clauses" "I") ∈ lw_all := lw_g (lw_at lw_m1 100 rfl) rfl
theorem q207 : (Jvm.Cond.fieldLink "HungryHedge$Kept" (9 : Nat) "HungryHedge$Kept" "dusk" "I") ∈ lw_all := lw_g (lw_at lw_m1 102 rfl) rfl
theorem q209 : (Jvm.Cond.fieldLink "HungryHedge$Kept" (15 : Nat) "HungryHedge$Kept" "journey" "I") ∈ lw_all := lw_g (lw_at lw_m1 104 rfl) rfl
theorem q212 : (Jvm.Cond.fieldLink "HungryHedge$Kept" (74 : Nat) "HungryHedge$Kept" "strong" "I") ∈ lw_all := lw_g (lw_at lw_m1 107 rfl) rfl
theorem q215 : (Jvm.Cond.fieldLink "HungryHedge$Kept" (77 : Nat) "HungryHedge$Kept" "weak" "I") ∈ lw_all := lw_g (lw_at lw_m1 110 rfl) rfl
theorem q218 : (Jvm.Cond.fieldLink "HungryHedge$Kept" (18 : Nat) "HungryHedge$Kept" "force" "I") ∈ lw_all := lw_g (lw_at lw_m1 113 rfl) rfl
theorem q221 : (Jvm.Cond.fieldLink "HungryHedge$Kept" (21 : Nat) "HungryHedge$Kept" "kind" "[I") ∈ lw_all := lw_g (lw_at lw_m1 116 rfl) rfl
theorem q223 : (Jvm.Cond.fieldLink "HungryHedge$Kept" (25 : Nat) "HungryHedge$Kept" "top" "[I") ∈ lw_all := lw_g (lw_at lw_m1 118 rfl) rfl
theorem q226 : (Jvm.Cond.fieldLink "HungryHedge$Kept" (28 : Nat) "HungryHedge$Kept" "fill" "[I") ∈ lw_all := lw_g (lw_at lw_m1 121 rfl) rfl
theorem q228 : (Jvm.Cond.fieldLink "HungryHedge$Kept" (31 : Nat) "HungryHedge$Kept" "rich" "[I") ∈ lw_all := lw_g (lw_at lw_m1 123 rfl) rfl
theorem q231 : (Jvm.Cond.fieldLink "HungryHedge$Kept" (34 : Nat) "HungryHedge$Kept" "yields" "[I") ∈ lw_all := lw_g (lw_at lw_m1 126 rfl) rfl
theorem q233 : (Jvm.Cond.fieldLink "HungryHedge$Kept" (37 : Nat) "HungryHedge$Kept" "miles" "[I") ∈ lw_all := lw_g (lw_at lw_m1 128 rfl) rfl
theorem q235 : (Jvm.Cond.fieldLink "HungryHedge$Kept" (42 : Nat) "HungryHedge$Kept" "risk" "[LHungryHedge$Risk;") ∈ lw_all := lw_g (lw_at lw_m1 130 rfl) rfl
theorem q238 : (Jvm.Cond.fieldLink "HungryHedge$Kept" (48 : Nat) "HungryHedge$Kept" "clause" "[LHungryHedge$Clause;") ∈ lw_all := lw_g (lw_at lw_m1 133 rfl) rfl
theorem q240 : (Jvm.Cond.fieldLink "HungryHedge$Kept" (55 : Nat) "HungryHedge$Kept" "now" "LHungryHedge$Trip;") ∈ lw_all := lw_g (lw_at lw_m1 135 rfl) rfl
theorem q242 : (Jvm.Cond.lays "HungryHedge$Kept" "HungryHedge$Kept" "patches" "I") ∈ lw_all := lw_g (lw_at lw_m1 137 rfl) rfl
theorem q243 : (Jvm.Cond.soleField "HungryHedge$Kept" "patches") ∈ lw_all := lw_g (lw_at lw_m1 138 rfl) rfl
theorem q244 : (Jvm.Cond.lays "HungryHedge$Kept" "HungryHedge$Kept" "risks" "I") ∈ lw_all := lw_g (lw_at lw_m1 139 rfl) rfl
theorem q245 : (Jvm.Cond.soleField "HungryHedge$Kept" "risks") ∈ lw_all := lw_g (lw_at lw_m1 140 rfl) rfl
theorem q246 : (Jvm.Cond.lays "HungryHedge$Kept" "HungryHedge$Kept" "clauses" "I") ∈ lw_all := lw_g (lw_at lw_m1 141 rfl) rfl
theorem q247 : (Jvm.Cond.soleField "HungryHedge$Kept" "clauses") ∈ lw_all := lw_g (lw_at lw_m1 142 rfl) rfl
theorem q248 : (Jvm.Cond.lays "HungryHedge$Kept" "HungryHedge$Kept" "dusk" "I") ∈ lw_all := lw_g (lw_at lw_m1 143 rfl) rfl
theorem q249 : (Jvm.Cond.soleField "HungryHedge$Kept" "dusk") ∈ lw_all := lw_g (lw_at lw_m1 144 rfl) rfl
theorem q250 : (Jvm.Cond.lays "HungryHedge$Kept" "HungryHedge$Kept" "journey" "I") ∈ lw_all := lw_g (lw_at lw_m1 145 rfl) rfl
theorem q251 : (Jvm.Cond.soleField "HungryHedge$Kept" "journey") ∈ lw_all := lw_g (lw_at lw_m1 146 rfl) rfl
theorem q252 : (Jvm.Cond.lays "HungryHedge$Kept" "HungryHedge$Kept" "strong" "I") ∈ lw_all := lw_g (lw_at lw_m1 147 rfl) rfl
theorem q253 : (Jvm.Cond.soleField "HungryHedge$Kept" "strong") ∈ lw_all := lw_g (lw_at lw_m1 148 rfl) rfl
theorem q254 : (Jvm.Cond.lays "HungryHedge$Kept" "HungryHedge$Kept" "weak" "I") ∈ lw_all := lw_g (lw_at lw_m1 149 rfl) rfl
theorem q255 : (Jvm.Cond.soleField "HungryHedge$Kept" "weak") ∈ lw_all := lw_g (lw_at lw_m1 150 rfl) rfl
theorem q256 : (Jvm.Cond.lays "HungryHedge$Kept" "HungryHedge$Kept" "force" "I") ∈ lw_all := lw_g (lw_at lw_m1 151 rfl) rfl
theorem q257 : (Jvm.Cond.soleField "HungryHedge$Kept" "force") ∈ lw_all := lw_g (lw_at lw_m1 152 rfl) rfl
theorem q258 : (Jvm.Cond.laysFinal "HungryHedge$Kept" "HungryHedge$Kept" "kind" "[I") ∈ lw_all := lw_g (lw_at lw_m1 153 rfl) rfl
theorem q259 : (Jvm.Cond.soleField "HungryHedge$Kept" "kind") ∈ lw_all := lw_g (lw_at lw_m1 154 rfl) rfl
theorem q260 : (Jvm.Cond.laysFinal "HungryHedge$Kept" "HungryHedge$Kept" "top" "[I") ∈ lw_all := lw_g (lw_at lw_m1 155 rfl) rfl
theorem q261 : (Jvm.Cond.soleField "HungryHedge$Kept" "top") ∈ lw_all := lw_g (lw_at lw_m1 156 rfl) rfl
theorem q262 : (Jvm.Cond.laysFinal "HungryHedge$Kept" "HungryHedge$Kept" "fill" "[I") ∈ lw_all := lw_g (lw_at lw_m1 157 rfl) rfl
theorem q263 : (Jvm.Cond.soleField "HungryHedge$Kept" "fill") ∈ lw_all := lw_g (lw_at lw_m1 158 rfl) rfl
theorem q264 : (Jvm.Cond.laysFinal "HungryHedge$Kept" "HungryHedge$Kept" "rich" "[I") ∈ lw_all := lw_g (lw_at lw_m1 159 rfl) rfl
theorem q265 : (Jvm.Cond.soleField "HungryHedge$Kept" "rich") ∈ lw_all := lw_g (lw_at lw_m1 160 rfl) rfl
theorem q266 : (Jvm.Cond.laysFinal "HungryHedge$Kept" "HungryHedge$Kept" "yields" "[I") ∈ lw_all := lw_g (lw_at lw_m1 161 rfl) rfl
theorem q267 : (Jvm.Cond.soleField "HungryHedge$Kept" "yields") ∈ lw_all := lw_g (lw_at lw_m1 162 rfl) rfl
theorem q268 : (Jvm.Cond.laysFinal "HungryHedge$Kept" "HungryHedge$Kept" "miles" "[I") ∈ lw_all := lw_g (lw_at lw_m1 163 rfl) rfl
theorem q269 : (Jvm.Cond.soleField "HungryHedge$Kept" "miles") ∈ lw_all := lw_g (lw_at lw_m1 164 rfl) rfl
theorem q270 : (Jvm.Cond.laysFinal "HungryHedge$Kept" "HungryHedge$Kept" "risk" "[LHungryHedge$Risk;") ∈ lw_all := lw_g (lw_at lw_m1 165 rfl) rfl
theorem q271 : (Jvm.Cond.soleField "HungryHedge$Kept" "risk") ∈ lw_all := lw_g (lw_at lw_m1 166 rfl) rfl
theorem q272 : (Jvm.Cond.laysFinal "HungryHedge$Kept" "HungryHedge$Kept" "clause" "[LHungryHedge$Clause;") ∈ lw_all := lw_g (lw_at lw_m1 167 rfl) rfl
theorem q273 : (Jvm.Cond.soleField "HungryHedge$Kept" "clause") ∈ lw_all := lw_g (lw_at lw_m1 168 rfl) rfl
theorem q274 : (Jvm.Cond.laysFinal "HungryHedge$Kept" "HungryHedge$Kept" "now" "LHungryHedge$Trip;") ∈ lw_all := lw_g (lw_at lw_m1 169 rfl) rfl
theorem q275 : (Jvm.Cond.soleField "HungryHedge$Kept" "now") ∈ lw_all := lw_g (lw_at lw_m1 170 rfl) rfl
theorem q276 : (Jvm.Cond.superclass "HungryHedge$Kept" "java/lang/Object") ∈ lw_all := lw_g (lw_at lw_m1 171 rfl) rfl
theorem q665 : (Jvm.Cond.instanceMethod ({ cls := "HungryHedge$Kept", name := "brings", desc := "(II)I" } : Jvm.MethodName)) ∈ lw_all := lw_g (lw_at lw_m3 80 rfl) rfl
theorem q666 : (Jvm.Cond.selects "HungryHedge$Kept" ({ cls := "HungryHedge$Kept", name := "brings", desc := "(II)I" } : Jvm.MethodName) ({ cls := "HungryHedge$Kept", name := "brings", desc := "(II)I" } : Jvm.MethodName)) ∈ lw_all := lw_g (lw_at lw_m3 81 rfl) rfl
theorem q667 : (Jvm.Cond.code ({ cls := "HungryHedge$Kept", name := "brings", desc := "(II)I" } : Jvm.MethodName) prog_16_method_4_code (3 : Nat) (Option.some Jvm.ClassFile.FieldType.int)) ∈ lw_all := lw_g (lw_at lw_m3 82 rfl) rfl
theorem q699 : (Jvm.Cond.instanceMethod ({ cls := "HungryHedge$Kept", name := "takes", desc := "(LHungryHedge$Trip;I)I" } : Jvm.MethodName)) ∈ lw_all := lw_g (lw_at lw_m3 114 rfl) rfl
theorem q700 : (Jvm.Cond.selects "HungryHedge$Kept" ({ cls := "HungryHedge$Kept", name := "takes", desc := "(LHungryHedge$Trip;I)I" } : Jvm.MethodName) ({ cls := "HungryHedge$Kept", name := "takes", desc := "(LHungryHedge$Trip;I)I" } : Jvm.MethodName)) ∈ lw_all := lw_g (lw_at lw_m3 115 rfl) rfl
theorem q701 : (Jvm.Cond.code ({ cls := "HungryHedge$Kept", name := "takes", desc := "(LHungryHedge$Trip;I)I" } : Jvm.MethodName) prog_16_method_5_code (4 : Nat) (Option.some Jvm.ClassFile.FieldType.int)) ∈ lw_all := lw_g (lw_at lw_m3 116 rfl) rfl
theorem q703 : (Jvm.Cond.instanceMethod ({ cls := "HungryHedge$Kept", name := "does", desc := "(LHungryHedge$Trip;I)V" } : Jvm.MethodName)) ∈ lw_all := lw_g (lw_at lw_m3 118 rfl) rfl
theorem q704 : (Jvm.Cond.selects "HungryHedge$Kept" ({ cls := "HungryHedge$Kept", name := "does", desc := "(LHungryHedge$Trip;I)V" } : Jvm.MethodName) ({ cls := "HungryHedge$Kept", name := "does", desc := "(LHungryHedge$Trip;I)V" } : Jvm.MethodName)) ∈ lw_all := lw_g (lw_at lw_m3 119 rfl) rfl
theorem q705 : (Jvm.Cond.code ({ cls := "HungryHedge$Kept", name := "does", desc := "(LHungryHedge$Trip;I)V" } : Jvm.MethodName) prog_16_method_7_code (5 : Nat) (Option.none : Option Jvm.ClassFile.FieldType)) ∈ lw_all := lw_g (lw_at lw_m3 120 rfl) rfl
theorem q706 : (Jvm.Cond.methodLink "HungryHedge$Kept" (103 : Nat) ({ cls := "HungryHedge$Kept", name := "takes", desc := "(LHungryHedge$Trip;I)I" } : Jvm.MethodName)) ∈ lw_all := lw_g (lw_at lw_m3 121 rfl) rfl
theorem q707 : (Jvm.Cond.methodLink "HungryHedge$Kept" (110 : Nat) ({ cls := "HungryHedge$Kept", name := "brings", desc := "(II)I" } : Jvm.MethodName)) ∈ lw_all := lw_g (lw_at lw_m3 122 rfl) rfl
theorem q708 : (Jvm.Cond.methodLink "HungryHedge$Kept" (113 : Nat) ({ cls := "java/lang/Math", name := "max", desc := "(II)I" } : Jvm.MethodName)) ∈ lw_all := lw_g (lw_at lw_m3 123 rfl) rfl
theorem q711 : (Jvm.Cond.methodLink "HungryHedge$Kept" (116 : Nat) ({ cls := "HungryHedge$Kept", name := "passes", desc := "(LHungryHedge$Trip;)V" } : Jvm.MethodName)) ∈ lw_all := lw_g (lw_at lw_m3 126 rfl) rfl
theorem q712 : (Jvm.Cond.privateMethod ({ cls := "HungryHedge$Kept", name := "passes", desc := "(LHungryHedge$Trip;)V" } : Jvm.MethodName)) ∈ lw_tbl := lw_at lw_m3 127 rfl
theorem q713 : (Jvm.Cond.instanceMethod ({ cls := "HungryHedge$Kept", name := "passes", desc := "(LHungryHedge$Trip;)V" } : Jvm.MethodName)) ∈ lw_all := lw_g (lw_at lw_m3 128 rfl) rfl
theorem q714 : (Jvm.Cond.code ({ cls := "HungryHedge$Kept", name := "passes", desc := "(LHungryHedge$Trip;)V" } : Jvm.MethodName) prog_16_method_6_code (4 : Nat) (Option.none : Option Jvm.ClassFile.FieldType)) ∈ lw_all := lw_g (lw_at lw_m3 129 rfl) rfl
theorem q715 : (Jvm.Cond.methodLink "HungryHedge$Kept" (97 : Nat) ({ cls := "java/lang/Math", name := "min", desc := "(II)I" } : Jvm.MethodName)) ∈ lw_all := lw_g (lw_at lw_m3 130 rfl) rfl
theorem q1677 : (Jvm.Cond.instanceMethod ({ cls := "HungryHedge$Kept", name := "become", desc := "(LHungryHedge$Kept;)V" } : Jvm.MethodName)) ∈ lw_all := lw_g (lw_at lw_m7 132 rfl) rfl
theorem q1678 : (Jvm.Cond.selects "HungryHedge$Kept" ({ cls := "HungryHedge$Kept", name := "become", desc := "(LHungryHedge$Kept;)V" } : Jvm.MethodName) ({ cls := "HungryHedge$Kept", name := "become", desc := "(LHungryHedge$Kept;)V" } : Jvm.MethodName)) ∈ lw_all := lw_g (lw_at lw_m7 133 rfl) rfl
theorem q1679 : (Jvm.Cond.code ({ cls := "HungryHedge$Kept", name := "become", desc := "(LHungryHedge$Kept;)V" } : Jvm.MethodName) prog_16_method_3_code (2 : Nat) (Option.none : Option Jvm.ClassFile.FieldType)) ∈ lw_all := lw_g (lw_at lw_m7 134 rfl) rfl
theorem q1680 : (Jvm.Cond.methodLink "HungryHedge$Kept" (80 : Nat) ({ cls := "HungryHedge$Kept", name := "copy", desc := "([I[I)V" } : Jvm.MethodName)) ∈ lw_all := lw_g (lw_at lw_m7 135 rfl) rfl
theorem q1681 : (Jvm.Cond.static ({ cls := "HungryHedge$Kept", name := "copy", desc := "([I[I)V" } : Jvm.MethodName)) ∈ lw_all := lw_g (lw_at lw_m7 136 rfl) rfl
theorem q1682 : (Jvm.Cond.code ({ cls := "HungryHedge$Kept", name := "copy", desc := "([I[I)V" } : Jvm.MethodName) prog_16_method_2_code (2 : Nat) (Option.none : Option Jvm.ClassFile.FieldType)) ∈ lw_all := lw_g (lw_at lw_m7 137 rfl) rfl
theorem q1683 : (Jvm.Cond.methodLink "HungryHedge$Kept" (59 : Nat) ({ cls := "java/lang/System", name := "arraycopy", desc := "(Ljava/lang/Object;ILjava/lang/Object;II)V" } : Jvm.MethodName)) ∈ lw_all := lw_g (lw_at lw_m7 138 rfl) rfl
theorem q1684 : (Jvm.Cond.methodLink "HungryHedge$Kept" (84 : Nat) ({ cls := "HungryHedge$Trip", name := "become", desc := "(LHungryHedge$Trip;)V" } : Jvm.MethodName)) ∈ lw_all := lw_g (lw_at lw_m7 139 rfl) rfl
theorem in_X1 : ∀ w ∈ wsX10, w ∈ lw_all := lw_in wsX10 [242, 244, 246, 248, 250, 252, 254, 256, 258, 260, 262, 264, 266, 268, 270, 272, 274] (by decide +kernel) (by decide +kernel)

/-! HungryHedge$Trip -/
set_option maxRecDepth 100000
def RX2 : String := "HungryHedge$Trip"
def TX2 : u_T := fun k => match k with
  | 0 => ("HungryHedge$Trip", "at", "I", false)
  | 1 => ("HungryHedge$Trip", "minute", "I", false)
  | 2 => ("HungryHedge$Trip", "got", "I", false)
  | _ => ("HungryHedge$Trip", "food", "[I", true)
def tyX2 : Nat → FieldType := fun k => match k with
  | 0 => .int
  | 1 => .int
  | 2 => .int
  | _ => .array .int
abbrev wsX20 : List Cond := u_ws RX2 TX2 4
theorem nmX2 : ∀ a, a < 4 → ∀ b, b < 4 → a ≠ b → (TX2 a).2.1 ≠ (TX2 b).2.1 := by decide +kernel
theorem tyX2_ok : ∀ k, k < 4 → parseFieldDescriptor (TX2 k).2.2.1 = some (tyX2 k) := by decide +kernel
abbrev cX2_init : ByteArray := prog_31_method_1_code
def yX2_init : MethodName := ⟨RX2, "<init>", "()V"⟩
def dkwX2_init_0 : List UInt8 := [42, 183, 0, 3, 42, 7, 188, 10, 181, 0, 9, 177]
abbrev dktX2_init_0 : List UInt8 := dkwX2_init_0 ++ []
theorem dksX2_init_0 : cX2_init.data.toList.drop 0 = dktX2_init_0 := by decide +kernel
theorem dX2_init_0 : decode cX2_init 0 = .ok (.aload_n 0, 1) := dk_42 (dk_at dksX2_init_0 0 rfl rfl)
theorem dX2_init_1 : decode cX2_init 1 = .ok (.invokespecial 3, 3) := dk_183 0 3 (dk_at dksX2_init_0 1 rfl rfl)
theorem dX2_init_4 : decode cX2_init 4 = .ok (.aload_n 0, 1) := dk_42 (dk_at dksX2_init_0 4 rfl rfl)
theorem dX2_init_5 : decode cX2_init 5 = .ok (.iconst 4, 1) := dk_7 (dk_at dksX2_init_0 5 rfl rfl)
theorem dX2_init_6 : decode cX2_init 6 = .ok (.newarray .int, 2) := dk_188_10 (dk_at dksX2_init_0 6 rfl rfl)
theorem dX2_init_8 : decode cX2_init 8 = .ok (.putfield 9, 3) := dk_181 0 9 (dk_at dksX2_init_0 8 rfl rfl)
theorem dX2_init_11 : decode cX2_init 11 = .ok (.return_, 1) := dk_177 (dk_at dksX2_init_0 11 rfl rfl)
abbrev cX2_become : ByteArray := prog_31_method_2_code
def yX2_become : MethodName := ⟨RX2, "become", "(LHungryHedge$Trip;)V"⟩
def dkwX2_become_1 : List UInt8 := [43, 180, 0, 9, 3, 42, 180, 0, 9, 3, 7, 184, 0, 25, 177]
abbrev dktX2_become_1 : List UInt8 := dkwX2_become_1 ++ []
def dkwX2_become_0 : List UInt8 := [42, 43, 180, 0, 15, 181, 0, 15, 42, 43, 180, 0, 19, 181, 0, 19, 42, 43, 180, 0, 22, 181, 0, 22]
abbrev dktX2_become_0 : List UInt8 := dkwX2_become_0 ++ dktX2_become_1
theorem dksX2_become_0 : cX2_become.data.toList.drop 0 = dktX2_become_0 := by decide +kernel
theorem dksX2_become_1 : cX2_become.data.toList.drop 24 = dktX2_become_1 := dk_seg dksX2_become_0 24 rfl rfl
theorem dX2_become_0 : decode cX2_become 0 = .ok (.aload_n 0, 1) := dk_42 (dk_at dksX2_become_0 0 rfl rfl)
theorem dX2_become_1 : decode cX2_become 1 = .ok (.aload_n 1, 1) := dk_43 (dk_at dksX2_become_0 1 rfl rfl)
theorem dX2_become_2 : decode cX2_become 2 = .ok (.getfield 15, 3) := dk_180 0 15 (dk_at dksX2_become_0 2 rfl rfl)
theorem dX2_become_5 : decode cX2_become 5 = .ok (.putfield 15, 3) := dk_181 0 15 (dk_at dksX2_become_0 5 rfl rfl)
theorem dX2_become_8 : decode cX2_become 8 = .ok (.aload_n 0, 1) := dk_42 (dk_at dksX2_become_0 8 rfl rfl)
theorem dX2_become_9 : decode cX2_become 9 = .ok (.aload_n 1, 1) := dk_43 (dk_at dksX2_become_0 9 rfl rfl)
theorem dX2_become_10 : decode cX2_become 10 = .ok (.getfield 19, 3) := dk_180 0 19 (dk_at dksX2_become_0 10 rfl rfl)
theorem dX2_become_13 : decode cX2_become 13 = .ok (.putfield 19, 3) := dk_181 0 19 (dk_at dksX2_become_0 13 rfl rfl)
theorem dX2_become_16 : decode cX2_become 16 = .ok (.aload_n 0, 1) := dk_42 (dk_at dksX2_become_0 16 rfl rfl)
theorem dX2_become_17 : decode cX2_become 17 = .ok (.aload_n 1, 1) := dk_43 (dk_at dksX2_become_0 17 rfl rfl)
theorem dX2_become_18 : decode cX2_become 18 = .ok (.getfield 22, 3) := dk_180 0 22 (dk_at dksX2_become_0 18 rfl rfl)
theorem dX2_become_21 : decode cX2_become 21 = .ok (.putfield 22, 3) := dk_181 0 22 (dk_at dksX2_become_0 21 rfl rfl)
theorem dX2_become_24 : decode cX2_become 24 = .ok (.aload_n 1, 1) := dk_43 (dk_at dksX2_become_1 0 rfl rfl)
theorem dX2_become_25 : decode cX2_become 25 = .ok (.getfield 9, 3) := dk_180 0 9 (dk_at dksX2_become_1 1 rfl rfl)
theorem dX2_become_28 : decode cX2_become 28 = .ok (.iconst 0, 1) := dk_3 (dk_at dksX2_become_1 4 rfl rfl)
theorem dX2_become_29 : decode cX2_become 29 = .ok (.aload_n 0, 1) := dk_42 (dk_at dksX2_become_1 5 rfl rfl)
theorem dX2_become_30 : decode cX2_become 30 = .ok (.getfield 9, 3) := dk_180 0 9 (dk_at dksX2_become_1 6 rfl rfl)
theorem dX2_become_33 : decode cX2_become 33 = .ok (.iconst 0, 1) := dk_3 (dk_at dksX2_become_1 9 rfl rfl)
theorem dX2_become_34 : decode cX2_become 34 = .ok (.iconst 4, 1) := dk_7 (dk_at dksX2_become_1 10 rfl rfl)
theorem dX2_become_35 : decode cX2_become 35 = .ok (.invokestatic 25, 3) := dk_184 0 25 (dk_at dksX2_become_1 11 rfl rfl)
theorem dX2_become_38 : decode cX2_become 38 = .ok (.return_, 1) := dk_177 (dk_at dksX2_become_1 14 rfl rfl)
theorem q108 : (Jvm.Cond.initialized "HungryHedge$Trip") ∈ lw_all := lw_g (lw_at lw_m1 3 rfl) rfl
theorem q166 : (Jvm.Cond.instantiable "HungryHedge$Trip" (4 : Nat)) ∈ lw_all := lw_g (lw_at lw_m1 61 rfl) rfl
theorem q168 : (Jvm.Cond.instanceMethod ({ cls := "HungryHedge$Trip", name := "<init>", desc := "()V" } : Jvm.MethodName)) ∈ lw_all := lw_g (lw_at lw_m1 63 rfl) rfl
theorem q169 : (Jvm.Cond.code ({ cls := "HungryHedge$Trip", name := "<init>", desc := "()V" } : Jvm.MethodName) prog_31_method_1_code (1 : Nat) (Option.none : Option Jvm.ClassFile.FieldType)) ∈ lw_all := lw_g (lw_at lw_m1 64 rfl) rfl
theorem q170 : (Jvm.Cond.methodLink "HungryHedge$Trip" (3 : Nat) ({ cls := "java/lang/Object", name := "<init>", desc := "()V" } : Jvm.MethodName)) ∈ lw_all := lw_g (lw_at lw_m1 65 rfl) rfl
theorem q171 : (Jvm.Cond.fieldLink "HungryHedge$Trip" (15 : Nat) "HungryHedge$Trip" "at" "I") ∈ lw_all := lw_g (lw_at lw_m1 66 rfl) rfl
theorem q176 : (Jvm.Cond.fieldLink "HungryHedge$Trip" (19 : Nat) "HungryHedge$Trip" "minute" "I") ∈ lw_all := lw_g (lw_at lw_m1 71 rfl) rfl
theorem q179 : (Jvm.Cond.fieldLink "HungryHedge$Trip" (22 : Nat) "HungryHedge$Trip" "got" "I") ∈ lw_all := lw_g (lw_at lw_m1 74 rfl) rfl
theorem q183 : (Jvm.Cond.fieldLink "HungryHedge$Trip" (9 : Nat) "HungryHedge$Trip" "food" "[I") ∈ lw_all := lw_g (lw_at lw_m1 78 rfl) rfl
theorem q187 : (Jvm.Cond.lays "HungryHedge$Trip" "HungryHedge$Trip" "at" "I") ∈ lw_all := lw_g (lw_at lw_m1 82 rfl) rfl
theorem q188 : (Jvm.Cond.soleField "HungryHedge$Trip" "at") ∈ lw_all := lw_g (lw_at lw_m1 83 rfl) rfl
theorem q189 : (Jvm.Cond.lays "HungryHedge$Trip" "HungryHedge$Trip" "minute" "I") ∈ lw_all := lw_g (lw_at lw_m1 84 rfl) rfl
theorem q190 : (Jvm.Cond.soleField "HungryHedge$Trip" "minute") ∈ lw_all := lw_g (lw_at lw_m1 85 rfl) rfl
theorem q191 : (Jvm.Cond.lays "HungryHedge$Trip" "HungryHedge$Trip" "got" "I") ∈ lw_all := lw_g (lw_at lw_m1 86 rfl) rfl
theorem q192 : (Jvm.Cond.soleField "HungryHedge$Trip" "got") ∈ lw_all := lw_g (lw_at lw_m1 87 rfl) rfl
theorem q193 : (Jvm.Cond.laysFinal "HungryHedge$Trip" "HungryHedge$Trip" "food" "[I") ∈ lw_all := lw_g (lw_at lw_m1 88 rfl) rfl
theorem q194 : (Jvm.Cond.soleField "HungryHedge$Trip" "food") ∈ lw_all := lw_g (lw_at lw_m1 89 rfl) rfl
theorem q195 : (Jvm.Cond.superclass "HungryHedge$Trip" "java/lang/Object") ∈ lw_all := lw_g (lw_at lw_m1 90 rfl) rfl
theorem q748 : (Jvm.Cond.instanceMethod ({ cls := "HungryHedge$Trip", name := "become", desc := "(LHungryHedge$Trip;)V" } : Jvm.MethodName)) ∈ lw_all := lw_g (lw_at lw_m3 163 rfl) rfl
theorem q749 : (Jvm.Cond.selects "HungryHedge$Trip" ({ cls := "HungryHedge$Trip", name := "become", desc := "(LHungryHedge$Trip;)V" } : Jvm.MethodName) ({ cls := "HungryHedge$Trip", name := "become", desc := "(LHungryHedge$Trip;)V" } : Jvm.MethodName)) ∈ lw_all := lw_g (lw_at lw_m3 164 rfl) rfl
theorem q750 : (Jvm.Cond.code ({ cls := "HungryHedge$Trip", name := "become", desc := "(LHungryHedge$Trip;)V" } : Jvm.MethodName) prog_31_method_2_code (2 : Nat) (Option.none : Option Jvm.ClassFile.FieldType)) ∈ lw_all := lw_g (lw_at lw_m3 165 rfl) rfl
theorem q751 : (Jvm.Cond.methodLink "HungryHedge$Trip" (25 : Nat) ({ cls := "java/lang/System", name := "arraycopy", desc := "(Ljava/lang/Object;ILjava/lang/Object;II)V" } : Jvm.MethodName)) ∈ lw_all := lw_g (lw_at lw_m3 166 rfl) rfl
theorem in_X2 : ∀ w ∈ wsX20, w ∈ lw_all := lw_in wsX20 [187, 189, 191, 193] (by decide +kernel) (by decide +kernel)

/-! HungryHedge$Most -/
set_option maxRecDepth 100000
def RX3 : String := "HungryHedge$Most"
def TX3 : u_T := fun k => match k with
  | 0 => ("HungryHedge$Most", "worth", "[I", true)
  | 1 => ("HungryHedge$Most", "trips", "[LHungryHedge$Trip;", true)
  | 2 => ("HungryHedge$Most", "round", "I", false)
  | _ => ("HungryHedge$Most", "this$0", "LHungryHedge;", true)
def tyX3 : Nat → FieldType := fun k => match k with
  | 0 => .array .int
  | 1 => .array (.object "HungryHedge$Trip")
  | 2 => .int
  | _ => .object "HungryHedge"
abbrev wsX30 : List Cond := u_ws RX3 TX3 4
theorem nmX3 : ∀ a, a < 4 → ∀ b, b < 4 → a ≠ b → (TX3 a).2.1 ≠ (TX3 b).2.1 := by decide +kernel
theorem tyX3_ok : ∀ k, k < 4 → parseFieldDescriptor (TX3 k).2.2.1 = some (tyX3 k) := by decide +kernel
abbrev cX3_init : ByteArray := prog_17_method_1_code
def yX3_init : MethodName := ⟨RX3, "<init>", "(LHungryHedge;)V"⟩
def dkwX3_init_2 : List UInt8 := [183, 0, 26, 83, 132, 2, 1, 167, 255, 231, 177]
abbrev dktX3_init_2 : List UInt8 := dkwX3_init_2 ++ []
def dkwX3_init_1 : List UInt8 := [181, 0, 22, 3, 61, 28, 42, 180, 0, 22, 190, 162, 0, 22, 42, 180, 0, 22, 28, 187, 0, 20, 89]
abbrev dktX3_init_1 : List UInt8 := dkwX3_init_1 ++ dktX3_init_2
def dkwX3_init_0 : List UInt8 := [42, 43, 181, 0, 3, 42, 183, 0, 9, 42, 18, 15, 188, 10, 181, 0, 16, 42, 16, 22, 189, 0, 20]
abbrev dktX3_init_0 : List UInt8 := dkwX3_init_0 ++ dktX3_init_1
theorem dksX3_init_0 : cX3_init.data.toList.drop 0 = dktX3_init_0 := by decide +kernel
theorem dksX3_init_1 : cX3_init.data.toList.drop 23 = dktX3_init_1 := dk_seg dksX3_init_0 23 rfl rfl
theorem dksX3_init_2 : cX3_init.data.toList.drop 46 = dktX3_init_2 := dk_seg dksX3_init_1 23 rfl rfl
theorem dX3_init_0 : decode cX3_init 0 = .ok (.aload_n 0, 1) := dk_42 (dk_at dksX3_init_0 0 rfl rfl)
theorem dX3_init_1 : decode cX3_init 1 = .ok (.aload_n 1, 1) := dk_43 (dk_at dksX3_init_0 1 rfl rfl)
theorem dX3_init_2 : decode cX3_init 2 = .ok (.putfield 3, 3) := dk_181 0 3 (dk_at dksX3_init_0 2 rfl rfl)
theorem dX3_init_5 : decode cX3_init 5 = .ok (.aload_n 0, 1) := dk_42 (dk_at dksX3_init_0 5 rfl rfl)
theorem dX3_init_6 : decode cX3_init 6 = .ok (.invokespecial 9, 3) := dk_183 0 9 (dk_at dksX3_init_0 6 rfl rfl)
theorem dX3_init_9 : decode cX3_init 9 = .ok (.aload_n 0, 1) := dk_42 (dk_at dksX3_init_0 9 rfl rfl)
theorem dX3_init_10 : decode cX3_init 10 = .ok (.ldc 15, 2) := dk_18 15 (dk_at dksX3_init_0 10 rfl rfl)
theorem dX3_init_12 : decode cX3_init 12 = .ok (.newarray .int, 2) := dk_188_10 (dk_at dksX3_init_0 12 rfl rfl)
theorem dX3_init_14 : decode cX3_init 14 = .ok (.putfield 16, 3) := dk_181 0 16 (dk_at dksX3_init_0 14 rfl rfl)
theorem dX3_init_17 : decode cX3_init 17 = .ok (.aload_n 0, 1) := dk_42 (dk_at dksX3_init_0 17 rfl rfl)
theorem dX3_init_18 : decode cX3_init 18 = .ok (.bipush 22, 2) := dk_16 22 (dk_at dksX3_init_0 18 rfl rfl)
theorem dX3_init_20 : decode cX3_init 20 = .ok (.anewarray 20, 3) := dk_189 0 20 (dk_at dksX3_init_0 20 rfl rfl)
theorem dX3_init_23 : decode cX3_init 23 = .ok (.putfield 22, 3) := dk_181 0 22 (dk_at dksX3_init_1 0 rfl rfl)
theorem dX3_init_26 : decode cX3_init 26 = .ok (.iconst 0, 1) := dk_3 (dk_at dksX3_init_1 3 rfl rfl)
theorem dX3_init_27 : decode cX3_init 27 = .ok (.istore_n 2, 1) := dk_61 (dk_at dksX3_init_1 4 rfl rfl)
theorem dX3_init_28 : decode cX3_init 28 = .ok (.iload_n 2, 1) := dk_28 (dk_at dksX3_init_1 5 rfl rfl)
theorem dX3_init_29 : decode cX3_init 29 = .ok (.aload_n 0, 1) := dk_42 (dk_at dksX3_init_1 6 rfl rfl)
theorem dX3_init_30 : decode cX3_init 30 = .ok (.getfield 22, 3) := dk_180 0 22 (dk_at dksX3_init_1 7 rfl rfl)
theorem dX3_init_33 : decode cX3_init 33 = .ok (.arraylength, 1) := dk_190 (dk_at dksX3_init_1 10 rfl rfl)
theorem dX3_init_34 : decode cX3_init 34 = .ok (.if_icmp .ge 22, 3) := dk_162 0 22 (dk_at dksX3_init_1 11 rfl rfl)
theorem dX3_init_37 : decode cX3_init 37 = .ok (.aload_n 0, 1) := dk_42 (dk_at dksX3_init_1 14 rfl rfl)
theorem dX3_init_38 : decode cX3_init 38 = .ok (.getfield 22, 3) := dk_180 0 22 (dk_at dksX3_init_1 15 rfl rfl)
theorem dX3_init_41 : decode cX3_init 41 = .ok (.iload_n 2, 1) := dk_28 (dk_at dksX3_init_1 18 rfl rfl)
theorem dX3_init_42 : decode cX3_init 42 = .ok (.new 20, 3) := dk_187 0 20 (dk_at dksX3_init_1 19 rfl rfl)
theorem dX3_init_45 : decode cX3_init 45 = .ok (.dup, 1) := dk_89 (dk_at dksX3_init_1 22 rfl rfl)
theorem dX3_init_46 : decode cX3_init 46 = .ok (.invokespecial 26, 3) := dk_183 0 26 (dk_at dksX3_init_2 0 rfl rfl)
theorem dX3_init_49 : decode cX3_init 49 = .ok (.aastore, 1) := dk_83 (dk_at dksX3_init_2 3 rfl rfl)
theorem dX3_init_50 : decode cX3_init 50 = .ok (.iinc 2 1, 3) := dk_132 2 1 (dk_at dksX3_init_2 4 rfl rfl)
theorem dX3_init_53 : decode cX3_init 53 = .ok (.goto (-25), 3) := dk_167 255 231 (dk_at dksX3_init_2 7 rfl rfl)
theorem dX3_init_56 : decode cX3_init 56 = .ok (.return_, 1) := dk_177 (dk_at dksX3_init_2 10 rfl rfl)
abbrev cX3_all : ByteArray := prog_17_method_6_code
def yX3_all : MethodName := ⟨RX3, "all", "(LHungryHedge$Trip;)I"⟩
def dkwX3_all_0 : List UInt8 := [42, 182, 0, 88, 42, 43, 3, 182, 0, 78, 172]
abbrev dktX3_all_0 : List UInt8 := dkwX3_all_0 ++ []
theorem dksX3_all_0 : cX3_all.data.toList.drop 0 = dktX3_all_0 := by decide +kernel
theorem dX3_all_0 : decode cX3_all 0 = .ok (.aload_n 0, 1) := dk_42 (dk_at dksX3_all_0 0 rfl rfl)
theorem dX3_all_1 : decode cX3_all 1 = .ok (.invokevirtual 88, 3) := dk_182 0 88 (dk_at dksX3_all_0 1 rfl rfl)
theorem dX3_all_4 : decode cX3_all 4 = .ok (.aload_n 0, 1) := dk_42 (dk_at dksX3_all_0 4 rfl rfl)
theorem dX3_all_5 : decode cX3_all 5 = .ok (.aload_n 1, 1) := dk_43 (dk_at dksX3_all_0 5 rfl rfl)
theorem dX3_all_6 : decode cX3_all 6 = .ok (.iconst 0, 1) := dk_3 (dk_at dksX3_all_0 6 rfl rfl)
theorem dX3_all_7 : decode cX3_all 7 = .ok (.invokevirtual 78, 3) := dk_182 0 78 (dk_at dksX3_all_0 7 rfl rfl)
theorem dX3_all_10 : decode cX3_all 10 = .ok (.ireturn, 1) := dk_172 (dk_at dksX3_all_0 10 rfl rfl)
abbrev cX3_begins : ByteArray := prog_17_method_5_code
def yX3_begins : MethodName := ⟨RX3, "begins", "()V"⟩
def dkwX3_begins_1 : List UInt8 := [184, 0, 82, 42, 4, 181, 0, 41, 177]
abbrev dktX3_begins_1 : List UInt8 := dkwX3_begins_1 ++ []
def dkwX3_begins_0 : List UInt8 := [42, 89, 180, 0, 41, 4, 96, 181, 0, 41, 42, 180, 0, 41, 18, 81, 160, 0, 16, 42, 180, 0, 16, 3]
abbrev dktX3_begins_0 : List UInt8 := dkwX3_begins_0 ++ dktX3_begins_1
theorem dksX3_begins_0 : cX3_begins.data.toList.drop 0 = dktX3_begins_0 := by decide +kernel
theorem dksX3_begins_1 : cX3_begins.data.toList.drop 24 = dktX3_begins_1 := dk_seg dksX3_begins_0 24 rfl rfl
theorem dX3_begins_0 : decode cX3_begins 0 = .ok (.aload_n 0, 1) := dk_42 (dk_at dksX3_begins_0 0 rfl rfl)
theorem dX3_begins_1 : decode cX3_begins 1 = .ok (.dup, 1) := dk_89 (dk_at dksX3_begins_0 1 rfl rfl)
theorem dX3_begins_2 : decode cX3_begins 2 = .ok (.getfield 41, 3) := dk_180 0 41 (dk_at dksX3_begins_0 2 rfl rfl)
theorem dX3_begins_5 : decode cX3_begins 5 = .ok (.iconst 1, 1) := dk_4 (dk_at dksX3_begins_0 5 rfl rfl)
theorem dX3_begins_6 : decode cX3_begins 6 = .ok (.iadd, 1) := dk_96 (dk_at dksX3_begins_0 6 rfl rfl)
theorem dX3_begins_7 : decode cX3_begins 7 = .ok (.putfield 41, 3) := dk_181 0 41 (dk_at dksX3_begins_0 7 rfl rfl)
theorem dX3_begins_10 : decode cX3_begins 10 = .ok (.aload_n 0, 1) := dk_42 (dk_at dksX3_begins_0 10 rfl rfl)
theorem dX3_begins_11 : decode cX3_begins 11 = .ok (.getfield 41, 3) := dk_180 0 41 (dk_at dksX3_begins_0 11 rfl rfl)
theorem dX3_begins_14 : decode cX3_begins 14 = .ok (.ldc 81, 2) := dk_18 81 (dk_at dksX3_begins_0 14 rfl rfl)
theorem dX3_begins_16 : decode cX3_begins 16 = .ok (.if_icmp .ne 16, 3) := dk_160 0 16 (dk_at dksX3_begins_0 16 rfl rfl)
theorem dX3_begins_19 : decode cX3_begins 19 = .ok (.aload_n 0, 1) := dk_42 (dk_at dksX3_begins_0 19 rfl rfl)
theorem dX3_begins_20 : decode cX3_begins 20 = .ok (.getfield 16, 3) := dk_180 0 16 (dk_at dksX3_begins_0 20 rfl rfl)
theorem dX3_begins_23 : decode cX3_begins 23 = .ok (.iconst 0, 1) := dk_3 (dk_at dksX3_begins_0 23 rfl rfl)
theorem dX3_begins_24 : decode cX3_begins 24 = .ok (.invokestatic 82, 3) := dk_184 0 82 (dk_at dksX3_begins_1 0 rfl rfl)
theorem dX3_begins_27 : decode cX3_begins 27 = .ok (.aload_n 0, 1) := dk_42 (dk_at dksX3_begins_1 3 rfl rfl)
theorem dX3_begins_28 : decode cX3_begins 28 = .ok (.iconst 1, 1) := dk_4 (dk_at dksX3_begins_1 4 rfl rfl)
theorem dX3_begins_29 : decode cX3_begins 29 = .ok (.putfield 41, 3) := dk_181 0 41 (dk_at dksX3_begins_1 5 rfl rfl)
theorem dX3_begins_32 : decode cX3_begins 32 = .ok (.return_, 1) := dk_177 (dk_at dksX3_begins_1 8 rfl rfl)
abbrev cX3_from : ByteArray := prog_17_method_3_code
def yX3_from : MethodName := ⟨RX3, "from", "(LHungryHedge$Trip;I)I"⟩
def dkwX3_from_4 : List UInt8 := [172]
abbrev dktX3_from_4 : List UInt8 := dkwX3_from_4 ++ []
def dkwX3_from_3 : List UInt8 := [132, 5, 1, 167, 255, 223, 42, 180, 0, 16, 29, 42, 180, 0, 41, 16, 10, 120, 21, 4, 128, 79, 21, 4]
abbrev dktX3_from_3 : List UInt8 := dkwX3_from_3 ++ dktX3_from_4
def dkwX3_from_2 : List UInt8 := [180, 0, 44, 180, 0, 48, 162, 0, 24, 21, 4, 42, 43, 21, 5, 28, 182, 0, 53, 184, 0, 57, 54, 4]
abbrev dktX3_from_2 : List UInt8 := dkwX3_from_2 ++ dktX3_from_3
def dkwX3_from_1 : List UInt8 := [180, 0, 16, 29, 46, 17, 3, 255, 126, 172, 3, 54, 4, 2, 54, 5, 21, 5, 42, 180, 0, 3]
abbrev dktX3_from_1 : List UInt8 := dkwX3_from_1 ++ dktX3_from_2
def dkwX3_from_0 : List UInt8 := [42, 43, 182, 0, 37, 62, 42, 180, 0, 16, 29, 46, 16, 10, 122, 42, 180, 0, 41, 160, 0, 14, 42]
abbrev dktX3_from_0 : List UInt8 := dkwX3_from_0 ++ dktX3_from_1
theorem dksX3_from_0 : cX3_from.data.toList.drop 0 = dktX3_from_0 := by decide +kernel
theorem dksX3_from_1 : cX3_from.data.toList.drop 23 = dktX3_from_1 := dk_seg dksX3_from_0 23 rfl rfl
theorem dksX3_from_2 : cX3_from.data.toList.drop 45 = dktX3_from_2 := dk_seg dksX3_from_1 22 rfl rfl
theorem dksX3_from_3 : cX3_from.data.toList.drop 69 = dktX3_from_3 := dk_seg dksX3_from_2 24 rfl rfl
theorem dksX3_from_4 : cX3_from.data.toList.drop 93 = dktX3_from_4 := dk_seg dksX3_from_3 24 rfl rfl
theorem dX3_from_0 : decode cX3_from 0 = .ok (.aload_n 0, 1) := dk_42 (dk_at dksX3_from_0 0 rfl rfl)
theorem dX3_from_1 : decode cX3_from 1 = .ok (.aload_n 1, 1) := dk_43 (dk_at dksX3_from_0 1 rfl rfl)
theorem dX3_from_2 : decode cX3_from 2 = .ok (.invokevirtual 37, 3) := dk_182 0 37 (dk_at dksX3_from_0 2 rfl rfl)
theorem dX3_from_5 : decode cX3_from 5 = .ok (.istore_n 3, 1) := dk_62 (dk_at dksX3_from_0 5 rfl rfl)
theorem dX3_from_6 : decode cX3_from 6 = .ok (.aload_n 0, 1) := dk_42 (dk_at dksX3_from_0 6 rfl rfl)
theorem dX3_from_7 : decode cX3_from 7 = .ok (.getfield 16, 3) := dk_180 0 16 (dk_at dksX3_from_0 7 rfl rfl)
theorem dX3_from_10 : decode cX3_from 10 = .ok (.iload_n 3, 1) := dk_29 (dk_at dksX3_from_0 10 rfl rfl)
theorem dX3_from_11 : decode cX3_from 11 = .ok (.iaload, 1) := dk_46 (dk_at dksX3_from_0 11 rfl rfl)
theorem dX3_from_12 : decode cX3_from 12 = .ok (.bipush 10, 2) := dk_16 10 (dk_at dksX3_from_0 12 rfl rfl)
theorem dX3_from_14 : decode cX3_from 14 = .ok (.ishr, 1) := dk_122 (dk_at dksX3_from_0 14 rfl rfl)
theorem dX3_from_15 : decode cX3_from 15 = .ok (.aload_n 0, 1) := dk_42 (dk_at dksX3_from_0 15 rfl rfl)
theorem dX3_from_16 : decode cX3_from 16 = .ok (.getfield 41, 3) := dk_180 0 41 (dk_at dksX3_from_0 16 rfl rfl)
theorem dX3_from_19 : decode cX3_from 19 = .ok (.if_icmp .ne 14, 3) := dk_160 0 14 (dk_at dksX3_from_0 19 rfl rfl)
theorem dX3_from_22 : decode cX3_from 22 = .ok (.aload_n 0, 1) := dk_42 (dk_at dksX3_from_0 22 rfl rfl)
theorem dX3_from_23 : decode cX3_from 23 = .ok (.getfield 16, 3) := dk_180 0 16 (dk_at dksX3_from_1 0 rfl rfl)
theorem dX3_from_26 : decode cX3_from 26 = .ok (.iload_n 3, 1) := dk_29 (dk_at dksX3_from_1 3 rfl rfl)
theorem dX3_from_27 : decode cX3_from 27 = .ok (.iaload, 1) := dk_46 (dk_at dksX3_from_1 4 rfl rfl)
theorem dX3_from_28 : decode cX3_from 28 = .ok (.sipush 1023, 3) := dk_17 3 255 (dk_at dksX3_from_1 5 rfl rfl)
theorem dX3_from_31 : decode cX3_from 31 = .ok (.iand, 1) := dk_126 (dk_at dksX3_from_1 8 rfl rfl)
theorem dX3_from_32 : decode cX3_from 32 = .ok (.ireturn, 1) := dk_172 (dk_at dksX3_from_1 9 rfl rfl)
theorem dX3_from_33 : decode cX3_from 33 = .ok (.iconst 0, 1) := dk_3 (dk_at dksX3_from_1 10 rfl rfl)
theorem dX3_from_34 : decode cX3_from 34 = .ok (.istore 4, 2) := dk_54 4 (dk_at dksX3_from_1 11 rfl rfl)
theorem dX3_from_36 : decode cX3_from 36 = .ok (.iconst (-1), 1) := dk_2 (dk_at dksX3_from_1 13 rfl rfl)
theorem dX3_from_37 : decode cX3_from 37 = .ok (.istore 5, 2) := dk_54 5 (dk_at dksX3_from_1 14 rfl rfl)
theorem dX3_from_39 : decode cX3_from 39 = .ok (.iload 5, 2) := dk_21 5 (dk_at dksX3_from_1 16 rfl rfl)
theorem dX3_from_41 : decode cX3_from 41 = .ok (.aload_n 0, 1) := dk_42 (dk_at dksX3_from_1 18 rfl rfl)
theorem dX3_from_42 : decode cX3_from 42 = .ok (.getfield 3, 3) := dk_180 0 3 (dk_at dksX3_from_1 19 rfl rfl)
theorem dX3_from_45 : decode cX3_from 45 = .ok (.getfield 44, 3) := dk_180 0 44 (dk_at dksX3_from_2 0 rfl rfl)
theorem dX3_from_48 : decode cX3_from 48 = .ok (.getfield 48, 3) := dk_180 0 48 (dk_at dksX3_from_2 3 rfl rfl)
theorem dX3_from_51 : decode cX3_from 51 = .ok (.if_icmp .ge 24, 3) := dk_162 0 24 (dk_at dksX3_from_2 6 rfl rfl)
theorem dX3_from_54 : decode cX3_from 54 = .ok (.iload 4, 2) := dk_21 4 (dk_at dksX3_from_2 9 rfl rfl)
theorem dX3_from_56 : decode cX3_from 56 = .ok (.aload_n 0, 1) := dk_42 (dk_at dksX3_from_2 11 rfl rfl)
theorem dX3_from_57 : decode cX3_from 57 = .ok (.aload_n 1, 1) := dk_43 (dk_at dksX3_from_2 12 rfl rfl)
theorem dX3_from_58 : decode cX3_from 58 = .ok (.iload 5, 2) := dk_21 5 (dk_at dksX3_from_2 13 rfl rfl)
theorem dX3_from_60 : decode cX3_from 60 = .ok (.iload_n 2, 1) := dk_28 (dk_at dksX3_from_2 15 rfl rfl)
theorem dX3_from_61 : decode cX3_from 61 = .ok (.invokevirtual 53, 3) := dk_182 0 53 (dk_at dksX3_from_2 16 rfl rfl)
theorem dX3_from_64 : decode cX3_from 64 = .ok (.invokestatic 57, 3) := dk_184 0 57 (dk_at dksX3_from_2 19 rfl rfl)
theorem dX3_from_67 : decode cX3_from 67 = .ok (.istore 4, 2) := dk_54 4 (dk_at dksX3_from_2 22 rfl rfl)
theorem dX3_from_69 : decode cX3_from 69 = .ok (.iinc 5 1, 3) := dk_132 5 1 (dk_at dksX3_from_3 0 rfl rfl)
theorem dX3_from_72 : decode cX3_from 72 = .ok (.goto (-33), 3) := dk_167 255 223 (dk_at dksX3_from_3 3 rfl rfl)
theorem dX3_from_75 : decode cX3_from 75 = .ok (.aload_n 0, 1) := dk_42 (dk_at dksX3_from_3 6 rfl rfl)
theorem dX3_from_76 : decode cX3_from 76 = .ok (.getfield 16, 3) := dk_180 0 16 (dk_at dksX3_from_3 7 rfl rfl)
theorem dX3_from_79 : decode cX3_from 79 = .ok (.iload_n 3, 1) := dk_29 (dk_at dksX3_from_3 10 rfl rfl)
theorem dX3_from_80 : decode cX3_from 80 = .ok (.aload_n 0, 1) := dk_42 (dk_at dksX3_from_3 11 rfl rfl)
theorem dX3_from_81 : decode cX3_from 81 = .ok (.getfield 41, 3) := dk_180 0 41 (dk_at dksX3_from_3 12 rfl rfl)
theorem dX3_from_84 : decode cX3_from 84 = .ok (.bipush 10, 2) := dk_16 10 (dk_at dksX3_from_3 15 rfl rfl)
theorem dX3_from_86 : decode cX3_from 86 = .ok (.ishl, 1) := dk_120 (dk_at dksX3_from_3 17 rfl rfl)
theorem dX3_from_87 : decode cX3_from 87 = .ok (.iload 4, 2) := dk_21 4 (dk_at dksX3_from_3 18 rfl rfl)
theorem dX3_from_89 : decode cX3_from 89 = .ok (.ior, 1) := dk_128 (dk_at dksX3_from_3 20 rfl rfl)
theorem dX3_from_90 : decode cX3_from 90 = .ok (.iastore, 1) := dk_79 (dk_at dksX3_from_3 21 rfl rfl)
theorem dX3_from_91 : decode cX3_from 91 = .ok (.iload 4, 2) := dk_21 4 (dk_at dksX3_from_3 22 rfl rfl)
theorem dX3_from_93 : decode cX3_from 93 = .ok (.ireturn, 1) := dk_172 (dk_at dksX3_from_4 0 rfl rfl)
abbrev cX3_placeOf : ByteArray := prog_17_method_2_code
def yX3_placeOf : MethodName := ⟨RX3, "placeOf", "(LHungryHedge$Trip;)I"⟩
def dkwX3_placeOf_1 : List UInt8 := [180, 0, 34, 29, 46, 96, 61, 132, 3, 1, 167, 255, 236, 28, 172]
abbrev dktX3_placeOf_1 : List UInt8 := dkwX3_placeOf_1 ++ []
def dkwX3_placeOf_0 : List UInt8 := [7, 43, 180, 0, 27, 104, 43, 180, 0, 31, 96, 61, 3, 62, 29, 7, 162, 0, 21, 16, 7, 28, 104, 43]
abbrev dktX3_placeOf_0 : List UInt8 := dkwX3_placeOf_0 ++ dktX3_placeOf_1
theorem dksX3_placeOf_0 : cX3_placeOf.data.toList.drop 0 = dktX3_placeOf_0 := by decide +kernel
theorem dksX3_placeOf_1 : cX3_placeOf.data.toList.drop 24 = dktX3_placeOf_1 := dk_seg dksX3_placeOf_0 24 rfl rfl
theorem dX3_placeOf_0 : decode cX3_placeOf 0 = .ok (.iconst 4, 1) := dk_7 (dk_at dksX3_placeOf_0 0 rfl rfl)
theorem dX3_placeOf_1 : decode cX3_placeOf 1 = .ok (.aload_n 1, 1) := dk_43 (dk_at dksX3_placeOf_0 1 rfl rfl)
theorem dX3_placeOf_2 : decode cX3_placeOf 2 = .ok (.getfield 27, 3) := dk_180 0 27 (dk_at dksX3_placeOf_0 2 rfl rfl)
theorem dX3_placeOf_5 : decode cX3_placeOf 5 = .ok (.imul, 1) := dk_104 (dk_at dksX3_placeOf_0 5 rfl rfl)
theorem dX3_placeOf_6 : decode cX3_placeOf 6 = .ok (.aload_n 1, 1) := dk_43 (dk_at dksX3_placeOf_0 6 rfl rfl)
theorem dX3_placeOf_7 : decode cX3_placeOf 7 = .ok (.getfield 31, 3) := dk_180 0 31 (dk_at dksX3_placeOf_0 7 rfl rfl)
theorem dX3_placeOf_10 : decode cX3_placeOf 10 = .ok (.iadd, 1) := dk_96 (dk_at dksX3_placeOf_0 10 rfl rfl)
theorem dX3_placeOf_11 : decode cX3_placeOf 11 = .ok (.istore_n 2, 1) := dk_61 (dk_at dksX3_placeOf_0 11 rfl rfl)
theorem dX3_placeOf_12 : decode cX3_placeOf 12 = .ok (.iconst 0, 1) := dk_3 (dk_at dksX3_placeOf_0 12 rfl rfl)
theorem dX3_placeOf_13 : decode cX3_placeOf 13 = .ok (.istore_n 3, 1) := dk_62 (dk_at dksX3_placeOf_0 13 rfl rfl)
theorem dX3_placeOf_14 : decode cX3_placeOf 14 = .ok (.iload_n 3, 1) := dk_29 (dk_at dksX3_placeOf_0 14 rfl rfl)
theorem dX3_placeOf_15 : decode cX3_placeOf 15 = .ok (.iconst 4, 1) := dk_7 (dk_at dksX3_placeOf_0 15 rfl rfl)
theorem dX3_placeOf_16 : decode cX3_placeOf 16 = .ok (.if_icmp .ge 21, 3) := dk_162 0 21 (dk_at dksX3_placeOf_0 16 rfl rfl)
theorem dX3_placeOf_19 : decode cX3_placeOf 19 = .ok (.bipush 7, 2) := dk_16 7 (dk_at dksX3_placeOf_0 19 rfl rfl)
theorem dX3_placeOf_21 : decode cX3_placeOf 21 = .ok (.iload_n 2, 1) := dk_28 (dk_at dksX3_placeOf_0 21 rfl rfl)
theorem dX3_placeOf_22 : decode cX3_placeOf 22 = .ok (.imul, 1) := dk_104 (dk_at dksX3_placeOf_0 22 rfl rfl)
theorem dX3_placeOf_23 : decode cX3_placeOf 23 = .ok (.aload_n 1, 1) := dk_43 (dk_at dksX3_placeOf_0 23 rfl rfl)
theorem dX3_placeOf_24 : decode cX3_placeOf 24 = .ok (.getfield 34, 3) := dk_180 0 34 (dk_at dksX3_placeOf_1 0 rfl rfl)
theorem dX3_placeOf_27 : decode cX3_placeOf 27 = .ok (.iload_n 3, 1) := dk_29 (dk_at dksX3_placeOf_1 3 rfl rfl)
theorem dX3_placeOf_28 : decode cX3_placeOf 28 = .ok (.iaload, 1) := dk_46 (dk_at dksX3_placeOf_1 4 rfl rfl)
theorem dX3_placeOf_29 : decode cX3_placeOf 29 = .ok (.iadd, 1) := dk_96 (dk_at dksX3_placeOf_1 5 rfl rfl)
theorem dX3_placeOf_30 : decode cX3_placeOf 30 = .ok (.istore_n 2, 1) := dk_61 (dk_at dksX3_placeOf_1 6 rfl rfl)
theorem dX3_placeOf_31 : decode cX3_placeOf 31 = .ok (.iinc 3 1, 3) := dk_132 3 1 (dk_at dksX3_placeOf_1 7 rfl rfl)
theorem dX3_placeOf_34 : decode cX3_placeOf 34 = .ok (.goto (-20), 3) := dk_167 255 236 (dk_at dksX3_placeOf_1 10 rfl rfl)
theorem dX3_placeOf_37 : decode cX3_placeOf 37 = .ok (.iload_n 2, 1) := dk_28 (dk_at dksX3_placeOf_1 13 rfl rfl)
theorem dX3_placeOf_38 : decode cX3_placeOf 38 = .ok (.ireturn, 1) := dk_172 (dk_at dksX3_placeOf_1 14 rfl rfl)
abbrev cX3_by : ByteArray := prog_17_method_4_code
def yX3_by : MethodName := ⟨RX3, "by", "(LHungryHedge$Trip;II)I"⟩
def dkwX3_by_2 : List UInt8 := [180, 0, 75, 43, 180, 0, 75, 100, 42, 25, 4, 29, 4, 96, 182, 0, 78, 96, 172]
abbrev dktX3_by_2 : List UInt8 := dkwX3_by_2 ++ []
def dkwX3_by_1 : List UInt8 := [58, 4, 25, 4, 43, 182, 0, 67, 42, 180, 0, 3, 180, 0, 44, 25, 4, 28, 182, 0, 71, 25, 4]
abbrev dktX3_by_1 : List UInt8 := dkwX3_by_1 ++ dktX3_by_2
def dkwX3_by_0 : List UInt8 := [42, 180, 0, 3, 180, 0, 44, 43, 28, 182, 0, 63, 154, 0, 5, 2, 172, 42, 180, 0, 22, 29, 50]
abbrev dktX3_by_0 : List UInt8 := dkwX3_by_0 ++ dktX3_by_1
theorem dksX3_by_0 : cX3_by.data.toList.drop 0 = dktX3_by_0 := by decide +kernel
theorem dksX3_by_1 : cX3_by.data.toList.drop 23 = dktX3_by_1 := dk_seg dksX3_by_0 23 rfl rfl
theorem dksX3_by_2 : cX3_by.data.toList.drop 46 = dktX3_by_2 := dk_seg dksX3_by_1 23 rfl rfl
theorem dX3_by_0 : decode cX3_by 0 = .ok (.aload_n 0, 1) := dk_42 (dk_at dksX3_by_0 0 rfl rfl)
theorem dX3_by_1 : decode cX3_by 1 = .ok (.getfield 3, 3) := dk_180 0 3 (dk_at dksX3_by_0 1 rfl rfl)
theorem dX3_by_4 : decode cX3_by 4 = .ok (.getfield 44, 3) := dk_180 0 44 (dk_at dksX3_by_0 4 rfl rfl)
theorem dX3_by_7 : decode cX3_by 7 = .ok (.aload_n 1, 1) := dk_43 (dk_at dksX3_by_0 7 rfl rfl)
theorem dX3_by_8 : decode cX3_by 8 = .ok (.iload_n 2, 1) := dk_28 (dk_at dksX3_by_0 8 rfl rfl)
theorem dX3_by_9 : decode cX3_by 9 = .ok (.invokevirtual 63, 3) := dk_182 0 63 (dk_at dksX3_by_0 9 rfl rfl)
theorem dX3_by_12 : decode cX3_by 12 = .ok (.ifCond .ne 5, 3) := dk_154 0 5 (dk_at dksX3_by_0 12 rfl rfl)
theorem dX3_by_15 : decode cX3_by 15 = .ok (.iconst (-1), 1) := dk_2 (dk_at dksX3_by_0 15 rfl rfl)
theorem dX3_by_16 : decode cX3_by 16 = .ok (.ireturn, 1) := dk_172 (dk_at dksX3_by_0 16 rfl rfl)
theorem dX3_by_17 : decode cX3_by 17 = .ok (.aload_n 0, 1) := dk_42 (dk_at dksX3_by_0 17 rfl rfl)
theorem dX3_by_18 : decode cX3_by 18 = .ok (.getfield 22, 3) := dk_180 0 22 (dk_at dksX3_by_0 18 rfl rfl)
theorem dX3_by_21 : decode cX3_by 21 = .ok (.iload_n 3, 1) := dk_29 (dk_at dksX3_by_0 21 rfl rfl)
theorem dX3_by_22 : decode cX3_by 22 = .ok (.aaload, 1) := dk_50 (dk_at dksX3_by_0 22 rfl rfl)
theorem dX3_by_23 : decode cX3_by 23 = .ok (.astore 4, 2) := dk_58 4 (dk_at dksX3_by_1 0 rfl rfl)
theorem dX3_by_25 : decode cX3_by 25 = .ok (.aload 4, 2) := dk_25 4 (dk_at dksX3_by_1 2 rfl rfl)
theorem dX3_by_27 : decode cX3_by 27 = .ok (.aload_n 1, 1) := dk_43 (dk_at dksX3_by_1 4 rfl rfl)
theorem dX3_by_28 : decode cX3_by 28 = .ok (.invokevirtual 67, 3) := dk_182 0 67 (dk_at dksX3_by_1 5 rfl rfl)
theorem dX3_by_31 : decode cX3_by 31 = .ok (.aload_n 0, 1) := dk_42 (dk_at dksX3_by_1 8 rfl rfl)
theorem dX3_by_32 : decode cX3_by 32 = .ok (.getfield 3, 3) := dk_180 0 3 (dk_at dksX3_by_1 9 rfl rfl)
theorem dX3_by_35 : decode cX3_by 35 = .ok (.getfield 44, 3) := dk_180 0 44 (dk_at dksX3_by_1 12 rfl rfl)
theorem dX3_by_38 : decode cX3_by 38 = .ok (.aload 4, 2) := dk_25 4 (dk_at dksX3_by_1 15 rfl rfl)
theorem dX3_by_40 : decode cX3_by 40 = .ok (.iload_n 2, 1) := dk_28 (dk_at dksX3_by_1 17 rfl rfl)
theorem dX3_by_41 : decode cX3_by 41 = .ok (.invokevirtual 71, 3) := dk_182 0 71 (dk_at dksX3_by_1 18 rfl rfl)
theorem dX3_by_44 : decode cX3_by 44 = .ok (.aload 4, 2) := dk_25 4 (dk_at dksX3_by_1 21 rfl rfl)
theorem dX3_by_46 : decode cX3_by 46 = .ok (.getfield 75, 3) := dk_180 0 75 (dk_at dksX3_by_2 0 rfl rfl)
theorem dX3_by_49 : decode cX3_by 49 = .ok (.aload_n 1, 1) := dk_43 (dk_at dksX3_by_2 3 rfl rfl)
theorem dX3_by_50 : decode cX3_by 50 = .ok (.getfield 75, 3) := dk_180 0 75 (dk_at dksX3_by_2 4 rfl rfl)
theorem dX3_by_53 : decode cX3_by 53 = .ok (.isub, 1) := dk_100 (dk_at dksX3_by_2 7 rfl rfl)
theorem dX3_by_54 : decode cX3_by 54 = .ok (.aload_n 0, 1) := dk_42 (dk_at dksX3_by_2 8 rfl rfl)
theorem dX3_by_55 : decode cX3_by 55 = .ok (.aload 4, 2) := dk_25 4 (dk_at dksX3_by_2 9 rfl rfl)
theorem dX3_by_57 : decode cX3_by 57 = .ok (.iload_n 3, 1) := dk_29 (dk_at dksX3_by_2 11 rfl rfl)
theorem dX3_by_58 : decode cX3_by 58 = .ok (.iconst 1, 1) := dk_4 (dk_at dksX3_by_2 12 rfl rfl)
theorem dX3_by_59 : decode cX3_by 59 = .ok (.iadd, 1) := dk_96 (dk_at dksX3_by_2 13 rfl rfl)
theorem dX3_by_60 : decode cX3_by 60 = .ok (.invokevirtual 78, 3) := dk_182 0 78 (dk_at dksX3_by_2 14 rfl rfl)
theorem dX3_by_63 : decode cX3_by 63 = .ok (.iadd, 1) := dk_96 (dk_at dksX3_by_2 17 rfl rfl)
theorem dX3_by_64 : decode cX3_by 64 = .ok (.ireturn, 1) := dk_172 (dk_at dksX3_by_2 18 rfl rfl)
abbrev cX3_first : ByteArray := prog_17_method_8_code
def yX3_first : MethodName := ⟨RX3, "first", "(LHungryHedge$Trip;)I"⟩
def dkwX3_first_1 : List UInt8 := [29, 3, 182, 0, 53, 28, 160, 0, 5, 29, 172, 132, 3, 1, 167, 255, 226, 16, 247, 172]
abbrev dktX3_first_1 : List UInt8 := dkwX3_first_1 ++ []
def dkwX3_first_0 : List UInt8 := [42, 43, 182, 0, 91, 61, 2, 62, 29, 42, 180, 0, 3, 180, 0, 44, 180, 0, 48, 162, 0, 22, 42, 43]
abbrev dktX3_first_0 : List UInt8 := dkwX3_first_0 ++ dktX3_first_1
theorem dksX3_first_0 : cX3_first.data.toList.drop 0 = dktX3_first_0 := by decide +kernel
theorem dksX3_first_1 : cX3_first.data.toList.drop 24 = dktX3_first_1 := dk_seg dksX3_first_0 24 rfl rfl
theorem dX3_first_0 : decode cX3_first 0 = .ok (.aload_n 0, 1) := dk_42 (dk_at dksX3_first_0 0 rfl rfl)
theorem dX3_first_1 : decode cX3_first 1 = .ok (.aload_n 1, 1) := dk_43 (dk_at dksX3_first_0 1 rfl rfl)
theorem dX3_first_2 : decode cX3_first 2 = .ok (.invokevirtual 91, 3) := dk_182 0 91 (dk_at dksX3_first_0 2 rfl rfl)
theorem dX3_first_5 : decode cX3_first 5 = .ok (.istore_n 2, 1) := dk_61 (dk_at dksX3_first_0 5 rfl rfl)
theorem dX3_first_6 : decode cX3_first 6 = .ok (.iconst (-1), 1) := dk_2 (dk_at dksX3_first_0 6 rfl rfl)
theorem dX3_first_7 : decode cX3_first 7 = .ok (.istore_n 3, 1) := dk_62 (dk_at dksX3_first_0 7 rfl rfl)
theorem dX3_first_8 : decode cX3_first 8 = .ok (.iload_n 3, 1) := dk_29 (dk_at dksX3_first_0 8 rfl rfl)
theorem dX3_first_9 : decode cX3_first 9 = .ok (.aload_n 0, 1) := dk_42 (dk_at dksX3_first_0 9 rfl rfl)
theorem dX3_first_10 : decode cX3_first 10 = .ok (.getfield 3, 3) := dk_180 0 3 (dk_at dksX3_first_0 10 rfl rfl)
theorem dX3_first_13 : decode cX3_first 13 = .ok (.getfield 44, 3) := dk_180 0 44 (dk_at dksX3_first_0 13 rfl rfl)
theorem dX3_first_16 : decode cX3_first 16 = .ok (.getfield 48, 3) := dk_180 0 48 (dk_at dksX3_first_0 16 rfl rfl)
theorem dX3_first_19 : decode cX3_first 19 = .ok (.if_icmp .ge 22, 3) := dk_162 0 22 (dk_at dksX3_first_0 19 rfl rfl)
theorem dX3_first_22 : decode cX3_first 22 = .ok (.aload_n 0, 1) := dk_42 (dk_at dksX3_first_0 22 rfl rfl)
theorem dX3_first_23 : decode cX3_first 23 = .ok (.aload_n 1, 1) := dk_43 (dk_at dksX3_first_0 23 rfl rfl)
theorem dX3_first_24 : decode cX3_first 24 = .ok (.iload_n 3, 1) := dk_29 (dk_at dksX3_first_1 0 rfl rfl)
theorem dX3_first_25 : decode cX3_first 25 = .ok (.iconst 0, 1) := dk_3 (dk_at dksX3_first_1 1 rfl rfl)
theorem dX3_first_26 : decode cX3_first 26 = .ok (.invokevirtual 53, 3) := dk_182 0 53 (dk_at dksX3_first_1 2 rfl rfl)
theorem dX3_first_29 : decode cX3_first 29 = .ok (.iload_n 2, 1) := dk_28 (dk_at dksX3_first_1 5 rfl rfl)
theorem dX3_first_30 : decode cX3_first 30 = .ok (.if_icmp .ne 5, 3) := dk_160 0 5 (dk_at dksX3_first_1 6 rfl rfl)
theorem dX3_first_33 : decode cX3_first 33 = .ok (.iload_n 3, 1) := dk_29 (dk_at dksX3_first_1 9 rfl rfl)
theorem dX3_first_34 : decode cX3_first 34 = .ok (.ireturn, 1) := dk_172 (dk_at dksX3_first_1 10 rfl rfl)
theorem dX3_first_35 : decode cX3_first 35 = .ok (.iinc 3 1, 3) := dk_132 3 1 (dk_at dksX3_first_1 11 rfl rfl)
theorem dX3_first_38 : decode cX3_first 38 = .ok (.goto (-30), 3) := dk_167 255 226 (dk_at dksX3_first_1 14 rfl rfl)
theorem dX3_first_41 : decode cX3_first 41 = .ok (.bipush (-9), 2) := dk_16 247 (dk_at dksX3_first_1 17 rfl rfl)
theorem dX3_first_43 : decode cX3_first 43 = .ok (.ireturn, 1) := dk_172 (dk_at dksX3_first_1 19 rfl rfl)
abbrev cX3_with : ByteArray := prog_17_method_7_code
def yX3_with : MethodName := ⟨RX3, "with", "(LHungryHedge$Trip;I)I"⟩
def dkwX3_with_0 : List UInt8 := [42, 182, 0, 88, 42, 43, 28, 3, 182, 0, 53, 172]
abbrev dktX3_with_0 : List UInt8 := dkwX3_with_0 ++ []
theorem dksX3_with_0 : cX3_with.data.toList.drop 0 = dktX3_with_0 := by decide +kernel
theorem dX3_with_0 : decode cX3_with 0 = .ok (.aload_n 0, 1) := dk_42 (dk_at dksX3_with_0 0 rfl rfl)
theorem dX3_with_1 : decode cX3_with 1 = .ok (.invokevirtual 88, 3) := dk_182 0 88 (dk_at dksX3_with_0 1 rfl rfl)
theorem dX3_with_4 : decode cX3_with 4 = .ok (.aload_n 0, 1) := dk_42 (dk_at dksX3_with_0 4 rfl rfl)
theorem dX3_with_5 : decode cX3_with 5 = .ok (.aload_n 1, 1) := dk_43 (dk_at dksX3_with_0 5 rfl rfl)
theorem dX3_with_6 : decode cX3_with 6 = .ok (.iload_n 2, 1) := dk_28 (dk_at dksX3_with_0 6 rfl rfl)
theorem dX3_with_7 : decode cX3_with 7 = .ok (.iconst 0, 1) := dk_3 (dk_at dksX3_with_0 7 rfl rfl)
theorem dX3_with_8 : decode cX3_with 8 = .ok (.invokevirtual 53, 3) := dk_182 0 53 (dk_at dksX3_with_0 8 rfl rfl)
theorem dX3_with_11 : decode cX3_with 11 = .ok (.ireturn, 1) := dk_172 (dk_at dksX3_with_0 11 rfl rfl)
theorem q109 : (Jvm.Cond.initialized "HungryHedge$Most") ∈ lw_all := lw_g (lw_at lw_m1 4 rfl) rfl
theorem q172 : (Jvm.Cond.fieldLinkNest "HungryHedge$Most" (31 : Nat) "HungryHedge$Trip" "at" "I" "HungryHedge") ∈ lw_tbl := lw_at lw_m1 67 rfl
theorem q175 : (Jvm.Cond.fieldLinkNest "HungryHedge$Most" (27 : Nat) "HungryHedge$Trip" "minute" "I" "HungryHedge") ∈ lw_tbl := lw_at lw_m1 70 rfl
theorem q180 : (Jvm.Cond.fieldLinkNest "HungryHedge$Most" (75 : Nat) "HungryHedge$Trip" "got" "I" "HungryHedge") ∈ lw_tbl := lw_at lw_m1 75 rfl
theorem q184 : (Jvm.Cond.fieldLinkNest "HungryHedge$Most" (34 : Nat) "HungryHedge$Trip" "food" "[I" "HungryHedge") ∈ lw_tbl := lw_at lw_m1 79 rfl
theorem q200 : (Jvm.Cond.fieldLinkNest "HungryHedge$Most" (48 : Nat) "HungryHedge$Kept" "patches" "I" "HungryHedge") ∈ lw_tbl := lw_at lw_m1 95 rfl
theorem q278 : (Jvm.Cond.instantiable "HungryHedge$Most" (4 : Nat)) ∈ lw_all := lw_g (lw_at lw_m1 173 rfl) rfl
theorem q280 : (Jvm.Cond.instanceMethod ({ cls := "HungryHedge$Most", name := "<init>", desc := "(LHungryHedge;)V" } : Jvm.MethodName)) ∈ lw_all := lw_g (lw_at lw_m1 175 rfl) rfl
theorem q281 : (Jvm.Cond.code ({ cls := "HungryHedge$Most", name := "<init>", desc := "(LHungryHedge;)V" } : Jvm.MethodName) prog_17_method_1_code (3 : Nat) (Option.none : Option Jvm.ClassFile.FieldType)) ∈ lw_all := lw_g (lw_at lw_m1 176 rfl) rfl
theorem q282 : (Jvm.Cond.methodLink "HungryHedge$Most" (9 : Nat) ({ cls := "java/lang/Object", name := "<init>", desc := "()V" } : Jvm.MethodName)) ∈ lw_all := lw_g (lw_at lw_m1 177 rfl) rfl
theorem q283 : (Jvm.Cond.constant "HungryHedge$Most" (15 : Nat) (201684 : Int32)) ∈ lw_all := lw_g (lw_at lw_m1 178 rfl) rfl
theorem q284 : (Jvm.Cond.classLink "HungryHedge$Most" (20 : Nat) "HungryHedge$Trip") ∈ lw_all := lw_g (lw_at lw_m1 179 rfl) rfl
theorem q286 : (Jvm.Cond.methodLinkNest "HungryHedge$Most" (26 : Nat) ({ cls := "HungryHedge$Trip", name := "<init>", desc := "()V" } : Jvm.MethodName) "HungryHedge") ∈ lw_tbl := lw_at lw_m1 181 rfl
theorem q287 : (Jvm.Cond.fieldLink "HungryHedge$Most" (16 : Nat) "HungryHedge$Most" "worth" "[I") ∈ lw_all := lw_g (lw_at lw_m1 182 rfl) rfl
theorem q288 : (Jvm.Cond.fieldLink "HungryHedge$Most" (22 : Nat) "HungryHedge$Most" "trips" "[LHungryHedge$Trip;") ∈ lw_all := lw_g (lw_at lw_m1 183 rfl) rfl
theorem q289 : (Jvm.Cond.fieldLink "HungryHedge$Most" (41 : Nat) "HungryHedge$Most" "round" "I") ∈ lw_all := lw_g (lw_at lw_m1 184 rfl) rfl
theorem q290 : (Jvm.Cond.fieldLink "HungryHedge$Most" (3 : Nat) "HungryHedge$Most" "this$0" "LHungryHedge;") ∈ lw_all := lw_g (lw_at lw_m1 185 rfl) rfl
theorem q291 : (Jvm.Cond.laysFinal "HungryHedge$Most" "HungryHedge$Most" "worth" "[I") ∈ lw_all := lw_g (lw_at lw_m1 186 rfl) rfl
theorem q292 : (Jvm.Cond.soleField "HungryHedge$Most" "worth") ∈ lw_all := lw_g (lw_at lw_m1 187 rfl) rfl
theorem q293 : (Jvm.Cond.laysFinal "HungryHedge$Most" "HungryHedge$Most" "trips" "[LHungryHedge$Trip;") ∈ lw_all := lw_g (lw_at lw_m1 188 rfl) rfl
theorem q294 : (Jvm.Cond.soleField "HungryHedge$Most" "trips") ∈ lw_all := lw_g (lw_at lw_m1 189 rfl) rfl
theorem q295 : (Jvm.Cond.lays "HungryHedge$Most" "HungryHedge$Most" "round" "I") ∈ lw_all := lw_g (lw_at lw_m1 190 rfl) rfl
theorem q296 : (Jvm.Cond.soleField "HungryHedge$Most" "round") ∈ lw_all := lw_g (lw_at lw_m1 191 rfl) rfl
theorem q297 : (Jvm.Cond.laysFinal "HungryHedge$Most" "HungryHedge$Most" "this$0" "LHungryHedge;") ∈ lw_all := lw_g (lw_at lw_m1 192 rfl) rfl
theorem q298 : (Jvm.Cond.soleField "HungryHedge$Most" "this$0") ∈ lw_all := lw_g (lw_at lw_m1 193 rfl) rfl
theorem q299 : (Jvm.Cond.superclass "HungryHedge$Most" "java/lang/Object") ∈ lw_all := lw_g (lw_at lw_m1 194 rfl) rfl
theorem q586 : (Jvm.Cond.fieldLinkNest "HungryHedge$Most" (44 : Nat) "HungryHedge" "d" "LHungryHedge$Kept;" "HungryHedge") ∈ lw_tbl := lw_at lw_m3 1 rfl
theorem q723 : (Jvm.Cond.instanceMethod ({ cls := "HungryHedge$Most", name := "all", desc := "(LHungryHedge$Trip;)I" } : Jvm.MethodName)) ∈ lw_all := lw_g (lw_at lw_m3 138 rfl) rfl
theorem q724 : (Jvm.Cond.selects "HungryHedge$Most" ({ cls := "HungryHedge$Most", name := "all", desc := "(LHungryHedge$Trip;)I" } : Jvm.MethodName) ({ cls := "HungryHedge$Most", name := "all", desc := "(LHungryHedge$Trip;)I" } : Jvm.MethodName)) ∈ lw_all := lw_g (lw_at lw_m3 139 rfl) rfl
theorem q725 : (Jvm.Cond.code ({ cls := "HungryHedge$Most", name := "all", desc := "(LHungryHedge$Trip;)I" } : Jvm.MethodName) prog_17_method_6_code (2 : Nat) (Option.some Jvm.ClassFile.FieldType.int)) ∈ lw_all := lw_g (lw_at lw_m3 140 rfl) rfl
theorem q726 : (Jvm.Cond.methodLink "HungryHedge$Most" (88 : Nat) ({ cls := "HungryHedge$Most", name := "begins", desc := "()V" } : Jvm.MethodName)) ∈ lw_all := lw_g (lw_at lw_m3 141 rfl) rfl
theorem q727 : (Jvm.Cond.privateMethod ({ cls := "HungryHedge$Most", name := "begins", desc := "()V" } : Jvm.MethodName)) ∈ lw_tbl := lw_at lw_m3 142 rfl
theorem q728 : (Jvm.Cond.instanceMethod ({ cls := "HungryHedge$Most", name := "begins", desc := "()V" } : Jvm.MethodName)) ∈ lw_all := lw_g (lw_at lw_m3 143 rfl) rfl
theorem q729 : (Jvm.Cond.code ({ cls := "HungryHedge$Most", name := "begins", desc := "()V" } : Jvm.MethodName) prog_17_method_5_code (1 : Nat) (Option.none : Option Jvm.ClassFile.FieldType)) ∈ lw_all := lw_g (lw_at lw_m3 144 rfl) rfl
theorem q730 : (Jvm.Cond.constant "HungryHedge$Most" (81 : Nat) (2000000 : Int32)) ∈ lw_all := lw_g (lw_at lw_m3 145 rfl) rfl
theorem q731 : (Jvm.Cond.methodLink "HungryHedge$Most" (82 : Nat) ({ cls := "java/util/Arrays", name := "fill", desc := "([II)V" } : Jvm.MethodName)) ∈ lw_all := lw_g (lw_at lw_m3 146 rfl) rfl
theorem q734 : (Jvm.Cond.methodLink "HungryHedge$Most" (78 : Nat) ({ cls := "HungryHedge$Most", name := "from", desc := "(LHungryHedge$Trip;I)I" } : Jvm.MethodName)) ∈ lw_all := lw_g (lw_at lw_m3 149 rfl) rfl
theorem q735 : (Jvm.Cond.privateMethod ({ cls := "HungryHedge$Most", name := "from", desc := "(LHungryHedge$Trip;I)I" } : Jvm.MethodName)) ∈ lw_tbl := lw_at lw_m3 150 rfl
theorem q736 : (Jvm.Cond.instanceMethod ({ cls := "HungryHedge$Most", name := "from", desc := "(LHungryHedge$Trip;I)I" } : Jvm.MethodName)) ∈ lw_all := lw_g (lw_at lw_m3 151 rfl) rfl
theorem q737 : (Jvm.Cond.code ({ cls := "HungryHedge$Most", name := "from", desc := "(LHungryHedge$Trip;I)I" } : Jvm.MethodName) prog_17_method_3_code (6 : Nat) (Option.some Jvm.ClassFile.FieldType.int)) ∈ lw_all := lw_g (lw_at lw_m3 152 rfl) rfl
theorem q738 : (Jvm.Cond.methodLink "HungryHedge$Most" (37 : Nat) ({ cls := "HungryHedge$Most", name := "placeOf", desc := "(LHungryHedge$Trip;)I" } : Jvm.MethodName)) ∈ lw_all := lw_g (lw_at lw_m3 153 rfl) rfl
theorem q739 : (Jvm.Cond.privateMethod ({ cls := "HungryHedge$Most", name := "placeOf", desc := "(LHungryHedge$Trip;)I" } : Jvm.MethodName)) ∈ lw_tbl := lw_at lw_m3 154 rfl
theorem q740 : (Jvm.Cond.instanceMethod ({ cls := "HungryHedge$Most", name := "placeOf", desc := "(LHungryHedge$Trip;)I" } : Jvm.MethodName)) ∈ lw_all := lw_g (lw_at lw_m3 155 rfl) rfl
theorem q741 : (Jvm.Cond.code ({ cls := "HungryHedge$Most", name := "placeOf", desc := "(LHungryHedge$Trip;)I" } : Jvm.MethodName) prog_17_method_2_code (4 : Nat) (Option.some Jvm.ClassFile.FieldType.int)) ∈ lw_all := lw_g (lw_at lw_m3 156 rfl) rfl
theorem q742 : (Jvm.Cond.methodLink "HungryHedge$Most" (53 : Nat) ({ cls := "HungryHedge$Most", name := "by", desc := "(LHungryHedge$Trip;II)I" } : Jvm.MethodName)) ∈ lw_all := lw_g (lw_at lw_m3 157 rfl) rfl
theorem q743 : (Jvm.Cond.privateMethod ({ cls := "HungryHedge$Most", name := "by", desc := "(LHungryHedge$Trip;II)I" } : Jvm.MethodName)) ∈ lw_tbl := lw_at lw_m3 158 rfl
theorem q744 : (Jvm.Cond.instanceMethod ({ cls := "HungryHedge$Most", name := "by", desc := "(LHungryHedge$Trip;II)I" } : Jvm.MethodName)) ∈ lw_all := lw_g (lw_at lw_m3 159 rfl) rfl
theorem q745 : (Jvm.Cond.code ({ cls := "HungryHedge$Most", name := "by", desc := "(LHungryHedge$Trip;II)I" } : Jvm.MethodName) prog_17_method_4_code (5 : Nat) (Option.some Jvm.ClassFile.FieldType.int)) ∈ lw_all := lw_g (lw_at lw_m3 160 rfl) rfl
theorem q746 : (Jvm.Cond.methodLink "HungryHedge$Most" (63 : Nat) ({ cls := "HungryHedge$Kept", name := "takes", desc := "(LHungryHedge$Trip;I)I" } : Jvm.MethodName)) ∈ lw_all := lw_g (lw_at lw_m3 161 rfl) rfl
theorem q747 : (Jvm.Cond.methodLink "HungryHedge$Most" (67 : Nat) ({ cls := "HungryHedge$Trip", name := "become", desc := "(LHungryHedge$Trip;)V" } : Jvm.MethodName)) ∈ lw_all := lw_g (lw_at lw_m3 162 rfl) rfl
theorem q752 : (Jvm.Cond.methodLink "HungryHedge$Most" (71 : Nat) ({ cls := "HungryHedge$Kept", name := "does", desc := "(LHungryHedge$Trip;I)V" } : Jvm.MethodName)) ∈ lw_all := lw_g (lw_at lw_m3 167 rfl) rfl
theorem q753 : (Jvm.Cond.methodLink "HungryHedge$Most" (57 : Nat) ({ cls := "java/lang/Math", name := "max", desc := "(II)I" } : Jvm.MethodName)) ∈ lw_all := lw_g (lw_at lw_m3 168 rfl) rfl
theorem q759 : (Jvm.Cond.instanceMethod ({ cls := "HungryHedge$Most", name := "first", desc := "(LHungryHedge$Trip;)I" } : Jvm.MethodName)) ∈ lw_all := lw_g (lw_at lw_m3 174 rfl) rfl
theorem q760 : (Jvm.Cond.selects "HungryHedge$Most" ({ cls := "HungryHedge$Most", name := "first", desc := "(LHungryHedge$Trip;)I" } : Jvm.MethodName) ({ cls := "HungryHedge$Most", name := "first", desc := "(LHungryHedge$Trip;)I" } : Jvm.MethodName)) ∈ lw_all := lw_g (lw_at lw_m3 175 rfl) rfl
theorem q761 : (Jvm.Cond.code ({ cls := "HungryHedge$Most", name := "first", desc := "(LHungryHedge$Trip;)I" } : Jvm.MethodName) prog_17_method_8_code (4 : Nat) (Option.some Jvm.ClassFile.FieldType.int)) ∈ lw_all := lw_g (lw_at lw_m3 176 rfl) rfl
theorem q762 : (Jvm.Cond.methodLink "HungryHedge$Most" (91 : Nat) ({ cls := "HungryHedge$Most", name := "all", desc := "(LHungryHedge$Trip;)I" } : Jvm.MethodName)) ∈ lw_all := lw_g (lw_at lw_m3 177 rfl) rfl
theorem q768 : (Jvm.Cond.instanceMethod ({ cls := "HungryHedge$Most", name := "with", desc := "(LHungryHedge$Trip;I)I" } : Jvm.MethodName)) ∈ lw_all := lw_g (lw_at lw_m3 183 rfl) rfl
theorem q769 : (Jvm.Cond.selects "HungryHedge$Most" ({ cls := "HungryHedge$Most", name := "with", desc := "(LHungryHedge$Trip;I)I" } : Jvm.MethodName) ({ cls := "HungryHedge$Most", name := "with", desc := "(LHungryHedge$Trip;I)I" } : Jvm.MethodName)) ∈ lw_all := lw_g (lw_at lw_m3 184 rfl) rfl
theorem q770 : (Jvm.Cond.code ({ cls := "HungryHedge$Most", name := "with", desc := "(LHungryHedge$Trip;I)I" } : Jvm.MethodName) prog_17_method_7_code (3 : Nat) (Option.some Jvm.ClassFile.FieldType.int)) ∈ lw_all := lw_g (lw_at lw_m3 185 rfl) rfl
theorem in_X3 : ∀ w ∈ wsX30, w ∈ lw_all := lw_in wsX30 [291, 293, 295, 297] (by decide +kernel) (by decide +kernel)

/-! HungryHedge$Round -/
set_option maxRecDepth 100000
def RX4 : String := "HungryHedge$Round"
def TX4 : u_T := fun k => match k with
  | 0 => ("HungryHedge$Round", "stays", "[I", true)
  | 1 => ("HungryHedge$Round", "best", "[I", true)
  | 2 => ("HungryHedge$Round", "brought", "I", false)
  | 3 => ("HungryHedge$Round", "time", "I", false)
  | _ => ("HungryHedge$Round", "this$0", "LHungryHedge;", true)
def tyX4 : Nat → FieldType := fun k => match k with
  | 0 => .array .int
  | 1 => .array .int
  | 2 => .int
  | 3 => .int
  | _ => .object "HungryHedge"
abbrev wsX40 : List Cond := u_ws RX4 TX4 5
theorem nmX4 : ∀ a, a < 5 → ∀ b, b < 5 → a ≠ b → (TX4 a).2.1 ≠ (TX4 b).2.1 := by decide +kernel
theorem tyX4_ok : ∀ k, k < 5 → parseFieldDescriptor (TX4 k).2.2.1 = some (tyX4 k) := by decide +kernel
abbrev cX4_init : ByteArray := prog_25_method_1_code
def yX4_init : MethodName := ⟨RX4, "<init>", "(LHungryHedge;)V"⟩
def dkwX4_init_0 : List UInt8 := [42, 43, 181, 0, 3, 42, 183, 0, 9, 42, 7, 188, 10, 181, 0, 15, 42, 7, 188, 10, 181, 0, 19, 177]
abbrev dktX4_init_0 : List UInt8 := dkwX4_init_0 ++ []
theorem dksX4_init_0 : cX4_init.data.toList.drop 0 = dktX4_init_0 := by decide +kernel
theorem dX4_init_0 : decode cX4_init 0 = .ok (.aload_n 0, 1) := dk_42 (dk_at dksX4_init_0 0 rfl rfl)
theorem dX4_init_1 : decode cX4_init 1 = .ok (.aload_n 1, 1) := dk_43 (dk_at dksX4_init_0 1 rfl rfl)
theorem dX4_init_2 : decode cX4_init 2 = .ok (.putfield 3, 3) := dk_181 0 3 (dk_at dksX4_init_0 2 rfl rfl)
theorem dX4_init_5 : decode cX4_init 5 = .ok (.aload_n 0, 1) := dk_42 (dk_at dksX4_init_0 5 rfl rfl)
theorem dX4_init_6 : decode cX4_init 6 = .ok (.invokespecial 9, 3) := dk_183 0 9 (dk_at dksX4_init_0 6 rfl rfl)
theorem dX4_init_9 : decode cX4_init 9 = .ok (.aload_n 0, 1) := dk_42 (dk_at dksX4_init_0 9 rfl rfl)
theorem dX4_init_10 : decode cX4_init 10 = .ok (.iconst 4, 1) := dk_7 (dk_at dksX4_init_0 10 rfl rfl)
theorem dX4_init_11 : decode cX4_init 11 = .ok (.newarray .int, 2) := dk_188_10 (dk_at dksX4_init_0 11 rfl rfl)
theorem dX4_init_13 : decode cX4_init 13 = .ok (.putfield 15, 3) := dk_181 0 15 (dk_at dksX4_init_0 13 rfl rfl)
theorem dX4_init_16 : decode cX4_init 16 = .ok (.aload_n 0, 1) := dk_42 (dk_at dksX4_init_0 16 rfl rfl)
theorem dX4_init_17 : decode cX4_init 17 = .ok (.iconst 4, 1) := dk_7 (dk_at dksX4_init_0 17 rfl rfl)
theorem dX4_init_18 : decode cX4_init 18 = .ok (.newarray .int, 2) := dk_188_10 (dk_at dksX4_init_0 18 rfl rfl)
theorem dX4_init_20 : decode cX4_init 20 = .ok (.putfield 19, 3) := dk_181 0 19 (dk_at dksX4_init_0 20 rfl rfl)
theorem dX4_init_23 : decode cX4_init 23 = .ok (.return_, 1) := dk_177 (dk_at dksX4_init_0 23 rfl rfl)
abbrev cX4_finds : ByteArray := prog_25_method_3_code
def yX4_finds : MethodName := ⟨RX4, "finds", "()V"⟩
def dkwX4_finds_0 : List UInt8 := [42, 3, 181, 0, 43, 42, 3, 3, 42, 180, 0, 3, 180, 0, 22, 180, 0, 55, 182, 0, 39, 177]
abbrev dktX4_finds_0 : List UInt8 := dkwX4_finds_0 ++ []
theorem dksX4_finds_0 : cX4_finds.data.toList.drop 0 = dktX4_finds_0 := by decide +kernel
theorem dX4_finds_0 : decode cX4_finds 0 = .ok (.aload_n 0, 1) := dk_42 (dk_at dksX4_finds_0 0 rfl rfl)
theorem dX4_finds_1 : decode cX4_finds 1 = .ok (.iconst 0, 1) := dk_3 (dk_at dksX4_finds_0 1 rfl rfl)
theorem dX4_finds_2 : decode cX4_finds 2 = .ok (.putfield 43, 3) := dk_181 0 43 (dk_at dksX4_finds_0 2 rfl rfl)
theorem dX4_finds_5 : decode cX4_finds 5 = .ok (.aload_n 0, 1) := dk_42 (dk_at dksX4_finds_0 5 rfl rfl)
theorem dX4_finds_6 : decode cX4_finds 6 = .ok (.iconst 0, 1) := dk_3 (dk_at dksX4_finds_0 6 rfl rfl)
theorem dX4_finds_7 : decode cX4_finds 7 = .ok (.iconst 0, 1) := dk_3 (dk_at dksX4_finds_0 7 rfl rfl)
theorem dX4_finds_8 : decode cX4_finds 8 = .ok (.aload_n 0, 1) := dk_42 (dk_at dksX4_finds_0 8 rfl rfl)
theorem dX4_finds_9 : decode cX4_finds 9 = .ok (.getfield 3, 3) := dk_180 0 3 (dk_at dksX4_finds_0 9 rfl rfl)
theorem dX4_finds_12 : decode cX4_finds 12 = .ok (.getfield 22, 3) := dk_180 0 22 (dk_at dksX4_finds_0 12 rfl rfl)
theorem dX4_finds_15 : decode cX4_finds 15 = .ok (.getfield 55, 3) := dk_180 0 55 (dk_at dksX4_finds_0 15 rfl rfl)
theorem dX4_finds_18 : decode cX4_finds 18 = .ok (.invokevirtual 39, 3) := dk_182 0 39 (dk_at dksX4_finds_0 18 rfl rfl)
theorem dX4_finds_21 : decode cX4_finds 21 = .ok (.return_, 1) := dk_177 (dk_at dksX4_finds_0 21 rfl rfl)
abbrev cX4_tries : ByteArray := prog_25_method_2_code
def yX4_tries : MethodName := ⟨RX4, "tries", "(III)V"⟩
def dkwX4_tries_5 : List UInt8 := [7, 184, 0, 49, 177]
abbrev dktX4_tries_5 : List UInt8 := dkwX4_tries_5 ++ []
def dkwX4_tries_4 : List UInt8 := [148, 158, 0, 27, 42, 28, 181, 0, 46, 42, 29, 181, 0, 43, 42, 180, 0, 15, 3, 42, 180, 0, 19, 3]
abbrev dktX4_tries_4 : List UInt8 := dkwX4_tries_4 ++ dktX4_tries_5
def dkwX4_tries_3 : List UInt8 := [177, 42, 180, 0, 43, 153, 0, 23, 28, 133, 42, 180, 0, 43, 133, 105, 42, 180, 0, 46, 133, 29, 133, 105]
abbrev dktX4_tries_3 : List UInt8 := dkwX4_tries_3 ++ dktX4_tries_4
def dkwX4_tries_2 : List UInt8 := [42, 180, 0, 3, 27, 21, 4, 182, 0, 35, 96, 29, 21, 4, 96, 182, 0, 39, 132, 4, 1, 167, 255, 205]
abbrev dktX4_tries_2 : List UInt8 := dkwX4_tries_2 ++ dktX4_tries_3
def dkwX4_tries_1 : List UInt8 := [180, 0, 22, 180, 0, 32, 27, 46, 163, 0, 40, 42, 180, 0, 15, 27, 21, 4, 79, 42, 27, 4, 96, 28]
abbrev dktX4_tries_1 : List UInt8 := dkwX4_tries_1 ++ dktX4_tries_2
def dkwX4_tries_0 : List UInt8 := [27, 42, 180, 0, 3, 180, 0, 22, 180, 0, 26, 162, 0, 61, 3, 54, 4, 21, 4, 42, 180, 0, 3]
abbrev dktX4_tries_0 : List UInt8 := dkwX4_tries_0 ++ dktX4_tries_1
theorem dksX4_tries_0 : cX4_tries.data.toList.drop 0 = dktX4_tries_0 := by decide +kernel
theorem dksX4_tries_1 : cX4_tries.data.toList.drop 23 = dktX4_tries_1 := dk_seg dksX4_tries_0 23 rfl rfl
theorem dksX4_tries_2 : cX4_tries.data.toList.drop 47 = dktX4_tries_2 := dk_seg dksX4_tries_1 24 rfl rfl
theorem dksX4_tries_3 : cX4_tries.data.toList.drop 71 = dktX4_tries_3 := dk_seg dksX4_tries_2 24 rfl rfl
theorem dksX4_tries_4 : cX4_tries.data.toList.drop 95 = dktX4_tries_4 := dk_seg dksX4_tries_3 24 rfl rfl
theorem dksX4_tries_5 : cX4_tries.data.toList.drop 119 = dktX4_tries_5 := dk_seg dksX4_tries_4 24 rfl rfl
theorem dX4_tries_0 : decode cX4_tries 0 = .ok (.iload_n 1, 1) := dk_27 (dk_at dksX4_tries_0 0 rfl rfl)
theorem dX4_tries_1 : decode cX4_tries 1 = .ok (.aload_n 0, 1) := dk_42 (dk_at dksX4_tries_0 1 rfl rfl)
theorem dX4_tries_2 : decode cX4_tries 2 = .ok (.getfield 3, 3) := dk_180 0 3 (dk_at dksX4_tries_0 2 rfl rfl)
theorem dX4_tries_5 : decode cX4_tries 5 = .ok (.getfield 22, 3) := dk_180 0 22 (dk_at dksX4_tries_0 5 rfl rfl)
theorem dX4_tries_8 : decode cX4_tries 8 = .ok (.getfield 26, 3) := dk_180 0 26 (dk_at dksX4_tries_0 8 rfl rfl)
theorem dX4_tries_11 : decode cX4_tries 11 = .ok (.if_icmp .ge 61, 3) := dk_162 0 61 (dk_at dksX4_tries_0 11 rfl rfl)
theorem dX4_tries_14 : decode cX4_tries 14 = .ok (.iconst 0, 1) := dk_3 (dk_at dksX4_tries_0 14 rfl rfl)
theorem dX4_tries_15 : decode cX4_tries 15 = .ok (.istore 4, 2) := dk_54 4 (dk_at dksX4_tries_0 15 rfl rfl)
theorem dX4_tries_17 : decode cX4_tries 17 = .ok (.iload 4, 2) := dk_21 4 (dk_at dksX4_tries_0 17 rfl rfl)
theorem dX4_tries_19 : decode cX4_tries 19 = .ok (.aload_n 0, 1) := dk_42 (dk_at dksX4_tries_0 19 rfl rfl)
theorem dX4_tries_20 : decode cX4_tries 20 = .ok (.getfield 3, 3) := dk_180 0 3 (dk_at dksX4_tries_0 20 rfl rfl)
theorem dX4_tries_23 : decode cX4_tries 23 = .ok (.getfield 22, 3) := dk_180 0 22 (dk_at dksX4_tries_1 0 rfl rfl)
theorem dX4_tries_26 : decode cX4_tries 26 = .ok (.getfield 32, 3) := dk_180 0 32 (dk_at dksX4_tries_1 3 rfl rfl)
theorem dX4_tries_29 : decode cX4_tries 29 = .ok (.iload_n 1, 1) := dk_27 (dk_at dksX4_tries_1 6 rfl rfl)
theorem dX4_tries_30 : decode cX4_tries 30 = .ok (.iaload, 1) := dk_46 (dk_at dksX4_tries_1 7 rfl rfl)
theorem dX4_tries_31 : decode cX4_tries 31 = .ok (.if_icmp .gt 40, 3) := dk_163 0 40 (dk_at dksX4_tries_1 8 rfl rfl)
theorem dX4_tries_34 : decode cX4_tries 34 = .ok (.aload_n 0, 1) := dk_42 (dk_at dksX4_tries_1 11 rfl rfl)
theorem dX4_tries_35 : decode cX4_tries 35 = .ok (.getfield 15, 3) := dk_180 0 15 (dk_at dksX4_tries_1 12 rfl rfl)
theorem dX4_tries_38 : decode cX4_tries 38 = .ok (.iload_n 1, 1) := dk_27 (dk_at dksX4_tries_1 15 rfl rfl)
theorem dX4_tries_39 : decode cX4_tries 39 = .ok (.iload 4, 2) := dk_21 4 (dk_at dksX4_tries_1 16 rfl rfl)
theorem dX4_tries_41 : decode cX4_tries 41 = .ok (.iastore, 1) := dk_79 (dk_at dksX4_tries_1 18 rfl rfl)
theorem dX4_tries_42 : decode cX4_tries 42 = .ok (.aload_n 0, 1) := dk_42 (dk_at dksX4_tries_1 19 rfl rfl)
theorem dX4_tries_43 : decode cX4_tries 43 = .ok (.iload_n 1, 1) := dk_27 (dk_at dksX4_tries_1 20 rfl rfl)
theorem dX4_tries_44 : decode cX4_tries 44 = .ok (.iconst 1, 1) := dk_4 (dk_at dksX4_tries_1 21 rfl rfl)
theorem dX4_tries_45 : decode cX4_tries 45 = .ok (.iadd, 1) := dk_96 (dk_at dksX4_tries_1 22 rfl rfl)
theorem dX4_tries_46 : decode cX4_tries 46 = .ok (.iload_n 2, 1) := dk_28 (dk_at dksX4_tries_1 23 rfl rfl)
theorem dX4_tries_47 : decode cX4_tries 47 = .ok (.aload_n 0, 1) := dk_42 (dk_at dksX4_tries_2 0 rfl rfl)
theorem dX4_tries_48 : decode cX4_tries 48 = .ok (.getfield 3, 3) := dk_180 0 3 (dk_at dksX4_tries_2 1 rfl rfl)
theorem dX4_tries_51 : decode cX4_tries 51 = .ok (.iload_n 1, 1) := dk_27 (dk_at dksX4_tries_2 4 rfl rfl)
theorem dX4_tries_52 : decode cX4_tries 52 = .ok (.iload 4, 2) := dk_21 4 (dk_at dksX4_tries_2 5 rfl rfl)
theorem dX4_tries_54 : decode cX4_tries 54 = .ok (.invokevirtual 35, 3) := dk_182 0 35 (dk_at dksX4_tries_2 7 rfl rfl)
theorem dX4_tries_57 : decode cX4_tries 57 = .ok (.iadd, 1) := dk_96 (dk_at dksX4_tries_2 10 rfl rfl)
theorem dX4_tries_58 : decode cX4_tries 58 = .ok (.iload_n 3, 1) := dk_29 (dk_at dksX4_tries_2 11 rfl rfl)
theorem dX4_tries_59 : decode cX4_tries 59 = .ok (.iload 4, 2) := dk_21 4 (dk_at dksX4_tries_2 12 rfl rfl)
theorem dX4_tries_61 : decode cX4_tries 61 = .ok (.iadd, 1) := dk_96 (dk_at dksX4_tries_2 14 rfl rfl)
theorem dX4_tries_62 : decode cX4_tries 62 = .ok (.invokevirtual 39, 3) := dk_182 0 39 (dk_at dksX4_tries_2 15 rfl rfl)
theorem dX4_tries_65 : decode cX4_tries 65 = .ok (.iinc 4 1, 3) := dk_132 4 1 (dk_at dksX4_tries_2 18 rfl rfl)
theorem dX4_tries_68 : decode cX4_tries 68 = .ok (.goto (-51), 3) := dk_167 255 205 (dk_at dksX4_tries_2 21 rfl rfl)
theorem dX4_tries_71 : decode cX4_tries 71 = .ok (.return_, 1) := dk_177 (dk_at dksX4_tries_3 0 rfl rfl)
theorem dX4_tries_72 : decode cX4_tries 72 = .ok (.aload_n 0, 1) := dk_42 (dk_at dksX4_tries_3 1 rfl rfl)
theorem dX4_tries_73 : decode cX4_tries 73 = .ok (.getfield 43, 3) := dk_180 0 43 (dk_at dksX4_tries_3 2 rfl rfl)
theorem dX4_tries_76 : decode cX4_tries 76 = .ok (.ifCond .eq 23, 3) := dk_153 0 23 (dk_at dksX4_tries_3 5 rfl rfl)
theorem dX4_tries_79 : decode cX4_tries 79 = .ok (.iload_n 2, 1) := dk_28 (dk_at dksX4_tries_3 8 rfl rfl)
theorem dX4_tries_80 : decode cX4_tries 80 = .ok (.i2l, 1) := dk_133 (dk_at dksX4_tries_3 9 rfl rfl)
theorem dX4_tries_81 : decode cX4_tries 81 = .ok (.aload_n 0, 1) := dk_42 (dk_at dksX4_tries_3 10 rfl rfl)
theorem dX4_tries_82 : decode cX4_tries 82 = .ok (.getfield 43, 3) := dk_180 0 43 (dk_at dksX4_tries_3 11 rfl rfl)
theorem dX4_tries_85 : decode cX4_tries 85 = .ok (.i2l, 1) := dk_133 (dk_at dksX4_tries_3 14 rfl rfl)
theorem dX4_tries_86 : decode cX4_tries 86 = .ok (.lmul, 1) := dk_105 (dk_at dksX4_tries_3 15 rfl rfl)
theorem dX4_tries_87 : decode cX4_tries 87 = .ok (.aload_n 0, 1) := dk_42 (dk_at dksX4_tries_3 16 rfl rfl)
theorem dX4_tries_88 : decode cX4_tries 88 = .ok (.getfield 46, 3) := dk_180 0 46 (dk_at dksX4_tries_3 17 rfl rfl)
theorem dX4_tries_91 : decode cX4_tries 91 = .ok (.i2l, 1) := dk_133 (dk_at dksX4_tries_3 20 rfl rfl)
theorem dX4_tries_92 : decode cX4_tries 92 = .ok (.iload_n 3, 1) := dk_29 (dk_at dksX4_tries_3 21 rfl rfl)
theorem dX4_tries_93 : decode cX4_tries 93 = .ok (.i2l, 1) := dk_133 (dk_at dksX4_tries_3 22 rfl rfl)
theorem dX4_tries_94 : decode cX4_tries 94 = .ok (.lmul, 1) := dk_105 (dk_at dksX4_tries_3 23 rfl rfl)
theorem dX4_tries_95 : decode cX4_tries 95 = .ok (.lcmp, 1) := dk_148 (dk_at dksX4_tries_4 0 rfl rfl)
theorem dX4_tries_96 : decode cX4_tries 96 = .ok (.ifCond .le 27, 3) := dk_158 0 27 (dk_at dksX4_tries_4 1 rfl rfl)
theorem dX4_tries_99 : decode cX4_tries 99 = .ok (.aload_n 0, 1) := dk_42 (dk_at dksX4_tries_4 4 rfl rfl)
theorem dX4_tries_100 : decode cX4_tries 100 = .ok (.iload_n 2, 1) := dk_28 (dk_at dksX4_tries_4 5 rfl rfl)
theorem dX4_tries_101 : decode cX4_tries 101 = .ok (.putfield 46, 3) := dk_181 0 46 (dk_at dksX4_tries_4 6 rfl rfl)
theorem dX4_tries_104 : decode cX4_tries 104 = .ok (.aload_n 0, 1) := dk_42 (dk_at dksX4_tries_4 9 rfl rfl)
theorem dX4_tries_105 : decode cX4_tries 105 = .ok (.iload_n 3, 1) := dk_29 (dk_at dksX4_tries_4 10 rfl rfl)
theorem dX4_tries_106 : decode cX4_tries 106 = .ok (.putfield 43, 3) := dk_181 0 43 (dk_at dksX4_tries_4 11 rfl rfl)
theorem dX4_tries_109 : decode cX4_tries 109 = .ok (.aload_n 0, 1) := dk_42 (dk_at dksX4_tries_4 14 rfl rfl)
theorem dX4_tries_110 : decode cX4_tries 110 = .ok (.getfield 15, 3) := dk_180 0 15 (dk_at dksX4_tries_4 15 rfl rfl)
theorem dX4_tries_113 : decode cX4_tries 113 = .ok (.iconst 0, 1) := dk_3 (dk_at dksX4_tries_4 18 rfl rfl)
theorem dX4_tries_114 : decode cX4_tries 114 = .ok (.aload_n 0, 1) := dk_42 (dk_at dksX4_tries_4 19 rfl rfl)
theorem dX4_tries_115 : decode cX4_tries 115 = .ok (.getfield 19, 3) := dk_180 0 19 (dk_at dksX4_tries_4 20 rfl rfl)
theorem dX4_tries_118 : decode cX4_tries 118 = .ok (.iconst 0, 1) := dk_3 (dk_at dksX4_tries_4 23 rfl rfl)
theorem dX4_tries_119 : decode cX4_tries 119 = .ok (.iconst 4, 1) := dk_7 (dk_at dksX4_tries_5 0 rfl rfl)
theorem dX4_tries_120 : decode cX4_tries 120 = .ok (.invokestatic 49, 3) := dk_184 0 49 (dk_at dksX4_tries_5 1 rfl rfl)
theorem dX4_tries_123 : decode cX4_tries 123 = .ok (.return_, 1) := dk_177 (dk_at dksX4_tries_5 4 rfl rfl)
theorem q110 : (Jvm.Cond.initialized "HungryHedge$Round") ∈ lw_all := lw_g (lw_at lw_m1 5 rfl) rfl
theorem q197 : (Jvm.Cond.fieldLinkNest "HungryHedge$Round" (26 : Nat) "HungryHedge$Kept" "patches" "I" "HungryHedge") ∈ lw_tbl := lw_at lw_m1 92 rfl
theorem q210 : (Jvm.Cond.fieldLinkNest "HungryHedge$Round" (55 : Nat) "HungryHedge$Kept" "journey" "I" "HungryHedge") ∈ lw_tbl := lw_at lw_m1 105 rfl
theorem q224 : (Jvm.Cond.fieldLinkNest "HungryHedge$Round" (32 : Nat) "HungryHedge$Kept" "top" "[I" "HungryHedge") ∈ lw_tbl := lw_at lw_m1 119 rfl
theorem q301 : (Jvm.Cond.instantiable "HungryHedge$Round" (5 : Nat)) ∈ lw_all := lw_g (lw_at lw_m1 196 rfl) rfl
theorem q303 : (Jvm.Cond.instanceMethod ({ cls := "HungryHedge$Round", name := "<init>", desc := "(LHungryHedge;)V" } : Jvm.MethodName)) ∈ lw_all := lw_g (lw_at lw_m1 198 rfl) rfl
theorem q304 : (Jvm.Cond.code ({ cls := "HungryHedge$Round", name := "<init>", desc := "(LHungryHedge;)V" } : Jvm.MethodName) prog_25_method_1_code (2 : Nat) (Option.none : Option Jvm.ClassFile.FieldType)) ∈ lw_all := lw_g (lw_at lw_m1 199 rfl) rfl
theorem q305 : (Jvm.Cond.methodLink "HungryHedge$Round" (9 : Nat) ({ cls := "java/lang/Object", name := "<init>", desc := "()V" } : Jvm.MethodName)) ∈ lw_all := lw_g (lw_at lw_m1 200 rfl) rfl
theorem q306 : (Jvm.Cond.fieldLink "HungryHedge$Round" (15 : Nat) "HungryHedge$Round" "stays" "[I") ∈ lw_all := lw_g (lw_at lw_m1 201 rfl) rfl
theorem q307 : (Jvm.Cond.fieldLink "HungryHedge$Round" (19 : Nat) "HungryHedge$Round" "best" "[I") ∈ lw_all := lw_g (lw_at lw_m1 202 rfl) rfl
theorem q309 : (Jvm.Cond.fieldLink "HungryHedge$Round" (46 : Nat) "HungryHedge$Round" "brought" "I") ∈ lw_all := lw_g (lw_at lw_m1 204 rfl) rfl
theorem q311 : (Jvm.Cond.fieldLink "HungryHedge$Round" (43 : Nat) "HungryHedge$Round" "time" "I") ∈ lw_all := lw_g (lw_at lw_m1 206 rfl) rfl
theorem q313 : (Jvm.Cond.fieldLink "HungryHedge$Round" (3 : Nat) "HungryHedge$Round" "this$0" "LHungryHedge;") ∈ lw_all := lw_g (lw_at lw_m1 208 rfl) rfl
theorem q314 : (Jvm.Cond.laysFinal "HungryHedge$Round" "HungryHedge$Round" "stays" "[I") ∈ lw_all := lw_g (lw_at lw_m1 209 rfl) rfl
theorem q315 : (Jvm.Cond.soleField "HungryHedge$Round" "stays") ∈ lw_all := lw_g (lw_at lw_m1 210 rfl) rfl
theorem q316 : (Jvm.Cond.laysFinal "HungryHedge$Round" "HungryHedge$Round" "best" "[I") ∈ lw_all := lw_g (lw_at lw_m1 211 rfl) rfl
theorem q317 : (Jvm.Cond.soleField "HungryHedge$Round" "best") ∈ lw_all := lw_g (lw_at lw_m1 212 rfl) rfl
theorem q318 : (Jvm.Cond.lays "HungryHedge$Round" "HungryHedge$Round" "brought" "I") ∈ lw_all := lw_g (lw_at lw_m1 213 rfl) rfl
theorem q319 : (Jvm.Cond.soleField "HungryHedge$Round" "brought") ∈ lw_all := lw_g (lw_at lw_m1 214 rfl) rfl
theorem q320 : (Jvm.Cond.lays "HungryHedge$Round" "HungryHedge$Round" "time" "I") ∈ lw_all := lw_g (lw_at lw_m1 215 rfl) rfl
theorem q321 : (Jvm.Cond.soleField "HungryHedge$Round" "time") ∈ lw_all := lw_g (lw_at lw_m1 216 rfl) rfl
theorem q322 : (Jvm.Cond.laysFinal "HungryHedge$Round" "HungryHedge$Round" "this$0" "LHungryHedge;") ∈ lw_all := lw_g (lw_at lw_m1 217 rfl) rfl
theorem q323 : (Jvm.Cond.soleField "HungryHedge$Round" "this$0") ∈ lw_all := lw_g (lw_at lw_m1 218 rfl) rfl
theorem q324 : (Jvm.Cond.superclass "HungryHedge$Round" "java/lang/Object") ∈ lw_all := lw_g (lw_at lw_m1 219 rfl) rfl
theorem q583 : (Jvm.Cond.fieldLinkNest "HungryHedge$Round" (22 : Nat) "HungryHedge" "d" "LHungryHedge$Kept;" "HungryHedge") ∈ lw_tbl := lw_at lw_m2 238 rfl
theorem q780 : (Jvm.Cond.instanceMethod ({ cls := "HungryHedge$Round", name := "finds", desc := "()V" } : Jvm.MethodName)) ∈ lw_all := lw_g (lw_at lw_m3 195 rfl) rfl
theorem q781 : (Jvm.Cond.selects "HungryHedge$Round" ({ cls := "HungryHedge$Round", name := "finds", desc := "()V" } : Jvm.MethodName) ({ cls := "HungryHedge$Round", name := "finds", desc := "()V" } : Jvm.MethodName)) ∈ lw_all := lw_g (lw_at lw_m3 196 rfl) rfl
theorem q782 : (Jvm.Cond.code ({ cls := "HungryHedge$Round", name := "finds", desc := "()V" } : Jvm.MethodName) prog_25_method_3_code (1 : Nat) (Option.none : Option Jvm.ClassFile.FieldType)) ∈ lw_all := lw_g (lw_at lw_m3 197 rfl) rfl
theorem q783 : (Jvm.Cond.methodLink "HungryHedge$Round" (39 : Nat) ({ cls := "HungryHedge$Round", name := "tries", desc := "(III)V" } : Jvm.MethodName)) ∈ lw_all := lw_g (lw_at lw_m3 198 rfl) rfl
theorem q784 : (Jvm.Cond.privateMethod ({ cls := "HungryHedge$Round", name := "tries", desc := "(III)V" } : Jvm.MethodName)) ∈ lw_tbl := lw_at lw_m3 199 rfl
theorem q785 : (Jvm.Cond.instanceMethod ({ cls := "HungryHedge$Round", name := "tries", desc := "(III)V" } : Jvm.MethodName)) ∈ lw_all := lw_g (lw_at lw_m3 200 rfl) rfl
theorem q786 : (Jvm.Cond.code ({ cls := "HungryHedge$Round", name := "tries", desc := "(III)V" } : Jvm.MethodName) prog_25_method_2_code (5 : Nat) (Option.none : Option Jvm.ClassFile.FieldType)) ∈ lw_all := lw_g (lw_at lw_m3 201 rfl) rfl
theorem q787 : (Jvm.Cond.methodLinkNest "HungryHedge$Round" (35 : Nat) ({ cls := "HungryHedge", name := "broughtIn", desc := "(II)I" } : Jvm.MethodName) "HungryHedge") ∈ lw_tbl := lw_at lw_m3 202 rfl
theorem q791 : (Jvm.Cond.methodLink "HungryHedge$Round" (49 : Nat) ({ cls := "java/lang/System", name := "arraycopy", desc := "(Ljava/lang/Object;ILjava/lang/Object;II)V" } : Jvm.MethodName)) ∈ lw_all := lw_g (lw_at lw_m3 206 rfl) rfl
theorem in_X4 : ∀ w ∈ wsX40, w ∈ lw_all := lw_in wsX40 [314, 316, 318, 320, 322] (by decide +kernel) (by decide +kernel)

/-! HungryHedge$Dares -/
set_option maxRecDepth 100000
def RX5 : String := "HungryHedge$Dares"
def TX5 : u_T := fun k => match k with
  | 0 => ("HungryHedge$Dares", "cases", "[[J", true)
  | _ => ("HungryHedge$Dares", "this$0", "LHungryHedge;", true)
def tyX5 : Nat → FieldType := fun k => match k with
  | 0 => .array (.array .long)
  | _ => .object "HungryHedge"
abbrev wsX50 : List Cond := u_ws RX5 TX5 2
theorem nmX5 : ∀ a, a < 2 → ∀ b, b < 2 → a ≠ b → (TX5 a).2.1 ≠ (TX5 b).2.1 := by decide +kernel
theorem tyX5_ok : ∀ k, k < 2 → parseFieldDescriptor (TX5 k).2.2.1 = some (tyX5 k) := by decide +kernel
abbrev cX5_init : ByteArray := prog_9_method_1_code
def yX5_init : MethodName := ⟨RX5, "<init>", "(LHungryHedge;)V"⟩
def dkwX5_init_0 : List UInt8 := [42, 43, 181, 0, 3, 42, 183, 0, 9, 42, 16, 13, 17, 0, 241, 197, 0, 15, 2, 181, 0, 17, 177]
abbrev dktX5_init_0 : List UInt8 := dkwX5_init_0 ++ []
theorem dksX5_init_0 : cX5_init.data.toList.drop 0 = dktX5_init_0 := by decide +kernel
theorem dX5_init_0 : decode cX5_init 0 = .ok (.aload_n 0, 1) := dk_42 (dk_at dksX5_init_0 0 rfl rfl)
theorem dX5_init_1 : decode cX5_init 1 = .ok (.aload_n 1, 1) := dk_43 (dk_at dksX5_init_0 1 rfl rfl)
theorem dX5_init_2 : decode cX5_init 2 = .ok (.putfield 3, 3) := dk_181 0 3 (dk_at dksX5_init_0 2 rfl rfl)
theorem dX5_init_5 : decode cX5_init 5 = .ok (.aload_n 0, 1) := dk_42 (dk_at dksX5_init_0 5 rfl rfl)
theorem dX5_init_6 : decode cX5_init 6 = .ok (.invokespecial 9, 3) := dk_183 0 9 (dk_at dksX5_init_0 6 rfl rfl)
theorem dX5_init_9 : decode cX5_init 9 = .ok (.aload_n 0, 1) := dk_42 (dk_at dksX5_init_0 9 rfl rfl)
theorem dX5_init_10 : decode cX5_init 10 = .ok (.bipush 13, 2) := dk_16 13 (dk_at dksX5_init_0 10 rfl rfl)
theorem dX5_init_12 : decode cX5_init 12 = .ok (.sipush 241, 3) := dk_17 0 241 (dk_at dksX5_init_0 12 rfl rfl)
theorem dX5_init_15 : decode cX5_init 15 = .ok (.multianewarray 15 2, 4) := by decide +kernel
theorem dX5_init_19 : decode cX5_init 19 = .ok (.putfield 17, 3) := dk_181 0 17 (dk_at dksX5_init_0 19 rfl rfl)
theorem dX5_init_22 : decode cX5_init 22 = .ok (.return_, 1) := dk_177 (dk_at dksX5_init_0 22 rfl rfl)
abbrev cX5_finds : ByteArray := prog_9_method_5_code
def yX5_finds : MethodName := ⟨RX5, "finds", "(II)V"⟩
def dkwX5_finds_5 : List UInt8 := [132, 5, 1, 167, 255, 170, 132, 4, 1, 167, 255, 146, 132, 3, 1, 167, 255, 132, 177]
abbrev dktX5_finds_5 : List UInt8 := dkwX5_finds_5 ++ []
def dkwX5_finds_4 : List UInt8 := [180, 0, 17, 29, 50, 21, 4, 42, 180, 0, 17, 29, 50, 21, 4, 47, 22, 6, 184, 0, 60, 80]
abbrev dktX5_finds_4 : List UInt8 := dkwX5_finds_4 ++ dktX5_finds_5
def dkwX5_finds_3 : List UInt8 := [180, 0, 42, 180, 0, 52, 21, 5, 50, 29, 21, 4, 182, 0, 56, 167, 0, 4, 9, 55, 6, 42]
abbrev dktX5_finds_3 : List UInt8 := dkwX5_finds_3 ++ dktX5_finds_4
def dkwX5_finds_2 : List UInt8 := [158, 0, 73, 21, 4, 158, 0, 68, 28, 155, 0, 9, 28, 21, 5, 160, 0, 26, 42, 42, 180, 0, 3]
abbrev dktX5_finds_2 : List UInt8 := dkwX5_finds_2 ++ dktX5_finds_3
def dkwX5_finds_1 : List UInt8 := [182, 0, 38, 3, 54, 5, 21, 5, 42, 180, 0, 3, 180, 0, 42, 180, 0, 46, 162, 0, 77, 29]
abbrev dktX5_finds_1 : List UInt8 := dkwX5_finds_1 ++ dktX5_finds_2
def dkwX5_finds_0 : List UInt8 := [3, 62, 29, 27, 163, 0, 125, 3, 54, 4, 21, 4, 17, 0, 240, 163, 0, 108, 42, 29, 21, 4]
abbrev dktX5_finds_0 : List UInt8 := dkwX5_finds_0 ++ dktX5_finds_1
theorem dksX5_finds_0 : cX5_finds.data.toList.drop 0 = dktX5_finds_0 := by decide +kernel
theorem dksX5_finds_1 : cX5_finds.data.toList.drop 22 = dktX5_finds_1 := dk_seg dksX5_finds_0 22 rfl rfl
theorem dksX5_finds_2 : cX5_finds.data.toList.drop 44 = dktX5_finds_2 := dk_seg dksX5_finds_1 22 rfl rfl
theorem dksX5_finds_3 : cX5_finds.data.toList.drop 67 = dktX5_finds_3 := dk_seg dksX5_finds_2 23 rfl rfl
theorem dksX5_finds_4 : cX5_finds.data.toList.drop 89 = dktX5_finds_4 := dk_seg dksX5_finds_3 22 rfl rfl
theorem dksX5_finds_5 : cX5_finds.data.toList.drop 111 = dktX5_finds_5 := dk_seg dksX5_finds_4 22 rfl rfl
theorem dX5_finds_0 : decode cX5_finds 0 = .ok (.iconst 0, 1) := dk_3 (dk_at dksX5_finds_0 0 rfl rfl)
theorem dX5_finds_1 : decode cX5_finds 1 = .ok (.istore_n 3, 1) := dk_62 (dk_at dksX5_finds_0 1 rfl rfl)
theorem dX5_finds_2 : decode cX5_finds 2 = .ok (.iload_n 3, 1) := dk_29 (dk_at dksX5_finds_0 2 rfl rfl)
theorem dX5_finds_3 : decode cX5_finds 3 = .ok (.iload_n 1, 1) := dk_27 (dk_at dksX5_finds_0 3 rfl rfl)
theorem dX5_finds_4 : decode cX5_finds 4 = .ok (.if_icmp .gt 125, 3) := dk_163 0 125 (dk_at dksX5_finds_0 4 rfl rfl)
theorem dX5_finds_7 : decode cX5_finds 7 = .ok (.iconst 0, 1) := dk_3 (dk_at dksX5_finds_0 7 rfl rfl)
theorem dX5_finds_8 : decode cX5_finds 8 = .ok (.istore 4, 2) := dk_54 4 (dk_at dksX5_finds_0 8 rfl rfl)
theorem dX5_finds_10 : decode cX5_finds 10 = .ok (.iload 4, 2) := dk_21 4 (dk_at dksX5_finds_0 10 rfl rfl)
theorem dX5_finds_12 : decode cX5_finds 12 = .ok (.sipush 240, 3) := dk_17 0 240 (dk_at dksX5_finds_0 12 rfl rfl)
theorem dX5_finds_15 : decode cX5_finds 15 = .ok (.if_icmp .gt 108, 3) := dk_163 0 108 (dk_at dksX5_finds_0 15 rfl rfl)
theorem dX5_finds_18 : decode cX5_finds 18 = .ok (.aload_n 0, 1) := dk_42 (dk_at dksX5_finds_0 18 rfl rfl)
theorem dX5_finds_19 : decode cX5_finds 19 = .ok (.iload_n 3, 1) := dk_29 (dk_at dksX5_finds_0 19 rfl rfl)
theorem dX5_finds_20 : decode cX5_finds 20 = .ok (.iload 4, 2) := dk_21 4 (dk_at dksX5_finds_0 20 rfl rfl)
theorem dX5_finds_22 : decode cX5_finds 22 = .ok (.invokevirtual 38, 3) := dk_182 0 38 (dk_at dksX5_finds_1 0 rfl rfl)
theorem dX5_finds_25 : decode cX5_finds 25 = .ok (.iconst 0, 1) := dk_3 (dk_at dksX5_finds_1 3 rfl rfl)
theorem dX5_finds_26 : decode cX5_finds 26 = .ok (.istore 5, 2) := dk_54 5 (dk_at dksX5_finds_1 4 rfl rfl)
theorem dX5_finds_28 : decode cX5_finds 28 = .ok (.iload 5, 2) := dk_21 5 (dk_at dksX5_finds_1 6 rfl rfl)
theorem dX5_finds_30 : decode cX5_finds 30 = .ok (.aload_n 0, 1) := dk_42 (dk_at dksX5_finds_1 8 rfl rfl)
theorem dX5_finds_31 : decode cX5_finds 31 = .ok (.getfield 3, 3) := dk_180 0 3 (dk_at dksX5_finds_1 9 rfl rfl)
theorem dX5_finds_34 : decode cX5_finds 34 = .ok (.getfield 42, 3) := dk_180 0 42 (dk_at dksX5_finds_1 12 rfl rfl)
theorem dX5_finds_37 : decode cX5_finds 37 = .ok (.getfield 46, 3) := dk_180 0 46 (dk_at dksX5_finds_1 15 rfl rfl)
theorem dX5_finds_40 : decode cX5_finds 40 = .ok (.if_icmp .ge 77, 3) := dk_162 0 77 (dk_at dksX5_finds_1 18 rfl rfl)
theorem dX5_finds_43 : decode cX5_finds 43 = .ok (.iload_n 3, 1) := dk_29 (dk_at dksX5_finds_1 21 rfl rfl)
theorem dX5_finds_44 : decode cX5_finds 44 = .ok (.ifCond .le 73, 3) := dk_158 0 73 (dk_at dksX5_finds_2 0 rfl rfl)
theorem dX5_finds_47 : decode cX5_finds 47 = .ok (.iload 4, 2) := dk_21 4 (dk_at dksX5_finds_2 3 rfl rfl)
theorem dX5_finds_49 : decode cX5_finds 49 = .ok (.ifCond .le 68, 3) := dk_158 0 68 (dk_at dksX5_finds_2 5 rfl rfl)
theorem dX5_finds_52 : decode cX5_finds 52 = .ok (.iload_n 2, 1) := dk_28 (dk_at dksX5_finds_2 8 rfl rfl)
theorem dX5_finds_53 : decode cX5_finds 53 = .ok (.ifCond .lt 9, 3) := dk_155 0 9 (dk_at dksX5_finds_2 9 rfl rfl)
theorem dX5_finds_56 : decode cX5_finds 56 = .ok (.iload_n 2, 1) := dk_28 (dk_at dksX5_finds_2 12 rfl rfl)
theorem dX5_finds_57 : decode cX5_finds 57 = .ok (.iload 5, 2) := dk_21 5 (dk_at dksX5_finds_2 13 rfl rfl)
theorem dX5_finds_59 : decode cX5_finds 59 = .ok (.if_icmp .ne 26, 3) := dk_160 0 26 (dk_at dksX5_finds_2 15 rfl rfl)
theorem dX5_finds_62 : decode cX5_finds 62 = .ok (.aload_n 0, 1) := dk_42 (dk_at dksX5_finds_2 18 rfl rfl)
theorem dX5_finds_63 : decode cX5_finds 63 = .ok (.aload_n 0, 1) := dk_42 (dk_at dksX5_finds_2 19 rfl rfl)
theorem dX5_finds_64 : decode cX5_finds 64 = .ok (.getfield 3, 3) := dk_180 0 3 (dk_at dksX5_finds_2 20 rfl rfl)
theorem dX5_finds_67 : decode cX5_finds 67 = .ok (.getfield 42, 3) := dk_180 0 42 (dk_at dksX5_finds_3 0 rfl rfl)
theorem dX5_finds_70 : decode cX5_finds 70 = .ok (.getfield 52, 3) := dk_180 0 52 (dk_at dksX5_finds_3 3 rfl rfl)
theorem dX5_finds_73 : decode cX5_finds 73 = .ok (.iload 5, 2) := dk_21 5 (dk_at dksX5_finds_3 6 rfl rfl)
theorem dX5_finds_75 : decode cX5_finds 75 = .ok (.aaload, 1) := dk_50 (dk_at dksX5_finds_3 8 rfl rfl)
theorem dX5_finds_76 : decode cX5_finds 76 = .ok (.iload_n 3, 1) := dk_29 (dk_at dksX5_finds_3 9 rfl rfl)
theorem dX5_finds_77 : decode cX5_finds 77 = .ok (.iload 4, 2) := dk_21 4 (dk_at dksX5_finds_3 10 rfl rfl)
theorem dX5_finds_79 : decode cX5_finds 79 = .ok (.invokevirtual 56, 3) := dk_182 0 56 (dk_at dksX5_finds_3 12 rfl rfl)
theorem dX5_finds_82 : decode cX5_finds 82 = .ok (.goto 4, 3) := dk_167 0 4 (dk_at dksX5_finds_3 15 rfl rfl)
theorem dX5_finds_85 : decode cX5_finds 85 = .ok (.lconst 0, 1) := dk_9 (dk_at dksX5_finds_3 18 rfl rfl)
theorem dX5_finds_86 : decode cX5_finds 86 = .ok (.lstore 6, 2) := dk_55 6 (dk_at dksX5_finds_3 19 rfl rfl)
theorem dX5_finds_88 : decode cX5_finds 88 = .ok (.aload_n 0, 1) := dk_42 (dk_at dksX5_finds_3 21 rfl rfl)
theorem dX5_finds_89 : decode cX5_finds 89 = .ok (.getfield 17, 3) := dk_180 0 17 (dk_at dksX5_finds_4 0 rfl rfl)
theorem dX5_finds_92 : decode cX5_finds 92 = .ok (.iload_n 3, 1) := dk_29 (dk_at dksX5_finds_4 3 rfl rfl)
theorem dX5_finds_93 : decode cX5_finds 93 = .ok (.aaload, 1) := dk_50 (dk_at dksX5_finds_4 4 rfl rfl)
theorem dX5_finds_94 : decode cX5_finds 94 = .ok (.iload 4, 2) := dk_21 4 (dk_at dksX5_finds_4 5 rfl rfl)
theorem dX5_finds_96 : decode cX5_finds 96 = .ok (.aload_n 0, 1) := dk_42 (dk_at dksX5_finds_4 7 rfl rfl)
theorem dX5_finds_97 : decode cX5_finds 97 = .ok (.getfield 17, 3) := dk_180 0 17 (dk_at dksX5_finds_4 8 rfl rfl)
theorem dX5_finds_100 : decode cX5_finds 100 = .ok (.iload_n 3, 1) := dk_29 (dk_at dksX5_finds_4 11 rfl rfl)
theorem dX5_finds_101 : decode cX5_finds 101 = .ok (.aaload, 1) := dk_50 (dk_at dksX5_finds_4 12 rfl rfl)
theorem dX5_finds_102 : decode cX5_finds 102 = .ok (.iload 4, 2) := dk_21 4 (dk_at dksX5_finds_4 13 rfl rfl)
theorem dX5_finds_104 : decode cX5_finds 104 = .ok (.laload, 1) := dk_47 (dk_at dksX5_finds_4 15 rfl rfl)
theorem dX5_finds_105 : decode cX5_finds 105 = .ok (.lload 6, 2) := dk_22 6 (dk_at dksX5_finds_4 16 rfl rfl)
theorem dX5_finds_107 : decode cX5_finds 107 = .ok (.invokestatic 60, 3) := dk_184 0 60 (dk_at dksX5_finds_4 18 rfl rfl)
theorem dX5_finds_110 : decode cX5_finds 110 = .ok (.lastore, 1) := dk_80 (dk_at dksX5_finds_4 21 rfl rfl)
theorem dX5_finds_111 : decode cX5_finds 111 = .ok (.iinc 5 1, 3) := dk_132 5 1 (dk_at dksX5_finds_5 0 rfl rfl)
theorem dX5_finds_114 : decode cX5_finds 114 = .ok (.goto (-86), 3) := dk_167 255 170 (dk_at dksX5_finds_5 3 rfl rfl)
theorem dX5_finds_117 : decode cX5_finds 117 = .ok (.iinc 4 1, 3) := dk_132 4 1 (dk_at dksX5_finds_5 6 rfl rfl)
theorem dX5_finds_120 : decode cX5_finds 120 = .ok (.goto (-110), 3) := dk_167 255 146 (dk_at dksX5_finds_5 9 rfl rfl)
theorem dX5_finds_123 : decode cX5_finds 123 = .ok (.iinc 3 1, 3) := dk_132 3 1 (dk_at dksX5_finds_5 12 rfl rfl)
theorem dX5_finds_126 : decode cX5_finds 126 = .ok (.goto (-124), 3) := dk_167 255 132 (dk_at dksX5_finds_5 15 rfl rfl)
theorem dX5_finds_129 : decode cX5_finds 129 = .ok (.return_, 1) := dk_177 (dk_at dksX5_finds_5 18 rfl rfl)
abbrev cX5_first : ByteArray := prog_9_method_4_code
def yX5_first : MethodName := ⟨RX5, "first", "(II)V"⟩
def dkwX5_first_1 : List UInt8 := [20, 0, 36, 42, 180, 0, 17, 27, 4, 100, 50, 3, 47, 105, 80, 177]
abbrev dktX5_first_1 : List UInt8 := dkwX5_first_1 ++ []
def dkwX5_first_0 : List UInt8 := [42, 180, 0, 17, 27, 50, 28, 28, 158, 0, 7, 9, 167, 0, 25, 27, 154, 0, 7, 10, 167, 0, 17]
abbrev dktX5_first_0 : List UInt8 := dkwX5_first_0 ++ dktX5_first_1
theorem dksX5_first_0 : cX5_first.data.toList.drop 0 = dktX5_first_0 := by decide +kernel
theorem dksX5_first_1 : cX5_first.data.toList.drop 23 = dktX5_first_1 := dk_seg dksX5_first_0 23 rfl rfl
theorem dX5_first_0 : decode cX5_first 0 = .ok (.aload_n 0, 1) := dk_42 (dk_at dksX5_first_0 0 rfl rfl)
theorem dX5_first_1 : decode cX5_first 1 = .ok (.getfield 17, 3) := dk_180 0 17 (dk_at dksX5_first_0 1 rfl rfl)
theorem dX5_first_4 : decode cX5_first 4 = .ok (.iload_n 1, 1) := dk_27 (dk_at dksX5_first_0 4 rfl rfl)
theorem dX5_first_5 : decode cX5_first 5 = .ok (.aaload, 1) := dk_50 (dk_at dksX5_first_0 5 rfl rfl)
theorem dX5_first_6 : decode cX5_first 6 = .ok (.iload_n 2, 1) := dk_28 (dk_at dksX5_first_0 6 rfl rfl)
theorem dX5_first_7 : decode cX5_first 7 = .ok (.iload_n 2, 1) := dk_28 (dk_at dksX5_first_0 7 rfl rfl)
theorem dX5_first_8 : decode cX5_first 8 = .ok (.ifCond .le 7, 3) := dk_158 0 7 (dk_at dksX5_first_0 8 rfl rfl)
theorem dX5_first_11 : decode cX5_first 11 = .ok (.lconst 0, 1) := dk_9 (dk_at dksX5_first_0 11 rfl rfl)
theorem dX5_first_12 : decode cX5_first 12 = .ok (.goto 25, 3) := dk_167 0 25 (dk_at dksX5_first_0 12 rfl rfl)
theorem dX5_first_15 : decode cX5_first 15 = .ok (.iload_n 1, 1) := dk_27 (dk_at dksX5_first_0 15 rfl rfl)
theorem dX5_first_16 : decode cX5_first 16 = .ok (.ifCond .ne 7, 3) := dk_154 0 7 (dk_at dksX5_first_0 16 rfl rfl)
theorem dX5_first_19 : decode cX5_first 19 = .ok (.lconst 1, 1) := dk_10 (dk_at dksX5_first_0 19 rfl rfl)
theorem dX5_first_20 : decode cX5_first 20 = .ok (.goto 17, 3) := dk_167 0 17 (dk_at dksX5_first_0 20 rfl rfl)
theorem dX5_first_23 : decode cX5_first 23 = .ok (.ldc2_w 36, 3) := dk_20 0 36 (dk_at dksX5_first_1 0 rfl rfl)
theorem dX5_first_26 : decode cX5_first 26 = .ok (.aload_n 0, 1) := dk_42 (dk_at dksX5_first_1 3 rfl rfl)
theorem dX5_first_27 : decode cX5_first 27 = .ok (.getfield 17, 3) := dk_180 0 17 (dk_at dksX5_first_1 4 rfl rfl)
theorem dX5_first_30 : decode cX5_first 30 = .ok (.iload_n 1, 1) := dk_27 (dk_at dksX5_first_1 7 rfl rfl)
theorem dX5_first_31 : decode cX5_first 31 = .ok (.iconst 1, 1) := dk_4 (dk_at dksX5_first_1 8 rfl rfl)
theorem dX5_first_32 : decode cX5_first 32 = .ok (.isub, 1) := dk_100 (dk_at dksX5_first_1 9 rfl rfl)
theorem dX5_first_33 : decode cX5_first 33 = .ok (.aaload, 1) := dk_50 (dk_at dksX5_first_1 10 rfl rfl)
theorem dX5_first_34 : decode cX5_first 34 = .ok (.iconst 0, 1) := dk_3 (dk_at dksX5_first_1 11 rfl rfl)
theorem dX5_first_35 : decode cX5_first 35 = .ok (.laload, 1) := dk_47 (dk_at dksX5_first_1 12 rfl rfl)
theorem dX5_first_36 : decode cX5_first 36 = .ok (.lmul, 1) := dk_105 (dk_at dksX5_first_1 13 rfl rfl)
theorem dX5_first_37 : decode cX5_first 37 = .ok (.lastore, 1) := dk_80 (dk_at dksX5_first_1 14 rfl rfl)
theorem dX5_first_38 : decode cX5_first 38 = .ok (.return_, 1) := dk_177 (dk_at dksX5_first_1 15 rfl rfl)
abbrev cX5_by : ByteArray := prog_9_method_3_code
def yX5_by : MethodName := ⟨RX5, "by", "(LHungryHedge$Risk;II)J"⟩
def dkwX5_by_2 : List UInt8 := [132, 8, 1, 167, 255, 223, 22, 4, 173]
abbrev dktX5_by_2 : List UInt8 := dkwX5_by_2 ++ []
def dkwX5_by_1 : List UInt8 := [25, 6, 21, 8, 46, 54, 9, 22, 4, 42, 28, 4, 100, 29, 21, 9, 100, 182, 0, 32, 97, 55, 4]
abbrev dktX5_by_1 : List UInt8 := dkwX5_by_1 ++ dktX5_by_2
def dkwX5_by_0 : List UInt8 := [9, 55, 4, 43, 180, 0, 26, 58, 6, 25, 6, 190, 54, 7, 3, 54, 8, 21, 8, 21, 7, 162, 0, 32]
abbrev dktX5_by_0 : List UInt8 := dkwX5_by_0 ++ dktX5_by_1
theorem dksX5_by_0 : cX5_by.data.toList.drop 0 = dktX5_by_0 := by decide +kernel
theorem dksX5_by_1 : cX5_by.data.toList.drop 24 = dktX5_by_1 := dk_seg dksX5_by_0 24 rfl rfl
theorem dksX5_by_2 : cX5_by.data.toList.drop 47 = dktX5_by_2 := dk_seg dksX5_by_1 23 rfl rfl
theorem dX5_by_0 : decode cX5_by 0 = .ok (.lconst 0, 1) := dk_9 (dk_at dksX5_by_0 0 rfl rfl)
theorem dX5_by_1 : decode cX5_by 1 = .ok (.lstore 4, 2) := dk_55 4 (dk_at dksX5_by_0 1 rfl rfl)
theorem dX5_by_3 : decode cX5_by 3 = .ok (.aload_n 1, 1) := dk_43 (dk_at dksX5_by_0 3 rfl rfl)
theorem dX5_by_4 : decode cX5_by 4 = .ok (.getfield 26, 3) := dk_180 0 26 (dk_at dksX5_by_0 4 rfl rfl)
theorem dX5_by_7 : decode cX5_by 7 = .ok (.astore 6, 2) := dk_58 6 (dk_at dksX5_by_0 7 rfl rfl)
theorem dX5_by_9 : decode cX5_by 9 = .ok (.aload 6, 2) := dk_25 6 (dk_at dksX5_by_0 9 rfl rfl)
theorem dX5_by_11 : decode cX5_by 11 = .ok (.arraylength, 1) := dk_190 (dk_at dksX5_by_0 11 rfl rfl)
theorem dX5_by_12 : decode cX5_by 12 = .ok (.istore 7, 2) := dk_54 7 (dk_at dksX5_by_0 12 rfl rfl)
theorem dX5_by_14 : decode cX5_by 14 = .ok (.iconst 0, 1) := dk_3 (dk_at dksX5_by_0 14 rfl rfl)
theorem dX5_by_15 : decode cX5_by 15 = .ok (.istore 8, 2) := dk_54 8 (dk_at dksX5_by_0 15 rfl rfl)
theorem dX5_by_17 : decode cX5_by 17 = .ok (.iload 8, 2) := dk_21 8 (dk_at dksX5_by_0 17 rfl rfl)
theorem dX5_by_19 : decode cX5_by 19 = .ok (.iload 7, 2) := dk_21 7 (dk_at dksX5_by_0 19 rfl rfl)
theorem dX5_by_21 : decode cX5_by 21 = .ok (.if_icmp .ge 32, 3) := dk_162 0 32 (dk_at dksX5_by_0 21 rfl rfl)
theorem dX5_by_24 : decode cX5_by 24 = .ok (.aload 6, 2) := dk_25 6 (dk_at dksX5_by_1 0 rfl rfl)
theorem dX5_by_26 : decode cX5_by 26 = .ok (.iload 8, 2) := dk_21 8 (dk_at dksX5_by_1 2 rfl rfl)
theorem dX5_by_28 : decode cX5_by 28 = .ok (.iaload, 1) := dk_46 (dk_at dksX5_by_1 4 rfl rfl)
theorem dX5_by_29 : decode cX5_by 29 = .ok (.istore 9, 2) := dk_54 9 (dk_at dksX5_by_1 5 rfl rfl)
theorem dX5_by_31 : decode cX5_by 31 = .ok (.lload 4, 2) := dk_22 4 (dk_at dksX5_by_1 7 rfl rfl)
theorem dX5_by_33 : decode cX5_by 33 = .ok (.aload_n 0, 1) := dk_42 (dk_at dksX5_by_1 9 rfl rfl)
theorem dX5_by_34 : decode cX5_by 34 = .ok (.iload_n 2, 1) := dk_28 (dk_at dksX5_by_1 10 rfl rfl)
theorem dX5_by_35 : decode cX5_by 35 = .ok (.iconst 1, 1) := dk_4 (dk_at dksX5_by_1 11 rfl rfl)
theorem dX5_by_36 : decode cX5_by 36 = .ok (.isub, 1) := dk_100 (dk_at dksX5_by_1 12 rfl rfl)
theorem dX5_by_37 : decode cX5_by 37 = .ok (.iload_n 3, 1) := dk_29 (dk_at dksX5_by_1 13 rfl rfl)
theorem dX5_by_38 : decode cX5_by 38 = .ok (.iload 9, 2) := dk_21 9 (dk_at dksX5_by_1 14 rfl rfl)
theorem dX5_by_40 : decode cX5_by 40 = .ok (.isub, 1) := dk_100 (dk_at dksX5_by_1 16 rfl rfl)
theorem dX5_by_41 : decode cX5_by 41 = .ok (.invokevirtual 32, 3) := dk_182 0 32 (dk_at dksX5_by_1 17 rfl rfl)
theorem dX5_by_44 : decode cX5_by 44 = .ok (.ladd, 1) := dk_97 (dk_at dksX5_by_1 20 rfl rfl)
theorem dX5_by_45 : decode cX5_by 45 = .ok (.lstore 4, 2) := dk_55 4 (dk_at dksX5_by_1 21 rfl rfl)
theorem dX5_by_47 : decode cX5_by 47 = .ok (.iinc 8 1, 3) := dk_132 8 1 (dk_at dksX5_by_2 0 rfl rfl)
theorem dX5_by_50 : decode cX5_by 50 = .ok (.goto (-33), 3) := dk_167 255 223 (dk_at dksX5_by_2 3 rfl rfl)
theorem dX5_by_53 : decode cX5_by 53 = .ok (.lload 4, 2) := dk_22 4 (dk_at dksX5_by_2 6 rfl rfl)
theorem dX5_by_55 : decode cX5_by 55 = .ok (.lreturn, 1) := dk_173 (dk_at dksX5_by_2 8 rfl rfl)
abbrev cX5_left : ByteArray := prog_9_method_2_code
def yX5_left : MethodName := ⟨RX5, "left", "(II)J"⟩
def dkwX5_left_0 : List UInt8 := [42, 180, 0, 17, 27, 50, 3, 28, 184, 0, 20, 47, 173]
abbrev dktX5_left_0 : List UInt8 := dkwX5_left_0 ++ []
theorem dksX5_left_0 : cX5_left.data.toList.drop 0 = dktX5_left_0 := by decide +kernel
theorem dX5_left_0 : decode cX5_left 0 = .ok (.aload_n 0, 1) := dk_42 (dk_at dksX5_left_0 0 rfl rfl)
theorem dX5_left_1 : decode cX5_left 1 = .ok (.getfield 17, 3) := dk_180 0 17 (dk_at dksX5_left_0 1 rfl rfl)
theorem dX5_left_4 : decode cX5_left 4 = .ok (.iload_n 1, 1) := dk_27 (dk_at dksX5_left_0 4 rfl rfl)
theorem dX5_left_5 : decode cX5_left 5 = .ok (.aaload, 1) := dk_50 (dk_at dksX5_left_0 5 rfl rfl)
theorem dX5_left_6 : decode cX5_left 6 = .ok (.iconst 0, 1) := dk_3 (dk_at dksX5_left_0 6 rfl rfl)
theorem dX5_left_7 : decode cX5_left 7 = .ok (.iload_n 2, 1) := dk_28 (dk_at dksX5_left_0 7 rfl rfl)
theorem dX5_left_8 : decode cX5_left 8 = .ok (.invokestatic 20, 3) := dk_184 0 20 (dk_at dksX5_left_0 8 rfl rfl)
theorem dX5_left_11 : decode cX5_left 11 = .ok (.laload, 1) := dk_47 (dk_at dksX5_left_0 11 rfl rfl)
theorem dX5_left_12 : decode cX5_left 12 = .ok (.lreturn, 1) := dk_173 (dk_at dksX5_left_0 12 rfl rfl)
theorem q111 : (Jvm.Cond.initialized "HungryHedge$Dares") ∈ lw_all := lw_g (lw_at lw_m1 6 rfl) rfl
theorem q203 : (Jvm.Cond.fieldLinkNest "HungryHedge$Dares" (46 : Nat) "HungryHedge$Kept" "risks" "I" "HungryHedge") ∈ lw_tbl := lw_at lw_m1 98 rfl
theorem q236 : (Jvm.Cond.fieldLinkNest "HungryHedge$Dares" (52 : Nat) "HungryHedge$Kept" "risk" "[LHungryHedge$Risk;" "HungryHedge") ∈ lw_tbl := lw_at lw_m1 131 rfl
theorem q326 : (Jvm.Cond.instantiable "HungryHedge$Dares" (2 : Nat)) ∈ lw_all := lw_g (lw_at lw_m1 221 rfl) rfl
theorem q328 : (Jvm.Cond.instanceMethod ({ cls := "HungryHedge$Dares", name := "<init>", desc := "(LHungryHedge;)V" } : Jvm.MethodName)) ∈ lw_all := lw_g (lw_at lw_m1 223 rfl) rfl
theorem q329 : (Jvm.Cond.code ({ cls := "HungryHedge$Dares", name := "<init>", desc := "(LHungryHedge;)V" } : Jvm.MethodName) prog_9_method_1_code (2 : Nat) (Option.none : Option Jvm.ClassFile.FieldType)) ∈ lw_all := lw_g (lw_at lw_m1 224 rfl) rfl
theorem q330 : (Jvm.Cond.methodLink "HungryHedge$Dares" (9 : Nat) ({ cls := "java/lang/Object", name := "<init>", desc := "()V" } : Jvm.MethodName)) ∈ lw_all := lw_g (lw_at lw_m1 225 rfl) rfl
theorem q331 : (Jvm.Cond.classLink "HungryHedge$Dares" (15 : Nat) "[[J") ∈ lw_all := lw_g (lw_at lw_m1 226 rfl) rfl
theorem q333 : (Jvm.Cond.fieldLink "HungryHedge$Dares" (17 : Nat) "HungryHedge$Dares" "cases" "[[J") ∈ lw_all := lw_g (lw_at lw_m1 228 rfl) rfl
theorem q335 : (Jvm.Cond.fieldLink "HungryHedge$Dares" (3 : Nat) "HungryHedge$Dares" "this$0" "LHungryHedge;") ∈ lw_all := lw_g (lw_at lw_m1 230 rfl) rfl
theorem q336 : (Jvm.Cond.laysFinal "HungryHedge$Dares" "HungryHedge$Dares" "cases" "[[J") ∈ lw_all := lw_g (lw_at lw_m1 231 rfl) rfl
theorem q337 : (Jvm.Cond.soleField "HungryHedge$Dares" "cases") ∈ lw_all := lw_g (lw_at lw_m1 232 rfl) rfl
theorem q338 : (Jvm.Cond.laysFinal "HungryHedge$Dares" "HungryHedge$Dares" "this$0" "LHungryHedge;") ∈ lw_all := lw_g (lw_at lw_m1 233 rfl) rfl
theorem q339 : (Jvm.Cond.soleField "HungryHedge$Dares" "this$0") ∈ lw_all := lw_g (lw_at lw_m1 234 rfl) rfl
theorem q340 : (Jvm.Cond.superclass "HungryHedge$Dares" "java/lang/Object") ∈ lw_all := lw_g (lw_at lw_m1 235 rfl) rfl
theorem q587 : (Jvm.Cond.fieldLinkNest "HungryHedge$Dares" (42 : Nat) "HungryHedge" "d" "LHungryHedge$Kept;" "HungryHedge") ∈ lw_tbl := lw_at lw_m3 2 rfl
theorem q813 : (Jvm.Cond.instanceMethod ({ cls := "HungryHedge$Dares", name := "finds", desc := "(II)V" } : Jvm.MethodName)) ∈ lw_all := lw_g (lw_at lw_m3 228 rfl) rfl
theorem q814 : (Jvm.Cond.selects "HungryHedge$Dares" ({ cls := "HungryHedge$Dares", name := "finds", desc := "(II)V" } : Jvm.MethodName) ({ cls := "HungryHedge$Dares", name := "finds", desc := "(II)V" } : Jvm.MethodName)) ∈ lw_all := lw_g (lw_at lw_m3 229 rfl) rfl
theorem q815 : (Jvm.Cond.code ({ cls := "HungryHedge$Dares", name := "finds", desc := "(II)V" } : Jvm.MethodName) prog_9_method_5_code (8 : Nat) (Option.none : Option Jvm.ClassFile.FieldType)) ∈ lw_all := lw_g (lw_at lw_m3 230 rfl) rfl
theorem q816 : (Jvm.Cond.methodLink "HungryHedge$Dares" (38 : Nat) ({ cls := "HungryHedge$Dares", name := "first", desc := "(II)V" } : Jvm.MethodName)) ∈ lw_all := lw_g (lw_at lw_m3 231 rfl) rfl
theorem q817 : (Jvm.Cond.privateMethod ({ cls := "HungryHedge$Dares", name := "first", desc := "(II)V" } : Jvm.MethodName)) ∈ lw_tbl := lw_at lw_m3 232 rfl
theorem q818 : (Jvm.Cond.instanceMethod ({ cls := "HungryHedge$Dares", name := "first", desc := "(II)V" } : Jvm.MethodName)) ∈ lw_all := lw_g (lw_at lw_m3 233 rfl) rfl
theorem q819 : (Jvm.Cond.code ({ cls := "HungryHedge$Dares", name := "first", desc := "(II)V" } : Jvm.MethodName) prog_9_method_4_code (3 : Nat) (Option.none : Option Jvm.ClassFile.FieldType)) ∈ lw_all := lw_g (lw_at lw_m3 234 rfl) rfl
theorem q820 : (Jvm.Cond.constantLong "HungryHedge$Dares" (36 : Nat) (10 : Int64)) ∈ lw_all := lw_g (lw_at lw_m3 235 rfl) rfl
theorem q821 : (Jvm.Cond.methodLink "HungryHedge$Dares" (56 : Nat) ({ cls := "HungryHedge$Dares", name := "by", desc := "(LHungryHedge$Risk;II)J" } : Jvm.MethodName)) ∈ lw_all := lw_g (lw_at lw_m3 236 rfl) rfl
theorem q822 : (Jvm.Cond.privateMethod ({ cls := "HungryHedge$Dares", name := "by", desc := "(LHungryHedge$Risk;II)J" } : Jvm.MethodName)) ∈ lw_tbl := lw_at lw_m3 237 rfl
theorem q823 : (Jvm.Cond.instanceMethod ({ cls := "HungryHedge$Dares", name := "by", desc := "(LHungryHedge$Risk;II)J" } : Jvm.MethodName)) ∈ lw_all := lw_g (lw_at lw_m3 238 rfl) rfl
theorem q824 : (Jvm.Cond.code ({ cls := "HungryHedge$Dares", name := "by", desc := "(LHungryHedge$Risk;II)J" } : Jvm.MethodName) prog_9_method_3_code (10 : Nat) (Option.some Jvm.ClassFile.FieldType.long)) ∈ lw_all := lw_g (lw_at lw_m3 239 rfl) rfl
theorem q825 : (Jvm.Cond.methodLink "HungryHedge$Dares" (32 : Nat) ({ cls := "HungryHedge$Dares", name := "left", desc := "(II)J" } : Jvm.MethodName)) ∈ lw_all := lw_g (lw_at lw_m4 0 rfl) rfl
theorem q826 : (Jvm.Cond.privateMethod ({ cls := "HungryHedge$Dares", name := "left", desc := "(II)J" } : Jvm.MethodName)) ∈ lw_tbl := lw_at lw_m4 1 rfl
theorem q827 : (Jvm.Cond.instanceMethod ({ cls := "HungryHedge$Dares", name := "left", desc := "(II)J" } : Jvm.MethodName)) ∈ lw_all := lw_g (lw_at lw_m4 2 rfl) rfl
theorem q828 : (Jvm.Cond.code ({ cls := "HungryHedge$Dares", name := "left", desc := "(II)J" } : Jvm.MethodName) prog_9_method_2_code (3 : Nat) (Option.some Jvm.ClassFile.FieldType.long)) ∈ lw_all := lw_g (lw_at lw_m4 3 rfl) rfl
theorem q829 : (Jvm.Cond.methodLink "HungryHedge$Dares" (20 : Nat) ({ cls := "java/lang/Math", name := "max", desc := "(II)I" } : Jvm.MethodName)) ∈ lw_all := lw_g (lw_at lw_m4 4 rfl) rfl
theorem q830 : (Jvm.Cond.methodLink "HungryHedge$Dares" (60 : Nat) ({ cls := "java/lang/Math", name := "max", desc := "(JJ)J" } : Jvm.MethodName)) ∈ lw_all := lw_g (lw_at lw_m4 5 rfl) rfl
theorem q896 : (Jvm.Cond.fieldLinkNest "HungryHedge$Dares" (26 : Nat) "HungryHedge$Risk" "brings" "[I" "HungryHedge") ∈ lw_tbl := lw_at lw_m4 71 rfl
theorem in_X5 : ∀ w ∈ wsX50, w ∈ lw_all := lw_in wsX50 [336, 338] (by decide +kernel) (by decide +kernel)

/-! HungryHedge$Spread -/
set_option maxRecDepth 100000
def RX6 : String := "HungryHedge$Spread"
def TX6 : u_T := fun k => match k with
  | 0 => ("HungryHedge$Spread", "here", "[I", true)
  | 1 => ("HungryHedge$Spread", "told", "[I", true)
  | 2 => ("HungryHedge$Spread", "weight", "[I", true)
  | 3 => ("HungryHedge$Spread", "many", "I", false)
  | 4 => ("HungryHedge$Spread", "wanted", "I", false)
  | _ => ("HungryHedge$Spread", "this$0", "LHungryHedge;", true)
def tyX6 : Nat → FieldType := fun k => match k with
  | 0 => .array .int
  | 1 => .array .int
  | 2 => .array .int
  | 3 => .int
  | 4 => .int
  | _ => .object "HungryHedge"
abbrev wsX60 : List Cond := u_ws RX6 TX6 6
theorem nmX6 : ∀ a, a < 6 → ∀ b, b < 6 → a ≠ b → (TX6 a).2.1 ≠ (TX6 b).2.1 := by decide +kernel
theorem tyX6_ok : ∀ k, k < 6 → parseFieldDescriptor (TX6 k).2.2.1 = some (tyX6 k) := by decide +kernel
abbrev cX6_init : ByteArray := prog_29_method_1_code
def yX6_init : MethodName := ⟨RX6, "<init>", "(LHungryHedge;)V"⟩
def dkwX6_init_1 : List UInt8 := [181, 0, 19, 42, 7, 188, 10, 181, 0, 22, 177]
abbrev dktX6_init_1 : List UInt8 := dkwX6_init_1 ++ []
def dkwX6_init_0 : List UInt8 := [42, 43, 181, 0, 3, 42, 183, 0, 9, 42, 16, 8, 188, 10, 181, 0, 15, 42, 16, 8, 188, 10]
abbrev dktX6_init_0 : List UInt8 := dkwX6_init_0 ++ dktX6_init_1
theorem dksX6_init_0 : cX6_init.data.toList.drop 0 = dktX6_init_0 := by decide +kernel
theorem dksX6_init_1 : cX6_init.data.toList.drop 22 = dktX6_init_1 := dk_seg dksX6_init_0 22 rfl rfl
theorem dX6_init_0 : decode cX6_init 0 = .ok (.aload_n 0, 1) := dk_42 (dk_at dksX6_init_0 0 rfl rfl)
theorem dX6_init_1 : decode cX6_init 1 = .ok (.aload_n 1, 1) := dk_43 (dk_at dksX6_init_0 1 rfl rfl)
theorem dX6_init_2 : decode cX6_init 2 = .ok (.putfield 3, 3) := dk_181 0 3 (dk_at dksX6_init_0 2 rfl rfl)
theorem dX6_init_5 : decode cX6_init 5 = .ok (.aload_n 0, 1) := dk_42 (dk_at dksX6_init_0 5 rfl rfl)
theorem dX6_init_6 : decode cX6_init 6 = .ok (.invokespecial 9, 3) := dk_183 0 9 (dk_at dksX6_init_0 6 rfl rfl)
theorem dX6_init_9 : decode cX6_init 9 = .ok (.aload_n 0, 1) := dk_42 (dk_at dksX6_init_0 9 rfl rfl)
theorem dX6_init_10 : decode cX6_init 10 = .ok (.bipush 8, 2) := dk_16 8 (dk_at dksX6_init_0 10 rfl rfl)
theorem dX6_init_12 : decode cX6_init 12 = .ok (.newarray .int, 2) := dk_188_10 (dk_at dksX6_init_0 12 rfl rfl)
theorem dX6_init_14 : decode cX6_init 14 = .ok (.putfield 15, 3) := dk_181 0 15 (dk_at dksX6_init_0 14 rfl rfl)
theorem dX6_init_17 : decode cX6_init 17 = .ok (.aload_n 0, 1) := dk_42 (dk_at dksX6_init_0 17 rfl rfl)
theorem dX6_init_18 : decode cX6_init 18 = .ok (.bipush 8, 2) := dk_16 8 (dk_at dksX6_init_0 18 rfl rfl)
theorem dX6_init_20 : decode cX6_init 20 = .ok (.newarray .int, 2) := dk_188_10 (dk_at dksX6_init_0 20 rfl rfl)
theorem dX6_init_22 : decode cX6_init 22 = .ok (.putfield 19, 3) := dk_181 0 19 (dk_at dksX6_init_1 0 rfl rfl)
theorem dX6_init_25 : decode cX6_init 25 = .ok (.aload_n 0, 1) := dk_42 (dk_at dksX6_init_1 3 rfl rfl)
theorem dX6_init_26 : decode cX6_init 26 = .ok (.iconst 4, 1) := dk_7 (dk_at dksX6_init_1 4 rfl rfl)
theorem dX6_init_27 : decode cX6_init 27 = .ok (.newarray .int, 2) := dk_188_10 (dk_at dksX6_init_1 5 rfl rfl)
theorem dX6_init_29 : decode cX6_init 29 = .ok (.putfield 22, 3) := dk_181 0 22 (dk_at dksX6_init_1 7 rfl rfl)
theorem dX6_init_32 : decode cX6_init 32 = .ok (.return_, 1) := dk_177 (dk_at dksX6_init_1 10 rfl rfl)
abbrev cX6_finds : ByteArray := prog_29_method_5_code
def yX6_finds : MethodName := ⟨RX6, "finds", "(I)I"⟩
def dkwX6_finds_1 : List UInt8 := [3, 3, 42, 180, 0, 3, 180, 0, 25, 180, 0, 68, 182, 0, 45, 42, 180, 0, 56, 172]
abbrev dktX6_finds_1 : List UInt8 := dkwX6_finds_1 ++ []
def dkwX6_finds_0 : List UInt8 := [42, 3, 181, 0, 56, 42, 27, 181, 0, 59, 42, 180, 0, 3, 180, 0, 25, 180, 0, 29, 158, 0, 19, 42]
abbrev dktX6_finds_0 : List UInt8 := dkwX6_finds_0 ++ dktX6_finds_1
theorem dksX6_finds_0 : cX6_finds.data.toList.drop 0 = dktX6_finds_0 := by decide +kernel
theorem dksX6_finds_1 : cX6_finds.data.toList.drop 24 = dktX6_finds_1 := dk_seg dksX6_finds_0 24 rfl rfl
theorem dX6_finds_0 : decode cX6_finds 0 = .ok (.aload_n 0, 1) := dk_42 (dk_at dksX6_finds_0 0 rfl rfl)
theorem dX6_finds_1 : decode cX6_finds 1 = .ok (.iconst 0, 1) := dk_3 (dk_at dksX6_finds_0 1 rfl rfl)
theorem dX6_finds_2 : decode cX6_finds 2 = .ok (.putfield 56, 3) := dk_181 0 56 (dk_at dksX6_finds_0 2 rfl rfl)
theorem dX6_finds_5 : decode cX6_finds 5 = .ok (.aload_n 0, 1) := dk_42 (dk_at dksX6_finds_0 5 rfl rfl)
theorem dX6_finds_6 : decode cX6_finds 6 = .ok (.iload_n 1, 1) := dk_27 (dk_at dksX6_finds_0 6 rfl rfl)
theorem dX6_finds_7 : decode cX6_finds 7 = .ok (.putfield 59, 3) := dk_181 0 59 (dk_at dksX6_finds_0 7 rfl rfl)
theorem dX6_finds_10 : decode cX6_finds 10 = .ok (.aload_n 0, 1) := dk_42 (dk_at dksX6_finds_0 10 rfl rfl)
theorem dX6_finds_11 : decode cX6_finds 11 = .ok (.getfield 3, 3) := dk_180 0 3 (dk_at dksX6_finds_0 11 rfl rfl)
theorem dX6_finds_14 : decode cX6_finds 14 = .ok (.getfield 25, 3) := dk_180 0 25 (dk_at dksX6_finds_0 14 rfl rfl)
theorem dX6_finds_17 : decode cX6_finds 17 = .ok (.getfield 29, 3) := dk_180 0 29 (dk_at dksX6_finds_0 17 rfl rfl)
theorem dX6_finds_20 : decode cX6_finds 20 = .ok (.ifCond .le 19, 3) := dk_158 0 19 (dk_at dksX6_finds_0 20 rfl rfl)
theorem dX6_finds_23 : decode cX6_finds 23 = .ok (.aload_n 0, 1) := dk_42 (dk_at dksX6_finds_0 23 rfl rfl)
theorem dX6_finds_24 : decode cX6_finds 24 = .ok (.iconst 0, 1) := dk_3 (dk_at dksX6_finds_1 0 rfl rfl)
theorem dX6_finds_25 : decode cX6_finds 25 = .ok (.iconst 0, 1) := dk_3 (dk_at dksX6_finds_1 1 rfl rfl)
theorem dX6_finds_26 : decode cX6_finds 26 = .ok (.aload_n 0, 1) := dk_42 (dk_at dksX6_finds_1 2 rfl rfl)
theorem dX6_finds_27 : decode cX6_finds 27 = .ok (.getfield 3, 3) := dk_180 0 3 (dk_at dksX6_finds_1 3 rfl rfl)
theorem dX6_finds_30 : decode cX6_finds 30 = .ok (.getfield 25, 3) := dk_180 0 25 (dk_at dksX6_finds_1 6 rfl rfl)
theorem dX6_finds_33 : decode cX6_finds 33 = .ok (.getfield 68, 3) := dk_180 0 68 (dk_at dksX6_finds_1 9 rfl rfl)
theorem dX6_finds_36 : decode cX6_finds 36 = .ok (.invokevirtual 45, 3) := dk_182 0 45 (dk_at dksX6_finds_1 12 rfl rfl)
theorem dX6_finds_39 : decode cX6_finds 39 = .ok (.aload_n 0, 1) := dk_42 (dk_at dksX6_finds_1 15 rfl rfl)
theorem dX6_finds_40 : decode cX6_finds 40 = .ok (.getfield 56, 3) := dk_180 0 56 (dk_at dksX6_finds_1 16 rfl rfl)
theorem dX6_finds_43 : decode cX6_finds 43 = .ok (.ireturn, 1) := dk_172 (dk_at dksX6_finds_1 19 rfl rfl)
abbrev cX6_goes : ByteArray := prog_29_method_4_code
def yX6_goes : MethodName := ⟨RX6, "goes", "(III)V"⟩
def dkwX6_goes_5 : List UInt8 := [180, 0, 19, 3, 16, 8, 184, 0, 62, 42, 89, 180, 0, 56, 4, 96, 181, 0, 56, 177]
abbrev dktX6_goes_5 : List UInt8 := dkwX6_goes_5 ++ []
def dkwX6_goes_4 : List UInt8 := [182, 0, 52, 153, 0, 39, 42, 180, 0, 56, 42, 180, 0, 59, 160, 0, 18, 42, 180, 0, 15, 3, 42]
abbrev dktX6_goes_4 : List UInt8 := dkwX6_goes_4 ++ dktX6_goes_5
def dkwX6_goes_3 : List UInt8 := [154, 0, 22, 42, 4, 3, 42, 180, 0, 3, 180, 0, 25, 180, 0, 49, 182, 0, 45, 167, 0, 46, 42]
abbrev dktX6_goes_3 : List UInt8 := dkwX6_goes_3 ++ dktX6_goes_4
def dkwX6_goes_2 : List UInt8 := [21, 5, 100, 182, 0, 45, 132, 5, 1, 167, 255, 226, 177, 42, 180, 0, 15, 21, 4, 29, 79, 27]
abbrev dktX6_goes_2 : List UInt8 := dkwX6_goes_2 ++ dktX6_goes_3
def dkwX6_goes_1 : List UInt8 := [54, 5, 21, 5, 29, 163, 0, 30, 42, 180, 0, 15, 21, 4, 21, 5, 79, 42, 27, 28, 4, 96, 29]
abbrev dktX6_goes_1 : List UInt8 := dkwX6_goes_1 ++ dktX6_goes_2
def dkwX6_goes_0 : List UInt8 := [7, 27, 104, 28, 96, 54, 4, 28, 42, 180, 0, 3, 180, 0, 25, 180, 0, 29, 4, 100, 162, 0, 40, 3]
abbrev dktX6_goes_0 : List UInt8 := dkwX6_goes_0 ++ dktX6_goes_1
theorem dksX6_goes_0 : cX6_goes.data.toList.drop 0 = dktX6_goes_0 := by decide +kernel
theorem dksX6_goes_1 : cX6_goes.data.toList.drop 24 = dktX6_goes_1 := dk_seg dksX6_goes_0 24 rfl rfl
theorem dksX6_goes_2 : cX6_goes.data.toList.drop 47 = dktX6_goes_2 := dk_seg dksX6_goes_1 23 rfl rfl
theorem dksX6_goes_3 : cX6_goes.data.toList.drop 69 = dktX6_goes_3 := dk_seg dksX6_goes_2 22 rfl rfl
theorem dksX6_goes_4 : cX6_goes.data.toList.drop 92 = dktX6_goes_4 := dk_seg dksX6_goes_3 23 rfl rfl
theorem dksX6_goes_5 : cX6_goes.data.toList.drop 115 = dktX6_goes_5 := dk_seg dksX6_goes_4 23 rfl rfl
theorem dX6_goes_0 : decode cX6_goes 0 = .ok (.iconst 4, 1) := dk_7 (dk_at dksX6_goes_0 0 rfl rfl)
theorem dX6_goes_1 : decode cX6_goes 1 = .ok (.iload_n 1, 1) := dk_27 (dk_at dksX6_goes_0 1 rfl rfl)
theorem dX6_goes_2 : decode cX6_goes 2 = .ok (.imul, 1) := dk_104 (dk_at dksX6_goes_0 2 rfl rfl)
theorem dX6_goes_3 : decode cX6_goes 3 = .ok (.iload_n 2, 1) := dk_28 (dk_at dksX6_goes_0 3 rfl rfl)
theorem dX6_goes_4 : decode cX6_goes 4 = .ok (.iadd, 1) := dk_96 (dk_at dksX6_goes_0 4 rfl rfl)
theorem dX6_goes_5 : decode cX6_goes 5 = .ok (.istore 4, 2) := dk_54 4 (dk_at dksX6_goes_0 5 rfl rfl)
theorem dX6_goes_7 : decode cX6_goes 7 = .ok (.iload_n 2, 1) := dk_28 (dk_at dksX6_goes_0 7 rfl rfl)
theorem dX6_goes_8 : decode cX6_goes 8 = .ok (.aload_n 0, 1) := dk_42 (dk_at dksX6_goes_0 8 rfl rfl)
theorem dX6_goes_9 : decode cX6_goes 9 = .ok (.getfield 3, 3) := dk_180 0 3 (dk_at dksX6_goes_0 9 rfl rfl)
theorem dX6_goes_12 : decode cX6_goes 12 = .ok (.getfield 25, 3) := dk_180 0 25 (dk_at dksX6_goes_0 12 rfl rfl)
theorem dX6_goes_15 : decode cX6_goes 15 = .ok (.getfield 29, 3) := dk_180 0 29 (dk_at dksX6_goes_0 15 rfl rfl)
theorem dX6_goes_18 : decode cX6_goes 18 = .ok (.iconst 1, 1) := dk_4 (dk_at dksX6_goes_0 18 rfl rfl)
theorem dX6_goes_19 : decode cX6_goes 19 = .ok (.isub, 1) := dk_100 (dk_at dksX6_goes_0 19 rfl rfl)
theorem dX6_goes_20 : decode cX6_goes 20 = .ok (.if_icmp .ge 40, 3) := dk_162 0 40 (dk_at dksX6_goes_0 20 rfl rfl)
theorem dX6_goes_23 : decode cX6_goes 23 = .ok (.iconst 0, 1) := dk_3 (dk_at dksX6_goes_0 23 rfl rfl)
theorem dX6_goes_24 : decode cX6_goes 24 = .ok (.istore 5, 2) := dk_54 5 (dk_at dksX6_goes_1 0 rfl rfl)
theorem dX6_goes_26 : decode cX6_goes 26 = .ok (.iload 5, 2) := dk_21 5 (dk_at dksX6_goes_1 2 rfl rfl)
theorem dX6_goes_28 : decode cX6_goes 28 = .ok (.iload_n 3, 1) := dk_29 (dk_at dksX6_goes_1 4 rfl rfl)
theorem dX6_goes_29 : decode cX6_goes 29 = .ok (.if_icmp .gt 30, 3) := dk_163 0 30 (dk_at dksX6_goes_1 5 rfl rfl)
theorem dX6_goes_32 : decode cX6_goes 32 = .ok (.aload_n 0, 1) := dk_42 (dk_at dksX6_goes_1 8 rfl rfl)
theorem dX6_goes_33 : decode cX6_goes 33 = .ok (.getfield 15, 3) := dk_180 0 15 (dk_at dksX6_goes_1 9 rfl rfl)
theorem dX6_goes_36 : decode cX6_goes 36 = .ok (.iload 4, 2) := dk_21 4 (dk_at dksX6_goes_1 12 rfl rfl)
theorem dX6_goes_38 : decode cX6_goes 38 = .ok (.iload 5, 2) := dk_21 5 (dk_at dksX6_goes_1 14 rfl rfl)
theorem dX6_goes_40 : decode cX6_goes 40 = .ok (.iastore, 1) := dk_79 (dk_at dksX6_goes_1 16 rfl rfl)
theorem dX6_goes_41 : decode cX6_goes 41 = .ok (.aload_n 0, 1) := dk_42 (dk_at dksX6_goes_1 17 rfl rfl)
theorem dX6_goes_42 : decode cX6_goes 42 = .ok (.iload_n 1, 1) := dk_27 (dk_at dksX6_goes_1 18 rfl rfl)
theorem dX6_goes_43 : decode cX6_goes 43 = .ok (.iload_n 2, 1) := dk_28 (dk_at dksX6_goes_1 19 rfl rfl)
theorem dX6_goes_44 : decode cX6_goes 44 = .ok (.iconst 1, 1) := dk_4 (dk_at dksX6_goes_1 20 rfl rfl)
theorem dX6_goes_45 : decode cX6_goes 45 = .ok (.iadd, 1) := dk_96 (dk_at dksX6_goes_1 21 rfl rfl)
theorem dX6_goes_46 : decode cX6_goes 46 = .ok (.iload_n 3, 1) := dk_29 (dk_at dksX6_goes_1 22 rfl rfl)
theorem dX6_goes_47 : decode cX6_goes 47 = .ok (.iload 5, 2) := dk_21 5 (dk_at dksX6_goes_2 0 rfl rfl)
theorem dX6_goes_49 : decode cX6_goes 49 = .ok (.isub, 1) := dk_100 (dk_at dksX6_goes_2 2 rfl rfl)
theorem dX6_goes_50 : decode cX6_goes 50 = .ok (.invokevirtual 45, 3) := dk_182 0 45 (dk_at dksX6_goes_2 3 rfl rfl)
theorem dX6_goes_53 : decode cX6_goes 53 = .ok (.iinc 5 1, 3) := dk_132 5 1 (dk_at dksX6_goes_2 6 rfl rfl)
theorem dX6_goes_56 : decode cX6_goes 56 = .ok (.goto (-30), 3) := dk_167 255 226 (dk_at dksX6_goes_2 9 rfl rfl)
theorem dX6_goes_59 : decode cX6_goes 59 = .ok (.return_, 1) := dk_177 (dk_at dksX6_goes_2 12 rfl rfl)
theorem dX6_goes_60 : decode cX6_goes 60 = .ok (.aload_n 0, 1) := dk_42 (dk_at dksX6_goes_2 13 rfl rfl)
theorem dX6_goes_61 : decode cX6_goes 61 = .ok (.getfield 15, 3) := dk_180 0 15 (dk_at dksX6_goes_2 14 rfl rfl)
theorem dX6_goes_64 : decode cX6_goes 64 = .ok (.iload 4, 2) := dk_21 4 (dk_at dksX6_goes_2 17 rfl rfl)
theorem dX6_goes_66 : decode cX6_goes 66 = .ok (.iload_n 3, 1) := dk_29 (dk_at dksX6_goes_2 19 rfl rfl)
theorem dX6_goes_67 : decode cX6_goes 67 = .ok (.iastore, 1) := dk_79 (dk_at dksX6_goes_2 20 rfl rfl)
theorem dX6_goes_68 : decode cX6_goes 68 = .ok (.iload_n 1, 1) := dk_27 (dk_at dksX6_goes_2 21 rfl rfl)
theorem dX6_goes_69 : decode cX6_goes 69 = .ok (.ifCond .ne 22, 3) := dk_154 0 22 (dk_at dksX6_goes_3 0 rfl rfl)
theorem dX6_goes_72 : decode cX6_goes 72 = .ok (.aload_n 0, 1) := dk_42 (dk_at dksX6_goes_3 3 rfl rfl)
theorem dX6_goes_73 : decode cX6_goes 73 = .ok (.iconst 1, 1) := dk_4 (dk_at dksX6_goes_3 4 rfl rfl)
theorem dX6_goes_74 : decode cX6_goes 74 = .ok (.iconst 0, 1) := dk_3 (dk_at dksX6_goes_3 5 rfl rfl)
theorem dX6_goes_75 : decode cX6_goes 75 = .ok (.aload_n 0, 1) := dk_42 (dk_at dksX6_goes_3 6 rfl rfl)
theorem dX6_goes_76 : decode cX6_goes 76 = .ok (.getfield 3, 3) := dk_180 0 3 (dk_at dksX6_goes_3 7 rfl rfl)
theorem dX6_goes_79 : decode cX6_goes 79 = .ok (.getfield 25, 3) := dk_180 0 25 (dk_at dksX6_goes_3 10 rfl rfl)
theorem dX6_goes_82 : decode cX6_goes 82 = .ok (.getfield 49, 3) := dk_180 0 49 (dk_at dksX6_goes_3 13 rfl rfl)
theorem dX6_goes_85 : decode cX6_goes 85 = .ok (.invokevirtual 45, 3) := dk_182 0 45 (dk_at dksX6_goes_3 16 rfl rfl)
theorem dX6_goes_88 : decode cX6_goes 88 = .ok (.goto 46, 3) := dk_167 0 46 (dk_at dksX6_goes_3 19 rfl rfl)
theorem dX6_goes_91 : decode cX6_goes 91 = .ok (.aload_n 0, 1) := dk_42 (dk_at dksX6_goes_3 22 rfl rfl)
theorem dX6_goes_92 : decode cX6_goes 92 = .ok (.invokevirtual 52, 3) := dk_182 0 52 (dk_at dksX6_goes_4 0 rfl rfl)
theorem dX6_goes_95 : decode cX6_goes 95 = .ok (.ifCond .eq 39, 3) := dk_153 0 39 (dk_at dksX6_goes_4 3 rfl rfl)
theorem dX6_goes_98 : decode cX6_goes 98 = .ok (.aload_n 0, 1) := dk_42 (dk_at dksX6_goes_4 6 rfl rfl)
theorem dX6_goes_99 : decode cX6_goes 99 = .ok (.getfield 56, 3) := dk_180 0 56 (dk_at dksX6_goes_4 7 rfl rfl)
theorem dX6_goes_102 : decode cX6_goes 102 = .ok (.aload_n 0, 1) := dk_42 (dk_at dksX6_goes_4 10 rfl rfl)
theorem dX6_goes_103 : decode cX6_goes 103 = .ok (.getfield 59, 3) := dk_180 0 59 (dk_at dksX6_goes_4 11 rfl rfl)
theorem dX6_goes_106 : decode cX6_goes 106 = .ok (.if_icmp .ne 18, 3) := dk_160 0 18 (dk_at dksX6_goes_4 14 rfl rfl)
theorem dX6_goes_109 : decode cX6_goes 109 = .ok (.aload_n 0, 1) := dk_42 (dk_at dksX6_goes_4 17 rfl rfl)
theorem dX6_goes_110 : decode cX6_goes 110 = .ok (.getfield 15, 3) := dk_180 0 15 (dk_at dksX6_goes_4 18 rfl rfl)
theorem dX6_goes_113 : decode cX6_goes 113 = .ok (.iconst 0, 1) := dk_3 (dk_at dksX6_goes_4 21 rfl rfl)
theorem dX6_goes_114 : decode cX6_goes 114 = .ok (.aload_n 0, 1) := dk_42 (dk_at dksX6_goes_4 22 rfl rfl)
theorem dX6_goes_115 : decode cX6_goes 115 = .ok (.getfield 19, 3) := dk_180 0 19 (dk_at dksX6_goes_5 0 rfl rfl)
theorem dX6_goes_118 : decode cX6_goes 118 = .ok (.iconst 0, 1) := dk_3 (dk_at dksX6_goes_5 3 rfl rfl)
theorem dX6_goes_119 : decode cX6_goes 119 = .ok (.bipush 8, 2) := dk_16 8 (dk_at dksX6_goes_5 4 rfl rfl)
theorem dX6_goes_121 : decode cX6_goes 121 = .ok (.invokestatic 62, 3) := dk_184 0 62 (dk_at dksX6_goes_5 6 rfl rfl)
theorem dX6_goes_124 : decode cX6_goes 124 = .ok (.aload_n 0, 1) := dk_42 (dk_at dksX6_goes_5 9 rfl rfl)
theorem dX6_goes_125 : decode cX6_goes 125 = .ok (.dup, 1) := dk_89 (dk_at dksX6_goes_5 10 rfl rfl)
theorem dX6_goes_126 : decode cX6_goes 126 = .ok (.getfield 56, 3) := dk_180 0 56 (dk_at dksX6_goes_5 11 rfl rfl)
theorem dX6_goes_129 : decode cX6_goes 129 = .ok (.iconst 1, 1) := dk_4 (dk_at dksX6_goes_5 14 rfl rfl)
theorem dX6_goes_130 : decode cX6_goes 130 = .ok (.iadd, 1) := dk_96 (dk_at dksX6_goes_5 15 rfl rfl)
theorem dX6_goes_131 : decode cX6_goes 131 = .ok (.putfield 56, 3) := dk_181 0 56 (dk_at dksX6_goes_5 16 rfl rfl)
theorem dX6_goes_134 : decode cX6_goes 134 = .ok (.return_, 1) := dk_177 (dk_at dksX6_goes_5 19 rfl rfl)
abbrev cX6_rests : ByteArray := prog_29_method_3_code
def yX6_rests : MethodName := ⟨RX6, "rests", "()Z"⟩
def dkwX6_rests_5 : List UInt8 := [28, 4, 182, 0, 41, 153, 0, 7, 4, 167, 0, 4, 3, 60, 132, 2, 1, 167, 255, 182, 27, 172]
abbrev dktX6_rests_5 : List UInt8 := dkwX6_rests_5 ++ []
def dkwX6_rests_4 : List UInt8 := [180, 0, 25, 180, 0, 38, 182, 0, 41, 153, 0, 27, 42, 180, 0, 15, 7, 28, 96, 46, 153, 0, 12, 42]
abbrev dktX6_rests_4 : List UInt8 := dkwX6_rests_4 ++ dktX6_rests_5
def dkwX6_rests_3 : List UInt8 := [162, 0, 66, 27, 153, 0, 62, 42, 180, 0, 15, 28, 46, 153, 0, 21, 42, 28, 42, 180, 0, 3]
abbrev dktX6_rests_3 : List UInt8 := dkwX6_rests_3 ++ dktX6_rests_4
def dkwX6_rests_2 : List UInt8 := [96, 79, 132, 1, 1, 167, 255, 207, 4, 60, 3, 61, 28, 42, 180, 0, 3, 180, 0, 25, 180, 0, 29]
abbrev dktX6_rests_2 : List UInt8 := dkwX6_rests_2 ++ dktX6_rests_3
def dkwX6_rests_1 : List UInt8 := [180, 0, 3, 180, 0, 25, 180, 0, 38, 42, 180, 0, 15, 27, 46, 104, 42, 180, 0, 15, 7, 27, 96, 46]
abbrev dktX6_rests_1 : List UInt8 := dkwX6_rests_1 ++ dktX6_rests_2
def dkwX6_rests_0 : List UInt8 := [3, 60, 27, 42, 180, 0, 3, 180, 0, 25, 180, 0, 29, 162, 0, 41, 42, 180, 0, 22, 27, 42]
abbrev dktX6_rests_0 : List UInt8 := dkwX6_rests_0 ++ dktX6_rests_1
theorem dksX6_rests_0 : cX6_rests.data.toList.drop 0 = dktX6_rests_0 := by decide +kernel
theorem dksX6_rests_1 : cX6_rests.data.toList.drop 22 = dktX6_rests_1 := dk_seg dksX6_rests_0 22 rfl rfl
theorem dksX6_rests_2 : cX6_rests.data.toList.drop 46 = dktX6_rests_2 := dk_seg dksX6_rests_1 24 rfl rfl
theorem dksX6_rests_3 : cX6_rests.data.toList.drop 69 = dktX6_rests_3 := dk_seg dksX6_rests_2 23 rfl rfl
theorem dksX6_rests_4 : cX6_rests.data.toList.drop 91 = dktX6_rests_4 := dk_seg dksX6_rests_3 22 rfl rfl
theorem dksX6_rests_5 : cX6_rests.data.toList.drop 115 = dktX6_rests_5 := dk_seg dksX6_rests_4 24 rfl rfl
theorem dX6_rests_0 : decode cX6_rests 0 = .ok (.iconst 0, 1) := dk_3 (dk_at dksX6_rests_0 0 rfl rfl)
theorem dX6_rests_1 : decode cX6_rests 1 = .ok (.istore_n 1, 1) := dk_60 (dk_at dksX6_rests_0 1 rfl rfl)
theorem dX6_rests_2 : decode cX6_rests 2 = .ok (.iload_n 1, 1) := dk_27 (dk_at dksX6_rests_0 2 rfl rfl)
theorem dX6_rests_3 : decode cX6_rests 3 = .ok (.aload_n 0, 1) := dk_42 (dk_at dksX6_rests_0 3 rfl rfl)
theorem dX6_rests_4 : decode cX6_rests 4 = .ok (.getfield 3, 3) := dk_180 0 3 (dk_at dksX6_rests_0 4 rfl rfl)
theorem dX6_rests_7 : decode cX6_rests 7 = .ok (.getfield 25, 3) := dk_180 0 25 (dk_at dksX6_rests_0 7 rfl rfl)
theorem dX6_rests_10 : decode cX6_rests 10 = .ok (.getfield 29, 3) := dk_180 0 29 (dk_at dksX6_rests_0 10 rfl rfl)
theorem dX6_rests_13 : decode cX6_rests 13 = .ok (.if_icmp .ge 41, 3) := dk_162 0 41 (dk_at dksX6_rests_0 13 rfl rfl)
theorem dX6_rests_16 : decode cX6_rests 16 = .ok (.aload_n 0, 1) := dk_42 (dk_at dksX6_rests_0 16 rfl rfl)
theorem dX6_rests_17 : decode cX6_rests 17 = .ok (.getfield 22, 3) := dk_180 0 22 (dk_at dksX6_rests_0 17 rfl rfl)
theorem dX6_rests_20 : decode cX6_rests 20 = .ok (.iload_n 1, 1) := dk_27 (dk_at dksX6_rests_0 20 rfl rfl)
theorem dX6_rests_21 : decode cX6_rests 21 = .ok (.aload_n 0, 1) := dk_42 (dk_at dksX6_rests_0 21 rfl rfl)
theorem dX6_rests_22 : decode cX6_rests 22 = .ok (.getfield 3, 3) := dk_180 0 3 (dk_at dksX6_rests_1 0 rfl rfl)
theorem dX6_rests_25 : decode cX6_rests 25 = .ok (.getfield 25, 3) := dk_180 0 25 (dk_at dksX6_rests_1 3 rfl rfl)
theorem dX6_rests_28 : decode cX6_rests 28 = .ok (.getfield 38, 3) := dk_180 0 38 (dk_at dksX6_rests_1 6 rfl rfl)
theorem dX6_rests_31 : decode cX6_rests 31 = .ok (.aload_n 0, 1) := dk_42 (dk_at dksX6_rests_1 9 rfl rfl)
theorem dX6_rests_32 : decode cX6_rests 32 = .ok (.getfield 15, 3) := dk_180 0 15 (dk_at dksX6_rests_1 10 rfl rfl)
theorem dX6_rests_35 : decode cX6_rests 35 = .ok (.iload_n 1, 1) := dk_27 (dk_at dksX6_rests_1 13 rfl rfl)
theorem dX6_rests_36 : decode cX6_rests 36 = .ok (.iaload, 1) := dk_46 (dk_at dksX6_rests_1 14 rfl rfl)
theorem dX6_rests_37 : decode cX6_rests 37 = .ok (.imul, 1) := dk_104 (dk_at dksX6_rests_1 15 rfl rfl)
theorem dX6_rests_38 : decode cX6_rests 38 = .ok (.aload_n 0, 1) := dk_42 (dk_at dksX6_rests_1 16 rfl rfl)
theorem dX6_rests_39 : decode cX6_rests 39 = .ok (.getfield 15, 3) := dk_180 0 15 (dk_at dksX6_rests_1 17 rfl rfl)
theorem dX6_rests_42 : decode cX6_rests 42 = .ok (.iconst 4, 1) := dk_7 (dk_at dksX6_rests_1 20 rfl rfl)
theorem dX6_rests_43 : decode cX6_rests 43 = .ok (.iload_n 1, 1) := dk_27 (dk_at dksX6_rests_1 21 rfl rfl)
theorem dX6_rests_44 : decode cX6_rests 44 = .ok (.iadd, 1) := dk_96 (dk_at dksX6_rests_1 22 rfl rfl)
theorem dX6_rests_45 : decode cX6_rests 45 = .ok (.iaload, 1) := dk_46 (dk_at dksX6_rests_1 23 rfl rfl)
theorem dX6_rests_46 : decode cX6_rests 46 = .ok (.iadd, 1) := dk_96 (dk_at dksX6_rests_2 0 rfl rfl)
theorem dX6_rests_47 : decode cX6_rests 47 = .ok (.iastore, 1) := dk_79 (dk_at dksX6_rests_2 1 rfl rfl)
theorem dX6_rests_48 : decode cX6_rests 48 = .ok (.iinc 1 1, 3) := dk_132 1 1 (dk_at dksX6_rests_2 2 rfl rfl)
theorem dX6_rests_51 : decode cX6_rests 51 = .ok (.goto (-49), 3) := dk_167 255 207 (dk_at dksX6_rests_2 5 rfl rfl)
theorem dX6_rests_54 : decode cX6_rests 54 = .ok (.iconst 1, 1) := dk_4 (dk_at dksX6_rests_2 8 rfl rfl)
theorem dX6_rests_55 : decode cX6_rests 55 = .ok (.istore_n 1, 1) := dk_60 (dk_at dksX6_rests_2 9 rfl rfl)
theorem dX6_rests_56 : decode cX6_rests 56 = .ok (.iconst 0, 1) := dk_3 (dk_at dksX6_rests_2 10 rfl rfl)
theorem dX6_rests_57 : decode cX6_rests 57 = .ok (.istore_n 2, 1) := dk_61 (dk_at dksX6_rests_2 11 rfl rfl)
theorem dX6_rests_58 : decode cX6_rests 58 = .ok (.iload_n 2, 1) := dk_28 (dk_at dksX6_rests_2 12 rfl rfl)
theorem dX6_rests_59 : decode cX6_rests 59 = .ok (.aload_n 0, 1) := dk_42 (dk_at dksX6_rests_2 13 rfl rfl)
theorem dX6_rests_60 : decode cX6_rests 60 = .ok (.getfield 3, 3) := dk_180 0 3 (dk_at dksX6_rests_2 14 rfl rfl)
theorem dX6_rests_63 : decode cX6_rests 63 = .ok (.getfield 25, 3) := dk_180 0 25 (dk_at dksX6_rests_2 17 rfl rfl)
theorem dX6_rests_66 : decode cX6_rests 66 = .ok (.getfield 29, 3) := dk_180 0 29 (dk_at dksX6_rests_2 20 rfl rfl)
theorem dX6_rests_69 : decode cX6_rests 69 = .ok (.if_icmp .ge 66, 3) := dk_162 0 66 (dk_at dksX6_rests_3 0 rfl rfl)
theorem dX6_rests_72 : decode cX6_rests 72 = .ok (.iload_n 1, 1) := dk_27 (dk_at dksX6_rests_3 3 rfl rfl)
theorem dX6_rests_73 : decode cX6_rests 73 = .ok (.ifCond .eq 62, 3) := dk_153 0 62 (dk_at dksX6_rests_3 4 rfl rfl)
theorem dX6_rests_76 : decode cX6_rests 76 = .ok (.aload_n 0, 1) := dk_42 (dk_at dksX6_rests_3 7 rfl rfl)
theorem dX6_rests_77 : decode cX6_rests 77 = .ok (.getfield 15, 3) := dk_180 0 15 (dk_at dksX6_rests_3 8 rfl rfl)
theorem dX6_rests_80 : decode cX6_rests 80 = .ok (.iload_n 2, 1) := dk_28 (dk_at dksX6_rests_3 11 rfl rfl)
theorem dX6_rests_81 : decode cX6_rests 81 = .ok (.iaload, 1) := dk_46 (dk_at dksX6_rests_3 12 rfl rfl)
theorem dX6_rests_82 : decode cX6_rests 82 = .ok (.ifCond .eq 21, 3) := dk_153 0 21 (dk_at dksX6_rests_3 13 rfl rfl)
theorem dX6_rests_85 : decode cX6_rests 85 = .ok (.aload_n 0, 1) := dk_42 (dk_at dksX6_rests_3 16 rfl rfl)
theorem dX6_rests_86 : decode cX6_rests 86 = .ok (.iload_n 2, 1) := dk_28 (dk_at dksX6_rests_3 17 rfl rfl)
theorem dX6_rests_87 : decode cX6_rests 87 = .ok (.aload_n 0, 1) := dk_42 (dk_at dksX6_rests_3 18 rfl rfl)
theorem dX6_rests_88 : decode cX6_rests 88 = .ok (.getfield 3, 3) := dk_180 0 3 (dk_at dksX6_rests_3 19 rfl rfl)
theorem dX6_rests_91 : decode cX6_rests 91 = .ok (.getfield 25, 3) := dk_180 0 25 (dk_at dksX6_rests_4 0 rfl rfl)
theorem dX6_rests_94 : decode cX6_rests 94 = .ok (.getfield 38, 3) := dk_180 0 38 (dk_at dksX6_rests_4 3 rfl rfl)
theorem dX6_rests_97 : decode cX6_rests 97 = .ok (.invokevirtual 41, 3) := dk_182 0 41 (dk_at dksX6_rests_4 6 rfl rfl)
theorem dX6_rests_100 : decode cX6_rests 100 = .ok (.ifCond .eq 27, 3) := dk_153 0 27 (dk_at dksX6_rests_4 9 rfl rfl)
theorem dX6_rests_103 : decode cX6_rests 103 = .ok (.aload_n 0, 1) := dk_42 (dk_at dksX6_rests_4 12 rfl rfl)
theorem dX6_rests_104 : decode cX6_rests 104 = .ok (.getfield 15, 3) := dk_180 0 15 (dk_at dksX6_rests_4 13 rfl rfl)
theorem dX6_rests_107 : decode cX6_rests 107 = .ok (.iconst 4, 1) := dk_7 (dk_at dksX6_rests_4 16 rfl rfl)
theorem dX6_rests_108 : decode cX6_rests 108 = .ok (.iload_n 2, 1) := dk_28 (dk_at dksX6_rests_4 17 rfl rfl)
theorem dX6_rests_109 : decode cX6_rests 109 = .ok (.iadd, 1) := dk_96 (dk_at dksX6_rests_4 18 rfl rfl)
theorem dX6_rests_110 : decode cX6_rests 110 = .ok (.iaload, 1) := dk_46 (dk_at dksX6_rests_4 19 rfl rfl)
theorem dX6_rests_111 : decode cX6_rests 111 = .ok (.ifCond .eq 12, 3) := dk_153 0 12 (dk_at dksX6_rests_4 20 rfl rfl)
theorem dX6_rests_114 : decode cX6_rests 114 = .ok (.aload_n 0, 1) := dk_42 (dk_at dksX6_rests_4 23 rfl rfl)
theorem dX6_rests_115 : decode cX6_rests 115 = .ok (.iload_n 2, 1) := dk_28 (dk_at dksX6_rests_5 0 rfl rfl)
theorem dX6_rests_116 : decode cX6_rests 116 = .ok (.iconst 1, 1) := dk_4 (dk_at dksX6_rests_5 1 rfl rfl)
theorem dX6_rests_117 : decode cX6_rests 117 = .ok (.invokevirtual 41, 3) := dk_182 0 41 (dk_at dksX6_rests_5 2 rfl rfl)
theorem dX6_rests_120 : decode cX6_rests 120 = .ok (.ifCond .eq 7, 3) := dk_153 0 7 (dk_at dksX6_rests_5 5 rfl rfl)
theorem dX6_rests_123 : decode cX6_rests 123 = .ok (.iconst 1, 1) := dk_4 (dk_at dksX6_rests_5 8 rfl rfl)
theorem dX6_rests_124 : decode cX6_rests 124 = .ok (.goto 4, 3) := dk_167 0 4 (dk_at dksX6_rests_5 9 rfl rfl)
theorem dX6_rests_127 : decode cX6_rests 127 = .ok (.iconst 0, 1) := dk_3 (dk_at dksX6_rests_5 12 rfl rfl)
theorem dX6_rests_128 : decode cX6_rests 128 = .ok (.istore_n 1, 1) := dk_60 (dk_at dksX6_rests_5 13 rfl rfl)
theorem dX6_rests_129 : decode cX6_rests 129 = .ok (.iinc 2 1, 3) := dk_132 2 1 (dk_at dksX6_rests_5 14 rfl rfl)
theorem dX6_rests_132 : decode cX6_rests 132 = .ok (.goto (-74), 3) := dk_167 255 182 (dk_at dksX6_rests_5 17 rfl rfl)
theorem dX6_rests_135 : decode cX6_rests 135 = .ok (.iload_n 1, 1) := dk_27 (dk_at dksX6_rests_5 20 rfl rfl)
theorem dX6_rests_136 : decode cX6_rests 136 = .ok (.ireturn, 1) := dk_172 (dk_at dksX6_rests_5 21 rfl rfl)
abbrev cX6_stays : ByteArray := prog_29_method_2_code
def yX6_stays : MethodName := ⟨RX6, "stays", "(II)Z"⟩
def dkwX6_stays_3 : List UInt8 := [163, 0, 7, 4, 167, 0, 4, 3, 62, 132, 4, 1, 167, 255, 177, 29, 172]
abbrev dktX6_stays_3 : List UInt8 := dkwX6_stays_3 ++ []
def dkwX6_stays_2 : List UInt8 := [46, 104, 42, 180, 0, 3, 180, 0, 25, 180, 0, 35, 27, 46, 42, 180, 0, 22, 21, 4, 46, 28, 96, 104]
abbrev dktX6_stays_2 : List UInt8 := dkwX6_stays_2 ++ dktX6_stays_3
def dkwX6_stays_1 : List UInt8 := [21, 4, 27, 159, 0, 48, 42, 180, 0, 3, 180, 0, 25, 180, 0, 35, 21, 4, 46, 42, 180, 0, 22, 27]
abbrev dktX6_stays_1 : List UInt8 := dkwX6_stays_1 ++ dktX6_stays_2
def dkwX6_stays_0 : List UInt8 := [4, 62, 3, 54, 4, 21, 4, 42, 180, 0, 3, 180, 0, 25, 180, 0, 29, 162, 0, 70, 29, 153, 0, 58]
abbrev dktX6_stays_0 : List UInt8 := dkwX6_stays_0 ++ dktX6_stays_1
theorem dksX6_stays_0 : cX6_stays.data.toList.drop 0 = dktX6_stays_0 := by decide +kernel
theorem dksX6_stays_1 : cX6_stays.data.toList.drop 24 = dktX6_stays_1 := dk_seg dksX6_stays_0 24 rfl rfl
theorem dksX6_stays_2 : cX6_stays.data.toList.drop 48 = dktX6_stays_2 := dk_seg dksX6_stays_1 24 rfl rfl
theorem dksX6_stays_3 : cX6_stays.data.toList.drop 72 = dktX6_stays_3 := dk_seg dksX6_stays_2 24 rfl rfl
theorem dX6_stays_0 : decode cX6_stays 0 = .ok (.iconst 1, 1) := dk_4 (dk_at dksX6_stays_0 0 rfl rfl)
theorem dX6_stays_1 : decode cX6_stays 1 = .ok (.istore_n 3, 1) := dk_62 (dk_at dksX6_stays_0 1 rfl rfl)
theorem dX6_stays_2 : decode cX6_stays 2 = .ok (.iconst 0, 1) := dk_3 (dk_at dksX6_stays_0 2 rfl rfl)
theorem dX6_stays_3 : decode cX6_stays 3 = .ok (.istore 4, 2) := dk_54 4 (dk_at dksX6_stays_0 3 rfl rfl)
theorem dX6_stays_5 : decode cX6_stays 5 = .ok (.iload 4, 2) := dk_21 4 (dk_at dksX6_stays_0 5 rfl rfl)
theorem dX6_stays_7 : decode cX6_stays 7 = .ok (.aload_n 0, 1) := dk_42 (dk_at dksX6_stays_0 7 rfl rfl)
theorem dX6_stays_8 : decode cX6_stays 8 = .ok (.getfield 3, 3) := dk_180 0 3 (dk_at dksX6_stays_0 8 rfl rfl)
theorem dX6_stays_11 : decode cX6_stays 11 = .ok (.getfield 25, 3) := dk_180 0 25 (dk_at dksX6_stays_0 11 rfl rfl)
theorem dX6_stays_14 : decode cX6_stays 14 = .ok (.getfield 29, 3) := dk_180 0 29 (dk_at dksX6_stays_0 14 rfl rfl)
theorem dX6_stays_17 : decode cX6_stays 17 = .ok (.if_icmp .ge 70, 3) := dk_162 0 70 (dk_at dksX6_stays_0 17 rfl rfl)
theorem dX6_stays_20 : decode cX6_stays 20 = .ok (.iload_n 3, 1) := dk_29 (dk_at dksX6_stays_0 20 rfl rfl)
theorem dX6_stays_21 : decode cX6_stays 21 = .ok (.ifCond .eq 58, 3) := dk_153 0 58 (dk_at dksX6_stays_0 21 rfl rfl)
theorem dX6_stays_24 : decode cX6_stays 24 = .ok (.iload 4, 2) := dk_21 4 (dk_at dksX6_stays_1 0 rfl rfl)
theorem dX6_stays_26 : decode cX6_stays 26 = .ok (.iload_n 1, 1) := dk_27 (dk_at dksX6_stays_1 2 rfl rfl)
theorem dX6_stays_27 : decode cX6_stays 27 = .ok (.if_icmp .eq 48, 3) := dk_159 0 48 (dk_at dksX6_stays_1 3 rfl rfl)
theorem dX6_stays_30 : decode cX6_stays 30 = .ok (.aload_n 0, 1) := dk_42 (dk_at dksX6_stays_1 6 rfl rfl)
theorem dX6_stays_31 : decode cX6_stays 31 = .ok (.getfield 3, 3) := dk_180 0 3 (dk_at dksX6_stays_1 7 rfl rfl)
theorem dX6_stays_34 : decode cX6_stays 34 = .ok (.getfield 25, 3) := dk_180 0 25 (dk_at dksX6_stays_1 10 rfl rfl)
theorem dX6_stays_37 : decode cX6_stays 37 = .ok (.getfield 35, 3) := dk_180 0 35 (dk_at dksX6_stays_1 13 rfl rfl)
theorem dX6_stays_40 : decode cX6_stays 40 = .ok (.iload 4, 2) := dk_21 4 (dk_at dksX6_stays_1 16 rfl rfl)
theorem dX6_stays_42 : decode cX6_stays 42 = .ok (.iaload, 1) := dk_46 (dk_at dksX6_stays_1 18 rfl rfl)
theorem dX6_stays_43 : decode cX6_stays 43 = .ok (.aload_n 0, 1) := dk_42 (dk_at dksX6_stays_1 19 rfl rfl)
theorem dX6_stays_44 : decode cX6_stays 44 = .ok (.getfield 22, 3) := dk_180 0 22 (dk_at dksX6_stays_1 20 rfl rfl)
theorem dX6_stays_47 : decode cX6_stays 47 = .ok (.iload_n 1, 1) := dk_27 (dk_at dksX6_stays_1 23 rfl rfl)
theorem dX6_stays_48 : decode cX6_stays 48 = .ok (.iaload, 1) := dk_46 (dk_at dksX6_stays_2 0 rfl rfl)
theorem dX6_stays_49 : decode cX6_stays 49 = .ok (.imul, 1) := dk_104 (dk_at dksX6_stays_2 1 rfl rfl)
theorem dX6_stays_50 : decode cX6_stays 50 = .ok (.aload_n 0, 1) := dk_42 (dk_at dksX6_stays_2 2 rfl rfl)
theorem dX6_stays_51 : decode cX6_stays 51 = .ok (.getfield 3, 3) := dk_180 0 3 (dk_at dksX6_stays_2 3 rfl rfl)
theorem dX6_stays_54 : decode cX6_stays 54 = .ok (.getfield 25, 3) := dk_180 0 25 (dk_at dksX6_stays_2 6 rfl rfl)
theorem dX6_stays_57 : decode cX6_stays 57 = .ok (.getfield 35, 3) := dk_180 0 35 (dk_at dksX6_stays_2 9 rfl rfl)
theorem dX6_stays_60 : decode cX6_stays 60 = .ok (.iload_n 1, 1) := dk_27 (dk_at dksX6_stays_2 12 rfl rfl)
theorem dX6_stays_61 : decode cX6_stays 61 = .ok (.iaload, 1) := dk_46 (dk_at dksX6_stays_2 13 rfl rfl)
theorem dX6_stays_62 : decode cX6_stays 62 = .ok (.aload_n 0, 1) := dk_42 (dk_at dksX6_stays_2 14 rfl rfl)
theorem dX6_stays_63 : decode cX6_stays 63 = .ok (.getfield 22, 3) := dk_180 0 22 (dk_at dksX6_stays_2 15 rfl rfl)
theorem dX6_stays_66 : decode cX6_stays 66 = .ok (.iload 4, 2) := dk_21 4 (dk_at dksX6_stays_2 18 rfl rfl)
theorem dX6_stays_68 : decode cX6_stays 68 = .ok (.iaload, 1) := dk_46 (dk_at dksX6_stays_2 20 rfl rfl)
theorem dX6_stays_69 : decode cX6_stays 69 = .ok (.iload_n 2, 1) := dk_28 (dk_at dksX6_stays_2 21 rfl rfl)
theorem dX6_stays_70 : decode cX6_stays 70 = .ok (.iadd, 1) := dk_96 (dk_at dksX6_stays_2 22 rfl rfl)
theorem dX6_stays_71 : decode cX6_stays 71 = .ok (.imul, 1) := dk_104 (dk_at dksX6_stays_2 23 rfl rfl)
theorem dX6_stays_72 : decode cX6_stays 72 = .ok (.if_icmp .gt 7, 3) := dk_163 0 7 (dk_at dksX6_stays_3 0 rfl rfl)
theorem dX6_stays_75 : decode cX6_stays 75 = .ok (.iconst 1, 1) := dk_4 (dk_at dksX6_stays_3 3 rfl rfl)
theorem dX6_stays_76 : decode cX6_stays 76 = .ok (.goto 4, 3) := dk_167 0 4 (dk_at dksX6_stays_3 4 rfl rfl)
theorem dX6_stays_79 : decode cX6_stays 79 = .ok (.iconst 0, 1) := dk_3 (dk_at dksX6_stays_3 7 rfl rfl)
theorem dX6_stays_80 : decode cX6_stays 80 = .ok (.istore_n 3, 1) := dk_62 (dk_at dksX6_stays_3 8 rfl rfl)
theorem dX6_stays_81 : decode cX6_stays 81 = .ok (.iinc 4 1, 3) := dk_132 4 1 (dk_at dksX6_stays_3 9 rfl rfl)
theorem dX6_stays_84 : decode cX6_stays 84 = .ok (.goto (-79), 3) := dk_167 255 177 (dk_at dksX6_stays_3 12 rfl rfl)
theorem dX6_stays_87 : decode cX6_stays 87 = .ok (.iload_n 3, 1) := dk_29 (dk_at dksX6_stays_3 15 rfl rfl)
theorem dX6_stays_88 : decode cX6_stays 88 = .ok (.ireturn, 1) := dk_172 (dk_at dksX6_stays_3 16 rfl rfl)
theorem q112 : (Jvm.Cond.initialized "HungryHedge$Spread") ∈ lw_all := lw_g (lw_at lw_m1 7 rfl) rfl
theorem q198 : (Jvm.Cond.fieldLinkNest "HungryHedge$Spread" (29 : Nat) "HungryHedge$Kept" "patches" "I" "HungryHedge") ∈ lw_tbl := lw_at lw_m1 93 rfl
theorem q213 : (Jvm.Cond.fieldLinkNest "HungryHedge$Spread" (68 : Nat) "HungryHedge$Kept" "strong" "I" "HungryHedge") ∈ lw_tbl := lw_at lw_m1 108 rfl
theorem q216 : (Jvm.Cond.fieldLinkNest "HungryHedge$Spread" (49 : Nat) "HungryHedge$Kept" "weak" "I" "HungryHedge") ∈ lw_tbl := lw_at lw_m1 111 rfl
theorem q219 : (Jvm.Cond.fieldLinkNest "HungryHedge$Spread" (38 : Nat) "HungryHedge$Kept" "force" "I" "HungryHedge") ∈ lw_tbl := lw_at lw_m1 114 rfl
theorem q229 : (Jvm.Cond.fieldLinkNest "HungryHedge$Spread" (35 : Nat) "HungryHedge$Kept" "rich" "[I" "HungryHedge") ∈ lw_tbl := lw_at lw_m1 124 rfl
theorem q343 : (Jvm.Cond.instantiable "HungryHedge$Spread" (6 : Nat)) ∈ lw_all := lw_g (lw_at lw_m1 238 rfl) rfl
theorem q345 : (Jvm.Cond.instanceMethod ({ cls := "HungryHedge$Spread", name := "<init>", desc := "(LHungryHedge;)V" } : Jvm.MethodName)) ∈ lw_all := lw_g (lw_at lw_m2 0 rfl) rfl
theorem q346 : (Jvm.Cond.code ({ cls := "HungryHedge$Spread", name := "<init>", desc := "(LHungryHedge;)V" } : Jvm.MethodName) prog_29_method_1_code (2 : Nat) (Option.none : Option Jvm.ClassFile.FieldType)) ∈ lw_all := lw_g (lw_at lw_m2 1 rfl) rfl
theorem q347 : (Jvm.Cond.methodLink "HungryHedge$Spread" (9 : Nat) ({ cls := "java/lang/Object", name := "<init>", desc := "()V" } : Jvm.MethodName)) ∈ lw_all := lw_g (lw_at lw_m2 2 rfl) rfl
theorem q348 : (Jvm.Cond.fieldLink "HungryHedge$Spread" (15 : Nat) "HungryHedge$Spread" "here" "[I") ∈ lw_all := lw_g (lw_at lw_m2 3 rfl) rfl
theorem q349 : (Jvm.Cond.fieldLink "HungryHedge$Spread" (19 : Nat) "HungryHedge$Spread" "told" "[I") ∈ lw_all := lw_g (lw_at lw_m2 4 rfl) rfl
theorem q351 : (Jvm.Cond.fieldLink "HungryHedge$Spread" (22 : Nat) "HungryHedge$Spread" "weight" "[I") ∈ lw_all := lw_g (lw_at lw_m2 6 rfl) rfl
theorem q352 : (Jvm.Cond.fieldLink "HungryHedge$Spread" (56 : Nat) "HungryHedge$Spread" "many" "I") ∈ lw_all := lw_g (lw_at lw_m2 7 rfl) rfl
theorem q353 : (Jvm.Cond.fieldLink "HungryHedge$Spread" (59 : Nat) "HungryHedge$Spread" "wanted" "I") ∈ lw_all := lw_g (lw_at lw_m2 8 rfl) rfl
theorem q354 : (Jvm.Cond.fieldLink "HungryHedge$Spread" (3 : Nat) "HungryHedge$Spread" "this$0" "LHungryHedge;") ∈ lw_all := lw_g (lw_at lw_m2 9 rfl) rfl
theorem q355 : (Jvm.Cond.laysFinal "HungryHedge$Spread" "HungryHedge$Spread" "here" "[I") ∈ lw_all := lw_g (lw_at lw_m2 10 rfl) rfl
theorem q356 : (Jvm.Cond.soleField "HungryHedge$Spread" "here") ∈ lw_all := lw_g (lw_at lw_m2 11 rfl) rfl
theorem q357 : (Jvm.Cond.laysFinal "HungryHedge$Spread" "HungryHedge$Spread" "told" "[I") ∈ lw_all := lw_g (lw_at lw_m2 12 rfl) rfl
theorem q358 : (Jvm.Cond.soleField "HungryHedge$Spread" "told") ∈ lw_all := lw_g (lw_at lw_m2 13 rfl) rfl
theorem q359 : (Jvm.Cond.laysFinal "HungryHedge$Spread" "HungryHedge$Spread" "weight" "[I") ∈ lw_all := lw_g (lw_at lw_m2 14 rfl) rfl
theorem q360 : (Jvm.Cond.soleField "HungryHedge$Spread" "weight") ∈ lw_all := lw_g (lw_at lw_m2 15 rfl) rfl
theorem q361 : (Jvm.Cond.lays "HungryHedge$Spread" "HungryHedge$Spread" "many" "I") ∈ lw_all := lw_g (lw_at lw_m2 16 rfl) rfl
theorem q362 : (Jvm.Cond.soleField "HungryHedge$Spread" "many") ∈ lw_all := lw_g (lw_at lw_m2 17 rfl) rfl
theorem q363 : (Jvm.Cond.lays "HungryHedge$Spread" "HungryHedge$Spread" "wanted" "I") ∈ lw_all := lw_g (lw_at lw_m2 18 rfl) rfl
theorem q364 : (Jvm.Cond.soleField "HungryHedge$Spread" "wanted") ∈ lw_all := lw_g (lw_at lw_m2 19 rfl) rfl
theorem q365 : (Jvm.Cond.laysFinal "HungryHedge$Spread" "HungryHedge$Spread" "this$0" "LHungryHedge;") ∈ lw_all := lw_g (lw_at lw_m2 20 rfl) rfl
theorem q366 : (Jvm.Cond.soleField "HungryHedge$Spread" "this$0") ∈ lw_all := lw_g (lw_at lw_m2 21 rfl) rfl
theorem q367 : (Jvm.Cond.superclass "HungryHedge$Spread" "java/lang/Object") ∈ lw_all := lw_g (lw_at lw_m2 22 rfl) rfl
theorem q584 : (Jvm.Cond.fieldLinkNest "HungryHedge$Spread" (25 : Nat) "HungryHedge" "d" "LHungryHedge$Kept;" "HungryHedge") ∈ lw_tbl := lw_at lw_m2 239 rfl
theorem q919 : (Jvm.Cond.instanceMethod ({ cls := "HungryHedge$Spread", name := "finds", desc := "(I)I" } : Jvm.MethodName)) ∈ lw_all := lw_g (lw_at lw_m4 94 rfl) rfl
theorem q920 : (Jvm.Cond.selects "HungryHedge$Spread" ({ cls := "HungryHedge$Spread", name := "finds", desc := "(I)I" } : Jvm.MethodName) ({ cls := "HungryHedge$Spread", name := "finds", desc := "(I)I" } : Jvm.MethodName)) ∈ lw_all := lw_g (lw_at lw_m4 95 rfl) rfl
theorem q921 : (Jvm.Cond.code ({ cls := "HungryHedge$Spread", name := "finds", desc := "(I)I" } : Jvm.MethodName) prog_29_method_5_code (2 : Nat) (Option.some Jvm.ClassFile.FieldType.int)) ∈ lw_all := lw_g (lw_at lw_m4 96 rfl) rfl
theorem q922 : (Jvm.Cond.methodLink "HungryHedge$Spread" (45 : Nat) ({ cls := "HungryHedge$Spread", name := "goes", desc := "(III)V" } : Jvm.MethodName)) ∈ lw_all := lw_g (lw_at lw_m4 97 rfl) rfl
theorem q923 : (Jvm.Cond.privateMethod ({ cls := "HungryHedge$Spread", name := "goes", desc := "(III)V" } : Jvm.MethodName)) ∈ lw_tbl := lw_at lw_m4 98 rfl
theorem q924 : (Jvm.Cond.instanceMethod ({ cls := "HungryHedge$Spread", name := "goes", desc := "(III)V" } : Jvm.MethodName)) ∈ lw_all := lw_g (lw_at lw_m4 99 rfl) rfl
theorem q925 : (Jvm.Cond.code ({ cls := "HungryHedge$Spread", name := "goes", desc := "(III)V" } : Jvm.MethodName) prog_29_method_4_code (6 : Nat) (Option.none : Option Jvm.ClassFile.FieldType)) ∈ lw_all := lw_g (lw_at lw_m4 100 rfl) rfl
theorem q926 : (Jvm.Cond.methodLink "HungryHedge$Spread" (52 : Nat) ({ cls := "HungryHedge$Spread", name := "rests", desc := "()Z" } : Jvm.MethodName)) ∈ lw_all := lw_g (lw_at lw_m4 101 rfl) rfl
theorem q927 : (Jvm.Cond.privateMethod ({ cls := "HungryHedge$Spread", name := "rests", desc := "()Z" } : Jvm.MethodName)) ∈ lw_tbl := lw_at lw_m4 102 rfl
theorem q928 : (Jvm.Cond.instanceMethod ({ cls := "HungryHedge$Spread", name := "rests", desc := "()Z" } : Jvm.MethodName)) ∈ lw_all := lw_g (lw_at lw_m4 103 rfl) rfl
theorem q929 : (Jvm.Cond.code ({ cls := "HungryHedge$Spread", name := "rests", desc := "()Z" } : Jvm.MethodName) prog_29_method_3_code (3 : Nat) (Option.some Jvm.ClassFile.FieldType.boolean)) ∈ lw_all := lw_g (lw_at lw_m4 104 rfl) rfl
theorem q930 : (Jvm.Cond.methodLink "HungryHedge$Spread" (41 : Nat) ({ cls := "HungryHedge$Spread", name := "stays", desc := "(II)Z" } : Jvm.MethodName)) ∈ lw_all := lw_g (lw_at lw_m4 105 rfl) rfl
theorem q931 : (Jvm.Cond.privateMethod ({ cls := "HungryHedge$Spread", name := "stays", desc := "(II)Z" } : Jvm.MethodName)) ∈ lw_tbl := lw_at lw_m4 106 rfl
theorem q932 : (Jvm.Cond.instanceMethod ({ cls := "HungryHedge$Spread", name := "stays", desc := "(II)Z" } : Jvm.MethodName)) ∈ lw_all := lw_g (lw_at lw_m4 107 rfl) rfl
theorem q933 : (Jvm.Cond.code ({ cls := "HungryHedge$Spread", name := "stays", desc := "(II)Z" } : Jvm.MethodName) prog_29_method_2_code (5 : Nat) (Option.some Jvm.ClassFile.FieldType.boolean)) ∈ lw_all := lw_g (lw_at lw_m4 108 rfl) rfl
theorem q934 : (Jvm.Cond.methodLink "HungryHedge$Spread" (62 : Nat) ({ cls := "java/lang/System", name := "arraycopy", desc := "(Ljava/lang/Object;ILjava/lang/Object;II)V" } : Jvm.MethodName)) ∈ lw_all := lw_g (lw_at lw_m4 109 rfl) rfl
theorem in_X6 : ∀ w ∈ wsX60, w ∈ lw_all := lw_in wsX60 [355, 357, 359, 361, 363, 365] (by decide +kernel) (by decide +kernel)

/-! HungryHedge$Reader -/
set_option maxRecDepth 100000
def RX7 : String := "HungryHedge$Reader"
def TX7 : u_T := fun k => match k with
  | 0 => ("HungryHedge$Reader", "values", "[Ljava/lang/String;", true)
  | 1 => ("HungryHedge$Reader", "fault", "LHungryHedge$Fault;", true)
  | 2 => ("HungryHedge$Reader", "clause", "[LHungryHedge$Clause;", true)
  | 3 => ("HungryHedge$Reader", "text", "[B", false)
  | 4 => ("HungryHedge$Reader", "many", "I", false)
  | 5 => ("HungryHedge$Reader", "from", "I", false)
  | 6 => ("HungryHedge$Reader", "to", "I", false)
  | 7 => ("HungryHedge$Reader", "open", "I", false)
  | 8 => ("HungryHedge$Reader", "clauses", "I", false)
  | 9 => ("HungryHedge$Reader", "value", "I", false)
  | _ => ("HungryHedge$Reader", "valueN", "I", false)
def tyX7 : Nat → FieldType := fun k => match k with
  | 0 => .array (.object "java/lang/String")
  | 1 => .object "HungryHedge$Fault"
  | 2 => .array (.object "HungryHedge$Clause")
  | 3 => .array .byte
  | 4 => .int
  | 5 => .int
  | 6 => .int
  | 7 => .int
  | 8 => .int
  | 9 => .int
  | _ => .int
abbrev wsX70 : List Cond := u_ws RX7 TX7 11
theorem nmX7 : ∀ a, a < 11 → ∀ b, b < 11 → a ≠ b → (TX7 a).2.1 ≠ (TX7 b).2.1 := by decide +kernel
theorem tyX7_ok : ∀ k, k < 11 → parseFieldDescriptor (TX7 k).2.2.1 = some (tyX7 k) := by decide +kernel
abbrev cX7_init : ByteArray := prog_22_method_1_code
def yX7_init : MethodName := ⟨RX7, "<init>", "()V"⟩
def dkwX7_init_2 : List UInt8 := [183, 0, 31, 181, 0, 32, 42, 16, 6, 189, 0, 36, 181, 0, 38, 177]
abbrev dktX7_init_2 : List UInt8 := dkwX7_init_2 ++ []
def dkwX7_init_1 : List UInt8 := [83, 89, 6, 18, 17, 83, 89, 7, 18, 19, 83, 89, 8, 18, 21, 83, 181, 0, 23, 42, 187, 0, 29, 89]
abbrev dktX7_init_1 : List UInt8 := dkwX7_init_1 ++ dktX7_init_2
def dkwX7_init_0 : List UInt8 := [42, 183, 0, 3, 42, 16, 6, 189, 0, 9, 89, 3, 18, 11, 83, 89, 4, 18, 13, 83, 89, 5, 18, 15]
abbrev dktX7_init_0 : List UInt8 := dkwX7_init_0 ++ dktX7_init_1
theorem dksX7_init_0 : cX7_init.data.toList.drop 0 = dktX7_init_0 := by decide +kernel
theorem dksX7_init_1 : cX7_init.data.toList.drop 24 = dktX7_init_1 := dk_seg dksX7_init_0 24 rfl rfl
theorem dksX7_init_2 : cX7_init.data.toList.drop 48 = dktX7_init_2 := dk_seg dksX7_init_1 24 rfl rfl
theorem dX7_init_0 : decode cX7_init 0 = .ok (.aload_n 0, 1) := dk_42 (dk_at dksX7_init_0 0 rfl rfl)
theorem dX7_init_1 : decode cX7_init 1 = .ok (.invokespecial 3, 3) := dk_183 0 3 (dk_at dksX7_init_0 1 rfl rfl)
theorem dX7_init_4 : decode cX7_init 4 = .ok (.aload_n 0, 1) := dk_42 (dk_at dksX7_init_0 4 rfl rfl)
theorem dX7_init_5 : decode cX7_init 5 = .ok (.bipush 6, 2) := dk_16 6 (dk_at dksX7_init_0 5 rfl rfl)
theorem dX7_init_7 : decode cX7_init 7 = .ok (.anewarray 9, 3) := dk_189 0 9 (dk_at dksX7_init_0 7 rfl rfl)
theorem dX7_init_10 : decode cX7_init 10 = .ok (.dup, 1) := dk_89 (dk_at dksX7_init_0 10 rfl rfl)
theorem dX7_init_11 : decode cX7_init 11 = .ok (.iconst 0, 1) := dk_3 (dk_at dksX7_init_0 11 rfl rfl)
theorem dX7_init_12 : decode cX7_init 12 = .ok (.ldc 11, 2) := dk_18 11 (dk_at dksX7_init_0 12 rfl rfl)
theorem dX7_init_14 : decode cX7_init 14 = .ok (.aastore, 1) := dk_83 (dk_at dksX7_init_0 14 rfl rfl)
theorem dX7_init_15 : decode cX7_init 15 = .ok (.dup, 1) := dk_89 (dk_at dksX7_init_0 15 rfl rfl)
theorem dX7_init_16 : decode cX7_init 16 = .ok (.iconst 1, 1) := dk_4 (dk_at dksX7_init_0 16 rfl rfl)
theorem dX7_init_17 : decode cX7_init 17 = .ok (.ldc 13, 2) := dk_18 13 (dk_at dksX7_init_0 17 rfl rfl)
theorem dX7_init_19 : decode cX7_init 19 = .ok (.aastore, 1) := dk_83 (dk_at dksX7_init_0 19 rfl rfl)
theorem dX7_init_20 : decode cX7_init 20 = .ok (.dup, 1) := dk_89 (dk_at dksX7_init_0 20 rfl rfl)
theorem dX7_init_21 : decode cX7_init 21 = .ok (.iconst 2, 1) := dk_5 (dk_at dksX7_init_0 21 rfl rfl)
theorem dX7_init_22 : decode cX7_init 22 = .ok (.ldc 15, 2) := dk_18 15 (dk_at dksX7_init_0 22 rfl rfl)
theorem dX7_init_24 : decode cX7_init 24 = .ok (.aastore, 1) := dk_83 (dk_at dksX7_init_1 0 rfl rfl)
theorem dX7_init_25 : decode cX7_init 25 = .ok (.dup, 1) := dk_89 (dk_at dksX7_init_1 1 rfl rfl)
theorem dX7_init_26 : decode cX7_init 26 = .ok (.iconst 3, 1) := dk_6 (dk_at dksX7_init_1 2 rfl rfl)
theorem dX7_init_27 : decode cX7_init 27 = .ok (.ldc 17, 2) := dk_18 17 (dk_at dksX7_init_1 3 rfl rfl)
theorem dX7_init_29 : decode cX7_init 29 = .ok (.aastore, 1) := dk_83 (dk_at dksX7_init_1 5 rfl rfl)
theorem dX7_init_30 : decode cX7_init 30 = .ok (.dup, 1) := dk_89 (dk_at dksX7_init_1 6 rfl rfl)
theorem dX7_init_31 : decode cX7_init 31 = .ok (.iconst 4, 1) := dk_7 (dk_at dksX7_init_1 7 rfl rfl)
theorem dX7_init_32 : decode cX7_init 32 = .ok (.ldc 19, 2) := dk_18 19 (dk_at dksX7_init_1 8 rfl rfl)
theorem dX7_init_34 : decode cX7_init 34 = .ok (.aastore, 1) := dk_83 (dk_at dksX7_init_1 10 rfl rfl)
theorem dX7_init_35 : decode cX7_init 35 = .ok (.dup, 1) := dk_89 (dk_at dksX7_init_1 11 rfl rfl)
theorem dX7_init_36 : decode cX7_init 36 = .ok (.iconst 5, 1) := dk_8 (dk_at dksX7_init_1 12 rfl rfl)
theorem dX7_init_37 : decode cX7_init 37 = .ok (.ldc 21, 2) := dk_18 21 (dk_at dksX7_init_1 13 rfl rfl)
theorem dX7_init_39 : decode cX7_init 39 = .ok (.aastore, 1) := dk_83 (dk_at dksX7_init_1 15 rfl rfl)
theorem dX7_init_40 : decode cX7_init 40 = .ok (.putfield 23, 3) := dk_181 0 23 (dk_at dksX7_init_1 16 rfl rfl)
theorem dX7_init_43 : decode cX7_init 43 = .ok (.aload_n 0, 1) := dk_42 (dk_at dksX7_init_1 19 rfl rfl)
theorem dX7_init_44 : decode cX7_init 44 = .ok (.new 29, 3) := dk_187 0 29 (dk_at dksX7_init_1 20 rfl rfl)
theorem dX7_init_47 : decode cX7_init 47 = .ok (.dup, 1) := dk_89 (dk_at dksX7_init_1 23 rfl rfl)
theorem dX7_init_48 : decode cX7_init 48 = .ok (.invokespecial 31, 3) := dk_183 0 31 (dk_at dksX7_init_2 0 rfl rfl)
theorem dX7_init_51 : decode cX7_init 51 = .ok (.putfield 32, 3) := dk_181 0 32 (dk_at dksX7_init_2 3 rfl rfl)
theorem dX7_init_54 : decode cX7_init 54 = .ok (.aload_n 0, 1) := dk_42 (dk_at dksX7_init_2 6 rfl rfl)
theorem dX7_init_55 : decode cX7_init 55 = .ok (.bipush 6, 2) := dk_16 6 (dk_at dksX7_init_2 7 rfl rfl)
theorem dX7_init_57 : decode cX7_init 57 = .ok (.anewarray 36, 3) := dk_189 0 36 (dk_at dksX7_init_2 9 rfl rfl)
theorem dX7_init_60 : decode cX7_init 60 = .ok (.putfield 38, 3) := dk_181 0 38 (dk_at dksX7_init_2 12 rfl rfl)
theorem dX7_init_63 : decode cX7_init 63 = .ok (.return_, 1) := dk_177 (dk_at dksX7_init_2 15 rfl rfl)
abbrev cX7_read : ByteArray := prog_22_method_17_code
def yX7_read : MethodName := ⟨RX7, "read", "([BI)V"⟩
def dkwX7_read_3 : List UInt8 := [180, 0, 149, 4, 96, 181, 0, 149, 167, 255, 209, 177]
abbrev dktX7_read_3 : List UInt8 := dkwX7_read_3 ++ []
def dkwX7_read_2 : List UInt8 := [180, 0, 149, 16, 6, 162, 0, 10, 42, 180, 0, 149, 167, 0, 4, 3, 42, 182, 0, 161, 83, 42, 89]
abbrev dktX7_read_2 : List UInt8 := dkwX7_read_2 ++ dktX7_read_3
def dkwX7_read_1 : List UInt8 := [181, 0, 149, 42, 182, 0, 81, 42, 180, 0, 42, 42, 180, 0, 46, 162, 0, 42, 42, 180, 0, 38, 42]
abbrev dktX7_read_1 : List UInt8 := dkwX7_read_1 ++ dktX7_read_2
def dkwX7_read_0 : List UInt8 := [42, 43, 181, 0, 49, 42, 28, 181, 0, 46, 42, 3, 181, 0, 53, 42, 3, 181, 0, 110, 42, 3]
abbrev dktX7_read_0 : List UInt8 := dkwX7_read_0 ++ dktX7_read_1
theorem dksX7_read_0 : cX7_read.data.toList.drop 0 = dktX7_read_0 := by decide +kernel
theorem dksX7_read_1 : cX7_read.data.toList.drop 22 = dktX7_read_1 := dk_seg dksX7_read_0 22 rfl rfl
theorem dksX7_read_2 : cX7_read.data.toList.drop 45 = dktX7_read_2 := dk_seg dksX7_read_1 23 rfl rfl
theorem dksX7_read_3 : cX7_read.data.toList.drop 68 = dktX7_read_3 := dk_seg dksX7_read_2 23 rfl rfl
theorem dX7_read_0 : decode cX7_read 0 = .ok (.aload_n 0, 1) := dk_42 (dk_at dksX7_read_0 0 rfl rfl)
theorem dX7_read_1 : decode cX7_read 1 = .ok (.aload_n 1, 1) := dk_43 (dk_at dksX7_read_0 1 rfl rfl)
theorem dX7_read_2 : decode cX7_read 2 = .ok (.putfield 49, 3) := dk_181 0 49 (dk_at dksX7_read_0 2 rfl rfl)
theorem dX7_read_5 : decode cX7_read 5 = .ok (.aload_n 0, 1) := dk_42 (dk_at dksX7_read_0 5 rfl rfl)
theorem dX7_read_6 : decode cX7_read 6 = .ok (.iload_n 2, 1) := dk_28 (dk_at dksX7_read_0 6 rfl rfl)
theorem dX7_read_7 : decode cX7_read 7 = .ok (.putfield 46, 3) := dk_181 0 46 (dk_at dksX7_read_0 7 rfl rfl)
theorem dX7_read_10 : decode cX7_read 10 = .ok (.aload_n 0, 1) := dk_42 (dk_at dksX7_read_0 10 rfl rfl)
theorem dX7_read_11 : decode cX7_read 11 = .ok (.iconst 0, 1) := dk_3 (dk_at dksX7_read_0 11 rfl rfl)
theorem dX7_read_12 : decode cX7_read 12 = .ok (.putfield 53, 3) := dk_181 0 53 (dk_at dksX7_read_0 12 rfl rfl)
theorem dX7_read_15 : decode cX7_read 15 = .ok (.aload_n 0, 1) := dk_42 (dk_at dksX7_read_0 15 rfl rfl)
theorem dX7_read_16 : decode cX7_read 16 = .ok (.iconst 0, 1) := dk_3 (dk_at dksX7_read_0 16 rfl rfl)
theorem dX7_read_17 : decode cX7_read 17 = .ok (.putfield 110, 3) := dk_181 0 110 (dk_at dksX7_read_0 17 rfl rfl)
theorem dX7_read_20 : decode cX7_read 20 = .ok (.aload_n 0, 1) := dk_42 (dk_at dksX7_read_0 20 rfl rfl)
theorem dX7_read_21 : decode cX7_read 21 = .ok (.iconst 0, 1) := dk_3 (dk_at dksX7_read_0 21 rfl rfl)
theorem dX7_read_22 : decode cX7_read 22 = .ok (.putfield 149, 3) := dk_181 0 149 (dk_at dksX7_read_1 0 rfl rfl)
theorem dX7_read_25 : decode cX7_read 25 = .ok (.aload_n 0, 1) := dk_42 (dk_at dksX7_read_1 3 rfl rfl)
theorem dX7_read_26 : decode cX7_read 26 = .ok (.invokevirtual 81, 3) := dk_182 0 81 (dk_at dksX7_read_1 4 rfl rfl)
theorem dX7_read_29 : decode cX7_read 29 = .ok (.aload_n 0, 1) := dk_42 (dk_at dksX7_read_1 7 rfl rfl)
theorem dX7_read_30 : decode cX7_read 30 = .ok (.getfield 42, 3) := dk_180 0 42 (dk_at dksX7_read_1 8 rfl rfl)
theorem dX7_read_33 : decode cX7_read 33 = .ok (.aload_n 0, 1) := dk_42 (dk_at dksX7_read_1 11 rfl rfl)
theorem dX7_read_34 : decode cX7_read 34 = .ok (.getfield 46, 3) := dk_180 0 46 (dk_at dksX7_read_1 12 rfl rfl)
theorem dX7_read_37 : decode cX7_read 37 = .ok (.if_icmp .ge 42, 3) := dk_162 0 42 (dk_at dksX7_read_1 15 rfl rfl)
theorem dX7_read_40 : decode cX7_read 40 = .ok (.aload_n 0, 1) := dk_42 (dk_at dksX7_read_1 18 rfl rfl)
theorem dX7_read_41 : decode cX7_read 41 = .ok (.getfield 38, 3) := dk_180 0 38 (dk_at dksX7_read_1 19 rfl rfl)
theorem dX7_read_44 : decode cX7_read 44 = .ok (.aload_n 0, 1) := dk_42 (dk_at dksX7_read_1 22 rfl rfl)
theorem dX7_read_45 : decode cX7_read 45 = .ok (.getfield 149, 3) := dk_180 0 149 (dk_at dksX7_read_2 0 rfl rfl)
theorem dX7_read_48 : decode cX7_read 48 = .ok (.bipush 6, 2) := dk_16 6 (dk_at dksX7_read_2 3 rfl rfl)
theorem dX7_read_50 : decode cX7_read 50 = .ok (.if_icmp .ge 10, 3) := dk_162 0 10 (dk_at dksX7_read_2 5 rfl rfl)
theorem dX7_read_53 : decode cX7_read 53 = .ok (.aload_n 0, 1) := dk_42 (dk_at dksX7_read_2 8 rfl rfl)
theorem dX7_read_54 : decode cX7_read 54 = .ok (.getfield 149, 3) := dk_180 0 149 (dk_at dksX7_read_2 9 rfl rfl)
theorem dX7_read_57 : decode cX7_read 57 = .ok (.goto 4, 3) := dk_167 0 4 (dk_at dksX7_read_2 12 rfl rfl)
theorem dX7_read_60 : decode cX7_read 60 = .ok (.iconst 0, 1) := dk_3 (dk_at dksX7_read_2 15 rfl rfl)
theorem dX7_read_61 : decode cX7_read 61 = .ok (.aload_n 0, 1) := dk_42 (dk_at dksX7_read_2 16 rfl rfl)
theorem dX7_read_62 : decode cX7_read 62 = .ok (.invokevirtual 161, 3) := dk_182 0 161 (dk_at dksX7_read_2 17 rfl rfl)
theorem dX7_read_65 : decode cX7_read 65 = .ok (.aastore, 1) := dk_83 (dk_at dksX7_read_2 20 rfl rfl)
theorem dX7_read_66 : decode cX7_read 66 = .ok (.aload_n 0, 1) := dk_42 (dk_at dksX7_read_2 21 rfl rfl)
theorem dX7_read_67 : decode cX7_read 67 = .ok (.dup, 1) := dk_89 (dk_at dksX7_read_2 22 rfl rfl)
theorem dX7_read_68 : decode cX7_read 68 = .ok (.getfield 149, 3) := dk_180 0 149 (dk_at dksX7_read_3 0 rfl rfl)
theorem dX7_read_71 : decode cX7_read 71 = .ok (.iconst 1, 1) := dk_4 (dk_at dksX7_read_3 3 rfl rfl)
theorem dX7_read_72 : decode cX7_read 72 = .ok (.iadd, 1) := dk_96 (dk_at dksX7_read_3 4 rfl rfl)
theorem dX7_read_73 : decode cX7_read 73 = .ok (.putfield 149, 3) := dk_181 0 149 (dk_at dksX7_read_3 5 rfl rfl)
theorem dX7_read_76 : decode cX7_read 76 = .ok (.goto (-47), 3) := dk_167 255 209 (dk_at dksX7_read_3 8 rfl rfl)
theorem dX7_read_79 : decode cX7_read 79 = .ok (.return_, 1) := dk_177 (dk_at dksX7_read_3 11 rfl rfl)
abbrev cX7_next : ByteArray := prog_22_method_5_code
def yX7_next : MethodName := ⟨RX7, "next", "()V"⟩
def dkwX7_next_6 : List UInt8 := [180, 0, 53, 4, 96, 181, 0, 53, 167, 255, 197, 177]
abbrev dktX7_next_6 : List UInt8 := dkwX7_next_6 ++ []
def dkwX7_next_5 : List UInt8 := [154, 0, 22, 28, 153, 0, 31, 42, 180, 0, 49, 42, 180, 0, 53, 51, 184, 0, 63, 153, 0, 16, 42, 89]
abbrev dktX7_next_5 : List UInt8 := dkwX7_next_5 ++ dktX7_next_6
def dkwX7_next_4 : List UInt8 := [180, 0, 46, 162, 0, 54, 27, 153, 0, 18, 42, 180, 0, 49, 42, 180, 0, 53, 51, 184, 0, 59]
abbrev dktX7_next_4 : List UInt8 := dkwX7_next_4 ++ dktX7_next_5
def dkwX7_next_3 : List UInt8 := [181, 0, 53, 42, 182, 0, 56, 184, 0, 59, 60, 42, 182, 0, 56, 184, 0, 63, 61, 42, 180, 0, 53, 42]
abbrev dktX7_next_3 : List UInt8 := dkwX7_next_3 ++ dktX7_next_4
def dkwX7_next_2 : List UInt8 := [180, 0, 42, 42, 180, 0, 46, 162, 0, 12, 42, 180, 0, 42, 4, 96, 167, 0, 7, 42, 180, 0, 42]
abbrev dktX7_next_2 : List UInt8 := dkwX7_next_2 ++ dktX7_next_3
def dkwX7_next_1 : List UInt8 := [180, 0, 42, 51, 16, 32, 160, 0, 16, 42, 89, 180, 0, 42, 4, 96, 181, 0, 42, 167, 255, 221, 42, 42]
abbrev dktX7_next_1 : List UInt8 := dkwX7_next_1 ++ dktX7_next_2
def dkwX7_next_0 : List UInt8 := [42, 42, 180, 0, 53, 181, 0, 42, 42, 180, 0, 42, 42, 180, 0, 46, 162, 0, 30, 42, 180, 0, 49, 42]
abbrev dktX7_next_0 : List UInt8 := dkwX7_next_0 ++ dktX7_next_1
theorem dksX7_next_0 : cX7_next.data.toList.drop 0 = dktX7_next_0 := by decide +kernel
theorem dksX7_next_1 : cX7_next.data.toList.drop 24 = dktX7_next_1 := dk_seg dksX7_next_0 24 rfl rfl
theorem dksX7_next_2 : cX7_next.data.toList.drop 48 = dktX7_next_2 := dk_seg dksX7_next_1 24 rfl rfl
theorem dksX7_next_3 : cX7_next.data.toList.drop 71 = dktX7_next_3 := dk_seg dksX7_next_2 23 rfl rfl
theorem dksX7_next_4 : cX7_next.data.toList.drop 95 = dktX7_next_4 := dk_seg dksX7_next_3 24 rfl rfl
theorem dksX7_next_5 : cX7_next.data.toList.drop 117 = dktX7_next_5 := dk_seg dksX7_next_4 22 rfl rfl
theorem dksX7_next_6 : cX7_next.data.toList.drop 141 = dktX7_next_6 := dk_seg dksX7_next_5 24 rfl rfl
theorem dX7_next_0 : decode cX7_next 0 = .ok (.aload_n 0, 1) := dk_42 (dk_at dksX7_next_0 0 rfl rfl)
theorem dX7_next_1 : decode cX7_next 1 = .ok (.aload_n 0, 1) := dk_42 (dk_at dksX7_next_0 1 rfl rfl)
theorem dX7_next_2 : decode cX7_next 2 = .ok (.getfield 53, 3) := dk_180 0 53 (dk_at dksX7_next_0 2 rfl rfl)
theorem dX7_next_5 : decode cX7_next 5 = .ok (.putfield 42, 3) := dk_181 0 42 (dk_at dksX7_next_0 5 rfl rfl)
theorem dX7_next_8 : decode cX7_next 8 = .ok (.aload_n 0, 1) := dk_42 (dk_at dksX7_next_0 8 rfl rfl)
theorem dX7_next_9 : decode cX7_next 9 = .ok (.getfield 42, 3) := dk_180 0 42 (dk_at dksX7_next_0 9 rfl rfl)
theorem dX7_next_12 : decode cX7_next 12 = .ok (.aload_n 0, 1) := dk_42 (dk_at dksX7_next_0 12 rfl rfl)
theorem dX7_next_13 : decode cX7_next 13 = .ok (.getfield 46, 3) := dk_180 0 46 (dk_at dksX7_next_0 13 rfl rfl)
theorem dX7_next_16 : decode cX7_next 16 = .ok (.if_icmp .ge 30, 3) := dk_162 0 30 (dk_at dksX7_next_0 16 rfl rfl)
theorem dX7_next_19 : decode cX7_next 19 = .ok (.aload_n 0, 1) := dk_42 (dk_at dksX7_next_0 19 rfl rfl)
theorem dX7_next_20 : decode cX7_next 20 = .ok (.getfield 49, 3) := dk_180 0 49 (dk_at dksX7_next_0 20 rfl rfl)
theorem dX7_next_23 : decode cX7_next 23 = .ok (.aload_n 0, 1) := dk_42 (dk_at dksX7_next_0 23 rfl rfl)
theorem dX7_next_24 : decode cX7_next 24 = .ok (.getfield 42, 3) := dk_180 0 42 (dk_at dksX7_next_1 0 rfl rfl)
theorem dX7_next_27 : decode cX7_next 27 = .ok (.baload, 1) := dk_51 (dk_at dksX7_next_1 3 rfl rfl)
theorem dX7_next_28 : decode cX7_next 28 = .ok (.bipush 32, 2) := dk_16 32 (dk_at dksX7_next_1 4 rfl rfl)
theorem dX7_next_30 : decode cX7_next 30 = .ok (.if_icmp .ne 16, 3) := dk_160 0 16 (dk_at dksX7_next_1 6 rfl rfl)
theorem dX7_next_33 : decode cX7_next 33 = .ok (.aload_n 0, 1) := dk_42 (dk_at dksX7_next_1 9 rfl rfl)
theorem dX7_next_34 : decode cX7_next 34 = .ok (.dup, 1) := dk_89 (dk_at dksX7_next_1 10 rfl rfl)
theorem dX7_next_35 : decode cX7_next 35 = .ok (.getfield 42, 3) := dk_180 0 42 (dk_at dksX7_next_1 11 rfl rfl)
theorem dX7_next_38 : decode cX7_next 38 = .ok (.iconst 1, 1) := dk_4 (dk_at dksX7_next_1 14 rfl rfl)
theorem dX7_next_39 : decode cX7_next 39 = .ok (.iadd, 1) := dk_96 (dk_at dksX7_next_1 15 rfl rfl)
theorem dX7_next_40 : decode cX7_next 40 = .ok (.putfield 42, 3) := dk_181 0 42 (dk_at dksX7_next_1 16 rfl rfl)
theorem dX7_next_43 : decode cX7_next 43 = .ok (.goto (-35), 3) := dk_167 255 221 (dk_at dksX7_next_1 19 rfl rfl)
theorem dX7_next_46 : decode cX7_next 46 = .ok (.aload_n 0, 1) := dk_42 (dk_at dksX7_next_1 22 rfl rfl)
theorem dX7_next_47 : decode cX7_next 47 = .ok (.aload_n 0, 1) := dk_42 (dk_at dksX7_next_1 23 rfl rfl)
theorem dX7_next_48 : decode cX7_next 48 = .ok (.getfield 42, 3) := dk_180 0 42 (dk_at dksX7_next_2 0 rfl rfl)
theorem dX7_next_51 : decode cX7_next 51 = .ok (.aload_n 0, 1) := dk_42 (dk_at dksX7_next_2 3 rfl rfl)
theorem dX7_next_52 : decode cX7_next 52 = .ok (.getfield 46, 3) := dk_180 0 46 (dk_at dksX7_next_2 4 rfl rfl)
theorem dX7_next_55 : decode cX7_next 55 = .ok (.if_icmp .ge 12, 3) := dk_162 0 12 (dk_at dksX7_next_2 7 rfl rfl)
theorem dX7_next_58 : decode cX7_next 58 = .ok (.aload_n 0, 1) := dk_42 (dk_at dksX7_next_2 10 rfl rfl)
theorem dX7_next_59 : decode cX7_next 59 = .ok (.getfield 42, 3) := dk_180 0 42 (dk_at dksX7_next_2 11 rfl rfl)
theorem dX7_next_62 : decode cX7_next 62 = .ok (.iconst 1, 1) := dk_4 (dk_at dksX7_next_2 14 rfl rfl)
theorem dX7_next_63 : decode cX7_next 63 = .ok (.iadd, 1) := dk_96 (dk_at dksX7_next_2 15 rfl rfl)
theorem dX7_next_64 : decode cX7_next 64 = .ok (.goto 7, 3) := dk_167 0 7 (dk_at dksX7_next_2 16 rfl rfl)
theorem dX7_next_67 : decode cX7_next 67 = .ok (.aload_n 0, 1) := dk_42 (dk_at dksX7_next_2 19 rfl rfl)
theorem dX7_next_68 : decode cX7_next 68 = .ok (.getfield 42, 3) := dk_180 0 42 (dk_at dksX7_next_2 20 rfl rfl)
theorem dX7_next_71 : decode cX7_next 71 = .ok (.putfield 53, 3) := dk_181 0 53 (dk_at dksX7_next_3 0 rfl rfl)
theorem dX7_next_74 : decode cX7_next 74 = .ok (.aload_n 0, 1) := dk_42 (dk_at dksX7_next_3 3 rfl rfl)
theorem dX7_next_75 : decode cX7_next 75 = .ok (.invokevirtual 56, 3) := dk_182 0 56 (dk_at dksX7_next_3 4 rfl rfl)
theorem dX7_next_78 : decode cX7_next 78 = .ok (.invokestatic 59, 3) := dk_184 0 59 (dk_at dksX7_next_3 7 rfl rfl)
theorem dX7_next_81 : decode cX7_next 81 = .ok (.istore_n 1, 1) := dk_60 (dk_at dksX7_next_3 10 rfl rfl)
theorem dX7_next_82 : decode cX7_next 82 = .ok (.aload_n 0, 1) := dk_42 (dk_at dksX7_next_3 11 rfl rfl)
theorem dX7_next_83 : decode cX7_next 83 = .ok (.invokevirtual 56, 3) := dk_182 0 56 (dk_at dksX7_next_3 12 rfl rfl)
theorem dX7_next_86 : decode cX7_next 86 = .ok (.invokestatic 63, 3) := dk_184 0 63 (dk_at dksX7_next_3 15 rfl rfl)
theorem dX7_next_89 : decode cX7_next 89 = .ok (.istore_n 2, 1) := dk_61 (dk_at dksX7_next_3 18 rfl rfl)
theorem dX7_next_90 : decode cX7_next 90 = .ok (.aload_n 0, 1) := dk_42 (dk_at dksX7_next_3 19 rfl rfl)
theorem dX7_next_91 : decode cX7_next 91 = .ok (.getfield 53, 3) := dk_180 0 53 (dk_at dksX7_next_3 20 rfl rfl)
theorem dX7_next_94 : decode cX7_next 94 = .ok (.aload_n 0, 1) := dk_42 (dk_at dksX7_next_3 23 rfl rfl)
theorem dX7_next_95 : decode cX7_next 95 = .ok (.getfield 46, 3) := dk_180 0 46 (dk_at dksX7_next_4 0 rfl rfl)
theorem dX7_next_98 : decode cX7_next 98 = .ok (.if_icmp .ge 54, 3) := dk_162 0 54 (dk_at dksX7_next_4 3 rfl rfl)
theorem dX7_next_101 : decode cX7_next 101 = .ok (.iload_n 1, 1) := dk_27 (dk_at dksX7_next_4 6 rfl rfl)
theorem dX7_next_102 : decode cX7_next 102 = .ok (.ifCond .eq 18, 3) := dk_153 0 18 (dk_at dksX7_next_4 7 rfl rfl)
theorem dX7_next_105 : decode cX7_next 105 = .ok (.aload_n 0, 1) := dk_42 (dk_at dksX7_next_4 10 rfl rfl)
theorem dX7_next_106 : decode cX7_next 106 = .ok (.getfield 49, 3) := dk_180 0 49 (dk_at dksX7_next_4 11 rfl rfl)
theorem dX7_next_109 : decode cX7_next 109 = .ok (.aload_n 0, 1) := dk_42 (dk_at dksX7_next_4 14 rfl rfl)
theorem dX7_next_110 : decode cX7_next 110 = .ok (.getfield 53, 3) := dk_180 0 53 (dk_at dksX7_next_4 15 rfl rfl)
theorem dX7_next_113 : decode cX7_next 113 = .ok (.baload, 1) := dk_51 (dk_at dksX7_next_4 18 rfl rfl)
theorem dX7_next_114 : decode cX7_next 114 = .ok (.invokestatic 59, 3) := dk_184 0 59 (dk_at dksX7_next_4 19 rfl rfl)
theorem dX7_next_117 : decode cX7_next 117 = .ok (.ifCond .ne 22, 3) := dk_154 0 22 (dk_at dksX7_next_5 0 rfl rfl)
theorem dX7_next_120 : decode cX7_next 120 = .ok (.iload_n 2, 1) := dk_28 (dk_at dksX7_next_5 3 rfl rfl)
theorem dX7_next_121 : decode cX7_next 121 = .ok (.ifCond .eq 31, 3) := dk_153 0 31 (dk_at dksX7_next_5 4 rfl rfl)
theorem dX7_next_124 : decode cX7_next 124 = .ok (.aload_n 0, 1) := dk_42 (dk_at dksX7_next_5 7 rfl rfl)
theorem dX7_next_125 : decode cX7_next 125 = .ok (.getfield 49, 3) := dk_180 0 49 (dk_at dksX7_next_5 8 rfl rfl)
theorem dX7_next_128 : decode cX7_next 128 = .ok (.aload_n 0, 1) := dk_42 (dk_at dksX7_next_5 11 rfl rfl)
theorem dX7_next_129 : decode cX7_next 129 = .ok (.getfield 53, 3) := dk_180 0 53 (dk_at dksX7_next_5 12 rfl rfl)
theorem dX7_next_132 : decode cX7_next 132 = .ok (.baload, 1) := dk_51 (dk_at dksX7_next_5 15 rfl rfl)
theorem dX7_next_133 : decode cX7_next 133 = .ok (.invokestatic 63, 3) := dk_184 0 63 (dk_at dksX7_next_5 16 rfl rfl)
theorem dX7_next_136 : decode cX7_next 136 = .ok (.ifCond .eq 16, 3) := dk_153 0 16 (dk_at dksX7_next_5 19 rfl rfl)
theorem dX7_next_139 : decode cX7_next 139 = .ok (.aload_n 0, 1) := dk_42 (dk_at dksX7_next_5 22 rfl rfl)
theorem dX7_next_140 : decode cX7_next 140 = .ok (.dup, 1) := dk_89 (dk_at dksX7_next_5 23 rfl rfl)
theorem dX7_next_141 : decode cX7_next 141 = .ok (.getfield 53, 3) := dk_180 0 53 (dk_at dksX7_next_6 0 rfl rfl)
theorem dX7_next_144 : decode cX7_next 144 = .ok (.iconst 1, 1) := dk_4 (dk_at dksX7_next_6 3 rfl rfl)
theorem dX7_next_145 : decode cX7_next 145 = .ok (.iadd, 1) := dk_96 (dk_at dksX7_next_6 4 rfl rfl)
theorem dX7_next_146 : decode cX7_next 146 = .ok (.putfield 53, 3) := dk_181 0 53 (dk_at dksX7_next_6 5 rfl rfl)
theorem dX7_next_149 : decode cX7_next 149 = .ok (.goto (-59), 3) := dk_167 255 197 (dk_at dksX7_next_6 8 rfl rfl)
theorem dX7_next_152 : decode cX7_next 152 = .ok (.return_, 1) := dk_177 (dk_at dksX7_next_6 11 rfl rfl)
abbrev cX7_here : ByteArray := prog_22_method_2_code
def yX7_here : MethodName := ⟨RX7, "here", "()I"⟩
def dkwX7_here_1 : List UInt8 := [172]
abbrev dktX7_here_1 : List UInt8 := dkwX7_here_1 ++ []
def dkwX7_here_0 : List UInt8 := [42, 180, 0, 42, 42, 180, 0, 46, 162, 0, 15, 42, 180, 0, 49, 42, 180, 0, 42, 51, 167, 0, 4, 2]
abbrev dktX7_here_0 : List UInt8 := dkwX7_here_0 ++ dktX7_here_1
theorem dksX7_here_0 : cX7_here.data.toList.drop 0 = dktX7_here_0 := by decide +kernel
theorem dksX7_here_1 : cX7_here.data.toList.drop 24 = dktX7_here_1 := dk_seg dksX7_here_0 24 rfl rfl
theorem dX7_here_0 : decode cX7_here 0 = .ok (.aload_n 0, 1) := dk_42 (dk_at dksX7_here_0 0 rfl rfl)
theorem dX7_here_1 : decode cX7_here 1 = .ok (.getfield 42, 3) := dk_180 0 42 (dk_at dksX7_here_0 1 rfl rfl)
theorem dX7_here_4 : decode cX7_here 4 = .ok (.aload_n 0, 1) := dk_42 (dk_at dksX7_here_0 4 rfl rfl)
theorem dX7_here_5 : decode cX7_here 5 = .ok (.getfield 46, 3) := dk_180 0 46 (dk_at dksX7_here_0 5 rfl rfl)
theorem dX7_here_8 : decode cX7_here 8 = .ok (.if_icmp .ge 15, 3) := dk_162 0 15 (dk_at dksX7_here_0 8 rfl rfl)
theorem dX7_here_11 : decode cX7_here 11 = .ok (.aload_n 0, 1) := dk_42 (dk_at dksX7_here_0 11 rfl rfl)
theorem dX7_here_12 : decode cX7_here 12 = .ok (.getfield 49, 3) := dk_180 0 49 (dk_at dksX7_here_0 12 rfl rfl)
theorem dX7_here_15 : decode cX7_here 15 = .ok (.aload_n 0, 1) := dk_42 (dk_at dksX7_here_0 15 rfl rfl)
theorem dX7_here_16 : decode cX7_here 16 = .ok (.getfield 42, 3) := dk_180 0 42 (dk_at dksX7_here_0 16 rfl rfl)
theorem dX7_here_19 : decode cX7_here 19 = .ok (.baload, 1) := dk_51 (dk_at dksX7_here_0 19 rfl rfl)
theorem dX7_here_20 : decode cX7_here 20 = .ok (.goto 4, 3) := dk_167 0 4 (dk_at dksX7_here_0 20 rfl rfl)
theorem dX7_here_23 : decode cX7_here 23 = .ok (.iconst (-1), 1) := dk_2 (dk_at dksX7_here_0 23 rfl rfl)
theorem dX7_here_24 : decode cX7_here 24 = .ok (.ireturn, 1) := dk_172 (dk_at dksX7_here_1 0 rfl rfl)
abbrev cX7_isLetter : ByteArray := prog_22_method_4_code
def yX7_isLetter : MethodName := ⟨RX7, "isLetter", "(I)Z"⟩
def dkwX7_isLetter_0 : List UInt8 := [26, 16, 97, 161, 0, 13, 26, 16, 122, 163, 0, 7, 4, 167, 0, 4, 3, 172]
abbrev dktX7_isLetter_0 : List UInt8 := dkwX7_isLetter_0 ++ []
theorem dksX7_isLetter_0 : cX7_isLetter.data.toList.drop 0 = dktX7_isLetter_0 := by decide +kernel
theorem dX7_isLetter_0 : decode cX7_isLetter 0 = .ok (.iload_n 0, 1) := dk_26 (dk_at dksX7_isLetter_0 0 rfl rfl)
theorem dX7_isLetter_1 : decode cX7_isLetter 1 = .ok (.bipush 97, 2) := dk_16 97 (dk_at dksX7_isLetter_0 1 rfl rfl)
theorem dX7_isLetter_3 : decode cX7_isLetter 3 = .ok (.if_icmp .lt 13, 3) := dk_161 0 13 (dk_at dksX7_isLetter_0 3 rfl rfl)
theorem dX7_isLetter_6 : decode cX7_isLetter 6 = .ok (.iload_n 0, 1) := dk_26 (dk_at dksX7_isLetter_0 6 rfl rfl)
theorem dX7_isLetter_7 : decode cX7_isLetter 7 = .ok (.bipush 122, 2) := dk_16 122 (dk_at dksX7_isLetter_0 7 rfl rfl)
theorem dX7_isLetter_9 : decode cX7_isLetter 9 = .ok (.if_icmp .gt 7, 3) := dk_163 0 7 (dk_at dksX7_isLetter_0 9 rfl rfl)
theorem dX7_isLetter_12 : decode cX7_isLetter 12 = .ok (.iconst 1, 1) := dk_4 (dk_at dksX7_isLetter_0 12 rfl rfl)
theorem dX7_isLetter_13 : decode cX7_isLetter 13 = .ok (.goto 4, 3) := dk_167 0 4 (dk_at dksX7_isLetter_0 13 rfl rfl)
theorem dX7_isLetter_16 : decode cX7_isLetter 16 = .ok (.iconst 0, 1) := dk_3 (dk_at dksX7_isLetter_0 16 rfl rfl)
theorem dX7_isLetter_17 : decode cX7_isLetter 17 = .ok (.ireturn, 1) := dk_172 (dk_at dksX7_isLetter_0 17 rfl rfl)
abbrev cX7_isDigit : ByteArray := prog_22_method_3_code
def yX7_isDigit : MethodName := ⟨RX7, "isDigit", "(I)Z"⟩
def dkwX7_isDigit_0 : List UInt8 := [26, 16, 48, 161, 0, 13, 26, 16, 57, 163, 0, 7, 4, 167, 0, 4, 3, 172]
abbrev dktX7_isDigit_0 : List UInt8 := dkwX7_isDigit_0 ++ []
theorem dksX7_isDigit_0 : cX7_isDigit.data.toList.drop 0 = dktX7_isDigit_0 := by decide +kernel
theorem dX7_isDigit_0 : decode cX7_isDigit 0 = .ok (.iload_n 0, 1) := dk_26 (dk_at dksX7_isDigit_0 0 rfl rfl)
theorem dX7_isDigit_1 : decode cX7_isDigit 1 = .ok (.bipush 48, 2) := dk_16 48 (dk_at dksX7_isDigit_0 1 rfl rfl)
theorem dX7_isDigit_3 : decode cX7_isDigit 3 = .ok (.if_icmp .lt 13, 3) := dk_161 0 13 (dk_at dksX7_isDigit_0 3 rfl rfl)
theorem dX7_isDigit_6 : decode cX7_isDigit 6 = .ok (.iload_n 0, 1) := dk_26 (dk_at dksX7_isDigit_0 6 rfl rfl)
theorem dX7_isDigit_7 : decode cX7_isDigit 7 = .ok (.bipush 57, 2) := dk_16 57 (dk_at dksX7_isDigit_0 7 rfl rfl)
theorem dX7_isDigit_9 : decode cX7_isDigit 9 = .ok (.if_icmp .gt 7, 3) := dk_163 0 7 (dk_at dksX7_isDigit_0 9 rfl rfl)
theorem dX7_isDigit_12 : decode cX7_isDigit 12 = .ok (.iconst 1, 1) := dk_4 (dk_at dksX7_isDigit_0 12 rfl rfl)
theorem dX7_isDigit_13 : decode cX7_isDigit 13 = .ok (.goto 4, 3) := dk_167 0 4 (dk_at dksX7_isDigit_0 13 rfl rfl)
theorem dX7_isDigit_16 : decode cX7_isDigit 16 = .ok (.iconst 0, 1) := dk_3 (dk_at dksX7_isDigit_0 16 rfl rfl)
theorem dX7_isDigit_17 : decode cX7_isDigit 17 = .ok (.ireturn, 1) := dk_172 (dk_at dksX7_isDigit_0 17 rfl rfl)
abbrev cX7_whole : ByteArray := prog_22_method_16_code
def yX7_whole : MethodName := ⟨RX7, "whole", "()LHungryHedge$Clause;"⟩
def dkwX7_whole_2 : List UInt8 := [182, 0, 113, 183, 0, 156, 77, 42, 18, 159, 182, 0, 119, 44, 176]
abbrev dktX7_whole_2 : List UInt8 := dkwX7_whole_2 ++ []
def dkwX7_whole_1 : List UInt8 := [182, 0, 107, 154, 0, 15, 42, 18, 154, 182, 0, 119, 42, 6, 182, 0, 91, 60, 187, 0, 36, 89, 27, 42]
abbrev dktX7_whole_1 : List UInt8 := dkwX7_whole_1 ++ dktX7_whole_2
def dkwX7_whole_0 : List UInt8 := [42, 42, 180, 0, 149, 16, 6, 162, 0, 7, 4, 167, 0, 4, 3, 182, 0, 84, 2, 60, 42, 18, 152]
abbrev dktX7_whole_0 : List UInt8 := dkwX7_whole_0 ++ dktX7_whole_1
theorem dksX7_whole_0 : cX7_whole.data.toList.drop 0 = dktX7_whole_0 := by decide +kernel
theorem dksX7_whole_1 : cX7_whole.data.toList.drop 23 = dktX7_whole_1 := dk_seg dksX7_whole_0 23 rfl rfl
theorem dksX7_whole_2 : cX7_whole.data.toList.drop 47 = dktX7_whole_2 := dk_seg dksX7_whole_1 24 rfl rfl
theorem dX7_whole_0 : decode cX7_whole 0 = .ok (.aload_n 0, 1) := dk_42 (dk_at dksX7_whole_0 0 rfl rfl)
theorem dX7_whole_1 : decode cX7_whole 1 = .ok (.aload_n 0, 1) := dk_42 (dk_at dksX7_whole_0 1 rfl rfl)
theorem dX7_whole_2 : decode cX7_whole 2 = .ok (.getfield 149, 3) := dk_180 0 149 (dk_at dksX7_whole_0 2 rfl rfl)
theorem dX7_whole_5 : decode cX7_whole 5 = .ok (.bipush 6, 2) := dk_16 6 (dk_at dksX7_whole_0 5 rfl rfl)
theorem dX7_whole_7 : decode cX7_whole 7 = .ok (.if_icmp .ge 7, 3) := dk_162 0 7 (dk_at dksX7_whole_0 7 rfl rfl)
theorem dX7_whole_10 : decode cX7_whole 10 = .ok (.iconst 1, 1) := dk_4 (dk_at dksX7_whole_0 10 rfl rfl)
theorem dX7_whole_11 : decode cX7_whole 11 = .ok (.goto 4, 3) := dk_167 0 4 (dk_at dksX7_whole_0 11 rfl rfl)
theorem dX7_whole_14 : decode cX7_whole 14 = .ok (.iconst 0, 1) := dk_3 (dk_at dksX7_whole_0 14 rfl rfl)
theorem dX7_whole_15 : decode cX7_whole 15 = .ok (.invokevirtual 84, 3) := dk_182 0 84 (dk_at dksX7_whole_0 15 rfl rfl)
theorem dX7_whole_18 : decode cX7_whole 18 = .ok (.iconst (-1), 1) := dk_2 (dk_at dksX7_whole_0 18 rfl rfl)
theorem dX7_whole_19 : decode cX7_whole 19 = .ok (.istore_n 1, 1) := dk_60 (dk_at dksX7_whole_0 19 rfl rfl)
theorem dX7_whole_20 : decode cX7_whole 20 = .ok (.aload_n 0, 1) := dk_42 (dk_at dksX7_whole_0 20 rfl rfl)
theorem dX7_whole_21 : decode cX7_whole 21 = .ok (.ldc 152, 2) := dk_18 152 (dk_at dksX7_whole_0 21 rfl rfl)
theorem dX7_whole_23 : decode cX7_whole 23 = .ok (.invokevirtual 107, 3) := dk_182 0 107 (dk_at dksX7_whole_1 0 rfl rfl)
theorem dX7_whole_26 : decode cX7_whole 26 = .ok (.ifCond .ne 15, 3) := dk_154 0 15 (dk_at dksX7_whole_1 3 rfl rfl)
theorem dX7_whole_29 : decode cX7_whole 29 = .ok (.aload_n 0, 1) := dk_42 (dk_at dksX7_whole_1 6 rfl rfl)
theorem dX7_whole_30 : decode cX7_whole 30 = .ok (.ldc 154, 2) := dk_18 154 (dk_at dksX7_whole_1 7 rfl rfl)
theorem dX7_whole_32 : decode cX7_whole 32 = .ok (.invokevirtual 119, 3) := dk_182 0 119 (dk_at dksX7_whole_1 9 rfl rfl)
theorem dX7_whole_35 : decode cX7_whole 35 = .ok (.aload_n 0, 1) := dk_42 (dk_at dksX7_whole_1 12 rfl rfl)
theorem dX7_whole_36 : decode cX7_whole 36 = .ok (.iconst 3, 1) := dk_6 (dk_at dksX7_whole_1 13 rfl rfl)
theorem dX7_whole_37 : decode cX7_whole 37 = .ok (.invokevirtual 91, 3) := dk_182 0 91 (dk_at dksX7_whole_1 14 rfl rfl)
theorem dX7_whole_40 : decode cX7_whole 40 = .ok (.istore_n 1, 1) := dk_60 (dk_at dksX7_whole_1 17 rfl rfl)
theorem dX7_whole_41 : decode cX7_whole 41 = .ok (.new 36, 3) := dk_187 0 36 (dk_at dksX7_whole_1 18 rfl rfl)
theorem dX7_whole_44 : decode cX7_whole 44 = .ok (.dup, 1) := dk_89 (dk_at dksX7_whole_1 21 rfl rfl)
theorem dX7_whole_45 : decode cX7_whole 45 = .ok (.iload_n 1, 1) := dk_27 (dk_at dksX7_whole_1 22 rfl rfl)
theorem dX7_whole_46 : decode cX7_whole 46 = .ok (.aload_n 0, 1) := dk_42 (dk_at dksX7_whole_1 23 rfl rfl)
theorem dX7_whole_47 : decode cX7_whole 47 = .ok (.invokevirtual 113, 3) := dk_182 0 113 (dk_at dksX7_whole_2 0 rfl rfl)
theorem dX7_whole_50 : decode cX7_whole 50 = .ok (.invokespecial 156, 3) := dk_183 0 156 (dk_at dksX7_whole_2 3 rfl rfl)
theorem dX7_whole_53 : decode cX7_whole 53 = .ok (.astore_n 2, 1) := dk_77 (dk_at dksX7_whole_2 6 rfl rfl)
theorem dX7_whole_54 : decode cX7_whole 54 = .ok (.aload_n 0, 1) := dk_42 (dk_at dksX7_whole_2 7 rfl rfl)
theorem dX7_whole_55 : decode cX7_whole 55 = .ok (.ldc 159, 2) := dk_18 159 (dk_at dksX7_whole_2 8 rfl rfl)
theorem dX7_whole_57 : decode cX7_whole 57 = .ok (.invokevirtual 119, 3) := dk_182 0 119 (dk_at dksX7_whole_2 10 rfl rfl)
theorem dX7_whole_60 : decode cX7_whole 60 = .ok (.aload_n 2, 1) := dk_44 (dk_at dksX7_whole_2 13 rfl rfl)
theorem dX7_whole_61 : decode cX7_whole 61 = .ok (.areturn, 1) := dk_176 (dk_at dksX7_whole_2 14 rfl rfl)
abbrev cX7_need : ByteArray := prog_22_method_6_code
def yX7_need : MethodName := ⟨RX7, "need", "(Z)V"⟩
def dkwX7_need_0 : List UInt8 := [27, 154, 0, 15, 42, 180, 0, 32, 42, 180, 0, 42, 182, 0, 66, 191, 177]
abbrev dktX7_need_0 : List UInt8 := dkwX7_need_0 ++ []
theorem dksX7_need_0 : cX7_need.data.toList.drop 0 = dktX7_need_0 := by decide +kernel
theorem dX7_need_0 : decode cX7_need 0 = .ok (.iload_n 1, 1) := dk_27 (dk_at dksX7_need_0 0 rfl rfl)
theorem dX7_need_1 : decode cX7_need 1 = .ok (.ifCond .ne 15, 3) := dk_154 0 15 (dk_at dksX7_need_0 1 rfl rfl)
theorem dX7_need_4 : decode cX7_need 4 = .ok (.aload_n 0, 1) := dk_42 (dk_at dksX7_need_0 4 rfl rfl)
theorem dX7_need_5 : decode cX7_need 5 = .ok (.getfield 32, 3) := dk_180 0 32 (dk_at dksX7_need_0 5 rfl rfl)
theorem dX7_need_8 : decode cX7_need 8 = .ok (.aload_n 0, 1) := dk_42 (dk_at dksX7_need_0 8 rfl rfl)
theorem dX7_need_9 : decode cX7_need 9 = .ok (.getfield 42, 3) := dk_180 0 42 (dk_at dksX7_need_0 9 rfl rfl)
theorem dX7_need_12 : decode cX7_need 12 = .ok (.invokevirtual 66, 3) := dk_182 0 66 (dk_at dksX7_need_0 12 rfl rfl)
theorem dX7_need_15 : decode cX7_need 15 = .ok (.athrow, 1) := dk_191 (dk_at dksX7_need_0 15 rfl rfl)
theorem dX7_need_16 : decode cX7_need 16 = .ok (.return_, 1) := dk_177 (dk_at dksX7_need_0 16 rfl rfl)
abbrev cX7_may : ByteArray := prog_22_method_8_code
def yX7_may : MethodName := ⟨RX7, "may", "(Ljava/lang/String;)Z"⟩
def dkwX7_may_0 : List UInt8 := [42, 43, 182, 0, 77, 154, 0, 5, 3, 172, 42, 182, 0, 81, 4, 172]
abbrev dktX7_may_0 : List UInt8 := dkwX7_may_0 ++ []
theorem dksX7_may_0 : cX7_may.data.toList.drop 0 = dktX7_may_0 := by decide +kernel
theorem dX7_may_0 : decode cX7_may 0 = .ok (.aload_n 0, 1) := dk_42 (dk_at dksX7_may_0 0 rfl rfl)
theorem dX7_may_1 : decode cX7_may 1 = .ok (.aload_n 1, 1) := dk_43 (dk_at dksX7_may_0 1 rfl rfl)
theorem dX7_may_2 : decode cX7_may 2 = .ok (.invokevirtual 77, 3) := dk_182 0 77 (dk_at dksX7_may_0 2 rfl rfl)
theorem dX7_may_5 : decode cX7_may 5 = .ok (.ifCond .ne 5, 3) := dk_154 0 5 (dk_at dksX7_may_0 5 rfl rfl)
theorem dX7_may_8 : decode cX7_may 8 = .ok (.iconst 0, 1) := dk_3 (dk_at dksX7_may_0 8 rfl rfl)
theorem dX7_may_9 : decode cX7_may 9 = .ok (.ireturn, 1) := dk_172 (dk_at dksX7_may_0 9 rfl rfl)
theorem dX7_may_10 : decode cX7_may 10 = .ok (.aload_n 0, 1) := dk_42 (dk_at dksX7_may_0 10 rfl rfl)
theorem dX7_may_11 : decode cX7_may 11 = .ok (.invokevirtual 81, 3) := dk_182 0 81 (dk_at dksX7_may_0 11 rfl rfl)
theorem dX7_may_14 : decode cX7_may 14 = .ok (.iconst 1, 1) := dk_4 (dk_at dksX7_may_0 14 rfl rfl)
theorem dX7_may_15 : decode cX7_may 15 = .ok (.ireturn, 1) := dk_172 (dk_at dksX7_may_0 15 rfl rfl)
abbrev cX7_isWord : ByteArray := prog_22_method_7_code
def yX7_isWord : MethodName := ⟨RX7, "isWord", "(Ljava/lang/String;)Z"⟩
def dkwX7_isWord_2 : List UInt8 := [29, 182, 0, 73, 160, 0, 7, 4, 167, 0, 4, 3, 61, 132, 3, 1, 167, 255, 216, 28, 172]
abbrev dktX7_isWord_2 : List UInt8 := dkwX7_isWord_2 ++ []
def dkwX7_isWord_1 : List UInt8 := [29, 43, 182, 0, 70, 162, 0, 38, 28, 153, 0, 34, 42, 180, 0, 49, 42, 180, 0, 42, 29, 96, 51, 43]
abbrev dktX7_isWord_1 : List UInt8 := dkwX7_isWord_1 ++ dktX7_isWord_2
def dkwX7_isWord_0 : List UInt8 := [42, 180, 0, 53, 42, 180, 0, 42, 100, 43, 182, 0, 70, 160, 0, 7, 4, 167, 0, 4, 3, 61, 3, 62]
abbrev dktX7_isWord_0 : List UInt8 := dkwX7_isWord_0 ++ dktX7_isWord_1
theorem dksX7_isWord_0 : cX7_isWord.data.toList.drop 0 = dktX7_isWord_0 := by decide +kernel
theorem dksX7_isWord_1 : cX7_isWord.data.toList.drop 24 = dktX7_isWord_1 := dk_seg dksX7_isWord_0 24 rfl rfl
theorem dksX7_isWord_2 : cX7_isWord.data.toList.drop 48 = dktX7_isWord_2 := dk_seg dksX7_isWord_1 24 rfl rfl
theorem dX7_isWord_0 : decode cX7_isWord 0 = .ok (.aload_n 0, 1) := dk_42 (dk_at dksX7_isWord_0 0 rfl rfl)
theorem dX7_isWord_1 : decode cX7_isWord 1 = .ok (.getfield 53, 3) := dk_180 0 53 (dk_at dksX7_isWord_0 1 rfl rfl)
theorem dX7_isWord_4 : decode cX7_isWord 4 = .ok (.aload_n 0, 1) := dk_42 (dk_at dksX7_isWord_0 4 rfl rfl)
theorem dX7_isWord_5 : decode cX7_isWord 5 = .ok (.getfield 42, 3) := dk_180 0 42 (dk_at dksX7_isWord_0 5 rfl rfl)
theorem dX7_isWord_8 : decode cX7_isWord 8 = .ok (.isub, 1) := dk_100 (dk_at dksX7_isWord_0 8 rfl rfl)
theorem dX7_isWord_9 : decode cX7_isWord 9 = .ok (.aload_n 1, 1) := dk_43 (dk_at dksX7_isWord_0 9 rfl rfl)
theorem dX7_isWord_10 : decode cX7_isWord 10 = .ok (.invokevirtual 70, 3) := dk_182 0 70 (dk_at dksX7_isWord_0 10 rfl rfl)
theorem dX7_isWord_13 : decode cX7_isWord 13 = .ok (.if_icmp .ne 7, 3) := dk_160 0 7 (dk_at dksX7_isWord_0 13 rfl rfl)
theorem dX7_isWord_16 : decode cX7_isWord 16 = .ok (.iconst 1, 1) := dk_4 (dk_at dksX7_isWord_0 16 rfl rfl)
theorem dX7_isWord_17 : decode cX7_isWord 17 = .ok (.goto 4, 3) := dk_167 0 4 (dk_at dksX7_isWord_0 17 rfl rfl)
theorem dX7_isWord_20 : decode cX7_isWord 20 = .ok (.iconst 0, 1) := dk_3 (dk_at dksX7_isWord_0 20 rfl rfl)
theorem dX7_isWord_21 : decode cX7_isWord 21 = .ok (.istore_n 2, 1) := dk_61 (dk_at dksX7_isWord_0 21 rfl rfl)
theorem dX7_isWord_22 : decode cX7_isWord 22 = .ok (.iconst 0, 1) := dk_3 (dk_at dksX7_isWord_0 22 rfl rfl)
theorem dX7_isWord_23 : decode cX7_isWord 23 = .ok (.istore_n 3, 1) := dk_62 (dk_at dksX7_isWord_0 23 rfl rfl)
theorem dX7_isWord_24 : decode cX7_isWord 24 = .ok (.iload_n 3, 1) := dk_29 (dk_at dksX7_isWord_1 0 rfl rfl)
theorem dX7_isWord_25 : decode cX7_isWord 25 = .ok (.aload_n 1, 1) := dk_43 (dk_at dksX7_isWord_1 1 rfl rfl)
theorem dX7_isWord_26 : decode cX7_isWord 26 = .ok (.invokevirtual 70, 3) := dk_182 0 70 (dk_at dksX7_isWord_1 2 rfl rfl)
theorem dX7_isWord_29 : decode cX7_isWord 29 = .ok (.if_icmp .ge 38, 3) := dk_162 0 38 (dk_at dksX7_isWord_1 5 rfl rfl)
theorem dX7_isWord_32 : decode cX7_isWord 32 = .ok (.iload_n 2, 1) := dk_28 (dk_at dksX7_isWord_1 8 rfl rfl)
theorem dX7_isWord_33 : decode cX7_isWord 33 = .ok (.ifCond .eq 34, 3) := dk_153 0 34 (dk_at dksX7_isWord_1 9 rfl rfl)
theorem dX7_isWord_36 : decode cX7_isWord 36 = .ok (.aload_n 0, 1) := dk_42 (dk_at dksX7_isWord_1 12 rfl rfl)
theorem dX7_isWord_37 : decode cX7_isWord 37 = .ok (.getfield 49, 3) := dk_180 0 49 (dk_at dksX7_isWord_1 13 rfl rfl)
theorem dX7_isWord_40 : decode cX7_isWord 40 = .ok (.aload_n 0, 1) := dk_42 (dk_at dksX7_isWord_1 16 rfl rfl)
theorem dX7_isWord_41 : decode cX7_isWord 41 = .ok (.getfield 42, 3) := dk_180 0 42 (dk_at dksX7_isWord_1 17 rfl rfl)
theorem dX7_isWord_44 : decode cX7_isWord 44 = .ok (.iload_n 3, 1) := dk_29 (dk_at dksX7_isWord_1 20 rfl rfl)
theorem dX7_isWord_45 : decode cX7_isWord 45 = .ok (.iadd, 1) := dk_96 (dk_at dksX7_isWord_1 21 rfl rfl)
theorem dX7_isWord_46 : decode cX7_isWord 46 = .ok (.baload, 1) := dk_51 (dk_at dksX7_isWord_1 22 rfl rfl)
theorem dX7_isWord_47 : decode cX7_isWord 47 = .ok (.aload_n 1, 1) := dk_43 (dk_at dksX7_isWord_1 23 rfl rfl)
theorem dX7_isWord_48 : decode cX7_isWord 48 = .ok (.iload_n 3, 1) := dk_29 (dk_at dksX7_isWord_2 0 rfl rfl)
theorem dX7_isWord_49 : decode cX7_isWord 49 = .ok (.invokevirtual 73, 3) := dk_182 0 73 (dk_at dksX7_isWord_2 1 rfl rfl)
theorem dX7_isWord_52 : decode cX7_isWord 52 = .ok (.if_icmp .ne 7, 3) := dk_160 0 7 (dk_at dksX7_isWord_2 4 rfl rfl)
theorem dX7_isWord_55 : decode cX7_isWord 55 = .ok (.iconst 1, 1) := dk_4 (dk_at dksX7_isWord_2 7 rfl rfl)
theorem dX7_isWord_56 : decode cX7_isWord 56 = .ok (.goto 4, 3) := dk_167 0 4 (dk_at dksX7_isWord_2 8 rfl rfl)
theorem dX7_isWord_59 : decode cX7_isWord 59 = .ok (.iconst 0, 1) := dk_3 (dk_at dksX7_isWord_2 11 rfl rfl)
theorem dX7_isWord_60 : decode cX7_isWord 60 = .ok (.istore_n 2, 1) := dk_61 (dk_at dksX7_isWord_2 12 rfl rfl)
theorem dX7_isWord_61 : decode cX7_isWord 61 = .ok (.iinc 3 1, 3) := dk_132 3 1 (dk_at dksX7_isWord_2 13 rfl rfl)
theorem dX7_isWord_64 : decode cX7_isWord 64 = .ok (.goto (-40), 3) := dk_167 255 216 (dk_at dksX7_isWord_2 16 rfl rfl)
theorem dX7_isWord_67 : decode cX7_isWord 67 = .ok (.iload_n 2, 1) := dk_28 (dk_at dksX7_isWord_2 19 rfl rfl)
theorem dX7_isWord_68 : decode cX7_isWord 68 = .ok (.ireturn, 1) := dk_172 (dk_at dksX7_isWord_2 20 rfl rfl)
abbrev cX7_must : ByteArray := prog_22_method_9_code
def yX7_must : MethodName := ⟨RX7, "must", "(Ljava/lang/String;)V"⟩
def dkwX7_must_0 : List UInt8 := [42, 42, 43, 182, 0, 77, 182, 0, 84, 42, 182, 0, 81, 177]
abbrev dktX7_must_0 : List UInt8 := dkwX7_must_0 ++ []
theorem dksX7_must_0 : cX7_must.data.toList.drop 0 = dktX7_must_0 := by decide +kernel
theorem dX7_must_0 : decode cX7_must 0 = .ok (.aload_n 0, 1) := dk_42 (dk_at dksX7_must_0 0 rfl rfl)
theorem dX7_must_1 : decode cX7_must 1 = .ok (.aload_n 0, 1) := dk_42 (dk_at dksX7_must_0 1 rfl rfl)
theorem dX7_must_2 : decode cX7_must 2 = .ok (.aload_n 1, 1) := dk_43 (dk_at dksX7_must_0 2 rfl rfl)
theorem dX7_must_3 : decode cX7_must 3 = .ok (.invokevirtual 77, 3) := dk_182 0 77 (dk_at dksX7_must_0 3 rfl rfl)
theorem dX7_must_6 : decode cX7_must 6 = .ok (.invokevirtual 84, 3) := dk_182 0 84 (dk_at dksX7_must_0 6 rfl rfl)
theorem dX7_must_9 : decode cX7_must 9 = .ok (.aload_n 0, 1) := dk_42 (dk_at dksX7_must_0 9 rfl rfl)
theorem dX7_must_10 : decode cX7_must 10 = .ok (.invokevirtual 81, 3) := dk_182 0 81 (dk_at dksX7_must_0 10 rfl rfl)
theorem dX7_must_13 : decode cX7_must 13 = .ok (.return_, 1) := dk_177 (dk_at dksX7_must_0 13 rfl rfl)
abbrev cX7_number : ByteArray := prog_22_method_10_code
def yX7_number : MethodName := ⟨RX7, "number", "(I)I"⟩
def dkwX7_number_3 : List UInt8 := [163, 0, 7, 4, 167, 0, 4, 3, 182, 0, 84, 42, 182, 0, 81, 28, 172]
abbrev dktX7_number_3 : List UInt8 := dkwX7_number_3 ++ []
def dkwX7_number_2 : List UInt8 := [16, 10, 28, 104, 42, 180, 0, 49, 29, 51, 96, 16, 48, 100, 61, 132, 3, 1, 167, 255, 230, 42, 28, 27]
abbrev dktX7_number_2 : List UInt8 := dkwX7_number_2 ++ dktX7_number_3
def dkwX7_number_1 : List UInt8 := [4, 167, 0, 4, 3, 182, 0, 84, 3, 61, 42, 180, 0, 42, 62, 29, 42, 180, 0, 53, 162, 0, 24]
abbrev dktX7_number_1 : List UInt8 := dkwX7_number_1 ++ dktX7_number_2
def dkwX7_number_0 : List UInt8 := [42, 42, 182, 0, 56, 184, 0, 63, 153, 0, 20, 42, 180, 0, 53, 42, 180, 0, 42, 100, 6, 163, 0, 7]
abbrev dktX7_number_0 : List UInt8 := dkwX7_number_0 ++ dktX7_number_1
theorem dksX7_number_0 : cX7_number.data.toList.drop 0 = dktX7_number_0 := by decide +kernel
theorem dksX7_number_1 : cX7_number.data.toList.drop 24 = dktX7_number_1 := dk_seg dksX7_number_0 24 rfl rfl
theorem dksX7_number_2 : cX7_number.data.toList.drop 47 = dktX7_number_2 := dk_seg dksX7_number_1 23 rfl rfl
theorem dksX7_number_3 : cX7_number.data.toList.drop 71 = dktX7_number_3 := dk_seg dksX7_number_2 24 rfl rfl
theorem dX7_number_0 : decode cX7_number 0 = .ok (.aload_n 0, 1) := dk_42 (dk_at dksX7_number_0 0 rfl rfl)
theorem dX7_number_1 : decode cX7_number 1 = .ok (.aload_n 0, 1) := dk_42 (dk_at dksX7_number_0 1 rfl rfl)
theorem dX7_number_2 : decode cX7_number 2 = .ok (.invokevirtual 56, 3) := dk_182 0 56 (dk_at dksX7_number_0 2 rfl rfl)
theorem dX7_number_5 : decode cX7_number 5 = .ok (.invokestatic 63, 3) := dk_184 0 63 (dk_at dksX7_number_0 5 rfl rfl)
theorem dX7_number_8 : decode cX7_number 8 = .ok (.ifCond .eq 20, 3) := dk_153 0 20 (dk_at dksX7_number_0 8 rfl rfl)
theorem dX7_number_11 : decode cX7_number 11 = .ok (.aload_n 0, 1) := dk_42 (dk_at dksX7_number_0 11 rfl rfl)
theorem dX7_number_12 : decode cX7_number 12 = .ok (.getfield 53, 3) := dk_180 0 53 (dk_at dksX7_number_0 12 rfl rfl)
theorem dX7_number_15 : decode cX7_number 15 = .ok (.aload_n 0, 1) := dk_42 (dk_at dksX7_number_0 15 rfl rfl)
theorem dX7_number_16 : decode cX7_number 16 = .ok (.getfield 42, 3) := dk_180 0 42 (dk_at dksX7_number_0 16 rfl rfl)
theorem dX7_number_19 : decode cX7_number 19 = .ok (.isub, 1) := dk_100 (dk_at dksX7_number_0 19 rfl rfl)
theorem dX7_number_20 : decode cX7_number 20 = .ok (.iconst 3, 1) := dk_6 (dk_at dksX7_number_0 20 rfl rfl)
theorem dX7_number_21 : decode cX7_number 21 = .ok (.if_icmp .gt 7, 3) := dk_163 0 7 (dk_at dksX7_number_0 21 rfl rfl)
theorem dX7_number_24 : decode cX7_number 24 = .ok (.iconst 1, 1) := dk_4 (dk_at dksX7_number_1 0 rfl rfl)
theorem dX7_number_25 : decode cX7_number 25 = .ok (.goto 4, 3) := dk_167 0 4 (dk_at dksX7_number_1 1 rfl rfl)
theorem dX7_number_28 : decode cX7_number 28 = .ok (.iconst 0, 1) := dk_3 (dk_at dksX7_number_1 4 rfl rfl)
theorem dX7_number_29 : decode cX7_number 29 = .ok (.invokevirtual 84, 3) := dk_182 0 84 (dk_at dksX7_number_1 5 rfl rfl)
theorem dX7_number_32 : decode cX7_number 32 = .ok (.iconst 0, 1) := dk_3 (dk_at dksX7_number_1 8 rfl rfl)
theorem dX7_number_33 : decode cX7_number 33 = .ok (.istore_n 2, 1) := dk_61 (dk_at dksX7_number_1 9 rfl rfl)
theorem dX7_number_34 : decode cX7_number 34 = .ok (.aload_n 0, 1) := dk_42 (dk_at dksX7_number_1 10 rfl rfl)
theorem dX7_number_35 : decode cX7_number 35 = .ok (.getfield 42, 3) := dk_180 0 42 (dk_at dksX7_number_1 11 rfl rfl)
theorem dX7_number_38 : decode cX7_number 38 = .ok (.istore_n 3, 1) := dk_62 (dk_at dksX7_number_1 14 rfl rfl)
theorem dX7_number_39 : decode cX7_number 39 = .ok (.iload_n 3, 1) := dk_29 (dk_at dksX7_number_1 15 rfl rfl)
theorem dX7_number_40 : decode cX7_number 40 = .ok (.aload_n 0, 1) := dk_42 (dk_at dksX7_number_1 16 rfl rfl)
theorem dX7_number_41 : decode cX7_number 41 = .ok (.getfield 53, 3) := dk_180 0 53 (dk_at dksX7_number_1 17 rfl rfl)
theorem dX7_number_44 : decode cX7_number 44 = .ok (.if_icmp .ge 24, 3) := dk_162 0 24 (dk_at dksX7_number_1 20 rfl rfl)
theorem dX7_number_47 : decode cX7_number 47 = .ok (.bipush 10, 2) := dk_16 10 (dk_at dksX7_number_2 0 rfl rfl)
theorem dX7_number_49 : decode cX7_number 49 = .ok (.iload_n 2, 1) := dk_28 (dk_at dksX7_number_2 2 rfl rfl)
theorem dX7_number_50 : decode cX7_number 50 = .ok (.imul, 1) := dk_104 (dk_at dksX7_number_2 3 rfl rfl)
theorem dX7_number_51 : decode cX7_number 51 = .ok (.aload_n 0, 1) := dk_42 (dk_at dksX7_number_2 4 rfl rfl)
theorem dX7_number_52 : decode cX7_number 52 = .ok (.getfield 49, 3) := dk_180 0 49 (dk_at dksX7_number_2 5 rfl rfl)
theorem dX7_number_55 : decode cX7_number 55 = .ok (.iload_n 3, 1) := dk_29 (dk_at dksX7_number_2 8 rfl rfl)
theorem dX7_number_56 : decode cX7_number 56 = .ok (.baload, 1) := dk_51 (dk_at dksX7_number_2 9 rfl rfl)
theorem dX7_number_57 : decode cX7_number 57 = .ok (.iadd, 1) := dk_96 (dk_at dksX7_number_2 10 rfl rfl)
theorem dX7_number_58 : decode cX7_number 58 = .ok (.bipush 48, 2) := dk_16 48 (dk_at dksX7_number_2 11 rfl rfl)
theorem dX7_number_60 : decode cX7_number 60 = .ok (.isub, 1) := dk_100 (dk_at dksX7_number_2 13 rfl rfl)
theorem dX7_number_61 : decode cX7_number 61 = .ok (.istore_n 2, 1) := dk_61 (dk_at dksX7_number_2 14 rfl rfl)
theorem dX7_number_62 : decode cX7_number 62 = .ok (.iinc 3 1, 3) := dk_132 3 1 (dk_at dksX7_number_2 15 rfl rfl)
theorem dX7_number_65 : decode cX7_number 65 = .ok (.goto (-26), 3) := dk_167 255 230 (dk_at dksX7_number_2 18 rfl rfl)
theorem dX7_number_68 : decode cX7_number 68 = .ok (.aload_n 0, 1) := dk_42 (dk_at dksX7_number_2 21 rfl rfl)
theorem dX7_number_69 : decode cX7_number 69 = .ok (.iload_n 2, 1) := dk_28 (dk_at dksX7_number_2 22 rfl rfl)
theorem dX7_number_70 : decode cX7_number 70 = .ok (.iload_n 1, 1) := dk_27 (dk_at dksX7_number_2 23 rfl rfl)
theorem dX7_number_71 : decode cX7_number 71 = .ok (.if_icmp .gt 7, 3) := dk_163 0 7 (dk_at dksX7_number_3 0 rfl rfl)
theorem dX7_number_74 : decode cX7_number 74 = .ok (.iconst 1, 1) := dk_4 (dk_at dksX7_number_3 3 rfl rfl)
theorem dX7_number_75 : decode cX7_number 75 = .ok (.goto 4, 3) := dk_167 0 4 (dk_at dksX7_number_3 4 rfl rfl)
theorem dX7_number_78 : decode cX7_number 78 = .ok (.iconst 0, 1) := dk_3 (dk_at dksX7_number_3 7 rfl rfl)
theorem dX7_number_79 : decode cX7_number 79 = .ok (.invokevirtual 84, 3) := dk_182 0 84 (dk_at dksX7_number_3 8 rfl rfl)
theorem dX7_number_82 : decode cX7_number 82 = .ok (.aload_n 0, 1) := dk_42 (dk_at dksX7_number_3 11 rfl rfl)
theorem dX7_number_83 : decode cX7_number 83 = .ok (.invokevirtual 81, 3) := dk_182 0 81 (dk_at dksX7_number_3 12 rfl rfl)
theorem dX7_number_86 : decode cX7_number 86 = .ok (.iload_n 2, 1) := dk_28 (dk_at dksX7_number_3 15 rfl rfl)
theorem dX7_number_87 : decode cX7_number 87 = .ok (.ireturn, 1) := dk_172 (dk_at dksX7_number_3 16 rfl rfl)
abbrev cX7_cond : ByteArray := prog_22_method_15_code
def yX7_cond : MethodName := ⟨RX7, "cond", "()LHungryHedge$Cond;"⟩
def dkwX7_cond_1 : List UInt8 := [183, 0, 148, 76, 167, 255, 234, 43, 176]
abbrev dktX7_cond_1 : List UInt8 := dkwX7_cond_1 ++ []
def dkwX7_cond_0 : List UInt8 := [42, 182, 0, 141, 76, 42, 18, 144, 182, 0, 107, 153, 0, 19, 187, 0, 146, 89, 43, 42, 182, 0, 141]
abbrev dktX7_cond_0 : List UInt8 := dkwX7_cond_0 ++ dktX7_cond_1
theorem dksX7_cond_0 : cX7_cond.data.toList.drop 0 = dktX7_cond_0 := by decide +kernel
theorem dksX7_cond_1 : cX7_cond.data.toList.drop 23 = dktX7_cond_1 := dk_seg dksX7_cond_0 23 rfl rfl
theorem dX7_cond_0 : decode cX7_cond 0 = .ok (.aload_n 0, 1) := dk_42 (dk_at dksX7_cond_0 0 rfl rfl)
theorem dX7_cond_1 : decode cX7_cond 1 = .ok (.invokevirtual 141, 3) := dk_182 0 141 (dk_at dksX7_cond_0 1 rfl rfl)
theorem dX7_cond_4 : decode cX7_cond 4 = .ok (.astore_n 1, 1) := dk_76 (dk_at dksX7_cond_0 4 rfl rfl)
theorem dX7_cond_5 : decode cX7_cond 5 = .ok (.aload_n 0, 1) := dk_42 (dk_at dksX7_cond_0 5 rfl rfl)
theorem dX7_cond_6 : decode cX7_cond 6 = .ok (.ldc 144, 2) := dk_18 144 (dk_at dksX7_cond_0 6 rfl rfl)
theorem dX7_cond_8 : decode cX7_cond 8 = .ok (.invokevirtual 107, 3) := dk_182 0 107 (dk_at dksX7_cond_0 8 rfl rfl)
theorem dX7_cond_11 : decode cX7_cond 11 = .ok (.ifCond .eq 19, 3) := dk_153 0 19 (dk_at dksX7_cond_0 11 rfl rfl)
theorem dX7_cond_14 : decode cX7_cond 14 = .ok (.new 146, 3) := dk_187 0 146 (dk_at dksX7_cond_0 14 rfl rfl)
theorem dX7_cond_17 : decode cX7_cond 17 = .ok (.dup, 1) := dk_89 (dk_at dksX7_cond_0 17 rfl rfl)
theorem dX7_cond_18 : decode cX7_cond 18 = .ok (.aload_n 1, 1) := dk_43 (dk_at dksX7_cond_0 18 rfl rfl)
theorem dX7_cond_19 : decode cX7_cond 19 = .ok (.aload_n 0, 1) := dk_42 (dk_at dksX7_cond_0 19 rfl rfl)
theorem dX7_cond_20 : decode cX7_cond 20 = .ok (.invokevirtual 141, 3) := dk_182 0 141 (dk_at dksX7_cond_0 20 rfl rfl)
theorem dX7_cond_23 : decode cX7_cond 23 = .ok (.invokespecial 148, 3) := dk_183 0 148 (dk_at dksX7_cond_1 0 rfl rfl)
theorem dX7_cond_26 : decode cX7_cond 26 = .ok (.astore_n 1, 1) := dk_76 (dk_at dksX7_cond_1 3 rfl rfl)
theorem dX7_cond_27 : decode cX7_cond 27 = .ok (.goto (-22), 3) := dk_167 255 234 (dk_at dksX7_cond_1 4 rfl rfl)
theorem dX7_cond_30 : decode cX7_cond 30 = .ok (.aload_n 1, 1) := dk_43 (dk_at dksX7_cond_1 7 rfl rfl)
theorem dX7_cond_31 : decode cX7_cond 31 = .ok (.areturn, 1) := dk_176 (dk_at dksX7_cond_1 8 rfl rfl)
abbrev cX7_all : ByteArray := prog_22_method_14_code
def yX7_all : MethodName := ⟨RX7, "all", "()LHungryHedge$Cond;"⟩
def dkwX7_all_1 : List UInt8 := [183, 0, 138, 76, 167, 255, 234, 43, 176]
abbrev dktX7_all_1 : List UInt8 := dkwX7_all_1 ++ []
def dkwX7_all_0 : List UInt8 := [42, 182, 0, 131, 76, 42, 18, 134, 182, 0, 107, 153, 0, 19, 187, 0, 136, 89, 43, 42, 182, 0, 131]
abbrev dktX7_all_0 : List UInt8 := dkwX7_all_0 ++ dktX7_all_1
theorem dksX7_all_0 : cX7_all.data.toList.drop 0 = dktX7_all_0 := by decide +kernel
theorem dksX7_all_1 : cX7_all.data.toList.drop 23 = dktX7_all_1 := dk_seg dksX7_all_0 23 rfl rfl
theorem dX7_all_0 : decode cX7_all 0 = .ok (.aload_n 0, 1) := dk_42 (dk_at dksX7_all_0 0 rfl rfl)
theorem dX7_all_1 : decode cX7_all 1 = .ok (.invokevirtual 131, 3) := dk_182 0 131 (dk_at dksX7_all_0 1 rfl rfl)
theorem dX7_all_4 : decode cX7_all 4 = .ok (.astore_n 1, 1) := dk_76 (dk_at dksX7_all_0 4 rfl rfl)
theorem dX7_all_5 : decode cX7_all 5 = .ok (.aload_n 0, 1) := dk_42 (dk_at dksX7_all_0 5 rfl rfl)
theorem dX7_all_6 : decode cX7_all 6 = .ok (.ldc 134, 2) := dk_18 134 (dk_at dksX7_all_0 6 rfl rfl)
theorem dX7_all_8 : decode cX7_all 8 = .ok (.invokevirtual 107, 3) := dk_182 0 107 (dk_at dksX7_all_0 8 rfl rfl)
theorem dX7_all_11 : decode cX7_all 11 = .ok (.ifCond .eq 19, 3) := dk_153 0 19 (dk_at dksX7_all_0 11 rfl rfl)
theorem dX7_all_14 : decode cX7_all 14 = .ok (.new 136, 3) := dk_187 0 136 (dk_at dksX7_all_0 14 rfl rfl)
theorem dX7_all_17 : decode cX7_all 17 = .ok (.dup, 1) := dk_89 (dk_at dksX7_all_0 17 rfl rfl)
theorem dX7_all_18 : decode cX7_all 18 = .ok (.aload_n 1, 1) := dk_43 (dk_at dksX7_all_0 18 rfl rfl)
theorem dX7_all_19 : decode cX7_all 19 = .ok (.aload_n 0, 1) := dk_42 (dk_at dksX7_all_0 19 rfl rfl)
theorem dX7_all_20 : decode cX7_all 20 = .ok (.invokevirtual 131, 3) := dk_182 0 131 (dk_at dksX7_all_0 20 rfl rfl)
theorem dX7_all_23 : decode cX7_all 23 = .ok (.invokespecial 138, 3) := dk_183 0 138 (dk_at dksX7_all_1 0 rfl rfl)
theorem dX7_all_26 : decode cX7_all 26 = .ok (.astore_n 1, 1) := dk_76 (dk_at dksX7_all_1 3 rfl rfl)
theorem dX7_all_27 : decode cX7_all 27 = .ok (.goto (-22), 3) := dk_167 255 234 (dk_at dksX7_all_1 4 rfl rfl)
theorem dX7_all_30 : decode cX7_all 30 = .ok (.aload_n 1, 1) := dk_43 (dk_at dksX7_all_1 7 rfl rfl)
theorem dX7_all_31 : decode cX7_all 31 = .ok (.areturn, 1) := dk_176 (dk_at dksX7_all_1 8 rfl rfl)
abbrev cX7_one : ByteArray := prog_22_method_13_code
def yX7_one : MethodName := ⟨RX7, "one", "()LHungryHedge$Cond;"⟩
def dkwX7_one_4 : List UInt8 := [153, 0, 14, 187, 0, 126, 89, 44, 183, 0, 128, 167, 0, 4, 44, 176]
abbrev dktX7_one_4 : List UInt8 := dkwX7_one_4 ++ []
def dkwX7_one_3 : List UInt8 := [18, 117, 182, 0, 119, 42, 89, 180, 0, 110, 4, 100, 181, 0, 110, 167, 0, 8, 42, 182, 0, 123, 77, 27]
abbrev dktX7_one_3 : List UInt8 := dkwX7_one_3 ++ dktX7_one_4
def dkwX7_one_2 : List UInt8 := [182, 0, 84, 42, 89, 180, 0, 110, 4, 96, 181, 0, 110, 42, 182, 0, 81, 42, 182, 0, 113, 77, 42]
abbrev dktX7_one_2 : List UInt8 := dkwX7_one_2 ++ dktX7_one_3
def dkwX7_one_1 : List UInt8 := [42, 182, 0, 56, 16, 40, 160, 0, 58, 42, 42, 180, 0, 110, 6, 162, 0, 7, 4, 167, 0, 4, 3]
abbrev dktX7_one_1 : List UInt8 := dkwX7_one_1 ++ dktX7_one_2
def dkwX7_one_0 : List UInt8 := [3, 60, 42, 18, 105, 182, 0, 107, 153, 0, 16, 27, 154, 0, 7, 4, 167, 0, 4, 3, 60, 167, 255, 237]
abbrev dktX7_one_0 : List UInt8 := dkwX7_one_0 ++ dktX7_one_1
theorem dksX7_one_0 : cX7_one.data.toList.drop 0 = dktX7_one_0 := by decide +kernel
theorem dksX7_one_1 : cX7_one.data.toList.drop 24 = dktX7_one_1 := dk_seg dksX7_one_0 24 rfl rfl
theorem dksX7_one_2 : cX7_one.data.toList.drop 47 = dktX7_one_2 := dk_seg dksX7_one_1 23 rfl rfl
theorem dksX7_one_3 : cX7_one.data.toList.drop 70 = dktX7_one_3 := dk_seg dksX7_one_2 23 rfl rfl
theorem dksX7_one_4 : cX7_one.data.toList.drop 94 = dktX7_one_4 := dk_seg dksX7_one_3 24 rfl rfl
theorem dX7_one_0 : decode cX7_one 0 = .ok (.iconst 0, 1) := dk_3 (dk_at dksX7_one_0 0 rfl rfl)
theorem dX7_one_1 : decode cX7_one 1 = .ok (.istore_n 1, 1) := dk_60 (dk_at dksX7_one_0 1 rfl rfl)
theorem dX7_one_2 : decode cX7_one 2 = .ok (.aload_n 0, 1) := dk_42 (dk_at dksX7_one_0 2 rfl rfl)
theorem dX7_one_3 : decode cX7_one 3 = .ok (.ldc 105, 2) := dk_18 105 (dk_at dksX7_one_0 3 rfl rfl)
theorem dX7_one_5 : decode cX7_one 5 = .ok (.invokevirtual 107, 3) := dk_182 0 107 (dk_at dksX7_one_0 5 rfl rfl)
theorem dX7_one_8 : decode cX7_one 8 = .ok (.ifCond .eq 16, 3) := dk_153 0 16 (dk_at dksX7_one_0 8 rfl rfl)
theorem dX7_one_11 : decode cX7_one 11 = .ok (.iload_n 1, 1) := dk_27 (dk_at dksX7_one_0 11 rfl rfl)
theorem dX7_one_12 : decode cX7_one 12 = .ok (.ifCond .ne 7, 3) := dk_154 0 7 (dk_at dksX7_one_0 12 rfl rfl)
theorem dX7_one_15 : decode cX7_one 15 = .ok (.iconst 1, 1) := dk_4 (dk_at dksX7_one_0 15 rfl rfl)
theorem dX7_one_16 : decode cX7_one 16 = .ok (.goto 4, 3) := dk_167 0 4 (dk_at dksX7_one_0 16 rfl rfl)
theorem dX7_one_19 : decode cX7_one 19 = .ok (.iconst 0, 1) := dk_3 (dk_at dksX7_one_0 19 rfl rfl)
theorem dX7_one_20 : decode cX7_one 20 = .ok (.istore_n 1, 1) := dk_60 (dk_at dksX7_one_0 20 rfl rfl)
theorem dX7_one_21 : decode cX7_one 21 = .ok (.goto (-19), 3) := dk_167 255 237 (dk_at dksX7_one_0 21 rfl rfl)
theorem dX7_one_24 : decode cX7_one 24 = .ok (.aload_n 0, 1) := dk_42 (dk_at dksX7_one_1 0 rfl rfl)
theorem dX7_one_25 : decode cX7_one 25 = .ok (.invokevirtual 56, 3) := dk_182 0 56 (dk_at dksX7_one_1 1 rfl rfl)
theorem dX7_one_28 : decode cX7_one 28 = .ok (.bipush 40, 2) := dk_16 40 (dk_at dksX7_one_1 4 rfl rfl)
theorem dX7_one_30 : decode cX7_one 30 = .ok (.if_icmp .ne 58, 3) := dk_160 0 58 (dk_at dksX7_one_1 6 rfl rfl)
theorem dX7_one_33 : decode cX7_one 33 = .ok (.aload_n 0, 1) := dk_42 (dk_at dksX7_one_1 9 rfl rfl)
theorem dX7_one_34 : decode cX7_one 34 = .ok (.aload_n 0, 1) := dk_42 (dk_at dksX7_one_1 10 rfl rfl)
theorem dX7_one_35 : decode cX7_one 35 = .ok (.getfield 110, 3) := dk_180 0 110 (dk_at dksX7_one_1 11 rfl rfl)
theorem dX7_one_38 : decode cX7_one 38 = .ok (.iconst 3, 1) := dk_6 (dk_at dksX7_one_1 14 rfl rfl)
theorem dX7_one_39 : decode cX7_one 39 = .ok (.if_icmp .ge 7, 3) := dk_162 0 7 (dk_at dksX7_one_1 15 rfl rfl)
theorem dX7_one_42 : decode cX7_one 42 = .ok (.iconst 1, 1) := dk_4 (dk_at dksX7_one_1 18 rfl rfl)
theorem dX7_one_43 : decode cX7_one 43 = .ok (.goto 4, 3) := dk_167 0 4 (dk_at dksX7_one_1 19 rfl rfl)
theorem dX7_one_46 : decode cX7_one 46 = .ok (.iconst 0, 1) := dk_3 (dk_at dksX7_one_1 22 rfl rfl)
theorem dX7_one_47 : decode cX7_one 47 = .ok (.invokevirtual 84, 3) := dk_182 0 84 (dk_at dksX7_one_2 0 rfl rfl)
theorem dX7_one_50 : decode cX7_one 50 = .ok (.aload_n 0, 1) := dk_42 (dk_at dksX7_one_2 3 rfl rfl)
theorem dX7_one_51 : decode cX7_one 51 = .ok (.dup, 1) := dk_89 (dk_at dksX7_one_2 4 rfl rfl)
theorem dX7_one_52 : decode cX7_one 52 = .ok (.getfield 110, 3) := dk_180 0 110 (dk_at dksX7_one_2 5 rfl rfl)
theorem dX7_one_55 : decode cX7_one 55 = .ok (.iconst 1, 1) := dk_4 (dk_at dksX7_one_2 8 rfl rfl)
theorem dX7_one_56 : decode cX7_one 56 = .ok (.iadd, 1) := dk_96 (dk_at dksX7_one_2 9 rfl rfl)
theorem dX7_one_57 : decode cX7_one 57 = .ok (.putfield 110, 3) := dk_181 0 110 (dk_at dksX7_one_2 10 rfl rfl)
theorem dX7_one_60 : decode cX7_one 60 = .ok (.aload_n 0, 1) := dk_42 (dk_at dksX7_one_2 13 rfl rfl)
theorem dX7_one_61 : decode cX7_one 61 = .ok (.invokevirtual 81, 3) := dk_182 0 81 (dk_at dksX7_one_2 14 rfl rfl)
theorem dX7_one_64 : decode cX7_one 64 = .ok (.aload_n 0, 1) := dk_42 (dk_at dksX7_one_2 17 rfl rfl)
theorem dX7_one_65 : decode cX7_one 65 = .ok (.invokevirtual 113, 3) := dk_182 0 113 (dk_at dksX7_one_2 18 rfl rfl)
theorem dX7_one_68 : decode cX7_one 68 = .ok (.astore_n 2, 1) := dk_77 (dk_at dksX7_one_2 21 rfl rfl)
theorem dX7_one_69 : decode cX7_one 69 = .ok (.aload_n 0, 1) := dk_42 (dk_at dksX7_one_2 22 rfl rfl)
theorem dX7_one_70 : decode cX7_one 70 = .ok (.ldc 117, 2) := dk_18 117 (dk_at dksX7_one_3 0 rfl rfl)
theorem dX7_one_72 : decode cX7_one 72 = .ok (.invokevirtual 119, 3) := dk_182 0 119 (dk_at dksX7_one_3 2 rfl rfl)
theorem dX7_one_75 : decode cX7_one 75 = .ok (.aload_n 0, 1) := dk_42 (dk_at dksX7_one_3 5 rfl rfl)
theorem dX7_one_76 : decode cX7_one 76 = .ok (.dup, 1) := dk_89 (dk_at dksX7_one_3 6 rfl rfl)
theorem dX7_one_77 : decode cX7_one 77 = .ok (.getfield 110, 3) := dk_180 0 110 (dk_at dksX7_one_3 7 rfl rfl)
theorem dX7_one_80 : decode cX7_one 80 = .ok (.iconst 1, 1) := dk_4 (dk_at dksX7_one_3 10 rfl rfl)
theorem dX7_one_81 : decode cX7_one 81 = .ok (.isub, 1) := dk_100 (dk_at dksX7_one_3 11 rfl rfl)
theorem dX7_one_82 : decode cX7_one 82 = .ok (.putfield 110, 3) := dk_181 0 110 (dk_at dksX7_one_3 12 rfl rfl)
theorem dX7_one_85 : decode cX7_one 85 = .ok (.goto 8, 3) := dk_167 0 8 (dk_at dksX7_one_3 15 rfl rfl)
theorem dX7_one_88 : decode cX7_one 88 = .ok (.aload_n 0, 1) := dk_42 (dk_at dksX7_one_3 18 rfl rfl)
theorem dX7_one_89 : decode cX7_one 89 = .ok (.invokevirtual 123, 3) := dk_182 0 123 (dk_at dksX7_one_3 19 rfl rfl)
theorem dX7_one_92 : decode cX7_one 92 = .ok (.astore_n 2, 1) := dk_77 (dk_at dksX7_one_3 22 rfl rfl)
theorem dX7_one_93 : decode cX7_one 93 = .ok (.iload_n 1, 1) := dk_27 (dk_at dksX7_one_3 23 rfl rfl)
theorem dX7_one_94 : decode cX7_one 94 = .ok (.ifCond .eq 14, 3) := dk_153 0 14 (dk_at dksX7_one_4 0 rfl rfl)
theorem dX7_one_97 : decode cX7_one 97 = .ok (.new 126, 3) := dk_187 0 126 (dk_at dksX7_one_4 3 rfl rfl)
theorem dX7_one_100 : decode cX7_one 100 = .ok (.dup, 1) := dk_89 (dk_at dksX7_one_4 6 rfl rfl)
theorem dX7_one_101 : decode cX7_one 101 = .ok (.aload_n 2, 1) := dk_44 (dk_at dksX7_one_4 7 rfl rfl)
theorem dX7_one_102 : decode cX7_one 102 = .ok (.invokespecial 128, 3) := dk_183 0 128 (dk_at dksX7_one_4 8 rfl rfl)
theorem dX7_one_105 : decode cX7_one 105 = .ok (.goto 4, 3) := dk_167 0 4 (dk_at dksX7_one_4 11 rfl rfl)
theorem dX7_one_108 : decode cX7_one 108 = .ok (.aload_n 2, 1) := dk_44 (dk_at dksX7_one_4 14 rfl rfl)
theorem dX7_one_109 : decode cX7_one 109 = .ok (.areturn, 1) := dk_176 (dk_at dksX7_one_4 15 rfl rfl)
abbrev cX7_compared : ByteArray := prog_22_method_12_code
def yX7_compared : MethodName := ⟨RX7, "compared", "()LHungryHedge$Cond;"⟩
def dkwX7_compared_3 : List UInt8 := [183, 0, 102, 176]
abbrev dktX7_compared_3 : List UInt8 := dkwX7_compared_3 ++ []
def dkwX7_compared_2 : List UInt8 := [182, 0, 81, 42, 182, 0, 98, 187, 0, 100, 89, 27, 28, 29, 42, 180, 0, 88, 42, 180, 0, 95]
abbrev dktX7_compared_2 : List UInt8 := dkwX7_compared_2 ++ dktX7_compared_3
def dkwX7_compared_1 : List UInt8 := [159, 0, 15, 29, 16, 61, 159, 0, 9, 29, 16, 62, 160, 0, 7, 4, 167, 0, 4, 3, 182, 0, 84, 42]
abbrev dktX7_compared_1 : List UInt8 := dkwX7_compared_1 ++ dktX7_compared_2
def dkwX7_compared_0 : List UInt8 := [42, 182, 0, 98, 42, 180, 0, 88, 60, 42, 180, 0, 95, 61, 42, 182, 0, 56, 62, 42, 29, 16, 60]
abbrev dktX7_compared_0 : List UInt8 := dkwX7_compared_0 ++ dktX7_compared_1
theorem dksX7_compared_0 : cX7_compared.data.toList.drop 0 = dktX7_compared_0 := by decide +kernel
theorem dksX7_compared_1 : cX7_compared.data.toList.drop 23 = dktX7_compared_1 := dk_seg dksX7_compared_0 23 rfl rfl
theorem dksX7_compared_2 : cX7_compared.data.toList.drop 47 = dktX7_compared_2 := dk_seg dksX7_compared_1 24 rfl rfl
theorem dksX7_compared_3 : cX7_compared.data.toList.drop 69 = dktX7_compared_3 := dk_seg dksX7_compared_2 22 rfl rfl
theorem dX7_compared_0 : decode cX7_compared 0 = .ok (.aload_n 0, 1) := dk_42 (dk_at dksX7_compared_0 0 rfl rfl)
theorem dX7_compared_1 : decode cX7_compared 1 = .ok (.invokevirtual 98, 3) := dk_182 0 98 (dk_at dksX7_compared_0 1 rfl rfl)
theorem dX7_compared_4 : decode cX7_compared 4 = .ok (.aload_n 0, 1) := dk_42 (dk_at dksX7_compared_0 4 rfl rfl)
theorem dX7_compared_5 : decode cX7_compared 5 = .ok (.getfield 88, 3) := dk_180 0 88 (dk_at dksX7_compared_0 5 rfl rfl)
theorem dX7_compared_8 : decode cX7_compared 8 = .ok (.istore_n 1, 1) := dk_60 (dk_at dksX7_compared_0 8 rfl rfl)
theorem dX7_compared_9 : decode cX7_compared 9 = .ok (.aload_n 0, 1) := dk_42 (dk_at dksX7_compared_0 9 rfl rfl)
theorem dX7_compared_10 : decode cX7_compared 10 = .ok (.getfield 95, 3) := dk_180 0 95 (dk_at dksX7_compared_0 10 rfl rfl)
theorem dX7_compared_13 : decode cX7_compared 13 = .ok (.istore_n 2, 1) := dk_61 (dk_at dksX7_compared_0 13 rfl rfl)
theorem dX7_compared_14 : decode cX7_compared 14 = .ok (.aload_n 0, 1) := dk_42 (dk_at dksX7_compared_0 14 rfl rfl)
theorem dX7_compared_15 : decode cX7_compared 15 = .ok (.invokevirtual 56, 3) := dk_182 0 56 (dk_at dksX7_compared_0 15 rfl rfl)
theorem dX7_compared_18 : decode cX7_compared 18 = .ok (.istore_n 3, 1) := dk_62 (dk_at dksX7_compared_0 18 rfl rfl)
theorem dX7_compared_19 : decode cX7_compared 19 = .ok (.aload_n 0, 1) := dk_42 (dk_at dksX7_compared_0 19 rfl rfl)
theorem dX7_compared_20 : decode cX7_compared 20 = .ok (.iload_n 3, 1) := dk_29 (dk_at dksX7_compared_0 20 rfl rfl)
theorem dX7_compared_21 : decode cX7_compared 21 = .ok (.bipush 60, 2) := dk_16 60 (dk_at dksX7_compared_0 21 rfl rfl)
theorem dX7_compared_23 : decode cX7_compared 23 = .ok (.if_icmp .eq 15, 3) := dk_159 0 15 (dk_at dksX7_compared_1 0 rfl rfl)
theorem dX7_compared_26 : decode cX7_compared 26 = .ok (.iload_n 3, 1) := dk_29 (dk_at dksX7_compared_1 3 rfl rfl)
theorem dX7_compared_27 : decode cX7_compared 27 = .ok (.bipush 61, 2) := dk_16 61 (dk_at dksX7_compared_1 4 rfl rfl)
theorem dX7_compared_29 : decode cX7_compared 29 = .ok (.if_icmp .eq 9, 3) := dk_159 0 9 (dk_at dksX7_compared_1 6 rfl rfl)
theorem dX7_compared_32 : decode cX7_compared 32 = .ok (.iload_n 3, 1) := dk_29 (dk_at dksX7_compared_1 9 rfl rfl)
theorem dX7_compared_33 : decode cX7_compared 33 = .ok (.bipush 62, 2) := dk_16 62 (dk_at dksX7_compared_1 10 rfl rfl)
theorem dX7_compared_35 : decode cX7_compared 35 = .ok (.if_icmp .ne 7, 3) := dk_160 0 7 (dk_at dksX7_compared_1 12 rfl rfl)
theorem dX7_compared_38 : decode cX7_compared 38 = .ok (.iconst 1, 1) := dk_4 (dk_at dksX7_compared_1 15 rfl rfl)
theorem dX7_compared_39 : decode cX7_compared 39 = .ok (.goto 4, 3) := dk_167 0 4 (dk_at dksX7_compared_1 16 rfl rfl)
theorem dX7_compared_42 : decode cX7_compared 42 = .ok (.iconst 0, 1) := dk_3 (dk_at dksX7_compared_1 19 rfl rfl)
theorem dX7_compared_43 : decode cX7_compared 43 = .ok (.invokevirtual 84, 3) := dk_182 0 84 (dk_at dksX7_compared_1 20 rfl rfl)
theorem dX7_compared_46 : decode cX7_compared 46 = .ok (.aload_n 0, 1) := dk_42 (dk_at dksX7_compared_1 23 rfl rfl)
theorem dX7_compared_47 : decode cX7_compared 47 = .ok (.invokevirtual 81, 3) := dk_182 0 81 (dk_at dksX7_compared_2 0 rfl rfl)
theorem dX7_compared_50 : decode cX7_compared 50 = .ok (.aload_n 0, 1) := dk_42 (dk_at dksX7_compared_2 3 rfl rfl)
theorem dX7_compared_51 : decode cX7_compared 51 = .ok (.invokevirtual 98, 3) := dk_182 0 98 (dk_at dksX7_compared_2 4 rfl rfl)
theorem dX7_compared_54 : decode cX7_compared 54 = .ok (.new 100, 3) := dk_187 0 100 (dk_at dksX7_compared_2 7 rfl rfl)
theorem dX7_compared_57 : decode cX7_compared 57 = .ok (.dup, 1) := dk_89 (dk_at dksX7_compared_2 10 rfl rfl)
theorem dX7_compared_58 : decode cX7_compared 58 = .ok (.iload_n 1, 1) := dk_27 (dk_at dksX7_compared_2 11 rfl rfl)
theorem dX7_compared_59 : decode cX7_compared 59 = .ok (.iload_n 2, 1) := dk_28 (dk_at dksX7_compared_2 12 rfl rfl)
theorem dX7_compared_60 : decode cX7_compared 60 = .ok (.iload_n 3, 1) := dk_29 (dk_at dksX7_compared_2 13 rfl rfl)
theorem dX7_compared_61 : decode cX7_compared 61 = .ok (.aload_n 0, 1) := dk_42 (dk_at dksX7_compared_2 14 rfl rfl)
theorem dX7_compared_62 : decode cX7_compared 62 = .ok (.getfield 88, 3) := dk_180 0 88 (dk_at dksX7_compared_2 15 rfl rfl)
theorem dX7_compared_65 : decode cX7_compared 65 = .ok (.aload_n 0, 1) := dk_42 (dk_at dksX7_compared_2 18 rfl rfl)
theorem dX7_compared_66 : decode cX7_compared 66 = .ok (.getfield 95, 3) := dk_180 0 95 (dk_at dksX7_compared_2 19 rfl rfl)
theorem dX7_compared_69 : decode cX7_compared 69 = .ok (.invokespecial 102, 3) := dk_183 0 102 (dk_at dksX7_compared_3 0 rfl rfl)
theorem dX7_compared_72 : decode cX7_compared 72 = .ok (.areturn, 1) := dk_176 (dk_at dksX7_compared_3 3 rfl rfl)
abbrev cX7_value : ByteArray := prog_22_method_11_code
def yX7_value : MethodName := ⟨RX7, "value", "()V"⟩
def dkwX7_value_4 : List UInt8 := [167, 0, 4, 3, 181, 0, 95, 177]
abbrev dktX7_value_4 : List UInt8 := dkwX7_value_4 ++ []
def dkwX7_value_3 : List UInt8 := [182, 0, 84, 42, 182, 0, 81, 42, 27, 181, 0, 88, 42, 27, 5, 163, 0, 11, 42, 6, 182, 0, 91]
abbrev dktX7_value_3 : List UInt8 := dkwX7_value_3 ++ dktX7_value_4
def dkwX7_value_2 : List UInt8 := [182, 0, 77, 154, 0, 9, 132, 1, 255, 167, 255, 234, 42, 27, 158, 0, 7, 4, 167, 0, 4, 3]
abbrev dktX7_value_2 : List UInt8 := dkwX7_value_2 ++ dktX7_value_3
def dkwX7_value_1 : List UInt8 := [181, 0, 95, 177, 42, 180, 0, 23, 190, 60, 27, 158, 0, 24, 42, 42, 180, 0, 23, 27, 4, 100, 50]
abbrev dktX7_value_1 : List UInt8 := dkwX7_value_1 ++ dktX7_value_2
def dkwX7_value_0 : List UInt8 := [42, 182, 0, 56, 184, 0, 63, 153, 0, 20, 42, 3, 181, 0, 88, 42, 42, 17, 3, 231, 182, 0, 91]
abbrev dktX7_value_0 : List UInt8 := dkwX7_value_0 ++ dktX7_value_1
theorem dksX7_value_0 : cX7_value.data.toList.drop 0 = dktX7_value_0 := by decide +kernel
theorem dksX7_value_1 : cX7_value.data.toList.drop 23 = dktX7_value_1 := dk_seg dksX7_value_0 23 rfl rfl
theorem dksX7_value_2 : cX7_value.data.toList.drop 46 = dktX7_value_2 := dk_seg dksX7_value_1 23 rfl rfl
theorem dksX7_value_3 : cX7_value.data.toList.drop 68 = dktX7_value_3 := dk_seg dksX7_value_2 22 rfl rfl
theorem dksX7_value_4 : cX7_value.data.toList.drop 91 = dktX7_value_4 := dk_seg dksX7_value_3 23 rfl rfl
theorem dX7_value_0 : decode cX7_value 0 = .ok (.aload_n 0, 1) := dk_42 (dk_at dksX7_value_0 0 rfl rfl)
theorem dX7_value_1 : decode cX7_value 1 = .ok (.invokevirtual 56, 3) := dk_182 0 56 (dk_at dksX7_value_0 1 rfl rfl)
theorem dX7_value_4 : decode cX7_value 4 = .ok (.invokestatic 63, 3) := dk_184 0 63 (dk_at dksX7_value_0 4 rfl rfl)
theorem dX7_value_7 : decode cX7_value 7 = .ok (.ifCond .eq 20, 3) := dk_153 0 20 (dk_at dksX7_value_0 7 rfl rfl)
theorem dX7_value_10 : decode cX7_value 10 = .ok (.aload_n 0, 1) := dk_42 (dk_at dksX7_value_0 10 rfl rfl)
theorem dX7_value_11 : decode cX7_value 11 = .ok (.iconst 0, 1) := dk_3 (dk_at dksX7_value_0 11 rfl rfl)
theorem dX7_value_12 : decode cX7_value 12 = .ok (.putfield 88, 3) := dk_181 0 88 (dk_at dksX7_value_0 12 rfl rfl)
theorem dX7_value_15 : decode cX7_value 15 = .ok (.aload_n 0, 1) := dk_42 (dk_at dksX7_value_0 15 rfl rfl)
theorem dX7_value_16 : decode cX7_value 16 = .ok (.aload_n 0, 1) := dk_42 (dk_at dksX7_value_0 16 rfl rfl)
theorem dX7_value_17 : decode cX7_value 17 = .ok (.sipush 999, 3) := dk_17 3 231 (dk_at dksX7_value_0 17 rfl rfl)
theorem dX7_value_20 : decode cX7_value 20 = .ok (.invokevirtual 91, 3) := dk_182 0 91 (dk_at dksX7_value_0 20 rfl rfl)
theorem dX7_value_23 : decode cX7_value 23 = .ok (.putfield 95, 3) := dk_181 0 95 (dk_at dksX7_value_1 0 rfl rfl)
theorem dX7_value_26 : decode cX7_value 26 = .ok (.return_, 1) := dk_177 (dk_at dksX7_value_1 3 rfl rfl)
theorem dX7_value_27 : decode cX7_value 27 = .ok (.aload_n 0, 1) := dk_42 (dk_at dksX7_value_1 4 rfl rfl)
theorem dX7_value_28 : decode cX7_value 28 = .ok (.getfield 23, 3) := dk_180 0 23 (dk_at dksX7_value_1 5 rfl rfl)
theorem dX7_value_31 : decode cX7_value 31 = .ok (.arraylength, 1) := dk_190 (dk_at dksX7_value_1 8 rfl rfl)
theorem dX7_value_32 : decode cX7_value 32 = .ok (.istore_n 1, 1) := dk_60 (dk_at dksX7_value_1 9 rfl rfl)
theorem dX7_value_33 : decode cX7_value 33 = .ok (.iload_n 1, 1) := dk_27 (dk_at dksX7_value_1 10 rfl rfl)
theorem dX7_value_34 : decode cX7_value 34 = .ok (.ifCond .le 24, 3) := dk_158 0 24 (dk_at dksX7_value_1 11 rfl rfl)
theorem dX7_value_37 : decode cX7_value 37 = .ok (.aload_n 0, 1) := dk_42 (dk_at dksX7_value_1 14 rfl rfl)
theorem dX7_value_38 : decode cX7_value 38 = .ok (.aload_n 0, 1) := dk_42 (dk_at dksX7_value_1 15 rfl rfl)
theorem dX7_value_39 : decode cX7_value 39 = .ok (.getfield 23, 3) := dk_180 0 23 (dk_at dksX7_value_1 16 rfl rfl)
theorem dX7_value_42 : decode cX7_value 42 = .ok (.iload_n 1, 1) := dk_27 (dk_at dksX7_value_1 19 rfl rfl)
theorem dX7_value_43 : decode cX7_value 43 = .ok (.iconst 1, 1) := dk_4 (dk_at dksX7_value_1 20 rfl rfl)
theorem dX7_value_44 : decode cX7_value 44 = .ok (.isub, 1) := dk_100 (dk_at dksX7_value_1 21 rfl rfl)
theorem dX7_value_45 : decode cX7_value 45 = .ok (.aaload, 1) := dk_50 (dk_at dksX7_value_1 22 rfl rfl)
theorem dX7_value_46 : decode cX7_value 46 = .ok (.invokevirtual 77, 3) := dk_182 0 77 (dk_at dksX7_value_2 0 rfl rfl)
theorem dX7_value_49 : decode cX7_value 49 = .ok (.ifCond .ne 9, 3) := dk_154 0 9 (dk_at dksX7_value_2 3 rfl rfl)
theorem dX7_value_52 : decode cX7_value 52 = .ok (.iinc 1 (-1), 3) := dk_132 1 255 (dk_at dksX7_value_2 6 rfl rfl)
theorem dX7_value_55 : decode cX7_value 55 = .ok (.goto (-22), 3) := dk_167 255 234 (dk_at dksX7_value_2 9 rfl rfl)
theorem dX7_value_58 : decode cX7_value 58 = .ok (.aload_n 0, 1) := dk_42 (dk_at dksX7_value_2 12 rfl rfl)
theorem dX7_value_59 : decode cX7_value 59 = .ok (.iload_n 1, 1) := dk_27 (dk_at dksX7_value_2 13 rfl rfl)
theorem dX7_value_60 : decode cX7_value 60 = .ok (.ifCond .le 7, 3) := dk_158 0 7 (dk_at dksX7_value_2 14 rfl rfl)
theorem dX7_value_63 : decode cX7_value 63 = .ok (.iconst 1, 1) := dk_4 (dk_at dksX7_value_2 17 rfl rfl)
theorem dX7_value_64 : decode cX7_value 64 = .ok (.goto 4, 3) := dk_167 0 4 (dk_at dksX7_value_2 18 rfl rfl)
theorem dX7_value_67 : decode cX7_value 67 = .ok (.iconst 0, 1) := dk_3 (dk_at dksX7_value_2 21 rfl rfl)
theorem dX7_value_68 : decode cX7_value 68 = .ok (.invokevirtual 84, 3) := dk_182 0 84 (dk_at dksX7_value_3 0 rfl rfl)
theorem dX7_value_71 : decode cX7_value 71 = .ok (.aload_n 0, 1) := dk_42 (dk_at dksX7_value_3 3 rfl rfl)
theorem dX7_value_72 : decode cX7_value 72 = .ok (.invokevirtual 81, 3) := dk_182 0 81 (dk_at dksX7_value_3 4 rfl rfl)
theorem dX7_value_75 : decode cX7_value 75 = .ok (.aload_n 0, 1) := dk_42 (dk_at dksX7_value_3 7 rfl rfl)
theorem dX7_value_76 : decode cX7_value 76 = .ok (.iload_n 1, 1) := dk_27 (dk_at dksX7_value_3 8 rfl rfl)
theorem dX7_value_77 : decode cX7_value 77 = .ok (.putfield 88, 3) := dk_181 0 88 (dk_at dksX7_value_3 9 rfl rfl)
theorem dX7_value_80 : decode cX7_value 80 = .ok (.aload_n 0, 1) := dk_42 (dk_at dksX7_value_3 12 rfl rfl)
theorem dX7_value_81 : decode cX7_value 81 = .ok (.iload_n 1, 1) := dk_27 (dk_at dksX7_value_3 13 rfl rfl)
theorem dX7_value_82 : decode cX7_value 82 = .ok (.iconst 2, 1) := dk_5 (dk_at dksX7_value_3 14 rfl rfl)
theorem dX7_value_83 : decode cX7_value 83 = .ok (.if_icmp .gt 11, 3) := dk_163 0 11 (dk_at dksX7_value_3 15 rfl rfl)
theorem dX7_value_86 : decode cX7_value 86 = .ok (.aload_n 0, 1) := dk_42 (dk_at dksX7_value_3 18 rfl rfl)
theorem dX7_value_87 : decode cX7_value 87 = .ok (.iconst 3, 1) := dk_6 (dk_at dksX7_value_3 19 rfl rfl)
theorem dX7_value_88 : decode cX7_value 88 = .ok (.invokevirtual 91, 3) := dk_182 0 91 (dk_at dksX7_value_3 20 rfl rfl)
theorem dX7_value_91 : decode cX7_value 91 = .ok (.goto 4, 3) := dk_167 0 4 (dk_at dksX7_value_4 0 rfl rfl)
theorem dX7_value_94 : decode cX7_value 94 = .ok (.iconst 0, 1) := dk_3 (dk_at dksX7_value_4 3 rfl rfl)
theorem dX7_value_95 : decode cX7_value 95 = .ok (.putfield 95, 3) := dk_181 0 95 (dk_at dksX7_value_4 4 rfl rfl)
theorem dX7_value_98 : decode cX7_value 98 = .ok (.return_, 1) := dk_177 (dk_at dksX7_value_4 7 rfl rfl)
theorem q113 : (Jvm.Cond.initialized "HungryHedge$Reader") ∈ lw_all := lw_g (lw_at lw_m1 8 rfl) rfl
theorem q369 : (Jvm.Cond.instantiable "HungryHedge$Reader" (11 : Nat)) ∈ lw_all := lw_g (lw_at lw_m2 24 rfl) rfl
theorem q371 : (Jvm.Cond.instanceMethod ({ cls := "HungryHedge$Reader", name := "<init>", desc := "()V" } : Jvm.MethodName)) ∈ lw_all := lw_g (lw_at lw_m2 26 rfl) rfl
theorem q372 : (Jvm.Cond.code ({ cls := "HungryHedge$Reader", name := "<init>", desc := "()V" } : Jvm.MethodName) prog_22_method_1_code (1 : Nat) (Option.none : Option Jvm.ClassFile.FieldType)) ∈ lw_all := lw_g (lw_at lw_m2 27 rfl) rfl
theorem q373 : (Jvm.Cond.methodLink "HungryHedge$Reader" (3 : Nat) ({ cls := "java/lang/Object", name := "<init>", desc := "()V" } : Jvm.MethodName)) ∈ lw_all := lw_g (lw_at lw_m2 28 rfl) rfl
theorem q374 : (Jvm.Cond.classLink "HungryHedge$Reader" (9 : Nat) "java/lang/String") ∈ lw_all := lw_g (lw_at lw_m2 29 rfl) rfl
theorem q376 : (Jvm.Cond.stringRef "HungryHedge$Reader" (11 : Nat) "food") ∈ lw_tbl := lw_at lw_m2 31 rfl
theorem q377 : (Jvm.Cond.stringRef "HungryHedge$Reader" (13 : Nat) "miles") ∈ lw_tbl := lw_at lw_m2 32 rfl
theorem q378 : (Jvm.Cond.stringRef "HungryHedge$Reader" (15 : Nat) "yield") ∈ lw_tbl := lw_at lw_m2 33 rfl
theorem q379 : (Jvm.Cond.stringRef "HungryHedge$Reader" (17 : Nat) "left") ∈ lw_tbl := lw_at lw_m2 34 rfl
theorem q380 : (Jvm.Cond.stringRef "HungryHedge$Reader" (19 : Nat) "got") ∈ lw_tbl := lw_at lw_m2 35 rfl
theorem q381 : (Jvm.Cond.stringRef "HungryHedge$Reader" (21 : Nat) "here") ∈ lw_tbl := lw_at lw_m2 36 rfl
theorem q382 : (Jvm.Cond.classLink "HungryHedge$Reader" (29 : Nat) "HungryHedge$Fault") ∈ lw_all := lw_g (lw_at lw_m2 37 rfl) rfl
theorem q426 : (Jvm.Cond.methodLink "HungryHedge$Reader" (31 : Nat) ({ cls := "HungryHedge$Fault", name := "<init>", desc := "()V" } : Jvm.MethodName)) ∈ lw_all := lw_g (lw_at lw_m2 81 rfl) rfl
theorem q456 : (Jvm.Cond.classLink "HungryHedge$Reader" (36 : Nat) "HungryHedge$Clause") ∈ lw_all := lw_g (lw_at lw_m2 111 rfl) rfl
theorem q457 : (Jvm.Cond.fieldLink "HungryHedge$Reader" (23 : Nat) "HungryHedge$Reader" "values" "[Ljava/lang/String;") ∈ lw_all := lw_g (lw_at lw_m2 112 rfl) rfl
theorem q458 : (Jvm.Cond.fieldLink "HungryHedge$Reader" (32 : Nat) "HungryHedge$Reader" "fault" "LHungryHedge$Fault;") ∈ lw_all := lw_g (lw_at lw_m2 113 rfl) rfl
theorem q459 : (Jvm.Cond.fieldLink "HungryHedge$Reader" (38 : Nat) "HungryHedge$Reader" "clause" "[LHungryHedge$Clause;") ∈ lw_all := lw_g (lw_at lw_m2 114 rfl) rfl
theorem q461 : (Jvm.Cond.fieldLink "HungryHedge$Reader" (49 : Nat) "HungryHedge$Reader" "text" "[B") ∈ lw_all := lw_g (lw_at lw_m2 116 rfl) rfl
theorem q462 : (Jvm.Cond.fieldLink "HungryHedge$Reader" (46 : Nat) "HungryHedge$Reader" "many" "I") ∈ lw_all := lw_g (lw_at lw_m2 117 rfl) rfl
theorem q463 : (Jvm.Cond.fieldLink "HungryHedge$Reader" (42 : Nat) "HungryHedge$Reader" "from" "I") ∈ lw_all := lw_g (lw_at lw_m2 118 rfl) rfl
theorem q464 : (Jvm.Cond.fieldLink "HungryHedge$Reader" (53 : Nat) "HungryHedge$Reader" "to" "I") ∈ lw_all := lw_g (lw_at lw_m2 119 rfl) rfl
theorem q465 : (Jvm.Cond.fieldLink "HungryHedge$Reader" (110 : Nat) "HungryHedge$Reader" "open" "I") ∈ lw_all := lw_g (lw_at lw_m2 120 rfl) rfl
theorem q466 : (Jvm.Cond.fieldLink "HungryHedge$Reader" (149 : Nat) "HungryHedge$Reader" "clauses" "I") ∈ lw_all := lw_g (lw_at lw_m2 121 rfl) rfl
theorem q468 : (Jvm.Cond.fieldLink "HungryHedge$Reader" (88 : Nat) "HungryHedge$Reader" "value" "I") ∈ lw_all := lw_g (lw_at lw_m2 123 rfl) rfl
theorem q469 : (Jvm.Cond.fieldLink "HungryHedge$Reader" (95 : Nat) "HungryHedge$Reader" "valueN" "I") ∈ lw_all := lw_g (lw_at lw_m2 124 rfl) rfl
theorem q470 : (Jvm.Cond.laysFinal "HungryHedge$Reader" "HungryHedge$Reader" "values" "[Ljava/lang/String;") ∈ lw_all := lw_g (lw_at lw_m2 125 rfl) rfl
theorem q471 : (Jvm.Cond.soleField "HungryHedge$Reader" "values") ∈ lw_all := lw_g (lw_at lw_m2 126 rfl) rfl
theorem q472 : (Jvm.Cond.laysFinal "HungryHedge$Reader" "HungryHedge$Reader" "fault" "LHungryHedge$Fault;") ∈ lw_all := lw_g (lw_at lw_m2 127 rfl) rfl
theorem q473 : (Jvm.Cond.soleField "HungryHedge$Reader" "fault") ∈ lw_all := lw_g (lw_at lw_m2 128 rfl) rfl
theorem q474 : (Jvm.Cond.laysFinal "HungryHedge$Reader" "HungryHedge$Reader" "clause" "[LHungryHedge$Clause;") ∈ lw_all := lw_g (lw_at lw_m2 129 rfl) rfl
theorem q475 : (Jvm.Cond.soleField "HungryHedge$Reader" "clause") ∈ lw_all := lw_g (lw_at lw_m2 130 rfl) rfl
theorem q476 : (Jvm.Cond.lays "HungryHedge$Reader" "HungryHedge$Reader" "text" "[B") ∈ lw_all := lw_g (lw_at lw_m2 131 rfl) rfl
theorem q477 : (Jvm.Cond.soleField "HungryHedge$Reader" "text") ∈ lw_all := lw_g (lw_at lw_m2 132 rfl) rfl
theorem q478 : (Jvm.Cond.lays "HungryHedge$Reader" "HungryHedge$Reader" "many" "I") ∈ lw_all := lw_g (lw_at lw_m2 133 rfl) rfl
theorem q479 : (Jvm.Cond.soleField "HungryHedge$Reader" "many") ∈ lw_all := lw_g (lw_at lw_m2 134 rfl) rfl
theorem q480 : (Jvm.Cond.lays "HungryHedge$Reader" "HungryHedge$Reader" "from" "I") ∈ lw_all := lw_g (lw_at lw_m2 135 rfl) rfl
theorem q481 : (Jvm.Cond.soleField "HungryHedge$Reader" "from") ∈ lw_all := lw_g (lw_at lw_m2 136 rfl) rfl
theorem q482 : (Jvm.Cond.lays "HungryHedge$Reader" "HungryHedge$Reader" "to" "I") ∈ lw_all := lw_g (lw_at lw_m2 137 rfl) rfl
theorem q483 : (Jvm.Cond.soleField "HungryHedge$Reader" "to") ∈ lw_all := lw_g (lw_at lw_m2 138 rfl) rfl
theorem q484 : (Jvm.Cond.lays "HungryHedge$Reader" "HungryHedge$Reader" "open" "I") ∈ lw_all := lw_g (lw_at lw_m2 139 rfl) rfl
theorem q485 : (Jvm.Cond.soleField "HungryHedge$Reader" "open") ∈ lw_all := lw_g (lw_at lw_m2 140 rfl) rfl
theorem q486 : (Jvm.Cond.lays "HungryHedge$Reader" "HungryHedge$Reader" "clauses" "I") ∈ lw_all := lw_g (lw_at lw_m2 141 rfl) rfl
theorem q487 : (Jvm.Cond.soleField "HungryHedge$Reader" "clauses") ∈ lw_all := lw_g (lw_at lw_m2 142 rfl) rfl
theorem q488 : (Jvm.Cond.lays "HungryHedge$Reader" "HungryHedge$Reader" "value" "I") ∈ lw_all := lw_g (lw_at lw_m2 143 rfl) rfl
theorem q489 : (Jvm.Cond.soleField "HungryHedge$Reader" "value") ∈ lw_all := lw_g (lw_at lw_m2 144 rfl) rfl
theorem q490 : (Jvm.Cond.lays "HungryHedge$Reader" "HungryHedge$Reader" "valueN" "I") ∈ lw_all := lw_g (lw_at lw_m2 145 rfl) rfl
theorem q491 : (Jvm.Cond.soleField "HungryHedge$Reader" "valueN") ∈ lw_all := lw_g (lw_at lw_m2 146 rfl) rfl
theorem q492 : (Jvm.Cond.superclass "HungryHedge$Reader" "java/lang/Object") ∈ lw_all := lw_g (lw_at lw_m2 147 rfl) rfl
theorem q953 : (Jvm.Cond.instanceMethod ({ cls := "HungryHedge$Reader", name := "read", desc := "([BI)V" } : Jvm.MethodName)) ∈ lw_all := lw_g (lw_at lw_m4 128 rfl) rfl
theorem q954 : (Jvm.Cond.selects "HungryHedge$Reader" ({ cls := "HungryHedge$Reader", name := "read", desc := "([BI)V" } : Jvm.MethodName) ({ cls := "HungryHedge$Reader", name := "read", desc := "([BI)V" } : Jvm.MethodName)) ∈ lw_all := lw_g (lw_at lw_m4 129 rfl) rfl
theorem q955 : (Jvm.Cond.code ({ cls := "HungryHedge$Reader", name := "read", desc := "([BI)V" } : Jvm.MethodName) prog_22_method_17_code (3 : Nat) (Option.none : Option Jvm.ClassFile.FieldType)) ∈ lw_all := lw_g (lw_at lw_m4 130 rfl) rfl
theorem q956 : (Jvm.Cond.methodLink "HungryHedge$Reader" (81 : Nat) ({ cls := "HungryHedge$Reader", name := "next", desc := "()V" } : Jvm.MethodName)) ∈ lw_all := lw_g (lw_at lw_m4 131 rfl) rfl
theorem q957 : (Jvm.Cond.privateMethod ({ cls := "HungryHedge$Reader", name := "next", desc := "()V" } : Jvm.MethodName)) ∈ lw_tbl := lw_at lw_m4 132 rfl
theorem q958 : (Jvm.Cond.instanceMethod ({ cls := "HungryHedge$Reader", name := "next", desc := "()V" } : Jvm.MethodName)) ∈ lw_all := lw_g (lw_at lw_m4 133 rfl) rfl
theorem q959 : (Jvm.Cond.code ({ cls := "HungryHedge$Reader", name := "next", desc := "()V" } : Jvm.MethodName) prog_22_method_5_code (3 : Nat) (Option.none : Option Jvm.ClassFile.FieldType)) ∈ lw_all := lw_g (lw_at lw_m4 134 rfl) rfl
theorem q960 : (Jvm.Cond.methodLink "HungryHedge$Reader" (56 : Nat) ({ cls := "HungryHedge$Reader", name := "here", desc := "()I" } : Jvm.MethodName)) ∈ lw_all := lw_g (lw_at lw_m4 135 rfl) rfl
theorem q961 : (Jvm.Cond.privateMethod ({ cls := "HungryHedge$Reader", name := "here", desc := "()I" } : Jvm.MethodName)) ∈ lw_tbl := lw_at lw_m4 136 rfl
theorem q962 : (Jvm.Cond.instanceMethod ({ cls := "HungryHedge$Reader", name := "here", desc := "()I" } : Jvm.MethodName)) ∈ lw_all := lw_g (lw_at lw_m4 137 rfl) rfl
theorem q963 : (Jvm.Cond.code ({ cls := "HungryHedge$Reader", name := "here", desc := "()I" } : Jvm.MethodName) prog_22_method_2_code (1 : Nat) (Option.some Jvm.ClassFile.FieldType.int)) ∈ lw_all := lw_g (lw_at lw_m4 138 rfl) rfl
theorem q964 : (Jvm.Cond.methodLink "HungryHedge$Reader" (59 : Nat) ({ cls := "HungryHedge$Reader", name := "isLetter", desc := "(I)Z" } : Jvm.MethodName)) ∈ lw_all := lw_g (lw_at lw_m4 139 rfl) rfl
theorem q965 : (Jvm.Cond.static ({ cls := "HungryHedge$Reader", name := "isLetter", desc := "(I)Z" } : Jvm.MethodName)) ∈ lw_all := lw_g (lw_at lw_m4 140 rfl) rfl
theorem q966 : (Jvm.Cond.code ({ cls := "HungryHedge$Reader", name := "isLetter", desc := "(I)Z" } : Jvm.MethodName) prog_22_method_4_code (1 : Nat) (Option.some Jvm.ClassFile.FieldType.boolean)) ∈ lw_all := lw_g (lw_at lw_m4 141 rfl) rfl
theorem q967 : (Jvm.Cond.methodLink "HungryHedge$Reader" (63 : Nat) ({ cls := "HungryHedge$Reader", name := "isDigit", desc := "(I)Z" } : Jvm.MethodName)) ∈ lw_all := lw_g (lw_at lw_m4 142 rfl) rfl
theorem q968 : (Jvm.Cond.static ({ cls := "HungryHedge$Reader", name := "isDigit", desc := "(I)Z" } : Jvm.MethodName)) ∈ lw_all := lw_g (lw_at lw_m4 143 rfl) rfl
theorem q969 : (Jvm.Cond.code ({ cls := "HungryHedge$Reader", name := "isDigit", desc := "(I)Z" } : Jvm.MethodName) prog_22_method_3_code (1 : Nat) (Option.some Jvm.ClassFile.FieldType.boolean)) ∈ lw_all := lw_g (lw_at lw_m4 144 rfl) rfl
theorem q970 : (Jvm.Cond.methodLink "HungryHedge$Reader" (161 : Nat) ({ cls := "HungryHedge$Reader", name := "whole", desc := "()LHungryHedge$Clause;" } : Jvm.MethodName)) ∈ lw_all := lw_g (lw_at lw_m4 145 rfl) rfl
theorem q971 : (Jvm.Cond.privateMethod ({ cls := "HungryHedge$Reader", name := "whole", desc := "()LHungryHedge$Clause;" } : Jvm.MethodName)) ∈ lw_tbl := lw_at lw_m4 146 rfl
theorem q972 : (Jvm.Cond.instanceMethod ({ cls := "HungryHedge$Reader", name := "whole", desc := "()LHungryHedge$Clause;" } : Jvm.MethodName)) ∈ lw_all := lw_g (lw_at lw_m4 147 rfl) rfl
theorem q973 : (Jvm.Cond.code ({ cls := "HungryHedge$Reader", name := "whole", desc := "()LHungryHedge$Clause;" } : Jvm.MethodName) prog_22_method_16_code (3 : Nat) (Option.some (Jvm.ClassFile.FieldType.object "HungryHedge$Clause"))) ∈ lw_all := lw_g (lw_at lw_m4 148 rfl) rfl
theorem q974 : (Jvm.Cond.methodLink "HungryHedge$Reader" (84 : Nat) ({ cls := "HungryHedge$Reader", name := "need", desc := "(Z)V" } : Jvm.MethodName)) ∈ lw_all := lw_g (lw_at lw_m4 149 rfl) rfl
theorem q975 : (Jvm.Cond.privateMethod ({ cls := "HungryHedge$Reader", name := "need", desc := "(Z)V" } : Jvm.MethodName)) ∈ lw_tbl := lw_at lw_m4 150 rfl
theorem q976 : (Jvm.Cond.instanceMethod ({ cls := "HungryHedge$Reader", name := "need", desc := "(Z)V" } : Jvm.MethodName)) ∈ lw_all := lw_g (lw_at lw_m4 151 rfl) rfl
theorem q977 : (Jvm.Cond.code ({ cls := "HungryHedge$Reader", name := "need", desc := "(Z)V" } : Jvm.MethodName) prog_22_method_6_code (2 : Nat) (Option.none : Option Jvm.ClassFile.FieldType)) ∈ lw_all := lw_g (lw_at lw_m4 152 rfl) rfl
theorem q978 : (Jvm.Cond.methodLink "HungryHedge$Reader" (66 : Nat) ({ cls := "HungryHedge$Fault", name := "at", desc := "(I)LHungryHedge$Fault;" } : Jvm.MethodName)) ∈ lw_all := lw_g (lw_at lw_m4 153 rfl) rfl
theorem q982 : (Jvm.Cond.stringRef "HungryHedge$Reader" (152 : Nat) "feed") ∈ lw_tbl := lw_at lw_m4 157 rfl
theorem q983 : (Jvm.Cond.methodLink "HungryHedge$Reader" (107 : Nat) ({ cls := "HungryHedge$Reader", name := "may", desc := "(Ljava/lang/String;)Z" } : Jvm.MethodName)) ∈ lw_all := lw_g (lw_at lw_m4 158 rfl) rfl
theorem q984 : (Jvm.Cond.privateMethod ({ cls := "HungryHedge$Reader", name := "may", desc := "(Ljava/lang/String;)Z" } : Jvm.MethodName)) ∈ lw_tbl := lw_at lw_m4 159 rfl
theorem q985 : (Jvm.Cond.instanceMethod ({ cls := "HungryHedge$Reader", name := "may", desc := "(Ljava/lang/String;)Z" } : Jvm.MethodName)) ∈ lw_all := lw_g (lw_at lw_m4 160 rfl) rfl
theorem q986 : (Jvm.Cond.code ({ cls := "HungryHedge$Reader", name := "may", desc := "(Ljava/lang/String;)Z" } : Jvm.MethodName) prog_22_method_8_code (2 : Nat) (Option.some Jvm.ClassFile.FieldType.boolean)) ∈ lw_all := lw_g (lw_at lw_m4 161 rfl) rfl
theorem q987 : (Jvm.Cond.methodLink "HungryHedge$Reader" (77 : Nat) ({ cls := "HungryHedge$Reader", name := "isWord", desc := "(Ljava/lang/String;)Z" } : Jvm.MethodName)) ∈ lw_all := lw_g (lw_at lw_m4 162 rfl) rfl
theorem q988 : (Jvm.Cond.privateMethod ({ cls := "HungryHedge$Reader", name := "isWord", desc := "(Ljava/lang/String;)Z" } : Jvm.MethodName)) ∈ lw_tbl := lw_at lw_m4 163 rfl
theorem q989 : (Jvm.Cond.instanceMethod ({ cls := "HungryHedge$Reader", name := "isWord", desc := "(Ljava/lang/String;)Z" } : Jvm.MethodName)) ∈ lw_all := lw_g (lw_at lw_m4 164 rfl) rfl
theorem q990 : (Jvm.Cond.code ({ cls := "HungryHedge$Reader", name := "isWord", desc := "(Ljava/lang/String;)Z" } : Jvm.MethodName) prog_22_method_7_code (4 : Nat) (Option.some Jvm.ClassFile.FieldType.boolean)) ∈ lw_all := lw_g (lw_at lw_m4 165 rfl) rfl
theorem q991 : (Jvm.Cond.methodLink "HungryHedge$Reader" (70 : Nat) ({ cls := "java/lang/String", name := "length", desc := "()I" } : Jvm.MethodName)) ∈ lw_all := lw_g (lw_at lw_m4 166 rfl) rfl
theorem q1001 : (Jvm.Cond.methodLink "HungryHedge$Reader" (73 : Nat) ({ cls := "java/lang/String", name := "charAt", desc := "(I)C" } : Jvm.MethodName)) ∈ lw_all := lw_g (lw_at lw_m4 176 rfl) rfl
theorem q1039 : (Jvm.Cond.stringRef "HungryHedge$Reader" (154 : Nat) "go") ∈ lw_tbl := lw_at lw_m4 214 rfl
theorem q1040 : (Jvm.Cond.methodLink "HungryHedge$Reader" (119 : Nat) ({ cls := "HungryHedge$Reader", name := "must", desc := "(Ljava/lang/String;)V" } : Jvm.MethodName)) ∈ lw_all := lw_g (lw_at lw_m4 215 rfl) rfl
theorem q1041 : (Jvm.Cond.privateMethod ({ cls := "HungryHedge$Reader", name := "must", desc := "(Ljava/lang/String;)V" } : Jvm.MethodName)) ∈ lw_tbl := lw_at lw_m4 216 rfl
theorem q1042 : (Jvm.Cond.instanceMethod ({ cls := "HungryHedge$Reader", name := "must", desc := "(Ljava/lang/String;)V" } : Jvm.MethodName)) ∈ lw_all := lw_g (lw_at lw_m4 217 rfl) rfl
theorem q1043 : (Jvm.Cond.code ({ cls := "HungryHedge$Reader", name := "must", desc := "(Ljava/lang/String;)V" } : Jvm.MethodName) prog_22_method_9_code (2 : Nat) (Option.none : Option Jvm.ClassFile.FieldType)) ∈ lw_all := lw_g (lw_at lw_m4 218 rfl) rfl
theorem q1044 : (Jvm.Cond.methodLink "HungryHedge$Reader" (91 : Nat) ({ cls := "HungryHedge$Reader", name := "number", desc := "(I)I" } : Jvm.MethodName)) ∈ lw_all := lw_g (lw_at lw_m4 219 rfl) rfl
theorem q1045 : (Jvm.Cond.privateMethod ({ cls := "HungryHedge$Reader", name := "number", desc := "(I)I" } : Jvm.MethodName)) ∈ lw_tbl := lw_at lw_m4 220 rfl
theorem q1046 : (Jvm.Cond.instanceMethod ({ cls := "HungryHedge$Reader", name := "number", desc := "(I)I" } : Jvm.MethodName)) ∈ lw_all := lw_g (lw_at lw_m4 221 rfl) rfl
theorem q1047 : (Jvm.Cond.code ({ cls := "HungryHedge$Reader", name := "number", desc := "(I)I" } : Jvm.MethodName) prog_22_method_10_code (4 : Nat) (Option.some Jvm.ClassFile.FieldType.int)) ∈ lw_all := lw_g (lw_at lw_m4 222 rfl) rfl
theorem q1049 : (Jvm.Cond.methodLink "HungryHedge$Reader" (113 : Nat) ({ cls := "HungryHedge$Reader", name := "cond", desc := "()LHungryHedge$Cond;" } : Jvm.MethodName)) ∈ lw_all := lw_g (lw_at lw_m4 224 rfl) rfl
theorem q1050 : (Jvm.Cond.privateMethod ({ cls := "HungryHedge$Reader", name := "cond", desc := "()LHungryHedge$Cond;" } : Jvm.MethodName)) ∈ lw_tbl := lw_at lw_m4 225 rfl
theorem q1051 : (Jvm.Cond.instanceMethod ({ cls := "HungryHedge$Reader", name := "cond", desc := "()LHungryHedge$Cond;" } : Jvm.MethodName)) ∈ lw_all := lw_g (lw_at lw_m4 226 rfl) rfl
theorem q1052 : (Jvm.Cond.code ({ cls := "HungryHedge$Reader", name := "cond", desc := "()LHungryHedge$Cond;" } : Jvm.MethodName) prog_22_method_15_code (2 : Nat) (Option.some (Jvm.ClassFile.FieldType.object "HungryHedge$Cond"))) ∈ lw_all := lw_g (lw_at lw_m4 227 rfl) rfl
theorem q1053 : (Jvm.Cond.methodLink "HungryHedge$Reader" (141 : Nat) ({ cls := "HungryHedge$Reader", name := "all", desc := "()LHungryHedge$Cond;" } : Jvm.MethodName)) ∈ lw_all := lw_g (lw_at lw_m4 228 rfl) rfl
theorem q1054 : (Jvm.Cond.privateMethod ({ cls := "HungryHedge$Reader", name := "all", desc := "()LHungryHedge$Cond;" } : Jvm.MethodName)) ∈ lw_tbl := lw_at lw_m4 229 rfl
theorem q1055 : (Jvm.Cond.instanceMethod ({ cls := "HungryHedge$Reader", name := "all", desc := "()LHungryHedge$Cond;" } : Jvm.MethodName)) ∈ lw_all := lw_g (lw_at lw_m4 230 rfl) rfl
theorem q1056 : (Jvm.Cond.code ({ cls := "HungryHedge$Reader", name := "all", desc := "()LHungryHedge$Cond;" } : Jvm.MethodName) prog_22_method_14_code (2 : Nat) (Option.some (Jvm.ClassFile.FieldType.object "HungryHedge$Cond"))) ∈ lw_all := lw_g (lw_at lw_m4 231 rfl) rfl
theorem q1057 : (Jvm.Cond.methodLink "HungryHedge$Reader" (131 : Nat) ({ cls := "HungryHedge$Reader", name := "one", desc := "()LHungryHedge$Cond;" } : Jvm.MethodName)) ∈ lw_all := lw_g (lw_at lw_m4 232 rfl) rfl
theorem q1058 : (Jvm.Cond.privateMethod ({ cls := "HungryHedge$Reader", name := "one", desc := "()LHungryHedge$Cond;" } : Jvm.MethodName)) ∈ lw_tbl := lw_at lw_m4 233 rfl
theorem q1059 : (Jvm.Cond.instanceMethod ({ cls := "HungryHedge$Reader", name := "one", desc := "()LHungryHedge$Cond;" } : Jvm.MethodName)) ∈ lw_all := lw_g (lw_at lw_m4 234 rfl) rfl
theorem q1060 : (Jvm.Cond.code ({ cls := "HungryHedge$Reader", name := "one", desc := "()LHungryHedge$Cond;" } : Jvm.MethodName) prog_22_method_13_code (3 : Nat) (Option.some (Jvm.ClassFile.FieldType.object "HungryHedge$Cond"))) ∈ lw_all := lw_g (lw_at lw_m4 235 rfl) rfl
theorem q1061 : (Jvm.Cond.stringRef "HungryHedge$Reader" (105 : Nat) "not") ∈ lw_tbl := lw_at lw_m4 236 rfl
theorem q1062 : (Jvm.Cond.stringRef "HungryHedge$Reader" (117 : Nat) ")") ∈ lw_tbl := lw_at lw_m4 237 rfl
theorem q1063 : (Jvm.Cond.methodLink "HungryHedge$Reader" (123 : Nat) ({ cls := "HungryHedge$Reader", name := "compared", desc := "()LHungryHedge$Cond;" } : Jvm.MethodName)) ∈ lw_all := lw_g (lw_at lw_m4 238 rfl) rfl
theorem q1064 : (Jvm.Cond.privateMethod ({ cls := "HungryHedge$Reader", name := "compared", desc := "()LHungryHedge$Cond;" } : Jvm.MethodName)) ∈ lw_tbl := lw_at lw_m4 239 rfl
theorem q1065 : (Jvm.Cond.instanceMethod ({ cls := "HungryHedge$Reader", name := "compared", desc := "()LHungryHedge$Cond;" } : Jvm.MethodName)) ∈ lw_all := lw_g (lw_at lw_m5 0 rfl) rfl
theorem q1066 : (Jvm.Cond.code ({ cls := "HungryHedge$Reader", name := "compared", desc := "()LHungryHedge$Cond;" } : Jvm.MethodName) prog_22_method_12_code (4 : Nat) (Option.some (Jvm.ClassFile.FieldType.object "HungryHedge$Cond"))) ∈ lw_all := lw_g (lw_at lw_m5 1 rfl) rfl
theorem q1067 : (Jvm.Cond.methodLink "HungryHedge$Reader" (98 : Nat) ({ cls := "HungryHedge$Reader", name := "value", desc := "()V" } : Jvm.MethodName)) ∈ lw_all := lw_g (lw_at lw_m5 2 rfl) rfl
theorem q1068 : (Jvm.Cond.privateMethod ({ cls := "HungryHedge$Reader", name := "value", desc := "()V" } : Jvm.MethodName)) ∈ lw_tbl := lw_at lw_m5 3 rfl
theorem q1069 : (Jvm.Cond.instanceMethod ({ cls := "HungryHedge$Reader", name := "value", desc := "()V" } : Jvm.MethodName)) ∈ lw_all := lw_g (lw_at lw_m5 4 rfl) rfl
theorem q1070 : (Jvm.Cond.code ({ cls := "HungryHedge$Reader", name := "value", desc := "()V" } : Jvm.MethodName) prog_22_method_11_code (2 : Nat) (Option.none : Option Jvm.ClassFile.FieldType)) ∈ lw_all := lw_g (lw_at lw_m5 5 rfl) rfl
theorem q1071 : (Jvm.Cond.classLink "HungryHedge$Reader" (100 : Nat) "HungryHedge$Compared") ∈ lw_all := lw_g (lw_at lw_m5 6 rfl) rfl
theorem q1073 : (Jvm.Cond.methodLink "HungryHedge$Reader" (102 : Nat) ({ cls := "HungryHedge$Compared", name := "<init>", desc := "(IIIII)V" } : Jvm.MethodName)) ∈ lw_all := lw_g (lw_at lw_m5 8 rfl) rfl
theorem q1093 : (Jvm.Cond.classLink "HungryHedge$Reader" (126 : Nat) "HungryHedge$Not") ∈ lw_all := lw_g (lw_at lw_m5 28 rfl) rfl
theorem q1095 : (Jvm.Cond.methodLink "HungryHedge$Reader" (128 : Nat) ({ cls := "HungryHedge$Not", name := "<init>", desc := "(LHungryHedge$Cond;)V" } : Jvm.MethodName)) ∈ lw_all := lw_g (lw_at lw_m5 30 rfl) rfl
theorem q1103 : (Jvm.Cond.stringRef "HungryHedge$Reader" (134 : Nat) "and") ∈ lw_tbl := lw_at lw_m5 38 rfl
theorem q1104 : (Jvm.Cond.classLink "HungryHedge$Reader" (136 : Nat) "HungryHedge$Both") ∈ lw_all := lw_g (lw_at lw_m5 39 rfl) rfl
theorem q1106 : (Jvm.Cond.methodLink "HungryHedge$Reader" (138 : Nat) ({ cls := "HungryHedge$Both", name := "<init>", desc := "(LHungryHedge$Cond;LHungryHedge$Cond;)V" } : Jvm.MethodName)) ∈ lw_all := lw_g (lw_at lw_m5 41 rfl) rfl
theorem q1121 : (Jvm.Cond.stringRef "HungryHedge$Reader" (144 : Nat) "or") ∈ lw_tbl := lw_at lw_m5 56 rfl
theorem q1122 : (Jvm.Cond.classLink "HungryHedge$Reader" (146 : Nat) "HungryHedge$Either") ∈ lw_all := lw_g (lw_at lw_m5 57 rfl) rfl
theorem q1124 : (Jvm.Cond.methodLink "HungryHedge$Reader" (148 : Nat) ({ cls := "HungryHedge$Either", name := "<init>", desc := "(LHungryHedge$Cond;LHungryHedge$Cond;)V" } : Jvm.MethodName)) ∈ lw_all := lw_g (lw_at lw_m5 59 rfl) rfl
theorem q1131 : (Jvm.Cond.methodLink "HungryHedge$Reader" (156 : Nat) ({ cls := "HungryHedge$Clause", name := "<init>", desc := "(ILHungryHedge$Cond;)V" } : Jvm.MethodName)) ∈ lw_all := lw_g (lw_at lw_m5 66 rfl) rfl
theorem q1144 : (Jvm.Cond.stringRef "HungryHedge$Reader" (159 : Nat) ";") ∈ lw_tbl := lw_at lw_m5 79 rfl
theorem in_X7 : ∀ w ∈ wsX70, w ∈ lw_all := lw_in wsX70 [470, 472, 474, 476, 478, 480, 482, 484, 486, 488, 490] (by decide +kernel) (by decide +kernel)

/-! HungryHedge$Fault -/
set_option maxRecDepth 100000
def RX8 : String := "HungryHedge$Fault"
def TX8 : u_T := fun k => match k with
  | 0 => ("java/lang/Throwable", "cause", "Ljava/lang/Throwable;", false)
  | 1 => ("java/lang/Throwable", "stackTrace", "[Ljava/lang/StackTraceElement;", false)
  | 2 => ("java/lang/Throwable", "suppressedExceptions", "Ljava/util/List;", false)
  | 3 => ("java/lang/Throwable", "detailMessage", "Ljava/lang/String;", false)
  | 4 => ("java/lang/Throwable", "backtrace", "Ljava/lang/Object;", false)
  | 5 => ("java/lang/Throwable", "depth", "I", false)
  | _ => ("HungryHedge$Fault", "place", "I", false)
def tyX8 : Nat → FieldType := fun k => match k with
  | 0 => .object "java/lang/Throwable"
  | 1 => .array (.object "java/lang/StackTraceElement")
  | 2 => .object "java/util/List"
  | 3 => .object "java/lang/String"
  | 4 => .object "java/lang/Object"
  | 5 => .int
  | _ => .int
abbrev wsX80 : List Cond := u_ws RX8 TX8 7
theorem nmX8 : ∀ a, a < 7 → ∀ b, b < 7 → a ≠ b → (TX8 a).2.1 ≠ (TX8 b).2.1 := by decide +kernel
theorem tyX8_ok : ∀ k, k < 7 → parseFieldDescriptor (TX8 k).2.2.1 = some (tyX8 k) := by decide +kernel
abbrev cX8_init : ByteArray := prog_12_method_1_code
def yX8_init : MethodName := ⟨RX8, "<init>", "()V"⟩
def dkwX8_init_0 : List UInt8 := [42, 1, 1, 3, 3, 183, 0, 1, 177]
abbrev dktX8_init_0 : List UInt8 := dkwX8_init_0 ++ []
theorem dksX8_init_0 : cX8_init.data.toList.drop 0 = dktX8_init_0 := by decide +kernel
theorem dX8_init_0 : decode cX8_init 0 = .ok (.aload_n 0, 1) := dk_42 (dk_at dksX8_init_0 0 rfl rfl)
theorem dX8_init_1 : decode cX8_init 1 = .ok (.aconst_null, 1) := dk_1 (dk_at dksX8_init_0 1 rfl rfl)
theorem dX8_init_2 : decode cX8_init 2 = .ok (.aconst_null, 1) := dk_1 (dk_at dksX8_init_0 2 rfl rfl)
theorem dX8_init_3 : decode cX8_init 3 = .ok (.iconst 0, 1) := dk_3 (dk_at dksX8_init_0 3 rfl rfl)
theorem dX8_init_4 : decode cX8_init 4 = .ok (.iconst 0, 1) := dk_3 (dk_at dksX8_init_0 4 rfl rfl)
theorem dX8_init_5 : decode cX8_init 5 = .ok (.invokespecial 1, 3) := dk_183 0 1 (dk_at dksX8_init_0 5 rfl rfl)
theorem dX8_init_8 : decode cX8_init 8 = .ok (.return_, 1) := dk_177 (dk_at dksX8_init_0 8 rfl rfl)
abbrev cX8_at : ByteArray := prog_12_method_2_code
def yX8_at : MethodName := ⟨RX8, "at", "(I)LHungryHedge$Fault;"⟩
def dkwX8_at_0 : List UInt8 := [42, 27, 181, 0, 7, 42, 176]
abbrev dktX8_at_0 : List UInt8 := dkwX8_at_0 ++ []
theorem dksX8_at_0 : cX8_at.data.toList.drop 0 = dktX8_at_0 := by decide +kernel
theorem dX8_at_0 : decode cX8_at 0 = .ok (.aload_n 0, 1) := dk_42 (dk_at dksX8_at_0 0 rfl rfl)
theorem dX8_at_1 : decode cX8_at 1 = .ok (.iload_n 1, 1) := dk_27 (dk_at dksX8_at_0 1 rfl rfl)
theorem dX8_at_2 : decode cX8_at 2 = .ok (.putfield 7, 3) := dk_181 0 7 (dk_at dksX8_at_0 2 rfl rfl)
theorem dX8_at_5 : decode cX8_at 5 = .ok (.aload_n 0, 1) := dk_42 (dk_at dksX8_at_0 5 rfl rfl)
theorem dX8_at_6 : decode cX8_at 6 = .ok (.areturn, 1) := dk_176 (dk_at dksX8_at_0 6 rfl rfl)
theorem q117 : (Jvm.Cond.initialized "HungryHedge$Fault") ∈ lw_all := lw_g (lw_at lw_m1 12 rfl) rfl
theorem q383 : (Jvm.Cond.instantiable "HungryHedge$Fault" (7 : Nat)) ∈ lw_all := lw_g (lw_at lw_m2 38 rfl) rfl
theorem q384 : (Jvm.Cond.castable "HungryHedge$Fault" "HungryHedge$Fault") ∈ lw_tbl := lw_at lw_m2 39 rfl
theorem q391 : (Jvm.Cond.selects "HungryHedge$Fault" ({ cls := "java/lang/Throwable", name := "fillInStackTrace", desc := "(I)Ljava/lang/Throwable;" } : Jvm.MethodName) ({ cls := "java/lang/Throwable", name := "fillInStackTrace", desc := "(I)Ljava/lang/Throwable;" } : Jvm.MethodName)) ∈ lw_all := lw_g (lw_at lw_m2 46 rfl) rfl
theorem q392 : (Jvm.Cond.selects "HungryHedge$Fault" ({ cls := "java/lang/Throwable", name := "fillInStackTrace", desc := "()Ljava/lang/Throwable;" } : Jvm.MethodName) ({ cls := "java/lang/Throwable", name := "fillInStackTrace", desc := "()Ljava/lang/Throwable;" } : Jvm.MethodName)) ∈ lw_all := lw_g (lw_at lw_m2 47 rfl) rfl
theorem q393 : (Jvm.Cond.lays "HungryHedge$Fault" "java/lang/Throwable" "cause" "Ljava/lang/Throwable;") ∈ lw_all := lw_g (lw_at lw_m2 48 rfl) rfl
theorem q395 : (Jvm.Cond.lays "HungryHedge$Fault" "java/lang/Throwable" "stackTrace" "[Ljava/lang/StackTraceElement;") ∈ lw_all := lw_g (lw_at lw_m2 50 rfl) rfl
theorem q397 : (Jvm.Cond.lays "HungryHedge$Fault" "java/lang/Throwable" "suppressedExceptions" "Ljava/util/List;") ∈ lw_all := lw_g (lw_at lw_m2 52 rfl) rfl
theorem q399 : (Jvm.Cond.lays "HungryHedge$Fault" "java/lang/Throwable" "detailMessage" "Ljava/lang/String;") ∈ lw_all := lw_g (lw_at lw_m2 54 rfl) rfl
theorem q401 : (Jvm.Cond.lays "HungryHedge$Fault" "java/lang/Throwable" "backtrace" "Ljava/lang/Object;") ∈ lw_all := lw_g (lw_at lw_m2 56 rfl) rfl
theorem q427 : (Jvm.Cond.instanceMethod ({ cls := "HungryHedge$Fault", name := "<init>", desc := "()V" } : Jvm.MethodName)) ∈ lw_all := lw_g (lw_at lw_m2 82 rfl) rfl
theorem q428 : (Jvm.Cond.code ({ cls := "HungryHedge$Fault", name := "<init>", desc := "()V" } : Jvm.MethodName) prog_12_method_1_code (1 : Nat) (Option.none : Option Jvm.ClassFile.FieldType)) ∈ lw_all := lw_g (lw_at lw_m2 83 rfl) rfl
theorem q429 : (Jvm.Cond.methodLink "HungryHedge$Fault" (1 : Nat) ({ cls := "java/lang/RuntimeException", name := "<init>", desc := "(Ljava/lang/String;Ljava/lang/Throwable;ZZ)V" } : Jvm.MethodName)) ∈ lw_all := lw_g (lw_at lw_m2 84 rfl) rfl
theorem q438 : (Jvm.Cond.fieldLink "HungryHedge$Fault" (7 : Nat) "HungryHedge$Fault" "place" "I") ∈ lw_all := lw_g (lw_at lw_m2 93 rfl) rfl
theorem q445 : (Jvm.Cond.lays "HungryHedge$Fault" "HungryHedge$Fault" "place" "I") ∈ lw_all := lw_g (lw_at lw_m2 100 rfl) rfl
theorem q446 : (Jvm.Cond.soleField "HungryHedge$Fault" "place") ∈ lw_all := lw_g (lw_at lw_m2 101 rfl) rfl
theorem q451 : (Jvm.Cond.lays "HungryHedge$Fault" "java/lang/Throwable" "depth" "I") ∈ lw_all := lw_g (lw_at lw_m2 106 rfl) rfl
theorem q454 : (Jvm.Cond.superclass "HungryHedge$Fault" "java/lang/RuntimeException") ∈ lw_all := lw_g (lw_at lw_m2 109 rfl) rfl
theorem q979 : (Jvm.Cond.instanceMethod ({ cls := "HungryHedge$Fault", name := "at", desc := "(I)LHungryHedge$Fault;" } : Jvm.MethodName)) ∈ lw_all := lw_g (lw_at lw_m4 154 rfl) rfl
theorem q980 : (Jvm.Cond.selects "HungryHedge$Fault" ({ cls := "HungryHedge$Fault", name := "at", desc := "(I)LHungryHedge$Fault;" } : Jvm.MethodName) ({ cls := "HungryHedge$Fault", name := "at", desc := "(I)LHungryHedge$Fault;" } : Jvm.MethodName)) ∈ lw_all := lw_g (lw_at lw_m4 155 rfl) rfl
theorem q981 : (Jvm.Cond.code ({ cls := "HungryHedge$Fault", name := "at", desc := "(I)LHungryHedge$Fault;" } : Jvm.MethodName) prog_12_method_2_code (2 : Nat) (Option.some (Jvm.ClassFile.FieldType.object "HungryHedge$Fault"))) ∈ lw_all := lw_g (lw_at lw_m4 156 rfl) rfl
theorem in_X8 : ∀ w ∈ wsX80, w ∈ lw_all := lw_in wsX80 [393, 395, 397, 399, 401, 451, 445] (by decide +kernel) (by decide +kernel)

/-! HungryHedge$Row -/
set_option maxRecDepth 100000
def RX9 : String := "HungryHedge$Row"
def TX9 : u_T := fun k => match k with
  | 0 => ("HungryHedge$Row", "minute", "I", false)
  | _ => ("HungryHedge$Row", "act", "I", false)
def tyX9 : Nat → FieldType := fun k => match k with
  | 0 => .int
  | _ => .int
abbrev wsX90 : List Cond := u_ws RX9 TX9 2
theorem nmX9 : ∀ a, a < 2 → ∀ b, b < 2 → a ≠ b → (TX9 a).2.1 ≠ (TX9 b).2.1 := by decide +kernel
theorem tyX9_ok : ∀ k, k < 2 → parseFieldDescriptor (TX9 k).2.2.1 = some (tyX9 k) := by decide +kernel
abbrev cX9_init : ByteArray := prog_26_method_1_code
def yX9_init : MethodName := ⟨RX9, "<init>", "()V"⟩
theorem dX9_init_0 : decode cX9_init 0 = .ok (.aload_n 0, 1) := by decide +kernel
theorem dX9_init_1 : decode cX9_init 1 = .ok (.invokespecial 1, 3) := by decide +kernel
theorem dX9_init_4 : decode cX9_init 4 = .ok (.return_, 1) := by decide +kernel
theorem q118 : (Jvm.Cond.initialized "HungryHedge$Row") ∈ lw_all := lw_g (lw_at lw_m1 13 rfl) rfl
theorem q500 : (Jvm.Cond.instantiable "HungryHedge$Row" (2 : Nat)) ∈ lw_all := lw_g (lw_at lw_m2 155 rfl) rfl
theorem q502 : (Jvm.Cond.instanceMethod ({ cls := "HungryHedge$Row", name := "<init>", desc := "()V" } : Jvm.MethodName)) ∈ lw_all := lw_g (lw_at lw_m2 157 rfl) rfl
theorem q503 : (Jvm.Cond.code ({ cls := "HungryHedge$Row", name := "<init>", desc := "()V" } : Jvm.MethodName) prog_26_method_1_code (1 : Nat) (Option.none : Option Jvm.ClassFile.FieldType)) ∈ lw_all := lw_g (lw_at lw_m2 158 rfl) rfl
theorem q504 : (Jvm.Cond.methodLink "HungryHedge$Row" (1 : Nat) ({ cls := "java/lang/Object", name := "<init>", desc := "()V" } : Jvm.MethodName)) ∈ lw_all := lw_g (lw_at lw_m2 159 rfl) rfl
theorem q507 : (Jvm.Cond.lays "HungryHedge$Row" "HungryHedge$Row" "minute" "I") ∈ lw_all := lw_g (lw_at lw_m2 162 rfl) rfl
theorem q508 : (Jvm.Cond.soleField "HungryHedge$Row" "minute") ∈ lw_all := lw_g (lw_at lw_m2 163 rfl) rfl
theorem q509 : (Jvm.Cond.lays "HungryHedge$Row" "HungryHedge$Row" "act" "I") ∈ lw_all := lw_g (lw_at lw_m2 164 rfl) rfl
theorem q510 : (Jvm.Cond.soleField "HungryHedge$Row" "act") ∈ lw_all := lw_g (lw_at lw_m2 165 rfl) rfl
theorem q511 : (Jvm.Cond.superclass "HungryHedge$Row" "java/lang/Object") ∈ lw_all := lw_g (lw_at lw_m2 166 rfl) rfl
theorem in_X9 : ∀ w ∈ wsX90, w ∈ lw_all := lw_in wsX90 [507, 509] (by decide +kernel) (by decide +kernel)

/-! HungryHedge$Sheet -/
set_option maxRecDepth 100000
def RX10 : String := "HungryHedge$Sheet"
def TX10 : u_T := fun k => match k with
  | 0 => ("HungryHedge$Sheet", "bytes", "[B", false)
  | 1 => ("HungryHedge$Sheet", "shorts", "[S", false)
  | 2 => ("HungryHedge$Sheet", "ints", "[I", false)
  | 3 => ("HungryHedge$Sheet", "longs", "[J", false)
  | _ => ("HungryHedge$Sheet", "sort", "I", false)
def tyX10 : Nat → FieldType := fun k => match k with
  | 0 => .array .byte
  | 1 => .array .short
  | 2 => .array .int
  | 3 => .array .long
  | _ => .int
abbrev wsX100 : List Cond := u_ws RX10 TX10 5
theorem nmX10 : ∀ a, a < 5 → ∀ b, b < 5 → a ≠ b → (TX10 a).2.1 ≠ (TX10 b).2.1 := by decide +kernel
theorem tyX10_ok : ∀ k, k < 5 → parseFieldDescriptor (TX10 k).2.2.1 = some (tyX10 k) := by decide +kernel
abbrev cX10_init : ByteArray := prog_27_method_1_code
def yX10_init : MethodName := ⟨RX10, "<init>", "()V"⟩
def dkwX10_init_0 : List UInt8 := [42, 183, 0, 1, 42, 2, 181, 0, 7, 177]
abbrev dktX10_init_0 : List UInt8 := dkwX10_init_0 ++ []
theorem dksX10_init_0 : cX10_init.data.toList.drop 0 = dktX10_init_0 := by decide +kernel
theorem dX10_init_0 : decode cX10_init 0 = .ok (.aload_n 0, 1) := dk_42 (dk_at dksX10_init_0 0 rfl rfl)
theorem dX10_init_1 : decode cX10_init 1 = .ok (.invokespecial 1, 3) := dk_183 0 1 (dk_at dksX10_init_0 1 rfl rfl)
theorem dX10_init_4 : decode cX10_init 4 = .ok (.aload_n 0, 1) := dk_42 (dk_at dksX10_init_0 4 rfl rfl)
theorem dX10_init_5 : decode cX10_init 5 = .ok (.iconst (-1), 1) := dk_2 (dk_at dksX10_init_0 5 rfl rfl)
theorem dX10_init_6 : decode cX10_init 6 = .ok (.putfield 7, 3) := dk_181 0 7 (dk_at dksX10_init_0 6 rfl rfl)
theorem dX10_init_9 : decode cX10_init 9 = .ok (.return_, 1) := dk_177 (dk_at dksX10_init_0 9 rfl rfl)
abbrev cX10_row : ByteArray := prog_27_method_2_code
def yX10_row : MethodName := ⟨RX10, "row", "()Ljava/lang/Object;"⟩
def dkwX10_row_2 : List UInt8 := [42, 180, 0, 13, 176, 42, 180, 0, 17, 176, 42, 180, 0, 21, 176, 42, 180, 0, 25, 176, 1, 176]
abbrev dktX10_row_2 : List UInt8 := dkwX10_row_2 ++ []
def dkwX10_row_1 : List UInt8 := [170, 0, 0, 0, 0, 0, 0, 52, 0, 0, 0, 0, 0, 0, 0, 3, 0, 0, 0, 32, 0, 0, 0, 37, 0, 0, 0, 42, 0, 0, 0, 47]
abbrev dktX10_row_1 : List UInt8 := dkwX10_row_1 ++ dktX10_row_2
def dkwX10_row_0 : List UInt8 := [42, 180, 0, 7]
abbrev dktX10_row_0 : List UInt8 := dkwX10_row_0 ++ dktX10_row_1
theorem dksX10_row_0 : cX10_row.data.toList.drop 0 = dktX10_row_0 := by decide +kernel
theorem dksX10_row_1 : cX10_row.data.toList.drop 4 = dktX10_row_1 := dk_seg dksX10_row_0 4 rfl rfl
theorem dksX10_row_2 : cX10_row.data.toList.drop 36 = dktX10_row_2 := dk_seg dksX10_row_1 32 rfl rfl
theorem dX10_row_0 : decode cX10_row 0 = .ok (.aload_n 0, 1) := dk_42 (dk_at dksX10_row_0 0 rfl rfl)
theorem dX10_row_1 : decode cX10_row 1 = .ok (.getfield 7, 3) := dk_180 0 7 (dk_at dksX10_row_0 1 rfl rfl)
theorem dX10_row_4 : decode cX10_row 4 = .ok (.tableswitch 52 0 3 #[32, 37, 42, 47], 32) := by decide +kernel
theorem dX10_row_36 : decode cX10_row 36 = .ok (.aload_n 0, 1) := dk_42 (dk_at dksX10_row_2 0 rfl rfl)
theorem dX10_row_37 : decode cX10_row 37 = .ok (.getfield 13, 3) := dk_180 0 13 (dk_at dksX10_row_2 1 rfl rfl)
theorem dX10_row_40 : decode cX10_row 40 = .ok (.areturn, 1) := dk_176 (dk_at dksX10_row_2 4 rfl rfl)
theorem dX10_row_41 : decode cX10_row 41 = .ok (.aload_n 0, 1) := dk_42 (dk_at dksX10_row_2 5 rfl rfl)
theorem dX10_row_42 : decode cX10_row 42 = .ok (.getfield 17, 3) := dk_180 0 17 (dk_at dksX10_row_2 6 rfl rfl)
theorem dX10_row_45 : decode cX10_row 45 = .ok (.areturn, 1) := dk_176 (dk_at dksX10_row_2 9 rfl rfl)
theorem dX10_row_46 : decode cX10_row 46 = .ok (.aload_n 0, 1) := dk_42 (dk_at dksX10_row_2 10 rfl rfl)
theorem dX10_row_47 : decode cX10_row 47 = .ok (.getfield 21, 3) := dk_180 0 21 (dk_at dksX10_row_2 11 rfl rfl)
theorem dX10_row_50 : decode cX10_row 50 = .ok (.areturn, 1) := dk_176 (dk_at dksX10_row_2 14 rfl rfl)
theorem dX10_row_51 : decode cX10_row 51 = .ok (.aload_n 0, 1) := dk_42 (dk_at dksX10_row_2 15 rfl rfl)
theorem dX10_row_52 : decode cX10_row 52 = .ok (.getfield 25, 3) := dk_180 0 25 (dk_at dksX10_row_2 16 rfl rfl)
theorem dX10_row_55 : decode cX10_row 55 = .ok (.areturn, 1) := dk_176 (dk_at dksX10_row_2 19 rfl rfl)
theorem dX10_row_56 : decode cX10_row 56 = .ok (.aconst_null, 1) := dk_1 (dk_at dksX10_row_2 20 rfl rfl)
theorem dX10_row_57 : decode cX10_row 57 = .ok (.areturn, 1) := dk_176 (dk_at dksX10_row_2 21 rfl rfl)
abbrev cX10_becomes : ByteArray := prog_27_method_3_code
def yX10_becomes : MethodName := ⟨RX10, "becomes", "(II)V"⟩
def dkwX10_becomes_3 : List UInt8 := [181, 0, 21, 167, 0, 13, 42, 28, 188, 11, 181, 0, 25, 167, 0, 3, 42, 27, 181, 0, 7, 177]
abbrev dktX10_becomes_3 : List UInt8 := dkwX10_becomes_3 ++ []
def dkwX10_becomes_2 : List UInt8 := [42, 28, 188, 8, 181, 0, 13, 167, 0, 33, 42, 28, 188, 9, 181, 0, 17, 167, 0, 23, 42, 28, 188, 10]
abbrev dktX10_becomes_2 : List UInt8 := dkwX10_becomes_2 ++ dktX10_becomes_3
def dkwX10_becomes_1 : List UInt8 := [170, 0, 0, 0, 0, 0, 71, 0, 0, 0, 0, 0, 0, 0, 3, 0, 0, 0, 31, 0, 0, 0, 41, 0, 0, 0, 51, 0, 0, 0, 61]
abbrev dktX10_becomes_1 : List UInt8 := dkwX10_becomes_1 ++ dktX10_becomes_2
def dkwX10_becomes_0 : List UInt8 := [27]
abbrev dktX10_becomes_0 : List UInt8 := dkwX10_becomes_0 ++ dktX10_becomes_1
theorem dksX10_becomes_0 : cX10_becomes.data.toList.drop 0 = dktX10_becomes_0 := by decide +kernel
theorem dksX10_becomes_1 : cX10_becomes.data.toList.drop 1 = dktX10_becomes_1 := dk_seg dksX10_becomes_0 1 rfl rfl
theorem dksX10_becomes_2 : cX10_becomes.data.toList.drop 32 = dktX10_becomes_2 := dk_seg dksX10_becomes_1 31 rfl rfl
theorem dksX10_becomes_3 : cX10_becomes.data.toList.drop 56 = dktX10_becomes_3 := dk_seg dksX10_becomes_2 24 rfl rfl
theorem dX10_becomes_0 : decode cX10_becomes 0 = .ok (.iload_n 1, 1) := dk_27 (dk_at dksX10_becomes_0 0 rfl rfl)
theorem dX10_becomes_1 : decode cX10_becomes 1 = .ok (.tableswitch 71 0 3 #[31, 41, 51, 61], 31) := by decide +kernel
theorem dX10_becomes_32 : decode cX10_becomes 32 = .ok (.aload_n 0, 1) := dk_42 (dk_at dksX10_becomes_2 0 rfl rfl)
theorem dX10_becomes_33 : decode cX10_becomes 33 = .ok (.iload_n 2, 1) := dk_28 (dk_at dksX10_becomes_2 1 rfl rfl)
theorem dX10_becomes_34 : decode cX10_becomes 34 = .ok (.newarray .byte, 2) := dk_188_8 (dk_at dksX10_becomes_2 2 rfl rfl)
theorem dX10_becomes_36 : decode cX10_becomes 36 = .ok (.putfield 13, 3) := dk_181 0 13 (dk_at dksX10_becomes_2 4 rfl rfl)
theorem dX10_becomes_39 : decode cX10_becomes 39 = .ok (.goto 33, 3) := dk_167 0 33 (dk_at dksX10_becomes_2 7 rfl rfl)
theorem dX10_becomes_42 : decode cX10_becomes 42 = .ok (.aload_n 0, 1) := dk_42 (dk_at dksX10_becomes_2 10 rfl rfl)
theorem dX10_becomes_43 : decode cX10_becomes 43 = .ok (.iload_n 2, 1) := dk_28 (dk_at dksX10_becomes_2 11 rfl rfl)
theorem dX10_becomes_44 : decode cX10_becomes 44 = .ok (.newarray .short, 2) := dk_188_9 (dk_at dksX10_becomes_2 12 rfl rfl)
theorem dX10_becomes_46 : decode cX10_becomes 46 = .ok (.putfield 17, 3) := dk_181 0 17 (dk_at dksX10_becomes_2 14 rfl rfl)
theorem dX10_becomes_49 : decode cX10_becomes 49 = .ok (.goto 23, 3) := dk_167 0 23 (dk_at dksX10_becomes_2 17 rfl rfl)
theorem dX10_becomes_52 : decode cX10_becomes 52 = .ok (.aload_n 0, 1) := dk_42 (dk_at dksX10_becomes_2 20 rfl rfl)
theorem dX10_becomes_53 : decode cX10_becomes 53 = .ok (.iload_n 2, 1) := dk_28 (dk_at dksX10_becomes_2 21 rfl rfl)
theorem dX10_becomes_54 : decode cX10_becomes 54 = .ok (.newarray .int, 2) := dk_188_10 (dk_at dksX10_becomes_2 22 rfl rfl)
theorem dX10_becomes_56 : decode cX10_becomes 56 = .ok (.putfield 21, 3) := dk_181 0 21 (dk_at dksX10_becomes_3 0 rfl rfl)
theorem dX10_becomes_59 : decode cX10_becomes 59 = .ok (.goto 13, 3) := dk_167 0 13 (dk_at dksX10_becomes_3 3 rfl rfl)
theorem dX10_becomes_62 : decode cX10_becomes 62 = .ok (.aload_n 0, 1) := dk_42 (dk_at dksX10_becomes_3 6 rfl rfl)
theorem dX10_becomes_63 : decode cX10_becomes 63 = .ok (.iload_n 2, 1) := dk_28 (dk_at dksX10_becomes_3 7 rfl rfl)
theorem dX10_becomes_64 : decode cX10_becomes 64 = .ok (.newarray .long, 2) := dk_188_11 (dk_at dksX10_becomes_3 8 rfl rfl)
theorem dX10_becomes_66 : decode cX10_becomes 66 = .ok (.putfield 25, 3) := dk_181 0 25 (dk_at dksX10_becomes_3 10 rfl rfl)
theorem dX10_becomes_69 : decode cX10_becomes 69 = .ok (.goto 3, 3) := dk_167 0 3 (dk_at dksX10_becomes_3 13 rfl rfl)
theorem dX10_becomes_72 : decode cX10_becomes 72 = .ok (.aload_n 0, 1) := dk_42 (dk_at dksX10_becomes_3 16 rfl rfl)
theorem dX10_becomes_73 : decode cX10_becomes 73 = .ok (.iload_n 1, 1) := dk_27 (dk_at dksX10_becomes_3 17 rfl rfl)
theorem dX10_becomes_74 : decode cX10_becomes 74 = .ok (.putfield 7, 3) := dk_181 0 7 (dk_at dksX10_becomes_3 18 rfl rfl)
theorem dX10_becomes_77 : decode cX10_becomes 77 = .ok (.return_, 1) := dk_177 (dk_at dksX10_becomes_3 21 rfl rfl)
theorem q119 : (Jvm.Cond.initialized "HungryHedge$Sheet") ∈ lw_all := lw_g (lw_at lw_m1 14 rfl) rfl
theorem q514 : (Jvm.Cond.instantiable "HungryHedge$Sheet" (5 : Nat)) ∈ lw_all := lw_g (lw_at lw_m2 169 rfl) rfl
theorem q516 : (Jvm.Cond.instanceMethod ({ cls := "HungryHedge$Sheet", name := "<init>", desc := "()V" } : Jvm.MethodName)) ∈ lw_all := lw_g (lw_at lw_m2 171 rfl) rfl
theorem q517 : (Jvm.Cond.code ({ cls := "HungryHedge$Sheet", name := "<init>", desc := "()V" } : Jvm.MethodName) prog_27_method_1_code (1 : Nat) (Option.none : Option Jvm.ClassFile.FieldType)) ∈ lw_all := lw_g (lw_at lw_m2 172 rfl) rfl
theorem q518 : (Jvm.Cond.methodLink "HungryHedge$Sheet" (1 : Nat) ({ cls := "java/lang/Object", name := "<init>", desc := "()V" } : Jvm.MethodName)) ∈ lw_all := lw_g (lw_at lw_m2 173 rfl) rfl
theorem q519 : (Jvm.Cond.fieldLink "HungryHedge$Sheet" (13 : Nat) "HungryHedge$Sheet" "bytes" "[B") ∈ lw_all := lw_g (lw_at lw_m2 174 rfl) rfl
theorem q520 : (Jvm.Cond.fieldLink "HungryHedge$Sheet" (17 : Nat) "HungryHedge$Sheet" "shorts" "[S") ∈ lw_all := lw_g (lw_at lw_m2 175 rfl) rfl
theorem q521 : (Jvm.Cond.fieldLink "HungryHedge$Sheet" (21 : Nat) "HungryHedge$Sheet" "ints" "[I") ∈ lw_all := lw_g (lw_at lw_m2 176 rfl) rfl
theorem q522 : (Jvm.Cond.fieldLink "HungryHedge$Sheet" (25 : Nat) "HungryHedge$Sheet" "longs" "[J") ∈ lw_all := lw_g (lw_at lw_m2 177 rfl) rfl
theorem q523 : (Jvm.Cond.fieldLink "HungryHedge$Sheet" (7 : Nat) "HungryHedge$Sheet" "sort" "I") ∈ lw_all := lw_g (lw_at lw_m2 178 rfl) rfl
theorem q524 : (Jvm.Cond.lays "HungryHedge$Sheet" "HungryHedge$Sheet" "bytes" "[B") ∈ lw_all := lw_g (lw_at lw_m2 179 rfl) rfl
theorem q525 : (Jvm.Cond.soleField "HungryHedge$Sheet" "bytes") ∈ lw_all := lw_g (lw_at lw_m2 180 rfl) rfl
theorem q526 : (Jvm.Cond.lays "HungryHedge$Sheet" "HungryHedge$Sheet" "shorts" "[S") ∈ lw_all := lw_g (lw_at lw_m2 181 rfl) rfl
theorem q527 : (Jvm.Cond.soleField "HungryHedge$Sheet" "shorts") ∈ lw_all := lw_g (lw_at lw_m2 182 rfl) rfl
theorem q528 : (Jvm.Cond.lays "HungryHedge$Sheet" "HungryHedge$Sheet" "ints" "[I") ∈ lw_all := lw_g (lw_at lw_m2 183 rfl) rfl
theorem q529 : (Jvm.Cond.soleField "HungryHedge$Sheet" "ints") ∈ lw_all := lw_g (lw_at lw_m2 184 rfl) rfl
theorem q530 : (Jvm.Cond.lays "HungryHedge$Sheet" "HungryHedge$Sheet" "longs" "[J") ∈ lw_all := lw_g (lw_at lw_m2 185 rfl) rfl
theorem q531 : (Jvm.Cond.soleField "HungryHedge$Sheet" "longs") ∈ lw_all := lw_g (lw_at lw_m2 186 rfl) rfl
theorem q532 : (Jvm.Cond.lays "HungryHedge$Sheet" "HungryHedge$Sheet" "sort" "I") ∈ lw_all := lw_g (lw_at lw_m2 187 rfl) rfl
theorem q533 : (Jvm.Cond.soleField "HungryHedge$Sheet" "sort") ∈ lw_all := lw_g (lw_at lw_m2 188 rfl) rfl
theorem q534 : (Jvm.Cond.superclass "HungryHedge$Sheet" "java/lang/Object") ∈ lw_all := lw_g (lw_at lw_m2 189 rfl) rfl
theorem q877 : (Jvm.Cond.instanceMethod ({ cls := "HungryHedge$Sheet", name := "row", desc := "()Ljava/lang/Object;" } : Jvm.MethodName)) ∈ lw_all := lw_g (lw_at lw_m4 52 rfl) rfl
theorem q878 : (Jvm.Cond.selects "HungryHedge$Sheet" ({ cls := "HungryHedge$Sheet", name := "row", desc := "()Ljava/lang/Object;" } : Jvm.MethodName) ({ cls := "HungryHedge$Sheet", name := "row", desc := "()Ljava/lang/Object;" } : Jvm.MethodName)) ∈ lw_all := lw_g (lw_at lw_m4 53 rfl) rfl
theorem q879 : (Jvm.Cond.code ({ cls := "HungryHedge$Sheet", name := "row", desc := "()Ljava/lang/Object;" } : Jvm.MethodName) prog_27_method_2_code (1 : Nat) (Option.some (Jvm.ClassFile.FieldType.object "java/lang/Object"))) ∈ lw_all := lw_g (lw_at lw_m4 54 rfl) rfl
theorem q1257 : (Jvm.Cond.instanceMethod ({ cls := "HungryHedge$Sheet", name := "becomes", desc := "(II)V" } : Jvm.MethodName)) ∈ lw_all := lw_g (lw_at lw_m5 192 rfl) rfl
theorem q1258 : (Jvm.Cond.selects "HungryHedge$Sheet" ({ cls := "HungryHedge$Sheet", name := "becomes", desc := "(II)V" } : Jvm.MethodName) ({ cls := "HungryHedge$Sheet", name := "becomes", desc := "(II)V" } : Jvm.MethodName)) ∈ lw_all := lw_g (lw_at lw_m5 193 rfl) rfl
theorem q1259 : (Jvm.Cond.code ({ cls := "HungryHedge$Sheet", name := "becomes", desc := "(II)V" } : Jvm.MethodName) prog_27_method_3_code (3 : Nat) (Option.none : Option Jvm.ClassFile.FieldType)) ∈ lw_all := lw_g (lw_at lw_m5 194 rfl) rfl
theorem in_X10 : ∀ w ∈ wsX100, w ∈ lw_all := lw_in wsX100 [524, 526, 528, 530, 532] (by decide +kernel) (by decide +kernel)

/-! HungryHedge$Beyond -/
set_option maxRecDepth 100000
def RX11 : String := "HungryHedge$Beyond"
def TX11 : u_T := fun k => match k with
  | 0 => ("java/lang/Throwable", "cause", "Ljava/lang/Throwable;", false)
  | 1 => ("java/lang/Throwable", "stackTrace", "[Ljava/lang/StackTraceElement;", false)
  | 2 => ("java/lang/Throwable", "suppressedExceptions", "Ljava/util/List;", false)
  | 3 => ("java/lang/Throwable", "detailMessage", "Ljava/lang/String;", false)
  | 4 => ("java/lang/Throwable", "backtrace", "Ljava/lang/Object;", false)
  | _ => ("java/lang/Throwable", "depth", "I", false)
def tyX11 : Nat → FieldType := fun k => match k with
  | 0 => .object "java/lang/Throwable"
  | 1 => .array (.object "java/lang/StackTraceElement")
  | 2 => .object "java/util/List"
  | 3 => .object "java/lang/String"
  | 4 => .object "java/lang/Object"
  | _ => .int
abbrev wsX110 : List Cond := u_ws RX11 TX11 6
theorem nmX11 : ∀ a, a < 6 → ∀ b, b < 6 → a ≠ b → (TX11 a).2.1 ≠ (TX11 b).2.1 := by decide +kernel
theorem tyX11_ok : ∀ k, k < 6 → parseFieldDescriptor (TX11 k).2.2.1 = some (tyX11 k) := by decide +kernel
abbrev cX11_init : ByteArray := prog_2_method_1_code
def yX11_init : MethodName := ⟨RX11, "<init>", "()V"⟩
def dkwX11_init_0 : List UInt8 := [42, 1, 1, 3, 3, 183, 0, 1, 177]
abbrev dktX11_init_0 : List UInt8 := dkwX11_init_0 ++ []
theorem dksX11_init_0 : cX11_init.data.toList.drop 0 = dktX11_init_0 := by decide +kernel
theorem dX11_init_0 : decode cX11_init 0 = .ok (.aload_n 0, 1) := dk_42 (dk_at dksX11_init_0 0 rfl rfl)
theorem dX11_init_1 : decode cX11_init 1 = .ok (.aconst_null, 1) := dk_1 (dk_at dksX11_init_0 1 rfl rfl)
theorem dX11_init_2 : decode cX11_init 2 = .ok (.aconst_null, 1) := dk_1 (dk_at dksX11_init_0 2 rfl rfl)
theorem dX11_init_3 : decode cX11_init 3 = .ok (.iconst 0, 1) := dk_3 (dk_at dksX11_init_0 3 rfl rfl)
theorem dX11_init_4 : decode cX11_init 4 = .ok (.iconst 0, 1) := dk_3 (dk_at dksX11_init_0 4 rfl rfl)
theorem dX11_init_5 : decode cX11_init 5 = .ok (.invokespecial 1, 3) := dk_183 0 1 (dk_at dksX11_init_0 5 rfl rfl)
theorem dX11_init_8 : decode cX11_init 8 = .ok (.return_, 1) := dk_177 (dk_at dksX11_init_0 8 rfl rfl)
theorem q120 : (Jvm.Cond.initialized "HungryHedge$Beyond") ∈ lw_all := lw_g (lw_at lw_m1 15 rfl) rfl
theorem q415 : (Jvm.Cond.selects "HungryHedge$Beyond" ({ cls := "java/lang/Throwable", name := "fillInStackTrace", desc := "()Ljava/lang/Throwable;" } : Jvm.MethodName) ({ cls := "java/lang/Throwable", name := "fillInStackTrace", desc := "()Ljava/lang/Throwable;" } : Jvm.MethodName)) ∈ lw_all := lw_g (lw_at lw_m2 70 rfl) rfl
theorem q536 : (Jvm.Cond.instantiable "HungryHedge$Beyond" (6 : Nat)) ∈ lw_all := lw_g (lw_at lw_m2 191 rfl) rfl
theorem q537 : (Jvm.Cond.castable "HungryHedge$Beyond" "HungryHedge$Beyond") ∈ lw_tbl := lw_at lw_m2 192 rfl
theorem q538 : (Jvm.Cond.selects "HungryHedge$Beyond" ({ cls := "java/lang/Throwable", name := "fillInStackTrace", desc := "(I)Ljava/lang/Throwable;" } : Jvm.MethodName) ({ cls := "java/lang/Throwable", name := "fillInStackTrace", desc := "(I)Ljava/lang/Throwable;" } : Jvm.MethodName)) ∈ lw_all := lw_g (lw_at lw_m2 193 rfl) rfl
theorem q539 : (Jvm.Cond.lays "HungryHedge$Beyond" "java/lang/Throwable" "cause" "Ljava/lang/Throwable;") ∈ lw_all := lw_g (lw_at lw_m2 194 rfl) rfl
theorem q540 : (Jvm.Cond.lays "HungryHedge$Beyond" "java/lang/Throwable" "stackTrace" "[Ljava/lang/StackTraceElement;") ∈ lw_all := lw_g (lw_at lw_m2 195 rfl) rfl
theorem q541 : (Jvm.Cond.lays "HungryHedge$Beyond" "java/lang/Throwable" "suppressedExceptions" "Ljava/util/List;") ∈ lw_all := lw_g (lw_at lw_m2 196 rfl) rfl
theorem q542 : (Jvm.Cond.lays "HungryHedge$Beyond" "java/lang/Throwable" "detailMessage" "Ljava/lang/String;") ∈ lw_all := lw_g (lw_at lw_m2 197 rfl) rfl
theorem q543 : (Jvm.Cond.lays "HungryHedge$Beyond" "java/lang/Throwable" "backtrace" "Ljava/lang/Object;") ∈ lw_all := lw_g (lw_at lw_m2 198 rfl) rfl
theorem q545 : (Jvm.Cond.instanceMethod ({ cls := "HungryHedge$Beyond", name := "<init>", desc := "()V" } : Jvm.MethodName)) ∈ lw_all := lw_g (lw_at lw_m2 200 rfl) rfl
theorem q546 : (Jvm.Cond.code ({ cls := "HungryHedge$Beyond", name := "<init>", desc := "()V" } : Jvm.MethodName) prog_2_method_1_code (1 : Nat) (Option.none : Option Jvm.ClassFile.FieldType)) ∈ lw_all := lw_g (lw_at lw_m2 201 rfl) rfl
theorem q547 : (Jvm.Cond.methodLink "HungryHedge$Beyond" (1 : Nat) ({ cls := "java/lang/RuntimeException", name := "<init>", desc := "(Ljava/lang/String;Ljava/lang/Throwable;ZZ)V" } : Jvm.MethodName)) ∈ lw_all := lw_g (lw_at lw_m2 202 rfl) rfl
theorem q548 : (Jvm.Cond.lays "HungryHedge$Beyond" "java/lang/Throwable" "depth" "I") ∈ lw_all := lw_g (lw_at lw_m2 203 rfl) rfl
theorem q549 : (Jvm.Cond.superclass "HungryHedge$Beyond" "java/lang/RuntimeException") ∈ lw_all := lw_g (lw_at lw_m2 204 rfl) rfl
theorem in_X11 : ∀ w ∈ wsX110, w ∈ lw_all := lw_in wsX110 [539, 540, 541, 542, 543, 548] (by decide +kernel) (by decide +kernel)

/-! HungryHedge$Nothing -/
set_option maxRecDepth 100000
def RX12 : String := "HungryHedge$Nothing"
def TX12 : u_T := fun k => match k with
  | 0 => ("java/lang/Throwable", "cause", "Ljava/lang/Throwable;", false)
  | 1 => ("java/lang/Throwable", "stackTrace", "[Ljava/lang/StackTraceElement;", false)
  | 2 => ("java/lang/Throwable", "suppressedExceptions", "Ljava/util/List;", false)
  | 3 => ("java/lang/Throwable", "detailMessage", "Ljava/lang/String;", false)
  | 4 => ("java/lang/Throwable", "backtrace", "Ljava/lang/Object;", false)
  | _ => ("java/lang/Throwable", "depth", "I", false)
def tyX12 : Nat → FieldType := fun k => match k with
  | 0 => .object "java/lang/Throwable"
  | 1 => .array (.object "java/lang/StackTraceElement")
  | 2 => .object "java/util/List"
  | 3 => .object "java/lang/String"
  | 4 => .object "java/lang/Object"
  | _ => .int
abbrev wsX120 : List Cond := u_ws RX12 TX12 6
theorem nmX12 : ∀ a, a < 6 → ∀ b, b < 6 → a ≠ b → (TX12 a).2.1 ≠ (TX12 b).2.1 := by decide +kernel
theorem tyX12_ok : ∀ k, k < 6 → parseFieldDescriptor (TX12 k).2.2.1 = some (tyX12 k) := by decide +kernel
abbrev cX12_init : ByteArray := prog_20_method_1_code
def yX12_init : MethodName := ⟨RX12, "<init>", "()V"⟩
def dkwX12_init_0 : List UInt8 := [42, 1, 1, 3, 3, 183, 0, 1, 177]
abbrev dktX12_init_0 : List UInt8 := dkwX12_init_0 ++ []
theorem dksX12_init_0 : cX12_init.data.toList.drop 0 = dktX12_init_0 := by decide +kernel
theorem dX12_init_0 : decode cX12_init 0 = .ok (.aload_n 0, 1) := dk_42 (dk_at dksX12_init_0 0 rfl rfl)
theorem dX12_init_1 : decode cX12_init 1 = .ok (.aconst_null, 1) := dk_1 (dk_at dksX12_init_0 1 rfl rfl)
theorem dX12_init_2 : decode cX12_init 2 = .ok (.aconst_null, 1) := dk_1 (dk_at dksX12_init_0 2 rfl rfl)
theorem dX12_init_3 : decode cX12_init 3 = .ok (.iconst 0, 1) := dk_3 (dk_at dksX12_init_0 3 rfl rfl)
theorem dX12_init_4 : decode cX12_init 4 = .ok (.iconst 0, 1) := dk_3 (dk_at dksX12_init_0 4 rfl rfl)
theorem dX12_init_5 : decode cX12_init 5 = .ok (.invokespecial 1, 3) := dk_183 0 1 (dk_at dksX12_init_0 5 rfl rfl)
theorem dX12_init_8 : decode cX12_init 8 = .ok (.return_, 1) := dk_177 (dk_at dksX12_init_0 8 rfl rfl)
theorem q121 : (Jvm.Cond.initialized "HungryHedge$Nothing") ∈ lw_all := lw_g (lw_at lw_m1 16 rfl) rfl
theorem q416 : (Jvm.Cond.selects "HungryHedge$Nothing" ({ cls := "java/lang/Throwable", name := "fillInStackTrace", desc := "()Ljava/lang/Throwable;" } : Jvm.MethodName) ({ cls := "java/lang/Throwable", name := "fillInStackTrace", desc := "()Ljava/lang/Throwable;" } : Jvm.MethodName)) ∈ lw_all := lw_g (lw_at lw_m2 71 rfl) rfl
theorem q551 : (Jvm.Cond.instantiable "HungryHedge$Nothing" (6 : Nat)) ∈ lw_all := lw_g (lw_at lw_m2 206 rfl) rfl
theorem q552 : (Jvm.Cond.castable "HungryHedge$Nothing" "HungryHedge$Nothing") ∈ lw_tbl := lw_at lw_m2 207 rfl
theorem q553 : (Jvm.Cond.selects "HungryHedge$Nothing" ({ cls := "java/lang/Throwable", name := "fillInStackTrace", desc := "(I)Ljava/lang/Throwable;" } : Jvm.MethodName) ({ cls := "java/lang/Throwable", name := "fillInStackTrace", desc := "(I)Ljava/lang/Throwable;" } : Jvm.MethodName)) ∈ lw_all := lw_g (lw_at lw_m2 208 rfl) rfl
theorem q554 : (Jvm.Cond.lays "HungryHedge$Nothing" "java/lang/Throwable" "cause" "Ljava/lang/Throwable;") ∈ lw_all := lw_g (lw_at lw_m2 209 rfl) rfl
theorem q555 : (Jvm.Cond.lays "HungryHedge$Nothing" "java/lang/Throwable" "stackTrace" "[Ljava/lang/StackTraceElement;") ∈ lw_all := lw_g (lw_at lw_m2 210 rfl) rfl
theorem q556 : (Jvm.Cond.lays "HungryHedge$Nothing" "java/lang/Throwable" "suppressedExceptions" "Ljava/util/List;") ∈ lw_all := lw_g (lw_at lw_m2 211 rfl) rfl
theorem q557 : (Jvm.Cond.lays "HungryHedge$Nothing" "java/lang/Throwable" "detailMessage" "Ljava/lang/String;") ∈ lw_all := lw_g (lw_at lw_m2 212 rfl) rfl
theorem q558 : (Jvm.Cond.lays "HungryHedge$Nothing" "java/lang/Throwable" "backtrace" "Ljava/lang/Object;") ∈ lw_all := lw_g (lw_at lw_m2 213 rfl) rfl
theorem q560 : (Jvm.Cond.instanceMethod ({ cls := "HungryHedge$Nothing", name := "<init>", desc := "()V" } : Jvm.MethodName)) ∈ lw_all := lw_g (lw_at lw_m2 215 rfl) rfl
theorem q561 : (Jvm.Cond.code ({ cls := "HungryHedge$Nothing", name := "<init>", desc := "()V" } : Jvm.MethodName) prog_20_method_1_code (1 : Nat) (Option.none : Option Jvm.ClassFile.FieldType)) ∈ lw_all := lw_g (lw_at lw_m2 216 rfl) rfl
theorem q562 : (Jvm.Cond.methodLink "HungryHedge$Nothing" (1 : Nat) ({ cls := "java/lang/RuntimeException", name := "<init>", desc := "(Ljava/lang/String;Ljava/lang/Throwable;ZZ)V" } : Jvm.MethodName)) ∈ lw_all := lw_g (lw_at lw_m2 217 rfl) rfl
theorem q563 : (Jvm.Cond.lays "HungryHedge$Nothing" "java/lang/Throwable" "depth" "I") ∈ lw_all := lw_g (lw_at lw_m2 218 rfl) rfl
theorem q564 : (Jvm.Cond.superclass "HungryHedge$Nothing" "java/lang/RuntimeException") ∈ lw_all := lw_g (lw_at lw_m2 219 rfl) rfl
theorem in_X12 : ∀ w ∈ wsX120, w ∈ lw_all := lw_in wsX120 [554, 555, 556, 557, 558, 563] (by decide +kernel) (by decide +kernel)

/-! HungryHedge$Shelf -/
set_option maxRecDepth 100000
def RX13 : String := "HungryHedge$Shelf"
def TX13 : u_T := fun k => match k with
  | 0 => ("HungryHedge$Shelf", "what", "I", false)
  | 1 => ("HungryHedge$Shelf", "number", "I", false)
  | _ => ("HungryHedge$Shelf", "row", "Ljava/lang/Object;", false)
def tyX13 : Nat → FieldType := fun k => match k with
  | 0 => .int
  | 1 => .int
  | _ => .object "java/lang/Object"
abbrev wsX130 : List Cond := u_ws RX13 TX13 3
theorem nmX13 : ∀ a, a < 3 → ∀ b, b < 3 → a ≠ b → (TX13 a).2.1 ≠ (TX13 b).2.1 := by decide +kernel
theorem tyX13_ok : ∀ k, k < 3 → parseFieldDescriptor (TX13 k).2.2.1 = some (tyX13 k) := by decide +kernel
abbrev cX13_init : ByteArray := prog_28_method_1_code
def yX13_init : MethodName := ⟨RX13, "<init>", "()V"⟩
def dkwX13_init_0 : List UInt8 := [42, 183, 0, 1, 42, 7, 181, 0, 7, 177]
abbrev dktX13_init_0 : List UInt8 := dkwX13_init_0 ++ []
theorem dksX13_init_0 : cX13_init.data.toList.drop 0 = dktX13_init_0 := by decide +kernel
theorem dX13_init_0 : decode cX13_init 0 = .ok (.aload_n 0, 1) := dk_42 (dk_at dksX13_init_0 0 rfl rfl)
theorem dX13_init_1 : decode cX13_init 1 = .ok (.invokespecial 1, 3) := dk_183 0 1 (dk_at dksX13_init_0 1 rfl rfl)
theorem dX13_init_4 : decode cX13_init 4 = .ok (.aload_n 0, 1) := dk_42 (dk_at dksX13_init_0 4 rfl rfl)
theorem dX13_init_5 : decode cX13_init 5 = .ok (.iconst 4, 1) := dk_7 (dk_at dksX13_init_0 5 rfl rfl)
theorem dX13_init_6 : decode cX13_init 6 = .ok (.putfield 7, 3) := dk_181 0 7 (dk_at dksX13_init_0 6 rfl rfl)
theorem dX13_init_9 : decode cX13_init 9 = .ok (.return_, 1) := dk_177 (dk_at dksX13_init_0 9 rfl rfl)
theorem q122 : (Jvm.Cond.initialized "HungryHedge$Shelf") ∈ lw_all := lw_g (lw_at lw_m1 17 rfl) rfl
theorem q567 : (Jvm.Cond.instantiable "HungryHedge$Shelf" (3 : Nat)) ∈ lw_all := lw_g (lw_at lw_m2 222 rfl) rfl
theorem q569 : (Jvm.Cond.instanceMethod ({ cls := "HungryHedge$Shelf", name := "<init>", desc := "()V" } : Jvm.MethodName)) ∈ lw_all := lw_g (lw_at lw_m2 224 rfl) rfl
theorem q570 : (Jvm.Cond.code ({ cls := "HungryHedge$Shelf", name := "<init>", desc := "()V" } : Jvm.MethodName) prog_28_method_1_code (1 : Nat) (Option.none : Option Jvm.ClassFile.FieldType)) ∈ lw_all := lw_g (lw_at lw_m2 225 rfl) rfl
theorem q571 : (Jvm.Cond.methodLink "HungryHedge$Shelf" (1 : Nat) ({ cls := "java/lang/Object", name := "<init>", desc := "()V" } : Jvm.MethodName)) ∈ lw_all := lw_g (lw_at lw_m2 226 rfl) rfl
theorem q572 : (Jvm.Cond.fieldLink "HungryHedge$Shelf" (7 : Nat) "HungryHedge$Shelf" "what" "I") ∈ lw_all := lw_g (lw_at lw_m2 227 rfl) rfl
theorem q576 : (Jvm.Cond.lays "HungryHedge$Shelf" "HungryHedge$Shelf" "what" "I") ∈ lw_all := lw_g (lw_at lw_m2 231 rfl) rfl
theorem q577 : (Jvm.Cond.soleField "HungryHedge$Shelf" "what") ∈ lw_all := lw_g (lw_at lw_m2 232 rfl) rfl
theorem q578 : (Jvm.Cond.lays "HungryHedge$Shelf" "HungryHedge$Shelf" "number" "I") ∈ lw_all := lw_g (lw_at lw_m2 233 rfl) rfl
theorem q579 : (Jvm.Cond.soleField "HungryHedge$Shelf" "number") ∈ lw_all := lw_g (lw_at lw_m2 234 rfl) rfl
theorem q580 : (Jvm.Cond.lays "HungryHedge$Shelf" "HungryHedge$Shelf" "row" "Ljava/lang/Object;") ∈ lw_all := lw_g (lw_at lw_m2 235 rfl) rfl
theorem q581 : (Jvm.Cond.soleField "HungryHedge$Shelf" "row") ∈ lw_all := lw_g (lw_at lw_m2 236 rfl) rfl
theorem q582 : (Jvm.Cond.superclass "HungryHedge$Shelf" "java/lang/Object") ∈ lw_all := lw_g (lw_at lw_m2 237 rfl) rfl
theorem in_X13 : ∀ w ∈ wsX130, w ∈ lw_all := lw_in wsX130 [576, 578, 580] (by decide +kernel) (by decide +kernel)

/-! HungryHedge$Risk -/
set_option maxRecDepth 100000
def RX15 : String := "HungryHedge$Risk"
def TX15 : u_T := fun k => match k with
  | _ => ("HungryHedge$Risk", "brings", "[I", true)
def tyX15 : Nat → FieldType := fun k => match k with
  | _ => .array .int
abbrev wsX150 : List Cond := u_ws RX15 TX15 1
theorem nmX15 : ∀ a, a < 1 → ∀ b, b < 1 → a ≠ b → (TX15 a).2.1 ≠ (TX15 b).2.1 := by decide +kernel
theorem tyX15_ok : ∀ k, k < 1 → parseFieldDescriptor (TX15 k).2.2.1 = some (tyX15 k) := by decide +kernel
abbrev cX15_init : ByteArray := prog_23_method_1_code
def yX15_init : MethodName := ⟨RX15, "<init>", "()V"⟩
def dkwX15_init_0 : List UInt8 := [42, 183, 0, 3, 42, 16, 10, 188, 10, 181, 0, 9, 177]
abbrev dktX15_init_0 : List UInt8 := dkwX15_init_0 ++ []
theorem dksX15_init_0 : cX15_init.data.toList.drop 0 = dktX15_init_0 := by decide +kernel
theorem dX15_init_0 : decode cX15_init 0 = .ok (.aload_n 0, 1) := dk_42 (dk_at dksX15_init_0 0 rfl rfl)
theorem dX15_init_1 : decode cX15_init 1 = .ok (.invokespecial 3, 3) := dk_183 0 3 (dk_at dksX15_init_0 1 rfl rfl)
theorem dX15_init_4 : decode cX15_init 4 = .ok (.aload_n 0, 1) := dk_42 (dk_at dksX15_init_0 4 rfl rfl)
theorem dX15_init_5 : decode cX15_init 5 = .ok (.bipush 10, 2) := dk_16 10 (dk_at dksX15_init_0 5 rfl rfl)
theorem dX15_init_7 : decode cX15_init 7 = .ok (.newarray .int, 2) := dk_188_10 (dk_at dksX15_init_0 7 rfl rfl)
theorem dX15_init_9 : decode cX15_init 9 = .ok (.putfield 9, 3) := dk_181 0 9 (dk_at dksX15_init_0 9 rfl rfl)
theorem dX15_init_12 : decode cX15_init 12 = .ok (.return_, 1) := dk_177 (dk_at dksX15_init_0 12 rfl rfl)
abbrev cX15_greatest : ByteArray := prog_23_method_2_code
def yX15_greatest : MethodName := ⟨RX15, "greatest", "()I"⟩
def dkwX15_greatest_1 : List UInt8 := [54, 5, 27, 21, 5, 184, 0, 15, 60, 132, 4, 1, 167, 255, 234, 27, 172]
abbrev dktX15_greatest_1 : List UInt8 := dkwX15_greatest_1 ++ []
def dkwX15_greatest_0 : List UInt8 := [3, 60, 42, 180, 0, 9, 77, 44, 190, 62, 3, 54, 4, 21, 4, 29, 162, 0, 22, 44, 21, 4, 46]
abbrev dktX15_greatest_0 : List UInt8 := dkwX15_greatest_0 ++ dktX15_greatest_1
theorem dksX15_greatest_0 : cX15_greatest.data.toList.drop 0 = dktX15_greatest_0 := by decide +kernel
theorem dksX15_greatest_1 : cX15_greatest.data.toList.drop 23 = dktX15_greatest_1 := dk_seg dksX15_greatest_0 23 rfl rfl
theorem dX15_greatest_0 : decode cX15_greatest 0 = .ok (.iconst 0, 1) := dk_3 (dk_at dksX15_greatest_0 0 rfl rfl)
theorem dX15_greatest_1 : decode cX15_greatest 1 = .ok (.istore_n 1, 1) := dk_60 (dk_at dksX15_greatest_0 1 rfl rfl)
theorem dX15_greatest_2 : decode cX15_greatest 2 = .ok (.aload_n 0, 1) := dk_42 (dk_at dksX15_greatest_0 2 rfl rfl)
theorem dX15_greatest_3 : decode cX15_greatest 3 = .ok (.getfield 9, 3) := dk_180 0 9 (dk_at dksX15_greatest_0 3 rfl rfl)
theorem dX15_greatest_6 : decode cX15_greatest 6 = .ok (.astore_n 2, 1) := dk_77 (dk_at dksX15_greatest_0 6 rfl rfl)
theorem dX15_greatest_7 : decode cX15_greatest 7 = .ok (.aload_n 2, 1) := dk_44 (dk_at dksX15_greatest_0 7 rfl rfl)
theorem dX15_greatest_8 : decode cX15_greatest 8 = .ok (.arraylength, 1) := dk_190 (dk_at dksX15_greatest_0 8 rfl rfl)
theorem dX15_greatest_9 : decode cX15_greatest 9 = .ok (.istore_n 3, 1) := dk_62 (dk_at dksX15_greatest_0 9 rfl rfl)
theorem dX15_greatest_10 : decode cX15_greatest 10 = .ok (.iconst 0, 1) := dk_3 (dk_at dksX15_greatest_0 10 rfl rfl)
theorem dX15_greatest_11 : decode cX15_greatest 11 = .ok (.istore 4, 2) := dk_54 4 (dk_at dksX15_greatest_0 11 rfl rfl)
theorem dX15_greatest_13 : decode cX15_greatest 13 = .ok (.iload 4, 2) := dk_21 4 (dk_at dksX15_greatest_0 13 rfl rfl)
theorem dX15_greatest_15 : decode cX15_greatest 15 = .ok (.iload_n 3, 1) := dk_29 (dk_at dksX15_greatest_0 15 rfl rfl)
theorem dX15_greatest_16 : decode cX15_greatest 16 = .ok (.if_icmp .ge 22, 3) := dk_162 0 22 (dk_at dksX15_greatest_0 16 rfl rfl)
theorem dX15_greatest_19 : decode cX15_greatest 19 = .ok (.aload_n 2, 1) := dk_44 (dk_at dksX15_greatest_0 19 rfl rfl)
theorem dX15_greatest_20 : decode cX15_greatest 20 = .ok (.iload 4, 2) := dk_21 4 (dk_at dksX15_greatest_0 20 rfl rfl)
theorem dX15_greatest_22 : decode cX15_greatest 22 = .ok (.iaload, 1) := dk_46 (dk_at dksX15_greatest_0 22 rfl rfl)
theorem dX15_greatest_23 : decode cX15_greatest 23 = .ok (.istore 5, 2) := dk_54 5 (dk_at dksX15_greatest_1 0 rfl rfl)
theorem dX15_greatest_25 : decode cX15_greatest 25 = .ok (.iload_n 1, 1) := dk_27 (dk_at dksX15_greatest_1 2 rfl rfl)
theorem dX15_greatest_26 : decode cX15_greatest 26 = .ok (.iload 5, 2) := dk_21 5 (dk_at dksX15_greatest_1 3 rfl rfl)
theorem dX15_greatest_28 : decode cX15_greatest 28 = .ok (.invokestatic 15, 3) := dk_184 0 15 (dk_at dksX15_greatest_1 5 rfl rfl)
theorem dX15_greatest_31 : decode cX15_greatest 31 = .ok (.istore_n 1, 1) := dk_60 (dk_at dksX15_greatest_1 8 rfl rfl)
theorem dX15_greatest_32 : decode cX15_greatest 32 = .ok (.iinc 4 1, 3) := dk_132 4 1 (dk_at dksX15_greatest_1 9 rfl rfl)
theorem dX15_greatest_35 : decode cX15_greatest 35 = .ok (.goto (-22), 3) := dk_167 255 234 (dk_at dksX15_greatest_1 12 rfl rfl)
theorem dX15_greatest_38 : decode cX15_greatest 38 = .ok (.iload_n 1, 1) := dk_27 (dk_at dksX15_greatest_1 15 rfl rfl)
theorem dX15_greatest_39 : decode cX15_greatest 39 = .ok (.ireturn, 1) := dk_172 (dk_at dksX15_greatest_1 16 rfl rfl)
theorem q129 : (Jvm.Cond.initialized "HungryHedge$Risk") ∈ lw_all := lw_g (lw_at lw_m1 24 rfl) rfl
theorem q890 : (Jvm.Cond.instantiable "HungryHedge$Risk" (1 : Nat)) ∈ lw_all := lw_g (lw_at lw_m4 65 rfl) rfl
theorem q892 : (Jvm.Cond.instanceMethod ({ cls := "HungryHedge$Risk", name := "<init>", desc := "()V" } : Jvm.MethodName)) ∈ lw_all := lw_g (lw_at lw_m4 67 rfl) rfl
theorem q893 : (Jvm.Cond.code ({ cls := "HungryHedge$Risk", name := "<init>", desc := "()V" } : Jvm.MethodName) prog_23_method_1_code (1 : Nat) (Option.none : Option Jvm.ClassFile.FieldType)) ∈ lw_all := lw_g (lw_at lw_m4 68 rfl) rfl
theorem q894 : (Jvm.Cond.methodLink "HungryHedge$Risk" (3 : Nat) ({ cls := "java/lang/Object", name := "<init>", desc := "()V" } : Jvm.MethodName)) ∈ lw_all := lw_g (lw_at lw_m4 69 rfl) rfl
theorem q895 : (Jvm.Cond.fieldLink "HungryHedge$Risk" (9 : Nat) "HungryHedge$Risk" "brings" "[I") ∈ lw_all := lw_g (lw_at lw_m4 70 rfl) rfl
theorem q898 : (Jvm.Cond.laysFinal "HungryHedge$Risk" "HungryHedge$Risk" "brings" "[I") ∈ lw_all := lw_g (lw_at lw_m4 73 rfl) rfl
theorem q899 : (Jvm.Cond.soleField "HungryHedge$Risk" "brings") ∈ lw_all := lw_g (lw_at lw_m4 74 rfl) rfl
theorem q900 : (Jvm.Cond.superclass "HungryHedge$Risk" "java/lang/Object") ∈ lw_all := lw_g (lw_at lw_m4 75 rfl) rfl
theorem q1405 : (Jvm.Cond.instanceMethod ({ cls := "HungryHedge$Risk", name := "greatest", desc := "()I" } : Jvm.MethodName)) ∈ lw_all := lw_g (lw_at lw_m6 100 rfl) rfl
theorem q1406 : (Jvm.Cond.selects "HungryHedge$Risk" ({ cls := "HungryHedge$Risk", name := "greatest", desc := "()I" } : Jvm.MethodName) ({ cls := "HungryHedge$Risk", name := "greatest", desc := "()I" } : Jvm.MethodName)) ∈ lw_all := lw_g (lw_at lw_m6 101 rfl) rfl
theorem q1407 : (Jvm.Cond.code ({ cls := "HungryHedge$Risk", name := "greatest", desc := "()I" } : Jvm.MethodName) prog_23_method_2_code (6 : Nat) (Option.some Jvm.ClassFile.FieldType.int)) ∈ lw_all := lw_g (lw_at lw_m6 102 rfl) rfl
theorem q1408 : (Jvm.Cond.methodLink "HungryHedge$Risk" (15 : Nat) ({ cls := "java/lang/Math", name := "max", desc := "(II)I" } : Jvm.MethodName)) ∈ lw_all := lw_g (lw_at lw_m6 103 rfl) rfl
theorem in_X15 : ∀ w ∈ wsX150, w ∈ lw_all := lw_in wsX150 [898] (by decide +kernel) (by decide +kernel)

/-! HungryHedge$Clause -/
set_option maxRecDepth 100000
def RX16 : String := "HungryHedge$Clause"
def TX16 : u_T := fun k => match k with
  | 0 => ("HungryHedge$Clause", "act", "I", true)
  | _ => ("HungryHedge$Clause", "cond", "LHungryHedge$Cond;", true)
def tyX16 : Nat → FieldType := fun k => match k with
  | 0 => .int
  | _ => .object "HungryHedge$Cond"
abbrev wsX160 : List Cond := u_ws RX16 TX16 2
theorem nmX16 : ∀ a, a < 2 → ∀ b, b < 2 → a ≠ b → (TX16 a).2.1 ≠ (TX16 b).2.1 := by decide +kernel
theorem tyX16_ok : ∀ k, k < 2 → parseFieldDescriptor (TX16 k).2.2.1 = some (tyX16 k) := by decide +kernel
abbrev cX16_init : ByteArray := prog_6_method_1_code
def yX16_init : MethodName := ⟨RX16, "<init>", "(ILHungryHedge$Cond;)V"⟩
def dkwX16_init_0 : List UInt8 := [42, 183, 0, 1, 42, 27, 181, 0, 7, 42, 44, 181, 0, 13, 177]
abbrev dktX16_init_0 : List UInt8 := dkwX16_init_0 ++ []
theorem dksX16_init_0 : cX16_init.data.toList.drop 0 = dktX16_init_0 := by decide +kernel
theorem dX16_init_0 : decode cX16_init 0 = .ok (.aload_n 0, 1) := dk_42 (dk_at dksX16_init_0 0 rfl rfl)
theorem dX16_init_1 : decode cX16_init 1 = .ok (.invokespecial 1, 3) := dk_183 0 1 (dk_at dksX16_init_0 1 rfl rfl)
theorem dX16_init_4 : decode cX16_init 4 = .ok (.aload_n 0, 1) := dk_42 (dk_at dksX16_init_0 4 rfl rfl)
theorem dX16_init_5 : decode cX16_init 5 = .ok (.iload_n 1, 1) := dk_27 (dk_at dksX16_init_0 5 rfl rfl)
theorem dX16_init_6 : decode cX16_init 6 = .ok (.putfield 7, 3) := dk_181 0 7 (dk_at dksX16_init_0 6 rfl rfl)
theorem dX16_init_9 : decode cX16_init 9 = .ok (.aload_n 0, 1) := dk_42 (dk_at dksX16_init_0 9 rfl rfl)
theorem dX16_init_10 : decode cX16_init 10 = .ok (.aload_n 2, 1) := dk_44 (dk_at dksX16_init_0 10 rfl rfl)
theorem dX16_init_11 : decode cX16_init 11 = .ok (.putfield 13, 3) := dk_181 0 13 (dk_at dksX16_init_0 11 rfl rfl)
theorem dX16_init_14 : decode cX16_init 14 = .ok (.return_, 1) := dk_177 (dk_at dksX16_init_0 14 rfl rfl)
theorem q133 : (Jvm.Cond.initialized "HungryHedge$Clause") ∈ lw_all := lw_g (lw_at lw_m1 28 rfl) rfl
theorem q1048 : (Jvm.Cond.instantiable "HungryHedge$Clause" (2 : Nat)) ∈ lw_all := lw_g (lw_at lw_m4 223 rfl) rfl
theorem q1132 : (Jvm.Cond.instanceMethod ({ cls := "HungryHedge$Clause", name := "<init>", desc := "(ILHungryHedge$Cond;)V" } : Jvm.MethodName)) ∈ lw_all := lw_g (lw_at lw_m5 67 rfl) rfl
theorem q1133 : (Jvm.Cond.code ({ cls := "HungryHedge$Clause", name := "<init>", desc := "(ILHungryHedge$Cond;)V" } : Jvm.MethodName) prog_6_method_1_code (3 : Nat) (Option.none : Option Jvm.ClassFile.FieldType)) ∈ lw_all := lw_g (lw_at lw_m5 68 rfl) rfl
theorem q1134 : (Jvm.Cond.methodLink "HungryHedge$Clause" (1 : Nat) ({ cls := "java/lang/Object", name := "<init>", desc := "()V" } : Jvm.MethodName)) ∈ lw_all := lw_g (lw_at lw_m5 69 rfl) rfl
theorem q1135 : (Jvm.Cond.fieldLink "HungryHedge$Clause" (7 : Nat) "HungryHedge$Clause" "act" "I") ∈ lw_all := lw_g (lw_at lw_m5 70 rfl) rfl
theorem q1137 : (Jvm.Cond.fieldLink "HungryHedge$Clause" (13 : Nat) "HungryHedge$Clause" "cond" "LHungryHedge$Cond;") ∈ lw_all := lw_g (lw_at lw_m5 72 rfl) rfl
theorem q1139 : (Jvm.Cond.laysFinal "HungryHedge$Clause" "HungryHedge$Clause" "act" "I") ∈ lw_all := lw_g (lw_at lw_m5 74 rfl) rfl
theorem q1140 : (Jvm.Cond.soleField "HungryHedge$Clause" "act") ∈ lw_all := lw_g (lw_at lw_m5 75 rfl) rfl
theorem q1141 : (Jvm.Cond.laysFinal "HungryHedge$Clause" "HungryHedge$Clause" "cond" "LHungryHedge$Cond;") ∈ lw_all := lw_g (lw_at lw_m5 76 rfl) rfl
theorem q1142 : (Jvm.Cond.soleField "HungryHedge$Clause" "cond") ∈ lw_all := lw_g (lw_at lw_m5 77 rfl) rfl
theorem q1143 : (Jvm.Cond.superclass "HungryHedge$Clause" "java/lang/Object") ∈ lw_all := lw_g (lw_at lw_m5 78 rfl) rfl
theorem in_X16 : ∀ w ∈ wsX160, w ∈ lw_all := lw_in wsX160 [1139, 1141] (by decide +kernel) (by decide +kernel)

/-! HungryHedge$Compared -/
set_option maxRecDepth 100000
def RX17 : String := "HungryHedge$Compared"
def TX17 : u_T := fun k => match k with
  | 0 => ("HungryHedge$Compared", "first", "I", true)
  | 1 => ("HungryHedge$Compared", "firstN", "I", true)
  | 2 => ("HungryHedge$Compared", "sign", "I", true)
  | 3 => ("HungryHedge$Compared", "second", "I", true)
  | _ => ("HungryHedge$Compared", "secondN", "I", true)
def tyX17 : Nat → FieldType := fun k => match k with
  | 0 => .int
  | 1 => .int
  | 2 => .int
  | 3 => .int
  | _ => .int
abbrev wsX170 : List Cond := u_ws RX17 TX17 5
theorem nmX17 : ∀ a, a < 5 → ∀ b, b < 5 → a ≠ b → (TX17 a).2.1 ≠ (TX17 b).2.1 := by decide +kernel
theorem tyX17_ok : ∀ k, k < 5 → parseFieldDescriptor (TX17 k).2.2.1 = some (tyX17 k) := by decide +kernel
abbrev cX17_init : ByteArray := prog_7_method_1_code
def yX17_init : MethodName := ⟨RX17, "<init>", "(IIIII)V"⟩
def dkwX17_init_1 : List UInt8 := [181, 0, 19, 42, 21, 5, 181, 0, 22, 177]
abbrev dktX17_init_1 : List UInt8 := dkwX17_init_1 ++ []
def dkwX17_init_0 : List UInt8 := [42, 183, 0, 1, 42, 27, 181, 0, 7, 42, 28, 181, 0, 13, 42, 29, 181, 0, 16, 42, 21, 4]
abbrev dktX17_init_0 : List UInt8 := dkwX17_init_0 ++ dktX17_init_1
theorem dksX17_init_0 : cX17_init.data.toList.drop 0 = dktX17_init_0 := by decide +kernel
theorem dksX17_init_1 : cX17_init.data.toList.drop 22 = dktX17_init_1 := dk_seg dksX17_init_0 22 rfl rfl
theorem dX17_init_0 : decode cX17_init 0 = .ok (.aload_n 0, 1) := dk_42 (dk_at dksX17_init_0 0 rfl rfl)
theorem dX17_init_1 : decode cX17_init 1 = .ok (.invokespecial 1, 3) := dk_183 0 1 (dk_at dksX17_init_0 1 rfl rfl)
theorem dX17_init_4 : decode cX17_init 4 = .ok (.aload_n 0, 1) := dk_42 (dk_at dksX17_init_0 4 rfl rfl)
theorem dX17_init_5 : decode cX17_init 5 = .ok (.iload_n 1, 1) := dk_27 (dk_at dksX17_init_0 5 rfl rfl)
theorem dX17_init_6 : decode cX17_init 6 = .ok (.putfield 7, 3) := dk_181 0 7 (dk_at dksX17_init_0 6 rfl rfl)
theorem dX17_init_9 : decode cX17_init 9 = .ok (.aload_n 0, 1) := dk_42 (dk_at dksX17_init_0 9 rfl rfl)
theorem dX17_init_10 : decode cX17_init 10 = .ok (.iload_n 2, 1) := dk_28 (dk_at dksX17_init_0 10 rfl rfl)
theorem dX17_init_11 : decode cX17_init 11 = .ok (.putfield 13, 3) := dk_181 0 13 (dk_at dksX17_init_0 11 rfl rfl)
theorem dX17_init_14 : decode cX17_init 14 = .ok (.aload_n 0, 1) := dk_42 (dk_at dksX17_init_0 14 rfl rfl)
theorem dX17_init_15 : decode cX17_init 15 = .ok (.iload_n 3, 1) := dk_29 (dk_at dksX17_init_0 15 rfl rfl)
theorem dX17_init_16 : decode cX17_init 16 = .ok (.putfield 16, 3) := dk_181 0 16 (dk_at dksX17_init_0 16 rfl rfl)
theorem dX17_init_19 : decode cX17_init 19 = .ok (.aload_n 0, 1) := dk_42 (dk_at dksX17_init_0 19 rfl rfl)
theorem dX17_init_20 : decode cX17_init 20 = .ok (.iload 4, 2) := dk_21 4 (dk_at dksX17_init_0 20 rfl rfl)
theorem dX17_init_22 : decode cX17_init 22 = .ok (.putfield 19, 3) := dk_181 0 19 (dk_at dksX17_init_1 0 rfl rfl)
theorem dX17_init_25 : decode cX17_init 25 = .ok (.aload_n 0, 1) := dk_42 (dk_at dksX17_init_1 3 rfl rfl)
theorem dX17_init_26 : decode cX17_init 26 = .ok (.iload 5, 2) := dk_21 5 (dk_at dksX17_init_1 4 rfl rfl)
theorem dX17_init_28 : decode cX17_init 28 = .ok (.putfield 22, 3) := dk_181 0 22 (dk_at dksX17_init_1 6 rfl rfl)
theorem dX17_init_31 : decode cX17_init 31 = .ok (.return_, 1) := dk_177 (dk_at dksX17_init_1 9 rfl rfl)
abbrev cX17_holds : ByteArray := prog_7_method_2_code
def yX17_holds : MethodName := ⟨RX17, "holds", "(LHungryHedge;LHungryHedge$Trip;)Z"⟩
def dkwX17_holds_3 : List UInt8 := [167, 0, 14, 29, 21, 4, 160, 0, 7, 4, 167, 0, 4, 3, 172]
abbrev dktX17_holds_3 : List UInt8 := dkwX17_holds_3 ++ []
def dkwX17_holds_2 : List UInt8 := [3, 167, 0, 37, 42, 180, 0, 16, 16, 62, 160, 0, 17, 29, 21, 4, 164, 0, 7, 4, 167, 0, 18, 3]
abbrev dktX17_holds_2 : List UInt8 := dkwX17_holds_2 ++ dktX17_holds_3
def dkwX17_holds_1 : List UInt8 := [182, 0, 25, 54, 4, 42, 180, 0, 16, 16, 60, 160, 0, 17, 29, 21, 4, 162, 0, 7, 4, 167, 0, 41]
abbrev dktX17_holds_1 : List UInt8 := dkwX17_holds_1 ++ dktX17_holds_2
def dkwX17_holds_0 : List UInt8 := [43, 44, 42, 180, 0, 7, 42, 180, 0, 13, 182, 0, 25, 62, 43, 44, 42, 180, 0, 19, 42, 180, 0, 22]
abbrev dktX17_holds_0 : List UInt8 := dkwX17_holds_0 ++ dktX17_holds_1
theorem dksX17_holds_0 : cX17_holds.data.toList.drop 0 = dktX17_holds_0 := by decide +kernel
theorem dksX17_holds_1 : cX17_holds.data.toList.drop 24 = dktX17_holds_1 := dk_seg dksX17_holds_0 24 rfl rfl
theorem dksX17_holds_2 : cX17_holds.data.toList.drop 48 = dktX17_holds_2 := dk_seg dksX17_holds_1 24 rfl rfl
theorem dksX17_holds_3 : cX17_holds.data.toList.drop 72 = dktX17_holds_3 := dk_seg dksX17_holds_2 24 rfl rfl
theorem dX17_holds_0 : decode cX17_holds 0 = .ok (.aload_n 1, 1) := dk_43 (dk_at dksX17_holds_0 0 rfl rfl)
theorem dX17_holds_1 : decode cX17_holds 1 = .ok (.aload_n 2, 1) := dk_44 (dk_at dksX17_holds_0 1 rfl rfl)
theorem dX17_holds_2 : decode cX17_holds 2 = .ok (.aload_n 0, 1) := dk_42 (dk_at dksX17_holds_0 2 rfl rfl)
theorem dX17_holds_3 : decode cX17_holds 3 = .ok (.getfield 7, 3) := dk_180 0 7 (dk_at dksX17_holds_0 3 rfl rfl)
theorem dX17_holds_6 : decode cX17_holds 6 = .ok (.aload_n 0, 1) := dk_42 (dk_at dksX17_holds_0 6 rfl rfl)
theorem dX17_holds_7 : decode cX17_holds 7 = .ok (.getfield 13, 3) := dk_180 0 13 (dk_at dksX17_holds_0 7 rfl rfl)
theorem dX17_holds_10 : decode cX17_holds 10 = .ok (.invokevirtual 25, 3) := dk_182 0 25 (dk_at dksX17_holds_0 10 rfl rfl)
theorem dX17_holds_13 : decode cX17_holds 13 = .ok (.istore_n 3, 1) := dk_62 (dk_at dksX17_holds_0 13 rfl rfl)
theorem dX17_holds_14 : decode cX17_holds 14 = .ok (.aload_n 1, 1) := dk_43 (dk_at dksX17_holds_0 14 rfl rfl)
theorem dX17_holds_15 : decode cX17_holds 15 = .ok (.aload_n 2, 1) := dk_44 (dk_at dksX17_holds_0 15 rfl rfl)
theorem dX17_holds_16 : decode cX17_holds 16 = .ok (.aload_n 0, 1) := dk_42 (dk_at dksX17_holds_0 16 rfl rfl)
theorem dX17_holds_17 : decode cX17_holds 17 = .ok (.getfield 19, 3) := dk_180 0 19 (dk_at dksX17_holds_0 17 rfl rfl)
theorem dX17_holds_20 : decode cX17_holds 20 = .ok (.aload_n 0, 1) := dk_42 (dk_at dksX17_holds_0 20 rfl rfl)
theorem dX17_holds_21 : decode cX17_holds 21 = .ok (.getfield 22, 3) := dk_180 0 22 (dk_at dksX17_holds_0 21 rfl rfl)
theorem dX17_holds_24 : decode cX17_holds 24 = .ok (.invokevirtual 25, 3) := dk_182 0 25 (dk_at dksX17_holds_1 0 rfl rfl)
theorem dX17_holds_27 : decode cX17_holds 27 = .ok (.istore 4, 2) := dk_54 4 (dk_at dksX17_holds_1 3 rfl rfl)
theorem dX17_holds_29 : decode cX17_holds 29 = .ok (.aload_n 0, 1) := dk_42 (dk_at dksX17_holds_1 5 rfl rfl)
theorem dX17_holds_30 : decode cX17_holds 30 = .ok (.getfield 16, 3) := dk_180 0 16 (dk_at dksX17_holds_1 6 rfl rfl)
theorem dX17_holds_33 : decode cX17_holds 33 = .ok (.bipush 60, 2) := dk_16 60 (dk_at dksX17_holds_1 9 rfl rfl)
theorem dX17_holds_35 : decode cX17_holds 35 = .ok (.if_icmp .ne 17, 3) := dk_160 0 17 (dk_at dksX17_holds_1 11 rfl rfl)
theorem dX17_holds_38 : decode cX17_holds 38 = .ok (.iload_n 3, 1) := dk_29 (dk_at dksX17_holds_1 14 rfl rfl)
theorem dX17_holds_39 : decode cX17_holds 39 = .ok (.iload 4, 2) := dk_21 4 (dk_at dksX17_holds_1 15 rfl rfl)
theorem dX17_holds_41 : decode cX17_holds 41 = .ok (.if_icmp .ge 7, 3) := dk_162 0 7 (dk_at dksX17_holds_1 17 rfl rfl)
theorem dX17_holds_44 : decode cX17_holds 44 = .ok (.iconst 1, 1) := dk_4 (dk_at dksX17_holds_1 20 rfl rfl)
theorem dX17_holds_45 : decode cX17_holds 45 = .ok (.goto 41, 3) := dk_167 0 41 (dk_at dksX17_holds_1 21 rfl rfl)
theorem dX17_holds_48 : decode cX17_holds 48 = .ok (.iconst 0, 1) := dk_3 (dk_at dksX17_holds_2 0 rfl rfl)
theorem dX17_holds_49 : decode cX17_holds 49 = .ok (.goto 37, 3) := dk_167 0 37 (dk_at dksX17_holds_2 1 rfl rfl)
theorem dX17_holds_52 : decode cX17_holds 52 = .ok (.aload_n 0, 1) := dk_42 (dk_at dksX17_holds_2 4 rfl rfl)
theorem dX17_holds_53 : decode cX17_holds 53 = .ok (.getfield 16, 3) := dk_180 0 16 (dk_at dksX17_holds_2 5 rfl rfl)
theorem dX17_holds_56 : decode cX17_holds 56 = .ok (.bipush 62, 2) := dk_16 62 (dk_at dksX17_holds_2 8 rfl rfl)
theorem dX17_holds_58 : decode cX17_holds 58 = .ok (.if_icmp .ne 17, 3) := dk_160 0 17 (dk_at dksX17_holds_2 10 rfl rfl)
theorem dX17_holds_61 : decode cX17_holds 61 = .ok (.iload_n 3, 1) := dk_29 (dk_at dksX17_holds_2 13 rfl rfl)
theorem dX17_holds_62 : decode cX17_holds 62 = .ok (.iload 4, 2) := dk_21 4 (dk_at dksX17_holds_2 14 rfl rfl)
theorem dX17_holds_64 : decode cX17_holds 64 = .ok (.if_icmp .le 7, 3) := dk_164 0 7 (dk_at dksX17_holds_2 16 rfl rfl)
theorem dX17_holds_67 : decode cX17_holds 67 = .ok (.iconst 1, 1) := dk_4 (dk_at dksX17_holds_2 19 rfl rfl)
theorem dX17_holds_68 : decode cX17_holds 68 = .ok (.goto 18, 3) := dk_167 0 18 (dk_at dksX17_holds_2 20 rfl rfl)
theorem dX17_holds_71 : decode cX17_holds 71 = .ok (.iconst 0, 1) := dk_3 (dk_at dksX17_holds_2 23 rfl rfl)
theorem dX17_holds_72 : decode cX17_holds 72 = .ok (.goto 14, 3) := dk_167 0 14 (dk_at dksX17_holds_3 0 rfl rfl)
theorem dX17_holds_75 : decode cX17_holds 75 = .ok (.iload_n 3, 1) := dk_29 (dk_at dksX17_holds_3 3 rfl rfl)
theorem dX17_holds_76 : decode cX17_holds 76 = .ok (.iload 4, 2) := dk_21 4 (dk_at dksX17_holds_3 4 rfl rfl)
theorem dX17_holds_78 : decode cX17_holds 78 = .ok (.if_icmp .ne 7, 3) := dk_160 0 7 (dk_at dksX17_holds_3 6 rfl rfl)
theorem dX17_holds_81 : decode cX17_holds 81 = .ok (.iconst 1, 1) := dk_4 (dk_at dksX17_holds_3 9 rfl rfl)
theorem dX17_holds_82 : decode cX17_holds 82 = .ok (.goto 4, 3) := dk_167 0 4 (dk_at dksX17_holds_3 10 rfl rfl)
theorem dX17_holds_85 : decode cX17_holds 85 = .ok (.iconst 0, 1) := dk_3 (dk_at dksX17_holds_3 13 rfl rfl)
theorem dX17_holds_86 : decode cX17_holds 86 = .ok (.ireturn, 1) := dk_172 (dk_at dksX17_holds_3 14 rfl rfl)
theorem q134 : (Jvm.Cond.initialized "HungryHedge$Compared") ∈ lw_all := lw_g (lw_at lw_m1 29 rfl) rfl
theorem q1072 : (Jvm.Cond.instantiable "HungryHedge$Compared" (5 : Nat)) ∈ lw_all := lw_g (lw_at lw_m5 7 rfl) rfl
theorem q1074 : (Jvm.Cond.instanceMethod ({ cls := "HungryHedge$Compared", name := "<init>", desc := "(IIIII)V" } : Jvm.MethodName)) ∈ lw_all := lw_g (lw_at lw_m5 9 rfl) rfl
theorem q1075 : (Jvm.Cond.code ({ cls := "HungryHedge$Compared", name := "<init>", desc := "(IIIII)V" } : Jvm.MethodName) prog_7_method_1_code (6 : Nat) (Option.none : Option Jvm.ClassFile.FieldType)) ∈ lw_all := lw_g (lw_at lw_m5 10 rfl) rfl
theorem q1076 : (Jvm.Cond.methodLink "HungryHedge$Compared" (1 : Nat) ({ cls := "java/lang/Object", name := "<init>", desc := "()V" } : Jvm.MethodName)) ∈ lw_all := lw_g (lw_at lw_m5 11 rfl) rfl
theorem q1077 : (Jvm.Cond.fieldLink "HungryHedge$Compared" (7 : Nat) "HungryHedge$Compared" "first" "I") ∈ lw_all := lw_g (lw_at lw_m5 12 rfl) rfl
theorem q1078 : (Jvm.Cond.fieldLink "HungryHedge$Compared" (13 : Nat) "HungryHedge$Compared" "firstN" "I") ∈ lw_all := lw_g (lw_at lw_m5 13 rfl) rfl
theorem q1079 : (Jvm.Cond.fieldLink "HungryHedge$Compared" (16 : Nat) "HungryHedge$Compared" "sign" "I") ∈ lw_all := lw_g (lw_at lw_m5 14 rfl) rfl
theorem q1080 : (Jvm.Cond.fieldLink "HungryHedge$Compared" (19 : Nat) "HungryHedge$Compared" "second" "I") ∈ lw_all := lw_g (lw_at lw_m5 15 rfl) rfl
theorem q1081 : (Jvm.Cond.fieldLink "HungryHedge$Compared" (22 : Nat) "HungryHedge$Compared" "secondN" "I") ∈ lw_all := lw_g (lw_at lw_m5 16 rfl) rfl
theorem q1082 : (Jvm.Cond.laysFinal "HungryHedge$Compared" "HungryHedge$Compared" "first" "I") ∈ lw_all := lw_g (lw_at lw_m5 17 rfl) rfl
theorem q1083 : (Jvm.Cond.soleField "HungryHedge$Compared" "first") ∈ lw_all := lw_g (lw_at lw_m5 18 rfl) rfl
theorem q1084 : (Jvm.Cond.laysFinal "HungryHedge$Compared" "HungryHedge$Compared" "firstN" "I") ∈ lw_all := lw_g (lw_at lw_m5 19 rfl) rfl
theorem q1085 : (Jvm.Cond.soleField "HungryHedge$Compared" "firstN") ∈ lw_all := lw_g (lw_at lw_m5 20 rfl) rfl
theorem q1086 : (Jvm.Cond.laysFinal "HungryHedge$Compared" "HungryHedge$Compared" "sign" "I") ∈ lw_all := lw_g (lw_at lw_m5 21 rfl) rfl
theorem q1087 : (Jvm.Cond.soleField "HungryHedge$Compared" "sign") ∈ lw_all := lw_g (lw_at lw_m5 22 rfl) rfl
theorem q1088 : (Jvm.Cond.laysFinal "HungryHedge$Compared" "HungryHedge$Compared" "second" "I") ∈ lw_all := lw_g (lw_at lw_m5 23 rfl) rfl
theorem q1089 : (Jvm.Cond.soleField "HungryHedge$Compared" "second") ∈ lw_all := lw_g (lw_at lw_m5 24 rfl) rfl
theorem q1090 : (Jvm.Cond.laysFinal "HungryHedge$Compared" "HungryHedge$Compared" "secondN" "I") ∈ lw_all := lw_g (lw_at lw_m5 25 rfl) rfl
theorem q1091 : (Jvm.Cond.soleField "HungryHedge$Compared" "secondN") ∈ lw_all := lw_g (lw_at lw_m5 26 rfl) rfl
theorem q1092 : (Jvm.Cond.superclass "HungryHedge$Compared" "java/lang/Object") ∈ lw_all := lw_g (lw_at lw_m5 27 rfl) rfl
theorem q1169 : (Jvm.Cond.castable "HungryHedge$Compared" "HungryHedge$Cond") ∈ lw_tbl := lw_at lw_m5 104 rfl
theorem q1170 : (Jvm.Cond.selects "HungryHedge$Compared" ({ cls := "HungryHedge$Cond", name := "holds", desc := "(LHungryHedge;LHungryHedge$Trip;)Z" } : Jvm.MethodName) ({ cls := "HungryHedge$Compared", name := "holds", desc := "(LHungryHedge;LHungryHedge$Trip;)Z" } : Jvm.MethodName)) ∈ lw_all := lw_g (lw_at lw_m5 105 rfl) rfl
theorem q1171 : (Jvm.Cond.unhidden "HungryHedge$Compared" "holds" "(LHungryHedge;LHungryHedge$Trip;)Z") ∈ lw_tbl := lw_at lw_m5 106 rfl
theorem q1172 : (Jvm.Cond.instanceMethod ({ cls := "HungryHedge$Compared", name := "holds", desc := "(LHungryHedge;LHungryHedge$Trip;)Z" } : Jvm.MethodName)) ∈ lw_all := lw_g (lw_at lw_m5 107 rfl) rfl
theorem q1173 : (Jvm.Cond.publicMethod ({ cls := "HungryHedge$Compared", name := "holds", desc := "(LHungryHedge;LHungryHedge$Trip;)Z" } : Jvm.MethodName)) ∈ lw_tbl := lw_at lw_m5 108 rfl
theorem q1174 : (Jvm.Cond.code ({ cls := "HungryHedge$Compared", name := "holds", desc := "(LHungryHedge;LHungryHedge$Trip;)Z" } : Jvm.MethodName) prog_7_method_2_code (5 : Nat) (Option.some Jvm.ClassFile.FieldType.boolean)) ∈ lw_all := lw_g (lw_at lw_m5 109 rfl) rfl
theorem q1175 : (Jvm.Cond.methodLinkNest "HungryHedge$Compared" (25 : Nat) ({ cls := "HungryHedge", name := "value", desc := "(LHungryHedge$Trip;II)I" } : Jvm.MethodName) "HungryHedge") ∈ lw_tbl := lw_at lw_m5 110 rfl
theorem in_X17 : ∀ w ∈ wsX170, w ∈ lw_all := lw_in wsX170 [1082, 1084, 1086, 1088, 1090] (by decide +kernel) (by decide +kernel)

/-! HungryHedge$Not -/
set_option maxRecDepth 100000
def RX18 : String := "HungryHedge$Not"
def TX18 : u_T := fun k => match k with
  | _ => ("HungryHedge$Not", "of", "LHungryHedge$Cond;", true)
def tyX18 : Nat → FieldType := fun k => match k with
  | _ => .object "HungryHedge$Cond"
abbrev wsX180 : List Cond := u_ws RX18 TX18 1
theorem nmX18 : ∀ a, a < 1 → ∀ b, b < 1 → a ≠ b → (TX18 a).2.1 ≠ (TX18 b).2.1 := by decide +kernel
theorem tyX18_ok : ∀ k, k < 1 → parseFieldDescriptor (TX18 k).2.2.1 = some (tyX18 k) := by decide +kernel
abbrev cX18_init : ByteArray := prog_19_method_1_code
def yX18_init : MethodName := ⟨RX18, "<init>", "(LHungryHedge$Cond;)V"⟩
def dkwX18_init_0 : List UInt8 := [42, 183, 0, 1, 42, 43, 181, 0, 7, 177]
abbrev dktX18_init_0 : List UInt8 := dkwX18_init_0 ++ []
theorem dksX18_init_0 : cX18_init.data.toList.drop 0 = dktX18_init_0 := by decide +kernel
theorem dX18_init_0 : decode cX18_init 0 = .ok (.aload_n 0, 1) := dk_42 (dk_at dksX18_init_0 0 rfl rfl)
theorem dX18_init_1 : decode cX18_init 1 = .ok (.invokespecial 1, 3) := dk_183 0 1 (dk_at dksX18_init_0 1 rfl rfl)
theorem dX18_init_4 : decode cX18_init 4 = .ok (.aload_n 0, 1) := dk_42 (dk_at dksX18_init_0 4 rfl rfl)
theorem dX18_init_5 : decode cX18_init 5 = .ok (.aload_n 1, 1) := dk_43 (dk_at dksX18_init_0 5 rfl rfl)
theorem dX18_init_6 : decode cX18_init 6 = .ok (.putfield 7, 3) := dk_181 0 7 (dk_at dksX18_init_0 6 rfl rfl)
theorem dX18_init_9 : decode cX18_init 9 = .ok (.return_, 1) := dk_177 (dk_at dksX18_init_0 9 rfl rfl)
abbrev cX18_holds : ByteArray := prog_19_method_2_code
def yX18_holds : MethodName := ⟨RX18, "holds", "(LHungryHedge;LHungryHedge$Trip;)Z"⟩
def dkwX18_holds_0 : List UInt8 := [42, 180, 0, 7, 43, 44, 185, 0, 13, 3, 0, 154, 0, 7, 4, 167, 0, 4, 3, 172]
abbrev dktX18_holds_0 : List UInt8 := dkwX18_holds_0 ++ []
theorem dksX18_holds_0 : cX18_holds.data.toList.drop 0 = dktX18_holds_0 := by decide +kernel
theorem dX18_holds_0 : decode cX18_holds 0 = .ok (.aload_n 0, 1) := dk_42 (dk_at dksX18_holds_0 0 rfl rfl)
theorem dX18_holds_1 : decode cX18_holds 1 = .ok (.getfield 7, 3) := dk_180 0 7 (dk_at dksX18_holds_0 1 rfl rfl)
theorem dX18_holds_4 : decode cX18_holds 4 = .ok (.aload_n 1, 1) := dk_43 (dk_at dksX18_holds_0 4 rfl rfl)
theorem dX18_holds_5 : decode cX18_holds 5 = .ok (.aload_n 2, 1) := dk_44 (dk_at dksX18_holds_0 5 rfl rfl)
theorem dX18_holds_6 : decode cX18_holds 6 = .ok (.invokeinterface 13 3, 5) := by decide +kernel
theorem dX18_holds_11 : decode cX18_holds 11 = .ok (.ifCond .ne 7, 3) := dk_154 0 7 (dk_at dksX18_holds_0 11 rfl rfl)
theorem dX18_holds_14 : decode cX18_holds 14 = .ok (.iconst 1, 1) := dk_4 (dk_at dksX18_holds_0 14 rfl rfl)
theorem dX18_holds_15 : decode cX18_holds 15 = .ok (.goto 4, 3) := dk_167 0 4 (dk_at dksX18_holds_0 15 rfl rfl)
theorem dX18_holds_18 : decode cX18_holds 18 = .ok (.iconst 0, 1) := dk_3 (dk_at dksX18_holds_0 18 rfl rfl)
theorem dX18_holds_19 : decode cX18_holds 19 = .ok (.ireturn, 1) := dk_172 (dk_at dksX18_holds_0 19 rfl rfl)
theorem q135 : (Jvm.Cond.initialized "HungryHedge$Not") ∈ lw_all := lw_g (lw_at lw_m1 30 rfl) rfl
theorem q1094 : (Jvm.Cond.instantiable "HungryHedge$Not" (1 : Nat)) ∈ lw_all := lw_g (lw_at lw_m5 29 rfl) rfl
theorem q1096 : (Jvm.Cond.instanceMethod ({ cls := "HungryHedge$Not", name := "<init>", desc := "(LHungryHedge$Cond;)V" } : Jvm.MethodName)) ∈ lw_all := lw_g (lw_at lw_m5 31 rfl) rfl
theorem q1097 : (Jvm.Cond.code ({ cls := "HungryHedge$Not", name := "<init>", desc := "(LHungryHedge$Cond;)V" } : Jvm.MethodName) prog_19_method_1_code (2 : Nat) (Option.none : Option Jvm.ClassFile.FieldType)) ∈ lw_all := lw_g (lw_at lw_m5 32 rfl) rfl
theorem q1098 : (Jvm.Cond.methodLink "HungryHedge$Not" (1 : Nat) ({ cls := "java/lang/Object", name := "<init>", desc := "()V" } : Jvm.MethodName)) ∈ lw_all := lw_g (lw_at lw_m5 33 rfl) rfl
theorem q1099 : (Jvm.Cond.fieldLink "HungryHedge$Not" (7 : Nat) "HungryHedge$Not" "of" "LHungryHedge$Cond;") ∈ lw_all := lw_g (lw_at lw_m5 34 rfl) rfl
theorem q1100 : (Jvm.Cond.laysFinal "HungryHedge$Not" "HungryHedge$Not" "of" "LHungryHedge$Cond;") ∈ lw_all := lw_g (lw_at lw_m5 35 rfl) rfl
theorem q1101 : (Jvm.Cond.soleField "HungryHedge$Not" "of") ∈ lw_all := lw_g (lw_at lw_m5 36 rfl) rfl
theorem q1102 : (Jvm.Cond.superclass "HungryHedge$Not" "java/lang/Object") ∈ lw_all := lw_g (lw_at lw_m5 37 rfl) rfl
theorem q1188 : (Jvm.Cond.castable "HungryHedge$Not" "HungryHedge$Cond") ∈ lw_tbl := lw_at lw_m5 123 rfl
theorem q1189 : (Jvm.Cond.selects "HungryHedge$Not" ({ cls := "HungryHedge$Cond", name := "holds", desc := "(LHungryHedge;LHungryHedge$Trip;)Z" } : Jvm.MethodName) ({ cls := "HungryHedge$Not", name := "holds", desc := "(LHungryHedge;LHungryHedge$Trip;)Z" } : Jvm.MethodName)) ∈ lw_all := lw_g (lw_at lw_m5 124 rfl) rfl
theorem q1190 : (Jvm.Cond.unhidden "HungryHedge$Not" "holds" "(LHungryHedge;LHungryHedge$Trip;)Z") ∈ lw_tbl := lw_at lw_m5 125 rfl
theorem q1191 : (Jvm.Cond.instanceMethod ({ cls := "HungryHedge$Not", name := "holds", desc := "(LHungryHedge;LHungryHedge$Trip;)Z" } : Jvm.MethodName)) ∈ lw_all := lw_g (lw_at lw_m5 126 rfl) rfl
theorem q1192 : (Jvm.Cond.publicMethod ({ cls := "HungryHedge$Not", name := "holds", desc := "(LHungryHedge;LHungryHedge$Trip;)Z" } : Jvm.MethodName)) ∈ lw_tbl := lw_at lw_m5 127 rfl
theorem q1193 : (Jvm.Cond.code ({ cls := "HungryHedge$Not", name := "holds", desc := "(LHungryHedge;LHungryHedge$Trip;)Z" } : Jvm.MethodName) prog_19_method_2_code (3 : Nat) (Option.some Jvm.ClassFile.FieldType.boolean)) ∈ lw_all := lw_g (lw_at lw_m5 128 rfl) rfl
theorem q1194 : (Jvm.Cond.interfaceEntry "HungryHedge$Not" (13 : Nat)) ∈ lw_tbl := lw_at lw_m5 129 rfl
theorem q1195 : (Jvm.Cond.methodLink "HungryHedge$Not" (13 : Nat) ({ cls := "HungryHedge$Cond", name := "holds", desc := "(LHungryHedge;LHungryHedge$Trip;)Z" } : Jvm.MethodName)) ∈ lw_all := lw_g (lw_at lw_m5 130 rfl) rfl
theorem in_X18 : ∀ w ∈ wsX180, w ∈ lw_all := lw_in wsX180 [1100] (by decide +kernel) (by decide +kernel)

/-! HungryHedge$Both -/
set_option maxRecDepth 100000
def RX19 : String := "HungryHedge$Both"
def TX19 : u_T := fun k => match k with
  | 0 => ("HungryHedge$Both", "first", "LHungryHedge$Cond;", true)
  | _ => ("HungryHedge$Both", "second", "LHungryHedge$Cond;", true)
def tyX19 : Nat → FieldType := fun k => match k with
  | 0 => .object "HungryHedge$Cond"
  | _ => .object "HungryHedge$Cond"
abbrev wsX190 : List Cond := u_ws RX19 TX19 2
theorem nmX19 : ∀ a, a < 2 → ∀ b, b < 2 → a ≠ b → (TX19 a).2.1 ≠ (TX19 b).2.1 := by decide +kernel
theorem tyX19_ok : ∀ k, k < 2 → parseFieldDescriptor (TX19 k).2.2.1 = some (tyX19 k) := by decide +kernel
abbrev cX19_init : ByteArray := prog_4_method_1_code
def yX19_init : MethodName := ⟨RX19, "<init>", "(LHungryHedge$Cond;LHungryHedge$Cond;)V"⟩
def dkwX19_init_0 : List UInt8 := [42, 183, 0, 1, 42, 43, 181, 0, 7, 42, 44, 181, 0, 13, 177]
abbrev dktX19_init_0 : List UInt8 := dkwX19_init_0 ++ []
theorem dksX19_init_0 : cX19_init.data.toList.drop 0 = dktX19_init_0 := by decide +kernel
theorem dX19_init_0 : decode cX19_init 0 = .ok (.aload_n 0, 1) := dk_42 (dk_at dksX19_init_0 0 rfl rfl)
theorem dX19_init_1 : decode cX19_init 1 = .ok (.invokespecial 1, 3) := dk_183 0 1 (dk_at dksX19_init_0 1 rfl rfl)
theorem dX19_init_4 : decode cX19_init 4 = .ok (.aload_n 0, 1) := dk_42 (dk_at dksX19_init_0 4 rfl rfl)
theorem dX19_init_5 : decode cX19_init 5 = .ok (.aload_n 1, 1) := dk_43 (dk_at dksX19_init_0 5 rfl rfl)
theorem dX19_init_6 : decode cX19_init 6 = .ok (.putfield 7, 3) := dk_181 0 7 (dk_at dksX19_init_0 6 rfl rfl)
theorem dX19_init_9 : decode cX19_init 9 = .ok (.aload_n 0, 1) := dk_42 (dk_at dksX19_init_0 9 rfl rfl)
theorem dX19_init_10 : decode cX19_init 10 = .ok (.aload_n 2, 1) := dk_44 (dk_at dksX19_init_0 10 rfl rfl)
theorem dX19_init_11 : decode cX19_init 11 = .ok (.putfield 13, 3) := dk_181 0 13 (dk_at dksX19_init_0 11 rfl rfl)
theorem dX19_init_14 : decode cX19_init 14 = .ok (.return_, 1) := dk_177 (dk_at dksX19_init_0 14 rfl rfl)
abbrev cX19_holds : ByteArray := prog_4_method_2_code
def yX19_holds : MethodName := ⟨RX19, "holds", "(LHungryHedge;LHungryHedge$Trip;)Z"⟩
def dkwX19_holds_1 : List UInt8 := [185, 0, 16, 3, 0, 153, 0, 7, 4, 167, 0, 4, 3, 172]
abbrev dktX19_holds_1 : List UInt8 := dkwX19_holds_1 ++ []
def dkwX19_holds_0 : List UInt8 := [42, 180, 0, 7, 43, 44, 185, 0, 16, 3, 0, 153, 0, 21, 42, 180, 0, 13, 43, 44]
abbrev dktX19_holds_0 : List UInt8 := dkwX19_holds_0 ++ dktX19_holds_1
theorem dksX19_holds_0 : cX19_holds.data.toList.drop 0 = dktX19_holds_0 := by decide +kernel
theorem dksX19_holds_1 : cX19_holds.data.toList.drop 20 = dktX19_holds_1 := dk_seg dksX19_holds_0 20 rfl rfl
theorem dX19_holds_0 : decode cX19_holds 0 = .ok (.aload_n 0, 1) := dk_42 (dk_at dksX19_holds_0 0 rfl rfl)
theorem dX19_holds_1 : decode cX19_holds 1 = .ok (.getfield 7, 3) := dk_180 0 7 (dk_at dksX19_holds_0 1 rfl rfl)
theorem dX19_holds_4 : decode cX19_holds 4 = .ok (.aload_n 1, 1) := dk_43 (dk_at dksX19_holds_0 4 rfl rfl)
theorem dX19_holds_5 : decode cX19_holds 5 = .ok (.aload_n 2, 1) := dk_44 (dk_at dksX19_holds_0 5 rfl rfl)
theorem dX19_holds_6 : decode cX19_holds 6 = .ok (.invokeinterface 16 3, 5) := by decide +kernel
theorem dX19_holds_11 : decode cX19_holds 11 = .ok (.ifCond .eq 21, 3) := dk_153 0 21 (dk_at dksX19_holds_0 11 rfl rfl)
theorem dX19_holds_14 : decode cX19_holds 14 = .ok (.aload_n 0, 1) := dk_42 (dk_at dksX19_holds_0 14 rfl rfl)
theorem dX19_holds_15 : decode cX19_holds 15 = .ok (.getfield 13, 3) := dk_180 0 13 (dk_at dksX19_holds_0 15 rfl rfl)
theorem dX19_holds_18 : decode cX19_holds 18 = .ok (.aload_n 1, 1) := dk_43 (dk_at dksX19_holds_0 18 rfl rfl)
theorem dX19_holds_19 : decode cX19_holds 19 = .ok (.aload_n 2, 1) := dk_44 (dk_at dksX19_holds_0 19 rfl rfl)
theorem dX19_holds_20 : decode cX19_holds 20 = .ok (.invokeinterface 16 3, 5) := by decide +kernel
theorem dX19_holds_25 : decode cX19_holds 25 = .ok (.ifCond .eq 7, 3) := dk_153 0 7 (dk_at dksX19_holds_1 5 rfl rfl)
theorem dX19_holds_28 : decode cX19_holds 28 = .ok (.iconst 1, 1) := dk_4 (dk_at dksX19_holds_1 8 rfl rfl)
theorem dX19_holds_29 : decode cX19_holds 29 = .ok (.goto 4, 3) := dk_167 0 4 (dk_at dksX19_holds_1 9 rfl rfl)
theorem dX19_holds_32 : decode cX19_holds 32 = .ok (.iconst 0, 1) := dk_3 (dk_at dksX19_holds_1 12 rfl rfl)
theorem dX19_holds_33 : decode cX19_holds 33 = .ok (.ireturn, 1) := dk_172 (dk_at dksX19_holds_1 13 rfl rfl)
theorem q136 : (Jvm.Cond.initialized "HungryHedge$Both") ∈ lw_all := lw_g (lw_at lw_m1 31 rfl) rfl
theorem q1105 : (Jvm.Cond.instantiable "HungryHedge$Both" (2 : Nat)) ∈ lw_all := lw_g (lw_at lw_m5 40 rfl) rfl
theorem q1107 : (Jvm.Cond.instanceMethod ({ cls := "HungryHedge$Both", name := "<init>", desc := "(LHungryHedge$Cond;LHungryHedge$Cond;)V" } : Jvm.MethodName)) ∈ lw_all := lw_g (lw_at lw_m5 42 rfl) rfl
theorem q1108 : (Jvm.Cond.code ({ cls := "HungryHedge$Both", name := "<init>", desc := "(LHungryHedge$Cond;LHungryHedge$Cond;)V" } : Jvm.MethodName) prog_4_method_1_code (3 : Nat) (Option.none : Option Jvm.ClassFile.FieldType)) ∈ lw_all := lw_g (lw_at lw_m5 43 rfl) rfl
theorem q1109 : (Jvm.Cond.methodLink "HungryHedge$Both" (1 : Nat) ({ cls := "java/lang/Object", name := "<init>", desc := "()V" } : Jvm.MethodName)) ∈ lw_all := lw_g (lw_at lw_m5 44 rfl) rfl
theorem q1110 : (Jvm.Cond.fieldLink "HungryHedge$Both" (7 : Nat) "HungryHedge$Both" "first" "LHungryHedge$Cond;") ∈ lw_all := lw_g (lw_at lw_m5 45 rfl) rfl
theorem q1113 : (Jvm.Cond.fieldLink "HungryHedge$Both" (13 : Nat) "HungryHedge$Both" "second" "LHungryHedge$Cond;") ∈ lw_all := lw_g (lw_at lw_m5 48 rfl) rfl
theorem q1116 : (Jvm.Cond.laysFinal "HungryHedge$Both" "HungryHedge$Both" "first" "LHungryHedge$Cond;") ∈ lw_all := lw_g (lw_at lw_m5 51 rfl) rfl
theorem q1117 : (Jvm.Cond.soleField "HungryHedge$Both" "first") ∈ lw_all := lw_g (lw_at lw_m5 52 rfl) rfl
theorem q1118 : (Jvm.Cond.laysFinal "HungryHedge$Both" "HungryHedge$Both" "second" "LHungryHedge$Cond;") ∈ lw_all := lw_g (lw_at lw_m5 53 rfl) rfl
theorem q1119 : (Jvm.Cond.soleField "HungryHedge$Both" "second") ∈ lw_all := lw_g (lw_at lw_m5 54 rfl) rfl
theorem q1120 : (Jvm.Cond.superclass "HungryHedge$Both" "java/lang/Object") ∈ lw_all := lw_g (lw_at lw_m5 55 rfl) rfl
theorem q1161 : (Jvm.Cond.castable "HungryHedge$Both" "HungryHedge$Cond") ∈ lw_tbl := lw_at lw_m5 96 rfl
theorem q1162 : (Jvm.Cond.selects "HungryHedge$Both" ({ cls := "HungryHedge$Cond", name := "holds", desc := "(LHungryHedge;LHungryHedge$Trip;)Z" } : Jvm.MethodName) ({ cls := "HungryHedge$Both", name := "holds", desc := "(LHungryHedge;LHungryHedge$Trip;)Z" } : Jvm.MethodName)) ∈ lw_all := lw_g (lw_at lw_m5 97 rfl) rfl
theorem q1163 : (Jvm.Cond.unhidden "HungryHedge$Both" "holds" "(LHungryHedge;LHungryHedge$Trip;)Z") ∈ lw_tbl := lw_at lw_m5 98 rfl
theorem q1164 : (Jvm.Cond.instanceMethod ({ cls := "HungryHedge$Both", name := "holds", desc := "(LHungryHedge;LHungryHedge$Trip;)Z" } : Jvm.MethodName)) ∈ lw_all := lw_g (lw_at lw_m5 99 rfl) rfl
theorem q1165 : (Jvm.Cond.publicMethod ({ cls := "HungryHedge$Both", name := "holds", desc := "(LHungryHedge;LHungryHedge$Trip;)Z" } : Jvm.MethodName)) ∈ lw_tbl := lw_at lw_m5 100 rfl
theorem q1166 : (Jvm.Cond.code ({ cls := "HungryHedge$Both", name := "holds", desc := "(LHungryHedge;LHungryHedge$Trip;)Z" } : Jvm.MethodName) prog_4_method_2_code (3 : Nat) (Option.some Jvm.ClassFile.FieldType.boolean)) ∈ lw_all := lw_g (lw_at lw_m5 101 rfl) rfl
theorem q1167 : (Jvm.Cond.interfaceEntry "HungryHedge$Both" (16 : Nat)) ∈ lw_tbl := lw_at lw_m5 102 rfl
theorem q1168 : (Jvm.Cond.methodLink "HungryHedge$Both" (16 : Nat) ({ cls := "HungryHedge$Cond", name := "holds", desc := "(LHungryHedge;LHungryHedge$Trip;)Z" } : Jvm.MethodName)) ∈ lw_all := lw_g (lw_at lw_m5 103 rfl) rfl
theorem in_X19 : ∀ w ∈ wsX190, w ∈ lw_all := lw_in wsX190 [1116, 1118] (by decide +kernel) (by decide +kernel)

/-! HungryHedge$Either -/
set_option maxRecDepth 100000
def RX20 : String := "HungryHedge$Either"
def TX20 : u_T := fun k => match k with
  | 0 => ("HungryHedge$Both", "first", "LHungryHedge$Cond;", true)
  | _ => ("HungryHedge$Both", "second", "LHungryHedge$Cond;", true)
def tyX20 : Nat → FieldType := fun k => match k with
  | 0 => .object "HungryHedge$Cond"
  | _ => .object "HungryHedge$Cond"
abbrev wsX200 : List Cond := u_ws RX20 TX20 2
theorem nmX20 : ∀ a, a < 2 → ∀ b, b < 2 → a ≠ b → (TX20 a).2.1 ≠ (TX20 b).2.1 := by decide +kernel
theorem tyX20_ok : ∀ k, k < 2 → parseFieldDescriptor (TX20 k).2.2.1 = some (tyX20 k) := by decide +kernel
abbrev cX20_init : ByteArray := prog_11_method_1_code
def yX20_init : MethodName := ⟨RX20, "<init>", "(LHungryHedge$Cond;LHungryHedge$Cond;)V"⟩
def dkwX20_init_0 : List UInt8 := [42, 43, 44, 183, 0, 1, 177]
abbrev dktX20_init_0 : List UInt8 := dkwX20_init_0 ++ []
theorem dksX20_init_0 : cX20_init.data.toList.drop 0 = dktX20_init_0 := by decide +kernel
theorem dX20_init_0 : decode cX20_init 0 = .ok (.aload_n 0, 1) := dk_42 (dk_at dksX20_init_0 0 rfl rfl)
theorem dX20_init_1 : decode cX20_init 1 = .ok (.aload_n 1, 1) := dk_43 (dk_at dksX20_init_0 1 rfl rfl)
theorem dX20_init_2 : decode cX20_init 2 = .ok (.aload_n 2, 1) := dk_44 (dk_at dksX20_init_0 2 rfl rfl)
theorem dX20_init_3 : decode cX20_init 3 = .ok (.invokespecial 1, 3) := dk_183 0 1 (dk_at dksX20_init_0 3 rfl rfl)
theorem dX20_init_6 : decode cX20_init 6 = .ok (.return_, 1) := dk_177 (dk_at dksX20_init_0 6 rfl rfl)
abbrev cX20_holds : ByteArray := prog_11_method_2_code
def yX20_holds : MethodName := ⟨RX20, "holds", "(LHungryHedge;LHungryHedge$Trip;)Z"⟩
def dkwX20_holds_1 : List UInt8 := [185, 0, 13, 3, 0, 153, 0, 7, 4, 167, 0, 4, 3, 172]
abbrev dktX20_holds_1 : List UInt8 := dkwX20_holds_1 ++ []
def dkwX20_holds_0 : List UInt8 := [42, 180, 0, 7, 43, 44, 185, 0, 13, 3, 0, 154, 0, 17, 42, 180, 0, 19, 43, 44]
abbrev dktX20_holds_0 : List UInt8 := dkwX20_holds_0 ++ dktX20_holds_1
theorem dksX20_holds_0 : cX20_holds.data.toList.drop 0 = dktX20_holds_0 := by decide +kernel
theorem dksX20_holds_1 : cX20_holds.data.toList.drop 20 = dktX20_holds_1 := dk_seg dksX20_holds_0 20 rfl rfl
theorem dX20_holds_0 : decode cX20_holds 0 = .ok (.aload_n 0, 1) := dk_42 (dk_at dksX20_holds_0 0 rfl rfl)
theorem dX20_holds_1 : decode cX20_holds 1 = .ok (.getfield 7, 3) := dk_180 0 7 (dk_at dksX20_holds_0 1 rfl rfl)
theorem dX20_holds_4 : decode cX20_holds 4 = .ok (.aload_n 1, 1) := dk_43 (dk_at dksX20_holds_0 4 rfl rfl)
theorem dX20_holds_5 : decode cX20_holds 5 = .ok (.aload_n 2, 1) := dk_44 (dk_at dksX20_holds_0 5 rfl rfl)
theorem dX20_holds_6 : decode cX20_holds 6 = .ok (.invokeinterface 13 3, 5) := by decide +kernel
theorem dX20_holds_11 : decode cX20_holds 11 = .ok (.ifCond .ne 17, 3) := dk_154 0 17 (dk_at dksX20_holds_0 11 rfl rfl)
theorem dX20_holds_14 : decode cX20_holds 14 = .ok (.aload_n 0, 1) := dk_42 (dk_at dksX20_holds_0 14 rfl rfl)
theorem dX20_holds_15 : decode cX20_holds 15 = .ok (.getfield 19, 3) := dk_180 0 19 (dk_at dksX20_holds_0 15 rfl rfl)
theorem dX20_holds_18 : decode cX20_holds 18 = .ok (.aload_n 1, 1) := dk_43 (dk_at dksX20_holds_0 18 rfl rfl)
theorem dX20_holds_19 : decode cX20_holds 19 = .ok (.aload_n 2, 1) := dk_44 (dk_at dksX20_holds_0 19 rfl rfl)
theorem dX20_holds_20 : decode cX20_holds 20 = .ok (.invokeinterface 13 3, 5) := by decide +kernel
theorem dX20_holds_25 : decode cX20_holds 25 = .ok (.ifCond .eq 7, 3) := dk_153 0 7 (dk_at dksX20_holds_1 5 rfl rfl)
theorem dX20_holds_28 : decode cX20_holds 28 = .ok (.iconst 1, 1) := dk_4 (dk_at dksX20_holds_1 8 rfl rfl)
theorem dX20_holds_29 : decode cX20_holds 29 = .ok (.goto 4, 3) := dk_167 0 4 (dk_at dksX20_holds_1 9 rfl rfl)
theorem dX20_holds_32 : decode cX20_holds 32 = .ok (.iconst 0, 1) := dk_3 (dk_at dksX20_holds_1 12 rfl rfl)
theorem dX20_holds_33 : decode cX20_holds 33 = .ok (.ireturn, 1) := dk_172 (dk_at dksX20_holds_1 13 rfl rfl)
theorem q137 : (Jvm.Cond.initialized "HungryHedge$Either") ∈ lw_all := lw_g (lw_at lw_m1 32 rfl) rfl
theorem q1111 : (Jvm.Cond.fieldLink "HungryHedge$Either" (7 : Nat) "HungryHedge$Either" "first" "LHungryHedge$Cond;") ∈ lw_all := lw_g (lw_at lw_m5 46 rfl) rfl
theorem q1112 : (Jvm.Cond.sameField "HungryHedge$Either" "HungryHedge$Both" "first" "LHungryHedge$Cond;") ∈ lw_all := lw_g (lw_at lw_m5 47 rfl) rfl
theorem q1114 : (Jvm.Cond.fieldLink "HungryHedge$Either" (19 : Nat) "HungryHedge$Either" "second" "LHungryHedge$Cond;") ∈ lw_all := lw_g (lw_at lw_m5 49 rfl) rfl
theorem q1115 : (Jvm.Cond.sameField "HungryHedge$Either" "HungryHedge$Both" "second" "LHungryHedge$Cond;") ∈ lw_all := lw_g (lw_at lw_m5 50 rfl) rfl
theorem q1123 : (Jvm.Cond.instantiable "HungryHedge$Either" (2 : Nat)) ∈ lw_all := lw_g (lw_at lw_m5 58 rfl) rfl
theorem q1125 : (Jvm.Cond.instanceMethod ({ cls := "HungryHedge$Either", name := "<init>", desc := "(LHungryHedge$Cond;LHungryHedge$Cond;)V" } : Jvm.MethodName)) ∈ lw_all := lw_g (lw_at lw_m5 60 rfl) rfl
theorem q1126 : (Jvm.Cond.code ({ cls := "HungryHedge$Either", name := "<init>", desc := "(LHungryHedge$Cond;LHungryHedge$Cond;)V" } : Jvm.MethodName) prog_11_method_1_code (3 : Nat) (Option.none : Option Jvm.ClassFile.FieldType)) ∈ lw_all := lw_g (lw_at lw_m5 61 rfl) rfl
theorem q1127 : (Jvm.Cond.methodLink "HungryHedge$Either" (1 : Nat) ({ cls := "HungryHedge$Both", name := "<init>", desc := "(LHungryHedge$Cond;LHungryHedge$Cond;)V" } : Jvm.MethodName)) ∈ lw_all := lw_g (lw_at lw_m5 62 rfl) rfl
theorem q1128 : (Jvm.Cond.laysFinal "HungryHedge$Either" "HungryHedge$Both" "first" "LHungryHedge$Cond;") ∈ lw_all := lw_g (lw_at lw_m5 63 rfl) rfl
theorem q1129 : (Jvm.Cond.laysFinal "HungryHedge$Either" "HungryHedge$Both" "second" "LHungryHedge$Cond;") ∈ lw_all := lw_g (lw_at lw_m5 64 rfl) rfl
theorem q1130 : (Jvm.Cond.superclass "HungryHedge$Either" "HungryHedge$Both") ∈ lw_all := lw_g (lw_at lw_m5 65 rfl) rfl
theorem q1180 : (Jvm.Cond.castable "HungryHedge$Either" "HungryHedge$Cond") ∈ lw_tbl := lw_at lw_m5 115 rfl
theorem q1181 : (Jvm.Cond.selects "HungryHedge$Either" ({ cls := "HungryHedge$Cond", name := "holds", desc := "(LHungryHedge;LHungryHedge$Trip;)Z" } : Jvm.MethodName) ({ cls := "HungryHedge$Either", name := "holds", desc := "(LHungryHedge;LHungryHedge$Trip;)Z" } : Jvm.MethodName)) ∈ lw_all := lw_g (lw_at lw_m5 116 rfl) rfl
theorem q1182 : (Jvm.Cond.unhidden "HungryHedge$Either" "holds" "(LHungryHedge;LHungryHedge$Trip;)Z") ∈ lw_tbl := lw_at lw_m5 117 rfl
theorem q1183 : (Jvm.Cond.instanceMethod ({ cls := "HungryHedge$Either", name := "holds", desc := "(LHungryHedge;LHungryHedge$Trip;)Z" } : Jvm.MethodName)) ∈ lw_all := lw_g (lw_at lw_m5 118 rfl) rfl
theorem q1184 : (Jvm.Cond.publicMethod ({ cls := "HungryHedge$Either", name := "holds", desc := "(LHungryHedge;LHungryHedge$Trip;)Z" } : Jvm.MethodName)) ∈ lw_tbl := lw_at lw_m5 119 rfl
theorem q1185 : (Jvm.Cond.code ({ cls := "HungryHedge$Either", name := "holds", desc := "(LHungryHedge;LHungryHedge$Trip;)Z" } : Jvm.MethodName) prog_11_method_2_code (3 : Nat) (Option.some Jvm.ClassFile.FieldType.boolean)) ∈ lw_all := lw_g (lw_at lw_m5 120 rfl) rfl
theorem q1186 : (Jvm.Cond.interfaceEntry "HungryHedge$Either" (13 : Nat)) ∈ lw_tbl := lw_at lw_m5 121 rfl
theorem q1187 : (Jvm.Cond.methodLink "HungryHedge$Either" (13 : Nat) ({ cls := "HungryHedge$Cond", name := "holds", desc := "(LHungryHedge;LHungryHedge$Trip;)Z" } : Jvm.MethodName)) ∈ lw_all := lw_g (lw_at lw_m5 122 rfl) rfl
theorem in_X20 : ∀ w ∈ wsX200, w ∈ lw_all := lw_in wsX200 [1128, 1129] (by decide +kernel) (by decide +kernel)

/-! HungryHedge$PatchThing -/
set_option maxRecDepth 100000
def RX21 : String := "HungryHedge$PatchThing"
abbrev cX21_init : ByteArray := prog_21_method_1_code
def yX21_init : MethodName := ⟨RX21, "<init>", "(LHungryHedge;II)V"⟩
def dkwX21_init_0 : List UInt8 := [42, 43, 181, 0, 1, 42, 183, 0, 7, 42, 28, 181, 0, 13, 42, 29, 181, 0, 17, 177]
abbrev dktX21_init_0 : List UInt8 := dkwX21_init_0 ++ []
theorem dksX21_init_0 : cX21_init.data.toList.drop 0 = dktX21_init_0 := by decide +kernel
theorem dX21_init_0 : decode cX21_init 0 = .ok (.aload_n 0, 1) := dk_42 (dk_at dksX21_init_0 0 rfl rfl)
theorem dX21_init_1 : decode cX21_init 1 = .ok (.aload_n 1, 1) := dk_43 (dk_at dksX21_init_0 1 rfl rfl)
theorem dX21_init_2 : decode cX21_init 2 = .ok (.putfield 1, 3) := dk_181 0 1 (dk_at dksX21_init_0 2 rfl rfl)
theorem dX21_init_5 : decode cX21_init 5 = .ok (.aload_n 0, 1) := dk_42 (dk_at dksX21_init_0 5 rfl rfl)
theorem dX21_init_6 : decode cX21_init 6 = .ok (.invokespecial 7, 3) := dk_183 0 7 (dk_at dksX21_init_0 6 rfl rfl)
theorem dX21_init_9 : decode cX21_init 9 = .ok (.aload_n 0, 1) := dk_42 (dk_at dksX21_init_0 9 rfl rfl)
theorem dX21_init_10 : decode cX21_init 10 = .ok (.iload_n 2, 1) := dk_28 (dk_at dksX21_init_0 10 rfl rfl)
theorem dX21_init_11 : decode cX21_init 11 = .ok (.putfield 13, 3) := dk_181 0 13 (dk_at dksX21_init_0 11 rfl rfl)
theorem dX21_init_14 : decode cX21_init 14 = .ok (.aload_n 0, 1) := dk_42 (dk_at dksX21_init_0 14 rfl rfl)
theorem dX21_init_15 : decode cX21_init 15 = .ok (.iload_n 3, 1) := dk_29 (dk_at dksX21_init_0 15 rfl rfl)
theorem dX21_init_16 : decode cX21_init 16 = .ok (.putfield 17, 3) := dk_181 0 17 (dk_at dksX21_init_0 16 rfl rfl)
theorem dX21_init_19 : decode cX21_init 19 = .ok (.return_, 1) := dk_177 (dk_at dksX21_init_0 19 rfl rfl)
abbrev cX21_its : ByteArray := prog_21_method_2_code
def yX21_its : MethodName := ⟨RX21, "its", "()I"⟩
theorem dX21_its_0 : decode cX21_its 0 = .ok (.aload_n 0, 1) := by decide +kernel
theorem dX21_its_1 : decode cX21_its 1 = .ok (.getfield 13, 3) := by decide +kernel
theorem dX21_its_4 : decode cX21_its 4 = .ok (.ireturn, 1) := by decide +kernel
abbrev cX21_eats : ByteArray := prog_21_method_3_code
def yX21_eats : MethodName := ⟨RX21, "eats", "(I)I"⟩
def dkwX21_eats_0 : List UInt8 := [42, 180, 0, 1, 16, 10, 182, 0, 20, 27, 42, 180, 0, 17, 96, 172]
abbrev dktX21_eats_0 : List UInt8 := dkwX21_eats_0 ++ []
theorem dksX21_eats_0 : cX21_eats.data.toList.drop 0 = dktX21_eats_0 := by decide +kernel
theorem dX21_eats_0 : decode cX21_eats 0 = .ok (.aload_n 0, 1) := dk_42 (dk_at dksX21_eats_0 0 rfl rfl)
theorem dX21_eats_1 : decode cX21_eats 1 = .ok (.getfield 1, 3) := dk_180 0 1 (dk_at dksX21_eats_0 1 rfl rfl)
theorem dX21_eats_4 : decode cX21_eats 4 = .ok (.bipush 10, 2) := dk_16 10 (dk_at dksX21_eats_0 4 rfl rfl)
theorem dX21_eats_6 : decode cX21_eats 6 = .ok (.invokevirtual 20, 3) := dk_182 0 20 (dk_at dksX21_eats_0 6 rfl rfl)
theorem dX21_eats_9 : decode cX21_eats 9 = .ok (.iload_n 1, 1) := dk_27 (dk_at dksX21_eats_0 9 rfl rfl)
theorem dX21_eats_10 : decode cX21_eats 10 = .ok (.aload_n 0, 1) := dk_42 (dk_at dksX21_eats_0 10 rfl rfl)
theorem dX21_eats_11 : decode cX21_eats 11 = .ok (.getfield 17, 3) := dk_180 0 17 (dk_at dksX21_eats_0 11 rfl rfl)
theorem dX21_eats_14 : decode cX21_eats 14 = .ok (.iadd, 1) := dk_96 (dk_at dksX21_eats_0 14 rfl rfl)
theorem dX21_eats_15 : decode cX21_eats 15 = .ok (.ireturn, 1) := dk_172 (dk_at dksX21_eats_0 15 rfl rfl)
abbrev cX21_stays : ByteArray := prog_21_method_4_code
def yX21_stays : MethodName := ⟨RX21, "stays", "(I)I"⟩
def dkwX21_stays_0 : List UInt8 := [42, 180, 0, 1, 16, 11, 182, 0, 20, 42, 27, 183, 0, 26, 172]
abbrev dktX21_stays_0 : List UInt8 := dkwX21_stays_0 ++ []
theorem dksX21_stays_0 : cX21_stays.data.toList.drop 0 = dktX21_stays_0 := by decide +kernel
theorem dX21_stays_0 : decode cX21_stays 0 = .ok (.aload_n 0, 1) := dk_42 (dk_at dksX21_stays_0 0 rfl rfl)
theorem dX21_stays_1 : decode cX21_stays 1 = .ok (.getfield 1, 3) := dk_180 0 1 (dk_at dksX21_stays_0 1 rfl rfl)
theorem dX21_stays_4 : decode cX21_stays 4 = .ok (.bipush 11, 2) := dk_16 11 (dk_at dksX21_stays_0 4 rfl rfl)
theorem dX21_stays_6 : decode cX21_stays 6 = .ok (.invokevirtual 20, 3) := dk_182 0 20 (dk_at dksX21_stays_0 6 rfl rfl)
theorem dX21_stays_9 : decode cX21_stays 9 = .ok (.aload_n 0, 1) := dk_42 (dk_at dksX21_stays_0 9 rfl rfl)
theorem dX21_stays_10 : decode cX21_stays 10 = .ok (.iload_n 1, 1) := dk_27 (dk_at dksX21_stays_0 10 rfl rfl)
theorem dX21_stays_11 : decode cX21_stays 11 = .ok (.invokespecial 26, 3) := dk_183 0 26 (dk_at dksX21_stays_0 11 rfl rfl)
theorem dX21_stays_14 : decode cX21_stays 14 = .ok (.ireturn, 1) := dk_172 (dk_at dksX21_stays_0 14 rfl rfl)
abbrev cX21_flies : ByteArray := prog_21_method_5_code
def yX21_flies : MethodName := ⟨RX21, "flies", "(I)I"⟩
def dkwX21_flies_0 : List UInt8 := [42, 180, 0, 1, 16, 12, 182, 0, 20, 27, 42, 180, 0, 17, 42, 180, 0, 13, 100, 108, 172]
abbrev dktX21_flies_0 : List UInt8 := dkwX21_flies_0 ++ []
theorem dksX21_flies_0 : cX21_flies.data.toList.drop 0 = dktX21_flies_0 := by decide +kernel
theorem dX21_flies_0 : decode cX21_flies 0 = .ok (.aload_n 0, 1) := dk_42 (dk_at dksX21_flies_0 0 rfl rfl)
theorem dX21_flies_1 : decode cX21_flies 1 = .ok (.getfield 1, 3) := dk_180 0 1 (dk_at dksX21_flies_0 1 rfl rfl)
theorem dX21_flies_4 : decode cX21_flies 4 = .ok (.bipush 12, 2) := dk_16 12 (dk_at dksX21_flies_0 4 rfl rfl)
theorem dX21_flies_6 : decode cX21_flies 6 = .ok (.invokevirtual 20, 3) := dk_182 0 20 (dk_at dksX21_flies_0 6 rfl rfl)
theorem dX21_flies_9 : decode cX21_flies 9 = .ok (.iload_n 1, 1) := dk_27 (dk_at dksX21_flies_0 9 rfl rfl)
theorem dX21_flies_10 : decode cX21_flies 10 = .ok (.aload_n 0, 1) := dk_42 (dk_at dksX21_flies_0 10 rfl rfl)
theorem dX21_flies_11 : decode cX21_flies 11 = .ok (.getfield 17, 3) := dk_180 0 17 (dk_at dksX21_flies_0 11 rfl rfl)
theorem dX21_flies_14 : decode cX21_flies 14 = .ok (.aload_n 0, 1) := dk_42 (dk_at dksX21_flies_0 14 rfl rfl)
theorem dX21_flies_15 : decode cX21_flies 15 = .ok (.getfield 13, 3) := dk_180 0 13 (dk_at dksX21_flies_0 15 rfl rfl)
theorem dX21_flies_18 : decode cX21_flies 18 = .ok (.isub, 1) := dk_100 (dk_at dksX21_flies_0 18 rfl rfl)
theorem dX21_flies_19 : decode cX21_flies 19 = .ok (.idiv, 1) := dk_108 (dk_at dksX21_flies_0 19 rfl rfl)
theorem dX21_flies_20 : decode cX21_flies 20 = .ok (.ireturn, 1) := dk_172 (dk_at dksX21_flies_0 20 rfl rfl)
abbrev cX21_tells : ByteArray := prog_21_method_6_code
def yX21_tells : MethodName := ⟨RX21, "tells", "(I)I"⟩
def dkwX21_tells_0 : List UInt8 := [42, 180, 0, 1, 16, 13, 182, 0, 20, 42, 27, 182, 0, 32, 42, 180, 0, 13, 130, 172]
abbrev dktX21_tells_0 : List UInt8 := dkwX21_tells_0 ++ []
theorem dksX21_tells_0 : cX21_tells.data.toList.drop 0 = dktX21_tells_0 := by decide +kernel
theorem dX21_tells_0 : decode cX21_tells 0 = .ok (.aload_n 0, 1) := dk_42 (dk_at dksX21_tells_0 0 rfl rfl)
theorem dX21_tells_1 : decode cX21_tells 1 = .ok (.getfield 1, 3) := dk_180 0 1 (dk_at dksX21_tells_0 1 rfl rfl)
theorem dX21_tells_4 : decode cX21_tells 4 = .ok (.bipush 13, 2) := dk_16 13 (dk_at dksX21_tells_0 4 rfl rfl)
theorem dX21_tells_6 : decode cX21_tells 6 = .ok (.invokevirtual 20, 3) := dk_182 0 20 (dk_at dksX21_tells_0 6 rfl rfl)
theorem dX21_tells_9 : decode cX21_tells 9 = .ok (.aload_n 0, 1) := dk_42 (dk_at dksX21_tells_0 9 rfl rfl)
theorem dX21_tells_10 : decode cX21_tells 10 = .ok (.iload_n 1, 1) := dk_27 (dk_at dksX21_tells_0 10 rfl rfl)
theorem dX21_tells_11 : decode cX21_tells 11 = .ok (.invokevirtual 32, 3) := dk_182 0 32 (dk_at dksX21_tells_0 11 rfl rfl)
theorem dX21_tells_14 : decode cX21_tells 14 = .ok (.aload_n 0, 1) := dk_42 (dk_at dksX21_tells_0 14 rfl rfl)
theorem dX21_tells_15 : decode cX21_tells 15 = .ok (.getfield 13, 3) := dk_180 0 13 (dk_at dksX21_tells_0 15 rfl rfl)
theorem dX21_tells_18 : decode cX21_tells 18 = .ok (.ixor, 1) := dk_130 (dk_at dksX21_tells_0 18 rfl rfl)
theorem dX21_tells_19 : decode cX21_tells 19 = .ok (.ireturn, 1) := dk_172 (dk_at dksX21_tells_0 19 rfl rfl)
theorem q139 : (Jvm.Cond.initialized "HungryHedge$PatchThing") ∈ lw_all := lw_g (lw_at lw_m1 34 rfl) rfl
theorem q1340 : (Jvm.Cond.instanceMethod ({ cls := "HungryHedge$PatchThing", name := "<init>", desc := "(LHungryHedge;II)V" } : Jvm.MethodName)) ∈ lw_all := lw_g (lw_at lw_m6 35 rfl) rfl
theorem q1341 : (Jvm.Cond.code ({ cls := "HungryHedge$PatchThing", name := "<init>", desc := "(LHungryHedge;II)V" } : Jvm.MethodName) prog_21_method_1_code (4 : Nat) (Option.none : Option Jvm.ClassFile.FieldType)) ∈ lw_all := lw_g (lw_at lw_m6 36 rfl) rfl
theorem q1342 : (Jvm.Cond.methodLink "HungryHedge$PatchThing" (7 : Nat) ({ cls := "java/lang/Object", name := "<init>", desc := "()V" } : Jvm.MethodName)) ∈ lw_all := lw_g (lw_at lw_m6 37 rfl) rfl
theorem q1344 : (Jvm.Cond.fieldLink "HungryHedge$PatchThing" (13 : Nat) "HungryHedge$PatchThing" "number" "I") ∈ lw_all := lw_g (lw_at lw_m6 39 rfl) rfl
theorem q1347 : (Jvm.Cond.fieldLink "HungryHedge$PatchThing" (17 : Nat) "HungryHedge$PatchThing" "about" "I") ∈ lw_all := lw_g (lw_at lw_m6 42 rfl) rfl
theorem q1350 : (Jvm.Cond.fieldLink "HungryHedge$PatchThing" (1 : Nat) "HungryHedge$PatchThing" "this$0" "LHungryHedge;") ∈ lw_all := lw_g (lw_at lw_m6 45 rfl) rfl
theorem q1354 : (Jvm.Cond.soleField "HungryHedge$PatchThing" "number") ∈ lw_all := lw_g (lw_at lw_m6 49 rfl) rfl
theorem q1356 : (Jvm.Cond.soleField "HungryHedge$PatchThing" "about") ∈ lw_all := lw_g (lw_at lw_m6 51 rfl) rfl
theorem q1358 : (Jvm.Cond.soleField "HungryHedge$PatchThing" "this$0") ∈ lw_all := lw_g (lw_at lw_m6 53 rfl) rfl
theorem q1444 : (Jvm.Cond.instanceMethod ({ cls := "HungryHedge$PatchThing", name := "its", desc := "()I" } : Jvm.MethodName)) ∈ lw_all := lw_g (lw_at lw_m6 139 rfl) rfl
theorem q1445 : (Jvm.Cond.sameMethod "HungryHedge$PatchThing" "HungryHedge$PatchThing" "its" "()I") ∈ lw_all := lw_g (lw_at lw_m6 140 rfl) rfl
theorem q1450 : (Jvm.Cond.code ({ cls := "HungryHedge$PatchThing", name := "its", desc := "()I" } : Jvm.MethodName) prog_21_method_2_code (1 : Nat) (Option.some Jvm.ClassFile.FieldType.int)) ∈ lw_all := lw_g (lw_at lw_m6 145 rfl) rfl
theorem q1453 : (Jvm.Cond.declares ({ cls := "HungryHedge$PatchThing", name := "its", desc := "()I" } : Jvm.MethodName)) ∈ lw_tbl := lw_at lw_m6 148 rfl
theorem q1516 : (Jvm.Cond.instanceMethod ({ cls := "HungryHedge$PatchThing", name := "eats", desc := "(I)I" } : Jvm.MethodName)) ∈ lw_all := lw_g (lw_at lw_m6 211 rfl) rfl
theorem q1517 : (Jvm.Cond.publicMethod ({ cls := "HungryHedge$PatchThing", name := "eats", desc := "(I)I" } : Jvm.MethodName)) ∈ lw_tbl := lw_at lw_m6 212 rfl
theorem q1518 : (Jvm.Cond.code ({ cls := "HungryHedge$PatchThing", name := "eats", desc := "(I)I" } : Jvm.MethodName) prog_21_method_3_code (2 : Nat) (Option.some Jvm.ClassFile.FieldType.int)) ∈ lw_all := lw_g (lw_at lw_m6 213 rfl) rfl
theorem q1519 : (Jvm.Cond.methodLinkNest "HungryHedge$PatchThing" (20 : Nat) ({ cls := "HungryHedge", name := "ran", desc := "(I)V" } : Jvm.MethodName) "HungryHedge") ∈ lw_tbl := lw_at lw_m6 214 rfl
theorem q1533 : (Jvm.Cond.declares ({ cls := "HungryHedge$PatchThing", name := "eats", desc := "(I)I" } : Jvm.MethodName)) ∈ lw_tbl := lw_at lw_m6 228 rfl
theorem q1563 : (Jvm.Cond.instanceMethod ({ cls := "HungryHedge$PatchThing", name := "stays", desc := "(I)I" } : Jvm.MethodName)) ∈ lw_all := lw_g (lw_at lw_m7 18 rfl) rfl
theorem q1564 : (Jvm.Cond.code ({ cls := "HungryHedge$PatchThing", name := "stays", desc := "(I)I" } : Jvm.MethodName) prog_21_method_4_code (2 : Nat) (Option.some Jvm.ClassFile.FieldType.int)) ∈ lw_all := lw_g (lw_at lw_m7 19 rfl) rfl
theorem q1565 : (Jvm.Cond.superclass "HungryHedge$PatchThing" "java/lang/Object") ∈ lw_all := lw_g (lw_at lw_m7 20 rfl) rfl
theorem q1606 : (Jvm.Cond.instanceMethod ({ cls := "HungryHedge$PatchThing", name := "flies", desc := "(I)I" } : Jvm.MethodName)) ∈ lw_all := lw_g (lw_at lw_m7 61 rfl) rfl
theorem q1607 : (Jvm.Cond.publicMethod ({ cls := "HungryHedge$PatchThing", name := "flies", desc := "(I)I" } : Jvm.MethodName)) ∈ lw_tbl := lw_at lw_m7 62 rfl
theorem q1608 : (Jvm.Cond.code ({ cls := "HungryHedge$PatchThing", name := "flies", desc := "(I)I" } : Jvm.MethodName) prog_21_method_5_code (2 : Nat) (Option.some Jvm.ClassFile.FieldType.int)) ∈ lw_all := lw_g (lw_at lw_m7 63 rfl) rfl
theorem q1616 : (Jvm.Cond.declares ({ cls := "HungryHedge$PatchThing", name := "flies", desc := "(I)I" } : Jvm.MethodName)) ∈ lw_tbl := lw_at lw_m7 71 rfl
theorem q1638 : (Jvm.Cond.instanceMethod ({ cls := "HungryHedge$PatchThing", name := "tells", desc := "(I)I" } : Jvm.MethodName)) ∈ lw_all := lw_g (lw_at lw_m7 93 rfl) rfl
theorem q1639 : (Jvm.Cond.publicMethod ({ cls := "HungryHedge$PatchThing", name := "tells", desc := "(I)I" } : Jvm.MethodName)) ∈ lw_tbl := lw_at lw_m7 94 rfl
theorem q1640 : (Jvm.Cond.code ({ cls := "HungryHedge$PatchThing", name := "tells", desc := "(I)I" } : Jvm.MethodName) prog_21_method_6_code (2 : Nat) (Option.some Jvm.ClassFile.FieldType.int)) ∈ lw_all := lw_g (lw_at lw_m7 95 rfl) rfl
theorem q1641 : (Jvm.Cond.methodLink "HungryHedge$PatchThing" (32 : Nat) ({ cls := "HungryHedge$PatchThing", name := "stays", desc := "(I)I" } : Jvm.MethodName)) ∈ lw_all := lw_g (lw_at lw_m7 96 rfl) rfl
theorem q1649 : (Jvm.Cond.declares ({ cls := "HungryHedge$PatchThing", name := "tells", desc := "(I)I" } : Jvm.MethodName)) ∈ lw_tbl := lw_at lw_m7 104 rfl
theorem q2391 : (Jvm.Cond.sameMethod "HungryHedge$PatchThing" "HungryHedge$PatchThing" "stays" "(I)I") ∈ lw_all := lw_g (lw_at lw_m10 126 rfl) rfl

/-! HungryHedge$BushThing -/
set_option maxRecDepth 100000
def RX22 : String := "HungryHedge$BushThing"
def TX22 : u_T := fun k => match k with
  | 0 => ("HungryHedge$PatchThing", "number", "I", true)
  | 1 => ("HungryHedge$PatchThing", "about", "I", true)
  | 2 => ("HungryHedge$PatchThing", "this$0", "LHungryHedge;", true)
  | _ => ("HungryHedge$BushThing", "this$0", "LHungryHedge;", true)
def tyX22 : Nat → FieldType := fun k => match k with
  | 0 => .int
  | 1 => .int
  | 2 => .object "HungryHedge"
  | _ => .object "HungryHedge"
abbrev wsX220 : List Cond := u_ws RX22 TX22 4
-- two fields of one name: no nmX22
theorem tyX22_ok : ∀ k, k < 4 → parseFieldDescriptor (TX22 k).2.2.1 = some (tyX22 k) := by decide +kernel
abbrev cX22_init : ByteArray := prog_5_method_1_code
def yX22_init : MethodName := ⟨RX22, "<init>", "(LHungryHedge;II)V"⟩
def dkwX22_init_0 : List UInt8 := [42, 43, 181, 0, 1, 42, 43, 28, 29, 183, 0, 7, 177]
abbrev dktX22_init_0 : List UInt8 := dkwX22_init_0 ++ []
theorem dksX22_init_0 : cX22_init.data.toList.drop 0 = dktX22_init_0 := by decide +kernel
theorem dX22_init_0 : decode cX22_init 0 = .ok (.aload_n 0, 1) := dk_42 (dk_at dksX22_init_0 0 rfl rfl)
theorem dX22_init_1 : decode cX22_init 1 = .ok (.aload_n 1, 1) := dk_43 (dk_at dksX22_init_0 1 rfl rfl)
theorem dX22_init_2 : decode cX22_init 2 = .ok (.putfield 1, 3) := dk_181 0 1 (dk_at dksX22_init_0 2 rfl rfl)
theorem dX22_init_5 : decode cX22_init 5 = .ok (.aload_n 0, 1) := dk_42 (dk_at dksX22_init_0 5 rfl rfl)
theorem dX22_init_6 : decode cX22_init 6 = .ok (.aload_n 1, 1) := dk_43 (dk_at dksX22_init_0 6 rfl rfl)
theorem dX22_init_7 : decode cX22_init 7 = .ok (.iload_n 2, 1) := dk_28 (dk_at dksX22_init_0 7 rfl rfl)
theorem dX22_init_8 : decode cX22_init 8 = .ok (.iload_n 3, 1) := dk_29 (dk_at dksX22_init_0 8 rfl rfl)
theorem dX22_init_9 : decode cX22_init 9 = .ok (.invokespecial 7, 3) := dk_183 0 7 (dk_at dksX22_init_0 9 rfl rfl)
theorem dX22_init_12 : decode cX22_init 12 = .ok (.return_, 1) := dk_177 (dk_at dksX22_init_0 12 rfl rfl)
abbrev cX22_stays : ByteArray := prog_5_method_2_code
def yX22_stays : MethodName := ⟨RX22, "stays", "(I)I"⟩
def dkwX22_stays_0 : List UInt8 := [42, 180, 0, 1, 16, 20, 182, 0, 13, 42, 27, 183, 0, 19, 7, 100, 172]
abbrev dktX22_stays_0 : List UInt8 := dkwX22_stays_0 ++ []
theorem dksX22_stays_0 : cX22_stays.data.toList.drop 0 = dktX22_stays_0 := by decide +kernel
theorem dX22_stays_0 : decode cX22_stays 0 = .ok (.aload_n 0, 1) := dk_42 (dk_at dksX22_stays_0 0 rfl rfl)
theorem dX22_stays_1 : decode cX22_stays 1 = .ok (.getfield 1, 3) := dk_180 0 1 (dk_at dksX22_stays_0 1 rfl rfl)
theorem dX22_stays_4 : decode cX22_stays 4 = .ok (.bipush 20, 2) := dk_16 20 (dk_at dksX22_stays_0 4 rfl rfl)
theorem dX22_stays_6 : decode cX22_stays 6 = .ok (.invokevirtual 13, 3) := dk_182 0 13 (dk_at dksX22_stays_0 6 rfl rfl)
theorem dX22_stays_9 : decode cX22_stays 9 = .ok (.aload_n 0, 1) := dk_42 (dk_at dksX22_stays_0 9 rfl rfl)
theorem dX22_stays_10 : decode cX22_stays 10 = .ok (.iload_n 1, 1) := dk_27 (dk_at dksX22_stays_0 10 rfl rfl)
theorem dX22_stays_11 : decode cX22_stays 11 = .ok (.invokespecial 19, 3) := dk_183 0 19 (dk_at dksX22_stays_0 11 rfl rfl)
theorem dX22_stays_14 : decode cX22_stays 14 = .ok (.iconst 4, 1) := dk_7 (dk_at dksX22_stays_0 14 rfl rfl)
theorem dX22_stays_15 : decode cX22_stays 15 = .ok (.isub, 1) := dk_100 (dk_at dksX22_stays_0 15 rfl rfl)
theorem dX22_stays_16 : decode cX22_stays 16 = .ok (.ireturn, 1) := dk_172 (dk_at dksX22_stays_0 16 rfl rfl)
theorem q140 : (Jvm.Cond.initialized "HungryHedge$BushThing") ∈ lw_all := lw_g (lw_at lw_m1 35 rfl) rfl
theorem q1335 : (Jvm.Cond.instantiable "HungryHedge$BushThing" (4 : Nat)) ∈ lw_all := lw_g (lw_at lw_m6 30 rfl) rfl
theorem q1337 : (Jvm.Cond.instanceMethod ({ cls := "HungryHedge$BushThing", name := "<init>", desc := "(LHungryHedge;II)V" } : Jvm.MethodName)) ∈ lw_all := lw_g (lw_at lw_m6 32 rfl) rfl
theorem q1338 : (Jvm.Cond.code ({ cls := "HungryHedge$BushThing", name := "<init>", desc := "(LHungryHedge;II)V" } : Jvm.MethodName) prog_5_method_1_code (4 : Nat) (Option.none : Option Jvm.ClassFile.FieldType)) ∈ lw_all := lw_g (lw_at lw_m6 33 rfl) rfl
theorem q1339 : (Jvm.Cond.methodLink "HungryHedge$BushThing" (7 : Nat) ({ cls := "HungryHedge$PatchThing", name := "<init>", desc := "(LHungryHedge;II)V" } : Jvm.MethodName)) ∈ lw_all := lw_g (lw_at lw_m6 34 rfl) rfl
theorem q1343 : (Jvm.Cond.fieldLink "HungryHedge$BushThing" (1 : Nat) "HungryHedge$BushThing" "this$0" "LHungryHedge;") ∈ lw_all := lw_g (lw_at lw_m6 38 rfl) rfl
theorem q1351 : (Jvm.Cond.laysFinal "HungryHedge$BushThing" "HungryHedge$BushThing" "this$0" "LHungryHedge;") ∈ lw_all := lw_g (lw_at lw_m6 46 rfl) rfl
theorem q1352 : (Jvm.Cond.soleField "HungryHedge$BushThing" "this$0") ∈ lw_all := lw_g (lw_at lw_m6 47 rfl) rfl
theorem q1353 : (Jvm.Cond.laysFinal "HungryHedge$BushThing" "HungryHedge$PatchThing" "number" "I") ∈ lw_all := lw_g (lw_at lw_m6 48 rfl) rfl
theorem q1355 : (Jvm.Cond.laysFinal "HungryHedge$BushThing" "HungryHedge$PatchThing" "about" "I") ∈ lw_all := lw_g (lw_at lw_m6 50 rfl) rfl
theorem q1357 : (Jvm.Cond.laysFinal "HungryHedge$BushThing" "HungryHedge$PatchThing" "this$0" "LHungryHedge;") ∈ lw_all := lw_g (lw_at lw_m6 52 rfl) rfl
theorem q1359 : (Jvm.Cond.superclass "HungryHedge$BushThing" "HungryHedge$PatchThing") ∈ lw_all := lw_g (lw_at lw_m6 54 rfl) rfl
theorem q1446 : (Jvm.Cond.selects "HungryHedge$BushThing" ({ cls := "HungryHedge$PatchThing", name := "its", desc := "()I" } : Jvm.MethodName) ({ cls := "HungryHedge$PatchThing", name := "its", desc := "()I" } : Jvm.MethodName)) ∈ lw_all := lw_g (lw_at lw_m6 141 rfl) rfl
theorem q1452 : (Jvm.Cond.sameMethod "HungryHedge$BushThing" "HungryHedge$PatchThing" "its" "()I") ∈ lw_all := lw_g (lw_at lw_m6 147 rfl) rfl
theorem q1454 : (Jvm.Cond.selects "HungryHedge$BushThing" ({ cls := "HungryHedge$BushThing", name := "its", desc := "()I" } : Jvm.MethodName) ({ cls := "HungryHedge$PatchThing", name := "its", desc := "()I" } : Jvm.MethodName)) ∈ lw_all := lw_g (lw_at lw_m6 149 rfl) rfl
theorem q1513 : (Jvm.Cond.castable "HungryHedge$BushThing" "HungryHedge$Tells") ∈ lw_tbl := lw_at lw_m6 208 rfl
theorem q1514 : (Jvm.Cond.selects "HungryHedge$BushThing" ({ cls := "HungryHedge$Eats", name := "eats", desc := "(I)I" } : Jvm.MethodName) ({ cls := "HungryHedge$PatchThing", name := "eats", desc := "(I)I" } : Jvm.MethodName)) ∈ lw_all := lw_g (lw_at lw_m6 209 rfl) rfl
theorem q1515 : (Jvm.Cond.unhidden "HungryHedge$BushThing" "eats" "(I)I") ∈ lw_tbl := lw_at lw_m6 210 rfl
theorem q1532 : (Jvm.Cond.sameMethod "HungryHedge$BushThing" "HungryHedge$PatchThing" "eats" "(I)I") ∈ lw_all := lw_g (lw_at lw_m6 227 rfl) rfl
theorem q1556 : (Jvm.Cond.selects "HungryHedge$BushThing" ({ cls := "HungryHedge$Eats", name := "stays", desc := "(I)I" } : Jvm.MethodName) ({ cls := "HungryHedge$BushThing", name := "stays", desc := "(I)I" } : Jvm.MethodName)) ∈ lw_all := lw_g (lw_at lw_m7 11 rfl) rfl
theorem q1557 : (Jvm.Cond.unhidden "HungryHedge$BushThing" "stays" "(I)I") ∈ lw_tbl := lw_at lw_m7 12 rfl
theorem q1558 : (Jvm.Cond.instanceMethod ({ cls := "HungryHedge$BushThing", name := "stays", desc := "(I)I" } : Jvm.MethodName)) ∈ lw_all := lw_g (lw_at lw_m7 13 rfl) rfl
theorem q1559 : (Jvm.Cond.publicMethod ({ cls := "HungryHedge$BushThing", name := "stays", desc := "(I)I" } : Jvm.MethodName)) ∈ lw_tbl := lw_at lw_m7 14 rfl
theorem q1560 : (Jvm.Cond.code ({ cls := "HungryHedge$BushThing", name := "stays", desc := "(I)I" } : Jvm.MethodName) prog_5_method_2_code (2 : Nat) (Option.some Jvm.ClassFile.FieldType.int)) ∈ lw_all := lw_g (lw_at lw_m7 15 rfl) rfl
theorem q1561 : (Jvm.Cond.methodLinkNest "HungryHedge$BushThing" (13 : Nat) ({ cls := "HungryHedge", name := "ran", desc := "(I)V" } : Jvm.MethodName) "HungryHedge") ∈ lw_tbl := lw_at lw_m7 16 rfl
theorem q1562 : (Jvm.Cond.methodLink "HungryHedge$BushThing" (19 : Nat) ({ cls := "HungryHedge$PatchThing", name := "stays", desc := "(I)I" } : Jvm.MethodName)) ∈ lw_all := lw_g (lw_at lw_m7 17 rfl) rfl
theorem q1572 : (Jvm.Cond.castable "HungryHedge$BushThing" "HungryHedge$Eats") ∈ lw_tbl := lw_at lw_m7 27 rfl
theorem q1604 : (Jvm.Cond.selects "HungryHedge$BushThing" ({ cls := "HungryHedge$Flies", name := "flies", desc := "(I)I" } : Jvm.MethodName) ({ cls := "HungryHedge$PatchThing", name := "flies", desc := "(I)I" } : Jvm.MethodName)) ∈ lw_all := lw_g (lw_at lw_m7 59 rfl) rfl
theorem q1605 : (Jvm.Cond.unhidden "HungryHedge$BushThing" "flies" "(I)I") ∈ lw_tbl := lw_at lw_m7 60 rfl
theorem q1636 : (Jvm.Cond.selects "HungryHedge$BushThing" ({ cls := "HungryHedge$Tells", name := "tells", desc := "(I)I" } : Jvm.MethodName) ({ cls := "HungryHedge$PatchThing", name := "tells", desc := "(I)I" } : Jvm.MethodName)) ∈ lw_all := lw_g (lw_at lw_m7 91 rfl) rfl
theorem q1637 : (Jvm.Cond.unhidden "HungryHedge$BushThing" "tells" "(I)I") ∈ lw_tbl := lw_at lw_m7 92 rfl
theorem q1648 : (Jvm.Cond.sameMethod "HungryHedge$BushThing" "HungryHedge$PatchThing" "tells" "(I)I") ∈ lw_all := lw_g (lw_at lw_m7 103 rfl) rfl
theorem q2396 : (Jvm.Cond.selects "HungryHedge$BushThing" ({ cls := "HungryHedge$PatchThing", name := "stays", desc := "(I)I" } : Jvm.MethodName) ({ cls := "HungryHedge$BushThing", name := "stays", desc := "(I)I" } : Jvm.MethodName)) ∈ lw_all := lw_g (lw_at lw_m10 131 rfl) rfl
theorem q2401 : (Jvm.Cond.castable "HungryHedge$BushThing" "HungryHedge$PatchThing") ∈ lw_tbl := lw_at lw_m10 136 rfl
theorem in_X22 : ∀ w ∈ wsX220, w ∈ lw_all := lw_in wsX220 [1353, 1355, 1357, 1351] (by decide +kernel) (by decide +kernel)

/-! HungryHedge$FieldThing -/
set_option maxRecDepth 100000
def RX23 : String := "HungryHedge$FieldThing"
def TX23 : u_T := fun k => match k with
  | 0 => ("HungryHedge$PatchThing", "number", "I", true)
  | 1 => ("HungryHedge$PatchThing", "about", "I", true)
  | 2 => ("HungryHedge$PatchThing", "this$0", "LHungryHedge;", true)
  | 3 => ("HungryHedge$BushThing", "this$0", "LHungryHedge;", true)
  | _ => ("HungryHedge$FieldThing", "this$0", "LHungryHedge;", true)
def tyX23 : Nat → FieldType := fun k => match k with
  | 0 => .int
  | 1 => .int
  | 2 => .object "HungryHedge"
  | 3 => .object "HungryHedge"
  | _ => .object "HungryHedge"
abbrev wsX230 : List Cond := u_ws RX23 TX23 5
-- two fields of one name: no nmX23
theorem tyX23_ok : ∀ k, k < 5 → parseFieldDescriptor (TX23 k).2.2.1 = some (tyX23 k) := by decide +kernel
abbrev cX23_init : ByteArray := prog_14_method_1_code
def yX23_init : MethodName := ⟨RX23, "<init>", "(LHungryHedge;II)V"⟩
def dkwX23_init_0 : List UInt8 := [42, 43, 181, 0, 1, 42, 43, 28, 29, 183, 0, 7, 177]
abbrev dktX23_init_0 : List UInt8 := dkwX23_init_0 ++ []
theorem dksX23_init_0 : cX23_init.data.toList.drop 0 = dktX23_init_0 := by decide +kernel
theorem dX23_init_0 : decode cX23_init 0 = .ok (.aload_n 0, 1) := dk_42 (dk_at dksX23_init_0 0 rfl rfl)
theorem dX23_init_1 : decode cX23_init 1 = .ok (.aload_n 1, 1) := dk_43 (dk_at dksX23_init_0 1 rfl rfl)
theorem dX23_init_2 : decode cX23_init 2 = .ok (.putfield 1, 3) := dk_181 0 1 (dk_at dksX23_init_0 2 rfl rfl)
theorem dX23_init_5 : decode cX23_init 5 = .ok (.aload_n 0, 1) := dk_42 (dk_at dksX23_init_0 5 rfl rfl)
theorem dX23_init_6 : decode cX23_init 6 = .ok (.aload_n 1, 1) := dk_43 (dk_at dksX23_init_0 6 rfl rfl)
theorem dX23_init_7 : decode cX23_init 7 = .ok (.iload_n 2, 1) := dk_28 (dk_at dksX23_init_0 7 rfl rfl)
theorem dX23_init_8 : decode cX23_init 8 = .ok (.iload_n 3, 1) := dk_29 (dk_at dksX23_init_0 8 rfl rfl)
theorem dX23_init_9 : decode cX23_init 9 = .ok (.invokespecial 7, 3) := dk_183 0 7 (dk_at dksX23_init_0 9 rfl rfl)
theorem dX23_init_12 : decode cX23_init 12 = .ok (.return_, 1) := dk_177 (dk_at dksX23_init_0 12 rfl rfl)
abbrev cX23_eats : ByteArray := prog_14_method_2_code
def yX23_eats : MethodName := ⟨RX23, "eats", "(I)I"⟩
def dkwX23_eats_0 : List UInt8 := [42, 180, 0, 1, 16, 30, 182, 0, 13, 42, 27, 183, 0, 19, 6, 104, 172]
abbrev dktX23_eats_0 : List UInt8 := dkwX23_eats_0 ++ []
theorem dksX23_eats_0 : cX23_eats.data.toList.drop 0 = dktX23_eats_0 := by decide +kernel
theorem dX23_eats_0 : decode cX23_eats 0 = .ok (.aload_n 0, 1) := dk_42 (dk_at dksX23_eats_0 0 rfl rfl)
theorem dX23_eats_1 : decode cX23_eats 1 = .ok (.getfield 1, 3) := dk_180 0 1 (dk_at dksX23_eats_0 1 rfl rfl)
theorem dX23_eats_4 : decode cX23_eats 4 = .ok (.bipush 30, 2) := dk_16 30 (dk_at dksX23_eats_0 4 rfl rfl)
theorem dX23_eats_6 : decode cX23_eats 6 = .ok (.invokevirtual 13, 3) := dk_182 0 13 (dk_at dksX23_eats_0 6 rfl rfl)
theorem dX23_eats_9 : decode cX23_eats 9 = .ok (.aload_n 0, 1) := dk_42 (dk_at dksX23_eats_0 9 rfl rfl)
theorem dX23_eats_10 : decode cX23_eats 10 = .ok (.iload_n 1, 1) := dk_27 (dk_at dksX23_eats_0 10 rfl rfl)
theorem dX23_eats_11 : decode cX23_eats 11 = .ok (.invokespecial 19, 3) := dk_183 0 19 (dk_at dksX23_eats_0 11 rfl rfl)
theorem dX23_eats_14 : decode cX23_eats 14 = .ok (.iconst 3, 1) := dk_6 (dk_at dksX23_eats_0 14 rfl rfl)
theorem dX23_eats_15 : decode cX23_eats 15 = .ok (.imul, 1) := dk_104 (dk_at dksX23_eats_0 15 rfl rfl)
theorem dX23_eats_16 : decode cX23_eats 16 = .ok (.ireturn, 1) := dk_172 (dk_at dksX23_eats_0 16 rfl rfl)
abbrev cX23_tells : ByteArray := prog_14_method_3_code
def yX23_tells : MethodName := ⟨RX23, "tells", "(I)I"⟩
def dkwX23_tells_1 : List UInt8 := [182, 0, 30, 96, 172]
abbrev dktX23_tells_1 : List UInt8 := dkwX23_tells_1 ++ []
def dkwX23_tells_0 : List UInt8 := [42, 180, 0, 1, 16, 31, 182, 0, 13, 42, 27, 183, 0, 23, 61, 28, 42, 42, 180, 0, 26, 4, 96]
abbrev dktX23_tells_0 : List UInt8 := dkwX23_tells_0 ++ dktX23_tells_1
theorem dksX23_tells_0 : cX23_tells.data.toList.drop 0 = dktX23_tells_0 := by decide +kernel
theorem dksX23_tells_1 : cX23_tells.data.toList.drop 23 = dktX23_tells_1 := dk_seg dksX23_tells_0 23 rfl rfl
theorem dX23_tells_0 : decode cX23_tells 0 = .ok (.aload_n 0, 1) := dk_42 (dk_at dksX23_tells_0 0 rfl rfl)
theorem dX23_tells_1 : decode cX23_tells 1 = .ok (.getfield 1, 3) := dk_180 0 1 (dk_at dksX23_tells_0 1 rfl rfl)
theorem dX23_tells_4 : decode cX23_tells 4 = .ok (.bipush 31, 2) := dk_16 31 (dk_at dksX23_tells_0 4 rfl rfl)
theorem dX23_tells_6 : decode cX23_tells 6 = .ok (.invokevirtual 13, 3) := dk_182 0 13 (dk_at dksX23_tells_0 6 rfl rfl)
theorem dX23_tells_9 : decode cX23_tells 9 = .ok (.aload_n 0, 1) := dk_42 (dk_at dksX23_tells_0 9 rfl rfl)
theorem dX23_tells_10 : decode cX23_tells 10 = .ok (.iload_n 1, 1) := dk_27 (dk_at dksX23_tells_0 10 rfl rfl)
theorem dX23_tells_11 : decode cX23_tells 11 = .ok (.invokespecial 23, 3) := dk_183 0 23 (dk_at dksX23_tells_0 11 rfl rfl)
theorem dX23_tells_14 : decode cX23_tells 14 = .ok (.istore_n 2, 1) := dk_61 (dk_at dksX23_tells_0 14 rfl rfl)
theorem dX23_tells_15 : decode cX23_tells 15 = .ok (.iload_n 2, 1) := dk_28 (dk_at dksX23_tells_0 15 rfl rfl)
theorem dX23_tells_16 : decode cX23_tells 16 = .ok (.aload_n 0, 1) := dk_42 (dk_at dksX23_tells_0 16 rfl rfl)
theorem dX23_tells_17 : decode cX23_tells 17 = .ok (.aload_n 0, 1) := dk_42 (dk_at dksX23_tells_0 17 rfl rfl)
theorem dX23_tells_18 : decode cX23_tells 18 = .ok (.getfield 26, 3) := dk_180 0 26 (dk_at dksX23_tells_0 18 rfl rfl)
theorem dX23_tells_21 : decode cX23_tells 21 = .ok (.iconst 1, 1) := dk_4 (dk_at dksX23_tells_0 21 rfl rfl)
theorem dX23_tells_22 : decode cX23_tells 22 = .ok (.iadd, 1) := dk_96 (dk_at dksX23_tells_0 22 rfl rfl)
theorem dX23_tells_23 : decode cX23_tells 23 = .ok (.invokevirtual 30, 3) := dk_182 0 30 (dk_at dksX23_tells_1 0 rfl rfl)
theorem dX23_tells_26 : decode cX23_tells 26 = .ok (.iadd, 1) := dk_96 (dk_at dksX23_tells_1 3 rfl rfl)
theorem dX23_tells_27 : decode cX23_tells 27 = .ok (.ireturn, 1) := dk_172 (dk_at dksX23_tells_1 4 rfl rfl)
theorem q141 : (Jvm.Cond.initialized "HungryHedge$FieldThing") ∈ lw_all := lw_g (lw_at lw_m1 36 rfl) rfl
theorem q1345 : (Jvm.Cond.fieldLink "HungryHedge$FieldThing" (26 : Nat) "HungryHedge$FieldThing" "number" "I") ∈ lw_all := lw_g (lw_at lw_m6 40 rfl) rfl
theorem q1346 : (Jvm.Cond.sameField "HungryHedge$FieldThing" "HungryHedge$PatchThing" "number" "I") ∈ lw_all := lw_g (lw_at lw_m6 41 rfl) rfl
theorem q1361 : (Jvm.Cond.instantiable "HungryHedge$FieldThing" (5 : Nat)) ∈ lw_all := lw_g (lw_at lw_m6 56 rfl) rfl
theorem q1363 : (Jvm.Cond.instanceMethod ({ cls := "HungryHedge$FieldThing", name := "<init>", desc := "(LHungryHedge;II)V" } : Jvm.MethodName)) ∈ lw_all := lw_g (lw_at lw_m6 58 rfl) rfl
theorem q1364 : (Jvm.Cond.code ({ cls := "HungryHedge$FieldThing", name := "<init>", desc := "(LHungryHedge;II)V" } : Jvm.MethodName) prog_14_method_1_code (4 : Nat) (Option.none : Option Jvm.ClassFile.FieldType)) ∈ lw_all := lw_g (lw_at lw_m6 59 rfl) rfl
theorem q1365 : (Jvm.Cond.methodLink "HungryHedge$FieldThing" (7 : Nat) ({ cls := "HungryHedge$BushThing", name := "<init>", desc := "(LHungryHedge;II)V" } : Jvm.MethodName)) ∈ lw_all := lw_g (lw_at lw_m6 60 rfl) rfl
theorem q1366 : (Jvm.Cond.fieldLink "HungryHedge$FieldThing" (1 : Nat) "HungryHedge$FieldThing" "this$0" "LHungryHedge;") ∈ lw_all := lw_g (lw_at lw_m6 61 rfl) rfl
theorem q1367 : (Jvm.Cond.laysFinal "HungryHedge$FieldThing" "HungryHedge$FieldThing" "this$0" "LHungryHedge;") ∈ lw_all := lw_g (lw_at lw_m6 62 rfl) rfl
theorem q1368 : (Jvm.Cond.soleField "HungryHedge$FieldThing" "this$0") ∈ lw_all := lw_g (lw_at lw_m6 63 rfl) rfl
theorem q1369 : (Jvm.Cond.laysFinal "HungryHedge$FieldThing" "HungryHedge$BushThing" "this$0" "LHungryHedge;") ∈ lw_all := lw_g (lw_at lw_m6 64 rfl) rfl
theorem q1370 : (Jvm.Cond.laysFinal "HungryHedge$FieldThing" "HungryHedge$PatchThing" "number" "I") ∈ lw_all := lw_g (lw_at lw_m6 65 rfl) rfl
theorem q1371 : (Jvm.Cond.laysFinal "HungryHedge$FieldThing" "HungryHedge$PatchThing" "about" "I") ∈ lw_all := lw_g (lw_at lw_m6 66 rfl) rfl
theorem q1372 : (Jvm.Cond.laysFinal "HungryHedge$FieldThing" "HungryHedge$PatchThing" "this$0" "LHungryHedge;") ∈ lw_all := lw_g (lw_at lw_m6 67 rfl) rfl
theorem q1373 : (Jvm.Cond.superclass "HungryHedge$FieldThing" "HungryHedge$BushThing") ∈ lw_all := lw_g (lw_at lw_m6 68 rfl) rfl
theorem q1448 : (Jvm.Cond.selects "HungryHedge$FieldThing" ({ cls := "HungryHedge$PatchThing", name := "its", desc := "()I" } : Jvm.MethodName) ({ cls := "HungryHedge$PatchThing", name := "its", desc := "()I" } : Jvm.MethodName)) ∈ lw_all := lw_g (lw_at lw_m6 143 rfl) rfl
theorem q1456 : (Jvm.Cond.selects "HungryHedge$FieldThing" ({ cls := "HungryHedge$BushThing", name := "its", desc := "()I" } : Jvm.MethodName) ({ cls := "HungryHedge$PatchThing", name := "its", desc := "()I" } : Jvm.MethodName)) ∈ lw_all := lw_g (lw_at lw_m6 151 rfl) rfl
theorem q1458 : (Jvm.Cond.sameMethod "HungryHedge$FieldThing" "HungryHedge$PatchThing" "its" "()I") ∈ lw_all := lw_g (lw_at lw_m6 153 rfl) rfl
theorem q1460 : (Jvm.Cond.selects "HungryHedge$FieldThing" ({ cls := "HungryHedge$FieldThing", name := "its", desc := "()I" } : Jvm.MethodName) ({ cls := "HungryHedge$PatchThing", name := "its", desc := "()I" } : Jvm.MethodName)) ∈ lw_all := lw_g (lw_at lw_m6 155 rfl) rfl
theorem q1528 : (Jvm.Cond.instanceMethod ({ cls := "HungryHedge$FieldThing", name := "eats", desc := "(I)I" } : Jvm.MethodName)) ∈ lw_all := lw_g (lw_at lw_m6 223 rfl) rfl
theorem q1529 : (Jvm.Cond.code ({ cls := "HungryHedge$FieldThing", name := "eats", desc := "(I)I" } : Jvm.MethodName) prog_14_method_2_code (2 : Nat) (Option.some Jvm.ClassFile.FieldType.int)) ∈ lw_all := lw_g (lw_at lw_m6 224 rfl) rfl
theorem q1530 : (Jvm.Cond.methodLinkNest "HungryHedge$FieldThing" (13 : Nat) ({ cls := "HungryHedge", name := "ran", desc := "(I)V" } : Jvm.MethodName) "HungryHedge") ∈ lw_tbl := lw_at lw_m6 225 rfl
theorem q1531 : (Jvm.Cond.methodLink "HungryHedge$FieldThing" (19 : Nat) ({ cls := "HungryHedge$BushThing", name := "eats", desc := "(I)I" } : Jvm.MethodName)) ∈ lw_all := lw_g (lw_at lw_m6 226 rfl) rfl
theorem q1534 : (Jvm.Cond.castable "HungryHedge$FieldThing" "HungryHedge$Tells") ∈ lw_tbl := lw_at lw_m6 229 rfl
theorem q1535 : (Jvm.Cond.selects "HungryHedge$FieldThing" ({ cls := "HungryHedge$Eats", name := "eats", desc := "(I)I" } : Jvm.MethodName) ({ cls := "HungryHedge$FieldThing", name := "eats", desc := "(I)I" } : Jvm.MethodName)) ∈ lw_all := lw_g (lw_at lw_m6 230 rfl) rfl
theorem q1536 : (Jvm.Cond.unhidden "HungryHedge$FieldThing" "eats" "(I)I") ∈ lw_tbl := lw_at lw_m6 231 rfl
theorem q1537 : (Jvm.Cond.publicMethod ({ cls := "HungryHedge$FieldThing", name := "eats", desc := "(I)I" } : Jvm.MethodName)) ∈ lw_tbl := lw_at lw_m6 232 rfl
theorem q1574 : (Jvm.Cond.castable "HungryHedge$FieldThing" "HungryHedge$Eats") ∈ lw_tbl := lw_at lw_m7 29 rfl
theorem q1579 : (Jvm.Cond.selects "HungryHedge$FieldThing" ({ cls := "HungryHedge$Eats", name := "stays", desc := "(I)I" } : Jvm.MethodName) ({ cls := "HungryHedge$BushThing", name := "stays", desc := "(I)I" } : Jvm.MethodName)) ∈ lw_all := lw_g (lw_at lw_m7 34 rfl) rfl
theorem q1580 : (Jvm.Cond.unhidden "HungryHedge$FieldThing" "stays" "(I)I") ∈ lw_tbl := lw_at lw_m7 35 rfl
theorem q1615 : (Jvm.Cond.sameMethod "HungryHedge$FieldThing" "HungryHedge$PatchThing" "flies" "(I)I") ∈ lw_all := lw_g (lw_at lw_m7 70 rfl) rfl
theorem q1617 : (Jvm.Cond.selects "HungryHedge$FieldThing" ({ cls := "HungryHedge$Flies", name := "flies", desc := "(I)I" } : Jvm.MethodName) ({ cls := "HungryHedge$PatchThing", name := "flies", desc := "(I)I" } : Jvm.MethodName)) ∈ lw_all := lw_g (lw_at lw_m7 72 rfl) rfl
theorem q1618 : (Jvm.Cond.unhidden "HungryHedge$FieldThing" "flies" "(I)I") ∈ lw_tbl := lw_at lw_m7 73 rfl
theorem q1644 : (Jvm.Cond.instanceMethod ({ cls := "HungryHedge$FieldThing", name := "tells", desc := "(I)I" } : Jvm.MethodName)) ∈ lw_all := lw_g (lw_at lw_m7 99 rfl) rfl
theorem q1645 : (Jvm.Cond.publicMethod ({ cls := "HungryHedge$FieldThing", name := "tells", desc := "(I)I" } : Jvm.MethodName)) ∈ lw_tbl := lw_at lw_m7 100 rfl
theorem q1646 : (Jvm.Cond.code ({ cls := "HungryHedge$FieldThing", name := "tells", desc := "(I)I" } : Jvm.MethodName) prog_14_method_3_code (3 : Nat) (Option.some Jvm.ClassFile.FieldType.int)) ∈ lw_all := lw_g (lw_at lw_m7 101 rfl) rfl
theorem q1647 : (Jvm.Cond.methodLink "HungryHedge$FieldThing" (23 : Nat) ({ cls := "HungryHedge$BushThing", name := "tells", desc := "(I)I" } : Jvm.MethodName)) ∈ lw_all := lw_g (lw_at lw_m7 102 rfl) rfl
theorem q1650 : (Jvm.Cond.methodLink "HungryHedge$FieldThing" (30 : Nat) ({ cls := "HungryHedge$FieldThing", name := "flies", desc := "(I)I" } : Jvm.MethodName)) ∈ lw_all := lw_g (lw_at lw_m7 105 rfl) rfl
theorem q1652 : (Jvm.Cond.selects "HungryHedge$FieldThing" ({ cls := "HungryHedge$FieldThing", name := "flies", desc := "(I)I" } : Jvm.MethodName) ({ cls := "HungryHedge$PatchThing", name := "flies", desc := "(I)I" } : Jvm.MethodName)) ∈ lw_all := lw_g (lw_at lw_m7 107 rfl) rfl
theorem q1653 : (Jvm.Cond.selects "HungryHedge$FieldThing" ({ cls := "HungryHedge$Tells", name := "tells", desc := "(I)I" } : Jvm.MethodName) ({ cls := "HungryHedge$FieldThing", name := "tells", desc := "(I)I" } : Jvm.MethodName)) ∈ lw_all := lw_g (lw_at lw_m7 108 rfl) rfl
theorem q1654 : (Jvm.Cond.unhidden "HungryHedge$FieldThing" "tells" "(I)I") ∈ lw_tbl := lw_at lw_m7 109 rfl
theorem q2390 : (Jvm.Cond.sameMethod "HungryHedge$FieldThing" "HungryHedge$FieldThing" "eats" "(I)I") ∈ lw_all := lw_g (lw_at lw_m10 125 rfl) rfl
theorem q2398 : (Jvm.Cond.selects "HungryHedge$FieldThing" ({ cls := "HungryHedge$PatchThing", name := "stays", desc := "(I)I" } : Jvm.MethodName) ({ cls := "HungryHedge$BushThing", name := "stays", desc := "(I)I" } : Jvm.MethodName)) ∈ lw_all := lw_g (lw_at lw_m10 133 rfl) rfl
theorem q2403 : (Jvm.Cond.castable "HungryHedge$FieldThing" "HungryHedge$PatchThing") ∈ lw_tbl := lw_at lw_m10 138 rfl
theorem q2406 : (Jvm.Cond.castable "HungryHedge$FieldThing" "HungryHedge$BushThing") ∈ lw_tbl := lw_at lw_m10 141 rfl
theorem in_X23 : ∀ w ∈ wsX230, w ∈ lw_all := lw_in wsX230 [1370, 1371, 1372, 1369, 1367] (by decide +kernel) (by decide +kernel)

/-! HungryHedge$FeederThing -/
set_option maxRecDepth 100000
def RX24 : String := "HungryHedge$FeederThing"
def TX24 : u_T := fun k => match k with
  | 0 => ("HungryHedge$PatchThing", "number", "I", true)
  | 1 => ("HungryHedge$PatchThing", "about", "I", true)
  | 2 => ("HungryHedge$PatchThing", "this$0", "LHungryHedge;", true)
  | 3 => ("HungryHedge$BushThing", "this$0", "LHungryHedge;", true)
  | 4 => ("HungryHedge$FieldThing", "this$0", "LHungryHedge;", true)
  | _ => ("HungryHedge$FeederThing", "this$0", "LHungryHedge;", true)
def tyX24 : Nat → FieldType := fun k => match k with
  | 0 => .int
  | 1 => .int
  | 2 => .object "HungryHedge"
  | 3 => .object "HungryHedge"
  | 4 => .object "HungryHedge"
  | _ => .object "HungryHedge"
abbrev wsX240 : List Cond := u_ws RX24 TX24 6
-- two fields of one name: no nmX24
theorem tyX24_ok : ∀ k, k < 6 → parseFieldDescriptor (TX24 k).2.2.1 = some (tyX24 k) := by decide +kernel
abbrev cX24_init : ByteArray := prog_13_method_1_code
def yX24_init : MethodName := ⟨RX24, "<init>", "(LHungryHedge;II)V"⟩
def dkwX24_init_0 : List UInt8 := [42, 43, 181, 0, 1, 42, 43, 28, 29, 183, 0, 7, 177]
abbrev dktX24_init_0 : List UInt8 := dkwX24_init_0 ++ []
theorem dksX24_init_0 : cX24_init.data.toList.drop 0 = dktX24_init_0 := by decide +kernel
theorem dX24_init_0 : decode cX24_init 0 = .ok (.aload_n 0, 1) := dk_42 (dk_at dksX24_init_0 0 rfl rfl)
theorem dX24_init_1 : decode cX24_init 1 = .ok (.aload_n 1, 1) := dk_43 (dk_at dksX24_init_0 1 rfl rfl)
theorem dX24_init_2 : decode cX24_init 2 = .ok (.putfield 1, 3) := dk_181 0 1 (dk_at dksX24_init_0 2 rfl rfl)
theorem dX24_init_5 : decode cX24_init 5 = .ok (.aload_n 0, 1) := dk_42 (dk_at dksX24_init_0 5 rfl rfl)
theorem dX24_init_6 : decode cX24_init 6 = .ok (.aload_n 1, 1) := dk_43 (dk_at dksX24_init_0 6 rfl rfl)
theorem dX24_init_7 : decode cX24_init 7 = .ok (.iload_n 2, 1) := dk_28 (dk_at dksX24_init_0 7 rfl rfl)
theorem dX24_init_8 : decode cX24_init 8 = .ok (.iload_n 3, 1) := dk_29 (dk_at dksX24_init_0 8 rfl rfl)
theorem dX24_init_9 : decode cX24_init 9 = .ok (.invokespecial 7, 3) := dk_183 0 7 (dk_at dksX24_init_0 9 rfl rfl)
theorem dX24_init_12 : decode cX24_init 12 = .ok (.return_, 1) := dk_177 (dk_at dksX24_init_0 12 rfl rfl)
abbrev cX24_eats : ByteArray := prog_13_method_2_code
def yX24_eats : MethodName := ⟨RX24, "eats", "(I)I"⟩
def dkwX24_eats_0 : List UInt8 := [42, 180, 0, 1, 16, 40, 182, 0, 13, 42, 27, 183, 0, 19, 42, 180, 0, 23, 130, 172]
abbrev dktX24_eats_0 : List UInt8 := dkwX24_eats_0 ++ []
theorem dksX24_eats_0 : cX24_eats.data.toList.drop 0 = dktX24_eats_0 := by decide +kernel
theorem dX24_eats_0 : decode cX24_eats 0 = .ok (.aload_n 0, 1) := dk_42 (dk_at dksX24_eats_0 0 rfl rfl)
theorem dX24_eats_1 : decode cX24_eats 1 = .ok (.getfield 1, 3) := dk_180 0 1 (dk_at dksX24_eats_0 1 rfl rfl)
theorem dX24_eats_4 : decode cX24_eats 4 = .ok (.bipush 40, 2) := dk_16 40 (dk_at dksX24_eats_0 4 rfl rfl)
theorem dX24_eats_6 : decode cX24_eats 6 = .ok (.invokevirtual 13, 3) := dk_182 0 13 (dk_at dksX24_eats_0 6 rfl rfl)
theorem dX24_eats_9 : decode cX24_eats 9 = .ok (.aload_n 0, 1) := dk_42 (dk_at dksX24_eats_0 9 rfl rfl)
theorem dX24_eats_10 : decode cX24_eats 10 = .ok (.iload_n 1, 1) := dk_27 (dk_at dksX24_eats_0 10 rfl rfl)
theorem dX24_eats_11 : decode cX24_eats 11 = .ok (.invokespecial 19, 3) := dk_183 0 19 (dk_at dksX24_eats_0 11 rfl rfl)
theorem dX24_eats_14 : decode cX24_eats 14 = .ok (.aload_n 0, 1) := dk_42 (dk_at dksX24_eats_0 14 rfl rfl)
theorem dX24_eats_15 : decode cX24_eats 15 = .ok (.getfield 23, 3) := dk_180 0 23 (dk_at dksX24_eats_0 15 rfl rfl)
theorem dX24_eats_18 : decode cX24_eats 18 = .ok (.ixor, 1) := dk_130 (dk_at dksX24_eats_0 18 rfl rfl)
theorem dX24_eats_19 : decode cX24_eats 19 = .ok (.ireturn, 1) := dk_172 (dk_at dksX24_eats_0 19 rfl rfl)
abbrev cX24_flies : ByteArray := prog_13_method_3_code
def yX24_flies : MethodName := ⟨RX24, "flies", "(I)I"⟩
def dkwX24_flies_0 : List UInt8 := [42, 180, 0, 1, 16, 41, 182, 0, 13, 42, 27, 4, 100, 183, 0, 27, 172]
abbrev dktX24_flies_0 : List UInt8 := dkwX24_flies_0 ++ []
theorem dksX24_flies_0 : cX24_flies.data.toList.drop 0 = dktX24_flies_0 := by decide +kernel
theorem dX24_flies_0 : decode cX24_flies 0 = .ok (.aload_n 0, 1) := dk_42 (dk_at dksX24_flies_0 0 rfl rfl)
theorem dX24_flies_1 : decode cX24_flies 1 = .ok (.getfield 1, 3) := dk_180 0 1 (dk_at dksX24_flies_0 1 rfl rfl)
theorem dX24_flies_4 : decode cX24_flies 4 = .ok (.bipush 41, 2) := dk_16 41 (dk_at dksX24_flies_0 4 rfl rfl)
theorem dX24_flies_6 : decode cX24_flies 6 = .ok (.invokevirtual 13, 3) := dk_182 0 13 (dk_at dksX24_flies_0 6 rfl rfl)
theorem dX24_flies_9 : decode cX24_flies 9 = .ok (.aload_n 0, 1) := dk_42 (dk_at dksX24_flies_0 9 rfl rfl)
theorem dX24_flies_10 : decode cX24_flies 10 = .ok (.iload_n 1, 1) := dk_27 (dk_at dksX24_flies_0 10 rfl rfl)
theorem dX24_flies_11 : decode cX24_flies 11 = .ok (.iconst 1, 1) := dk_4 (dk_at dksX24_flies_0 11 rfl rfl)
theorem dX24_flies_12 : decode cX24_flies 12 = .ok (.isub, 1) := dk_100 (dk_at dksX24_flies_0 12 rfl rfl)
theorem dX24_flies_13 : decode cX24_flies 13 = .ok (.invokespecial 27, 3) := dk_183 0 27 (dk_at dksX24_flies_0 13 rfl rfl)
theorem dX24_flies_16 : decode cX24_flies 16 = .ok (.ireturn, 1) := dk_172 (dk_at dksX24_flies_0 16 rfl rfl)
theorem q142 : (Jvm.Cond.initialized "HungryHedge$FeederThing") ∈ lw_all := lw_g (lw_at lw_m1 37 rfl) rfl
theorem q1348 : (Jvm.Cond.fieldLink "HungryHedge$FeederThing" (23 : Nat) "HungryHedge$FeederThing" "about" "I") ∈ lw_all := lw_g (lw_at lw_m6 43 rfl) rfl
theorem q1349 : (Jvm.Cond.sameField "HungryHedge$FeederThing" "HungryHedge$PatchThing" "about" "I") ∈ lw_all := lw_g (lw_at lw_m6 44 rfl) rfl
theorem q1375 : (Jvm.Cond.instantiable "HungryHedge$FeederThing" (6 : Nat)) ∈ lw_all := lw_g (lw_at lw_m6 70 rfl) rfl
theorem q1377 : (Jvm.Cond.instanceMethod ({ cls := "HungryHedge$FeederThing", name := "<init>", desc := "(LHungryHedge;II)V" } : Jvm.MethodName)) ∈ lw_all := lw_g (lw_at lw_m6 72 rfl) rfl
theorem q1378 : (Jvm.Cond.code ({ cls := "HungryHedge$FeederThing", name := "<init>", desc := "(LHungryHedge;II)V" } : Jvm.MethodName) prog_13_method_1_code (4 : Nat) (Option.none : Option Jvm.ClassFile.FieldType)) ∈ lw_all := lw_g (lw_at lw_m6 73 rfl) rfl
theorem q1379 : (Jvm.Cond.methodLink "HungryHedge$FeederThing" (7 : Nat) ({ cls := "HungryHedge$FieldThing", name := "<init>", desc := "(LHungryHedge;II)V" } : Jvm.MethodName)) ∈ lw_all := lw_g (lw_at lw_m6 74 rfl) rfl
theorem q1380 : (Jvm.Cond.fieldLink "HungryHedge$FeederThing" (1 : Nat) "HungryHedge$FeederThing" "this$0" "LHungryHedge;") ∈ lw_all := lw_g (lw_at lw_m6 75 rfl) rfl
theorem q1381 : (Jvm.Cond.laysFinal "HungryHedge$FeederThing" "HungryHedge$FeederThing" "this$0" "LHungryHedge;") ∈ lw_all := lw_g (lw_at lw_m6 76 rfl) rfl
theorem q1382 : (Jvm.Cond.soleField "HungryHedge$FeederThing" "this$0") ∈ lw_all := lw_g (lw_at lw_m6 77 rfl) rfl
theorem q1383 : (Jvm.Cond.laysFinal "HungryHedge$FeederThing" "HungryHedge$FieldThing" "this$0" "LHungryHedge;") ∈ lw_all := lw_g (lw_at lw_m6 78 rfl) rfl
theorem q1384 : (Jvm.Cond.laysFinal "HungryHedge$FeederThing" "HungryHedge$BushThing" "this$0" "LHungryHedge;") ∈ lw_all := lw_g (lw_at lw_m6 79 rfl) rfl
theorem q1385 : (Jvm.Cond.laysFinal "HungryHedge$FeederThing" "HungryHedge$PatchThing" "number" "I") ∈ lw_all := lw_g (lw_at lw_m6 80 rfl) rfl
theorem q1386 : (Jvm.Cond.laysFinal "HungryHedge$FeederThing" "HungryHedge$PatchThing" "about" "I") ∈ lw_all := lw_g (lw_at lw_m6 81 rfl) rfl
theorem q1387 : (Jvm.Cond.laysFinal "HungryHedge$FeederThing" "HungryHedge$PatchThing" "this$0" "LHungryHedge;") ∈ lw_all := lw_g (lw_at lw_m6 82 rfl) rfl
theorem q1388 : (Jvm.Cond.superclass "HungryHedge$FeederThing" "HungryHedge$FieldThing") ∈ lw_all := lw_g (lw_at lw_m6 83 rfl) rfl
theorem q1447 : (Jvm.Cond.selects "HungryHedge$FeederThing" ({ cls := "HungryHedge$PatchThing", name := "its", desc := "()I" } : Jvm.MethodName) ({ cls := "HungryHedge$PatchThing", name := "its", desc := "()I" } : Jvm.MethodName)) ∈ lw_all := lw_g (lw_at lw_m6 142 rfl) rfl
theorem q1455 : (Jvm.Cond.selects "HungryHedge$FeederThing" ({ cls := "HungryHedge$BushThing", name := "its", desc := "()I" } : Jvm.MethodName) ({ cls := "HungryHedge$PatchThing", name := "its", desc := "()I" } : Jvm.MethodName)) ∈ lw_all := lw_g (lw_at lw_m6 150 rfl) rfl
theorem q1459 : (Jvm.Cond.selects "HungryHedge$FeederThing" ({ cls := "HungryHedge$FieldThing", name := "its", desc := "()I" } : Jvm.MethodName) ({ cls := "HungryHedge$PatchThing", name := "its", desc := "()I" } : Jvm.MethodName)) ∈ lw_all := lw_g (lw_at lw_m6 154 rfl) rfl
theorem q1462 : (Jvm.Cond.sameMethod "HungryHedge$FeederThing" "HungryHedge$PatchThing" "its" "()I") ∈ lw_all := lw_g (lw_at lw_m6 157 rfl) rfl
theorem q1463 : (Jvm.Cond.selects "HungryHedge$FeederThing" ({ cls := "HungryHedge$FeederThing", name := "its", desc := "()I" } : Jvm.MethodName) ({ cls := "HungryHedge$PatchThing", name := "its", desc := "()I" } : Jvm.MethodName)) ∈ lw_all := lw_g (lw_at lw_m6 158 rfl) rfl
theorem q1520 : (Jvm.Cond.castable "HungryHedge$FeederThing" "HungryHedge$Tells") ∈ lw_tbl := lw_at lw_m6 215 rfl
theorem q1521 : (Jvm.Cond.selects "HungryHedge$FeederThing" ({ cls := "HungryHedge$Eats", name := "eats", desc := "(I)I" } : Jvm.MethodName) ({ cls := "HungryHedge$FeederThing", name := "eats", desc := "(I)I" } : Jvm.MethodName)) ∈ lw_all := lw_g (lw_at lw_m6 216 rfl) rfl
theorem q1522 : (Jvm.Cond.unhidden "HungryHedge$FeederThing" "eats" "(I)I") ∈ lw_tbl := lw_at lw_m6 217 rfl
theorem q1523 : (Jvm.Cond.instanceMethod ({ cls := "HungryHedge$FeederThing", name := "eats", desc := "(I)I" } : Jvm.MethodName)) ∈ lw_all := lw_g (lw_at lw_m6 218 rfl) rfl
theorem q1524 : (Jvm.Cond.publicMethod ({ cls := "HungryHedge$FeederThing", name := "eats", desc := "(I)I" } : Jvm.MethodName)) ∈ lw_tbl := lw_at lw_m6 219 rfl
theorem q1525 : (Jvm.Cond.code ({ cls := "HungryHedge$FeederThing", name := "eats", desc := "(I)I" } : Jvm.MethodName) prog_13_method_2_code (2 : Nat) (Option.some Jvm.ClassFile.FieldType.int)) ∈ lw_all := lw_g (lw_at lw_m6 220 rfl) rfl
theorem q1526 : (Jvm.Cond.methodLinkNest "HungryHedge$FeederThing" (13 : Nat) ({ cls := "HungryHedge", name := "ran", desc := "(I)V" } : Jvm.MethodName) "HungryHedge") ∈ lw_tbl := lw_at lw_m6 221 rfl
theorem q1527 : (Jvm.Cond.methodLink "HungryHedge$FeederThing" (19 : Nat) ({ cls := "HungryHedge$FieldThing", name := "eats", desc := "(I)I" } : Jvm.MethodName)) ∈ lw_all := lw_g (lw_at lw_m6 222 rfl) rfl
theorem q1573 : (Jvm.Cond.castable "HungryHedge$FeederThing" "HungryHedge$Eats") ∈ lw_tbl := lw_at lw_m7 28 rfl
theorem q1577 : (Jvm.Cond.selects "HungryHedge$FeederThing" ({ cls := "HungryHedge$Eats", name := "stays", desc := "(I)I" } : Jvm.MethodName) ({ cls := "HungryHedge$BushThing", name := "stays", desc := "(I)I" } : Jvm.MethodName)) ∈ lw_all := lw_g (lw_at lw_m7 32 rfl) rfl
theorem q1578 : (Jvm.Cond.unhidden "HungryHedge$FeederThing" "stays" "(I)I") ∈ lw_tbl := lw_at lw_m7 33 rfl
theorem q1609 : (Jvm.Cond.selects "HungryHedge$FeederThing" ({ cls := "HungryHedge$Flies", name := "flies", desc := "(I)I" } : Jvm.MethodName) ({ cls := "HungryHedge$FeederThing", name := "flies", desc := "(I)I" } : Jvm.MethodName)) ∈ lw_all := lw_g (lw_at lw_m7 64 rfl) rfl
theorem q1610 : (Jvm.Cond.unhidden "HungryHedge$FeederThing" "flies" "(I)I") ∈ lw_tbl := lw_at lw_m7 65 rfl
theorem q1611 : (Jvm.Cond.instanceMethod ({ cls := "HungryHedge$FeederThing", name := "flies", desc := "(I)I" } : Jvm.MethodName)) ∈ lw_all := lw_g (lw_at lw_m7 66 rfl) rfl
theorem q1612 : (Jvm.Cond.publicMethod ({ cls := "HungryHedge$FeederThing", name := "flies", desc := "(I)I" } : Jvm.MethodName)) ∈ lw_tbl := lw_at lw_m7 67 rfl
theorem q1613 : (Jvm.Cond.code ({ cls := "HungryHedge$FeederThing", name := "flies", desc := "(I)I" } : Jvm.MethodName) prog_13_method_3_code (2 : Nat) (Option.some Jvm.ClassFile.FieldType.int)) ∈ lw_all := lw_g (lw_at lw_m7 68 rfl) rfl
theorem q1614 : (Jvm.Cond.methodLink "HungryHedge$FeederThing" (27 : Nat) ({ cls := "HungryHedge$FieldThing", name := "flies", desc := "(I)I" } : Jvm.MethodName)) ∈ lw_all := lw_g (lw_at lw_m7 69 rfl) rfl
theorem q1642 : (Jvm.Cond.selects "HungryHedge$FeederThing" ({ cls := "HungryHedge$Tells", name := "tells", desc := "(I)I" } : Jvm.MethodName) ({ cls := "HungryHedge$FieldThing", name := "tells", desc := "(I)I" } : Jvm.MethodName)) ∈ lw_all := lw_g (lw_at lw_m7 97 rfl) rfl
theorem q1643 : (Jvm.Cond.unhidden "HungryHedge$FeederThing" "tells" "(I)I") ∈ lw_tbl := lw_at lw_m7 98 rfl
theorem q1651 : (Jvm.Cond.selects "HungryHedge$FeederThing" ({ cls := "HungryHedge$FieldThing", name := "flies", desc := "(I)I" } : Jvm.MethodName) ({ cls := "HungryHedge$FeederThing", name := "flies", desc := "(I)I" } : Jvm.MethodName)) ∈ lw_all := lw_g (lw_at lw_m7 106 rfl) rfl
theorem q2397 : (Jvm.Cond.selects "HungryHedge$FeederThing" ({ cls := "HungryHedge$PatchThing", name := "stays", desc := "(I)I" } : Jvm.MethodName) ({ cls := "HungryHedge$BushThing", name := "stays", desc := "(I)I" } : Jvm.MethodName)) ∈ lw_all := lw_g (lw_at lw_m10 132 rfl) rfl
theorem q2402 : (Jvm.Cond.castable "HungryHedge$FeederThing" "HungryHedge$PatchThing") ∈ lw_tbl := lw_at lw_m10 137 rfl
theorem q2405 : (Jvm.Cond.castable "HungryHedge$FeederThing" "HungryHedge$BushThing") ∈ lw_tbl := lw_at lw_m10 140 rfl
theorem q2407 : (Jvm.Cond.castable "HungryHedge$FeederThing" "HungryHedge$FieldThing") ∈ lw_tbl := lw_at lw_m10 142 rfl
theorem in_X24 : ∀ w ∈ wsX240, w ∈ lw_all := lw_in wsX240 [1385, 1386, 1387, 1384, 1383, 1381] (by decide +kernel) (by decide +kernel)

/-! HungryHedge$NestThing -/
set_option maxRecDepth 100000
def RX25 : String := "HungryHedge$NestThing"
def TX25 : u_T := fun k => match k with
  | 0 => ("HungryHedge$PatchThing", "number", "I", true)
  | 1 => ("HungryHedge$PatchThing", "about", "I", true)
  | 2 => ("HungryHedge$PatchThing", "this$0", "LHungryHedge;", true)
  | _ => ("HungryHedge$NestThing", "this$0", "LHungryHedge;", true)
def tyX25 : Nat → FieldType := fun k => match k with
  | 0 => .int
  | 1 => .int
  | 2 => .object "HungryHedge"
  | _ => .object "HungryHedge"
abbrev wsX250 : List Cond := u_ws RX25 TX25 4
-- two fields of one name: no nmX25
theorem tyX25_ok : ∀ k, k < 4 → parseFieldDescriptor (TX25 k).2.2.1 = some (tyX25 k) := by decide +kernel
abbrev cX25_init : ByteArray := prog_18_method_1_code
def yX25_init : MethodName := ⟨RX25, "<init>", "(LHungryHedge;II)V"⟩
def dkwX25_init_0 : List UInt8 := [42, 43, 181, 0, 1, 42, 43, 28, 29, 183, 0, 7, 177]
abbrev dktX25_init_0 : List UInt8 := dkwX25_init_0 ++ []
theorem dksX25_init_0 : cX25_init.data.toList.drop 0 = dktX25_init_0 := by decide +kernel
theorem dX25_init_0 : decode cX25_init 0 = .ok (.aload_n 0, 1) := dk_42 (dk_at dksX25_init_0 0 rfl rfl)
theorem dX25_init_1 : decode cX25_init 1 = .ok (.aload_n 1, 1) := dk_43 (dk_at dksX25_init_0 1 rfl rfl)
theorem dX25_init_2 : decode cX25_init 2 = .ok (.putfield 1, 3) := dk_181 0 1 (dk_at dksX25_init_0 2 rfl rfl)
theorem dX25_init_5 : decode cX25_init 5 = .ok (.aload_n 0, 1) := dk_42 (dk_at dksX25_init_0 5 rfl rfl)
theorem dX25_init_6 : decode cX25_init 6 = .ok (.aload_n 1, 1) := dk_43 (dk_at dksX25_init_0 6 rfl rfl)
theorem dX25_init_7 : decode cX25_init 7 = .ok (.iload_n 2, 1) := dk_28 (dk_at dksX25_init_0 7 rfl rfl)
theorem dX25_init_8 : decode cX25_init 8 = .ok (.iload_n 3, 1) := dk_29 (dk_at dksX25_init_0 8 rfl rfl)
theorem dX25_init_9 : decode cX25_init 9 = .ok (.invokespecial 7, 3) := dk_183 0 7 (dk_at dksX25_init_0 9 rfl rfl)
theorem dX25_init_12 : decode cX25_init 12 = .ok (.return_, 1) := dk_177 (dk_at dksX25_init_0 12 rfl rfl)
abbrev cX25_stays : ByteArray := prog_18_method_2_code
def yX25_stays : MethodName := ⟨RX25, "stays", "(I)I"⟩
def dkwX25_stays_0 : List UInt8 := [42, 180, 0, 1, 16, 50, 182, 0, 13, 3, 42, 27, 183, 0, 19, 100, 172]
abbrev dktX25_stays_0 : List UInt8 := dkwX25_stays_0 ++ []
theorem dksX25_stays_0 : cX25_stays.data.toList.drop 0 = dktX25_stays_0 := by decide +kernel
theorem dX25_stays_0 : decode cX25_stays 0 = .ok (.aload_n 0, 1) := dk_42 (dk_at dksX25_stays_0 0 rfl rfl)
theorem dX25_stays_1 : decode cX25_stays 1 = .ok (.getfield 1, 3) := dk_180 0 1 (dk_at dksX25_stays_0 1 rfl rfl)
theorem dX25_stays_4 : decode cX25_stays 4 = .ok (.bipush 50, 2) := dk_16 50 (dk_at dksX25_stays_0 4 rfl rfl)
theorem dX25_stays_6 : decode cX25_stays 6 = .ok (.invokevirtual 13, 3) := dk_182 0 13 (dk_at dksX25_stays_0 6 rfl rfl)
theorem dX25_stays_9 : decode cX25_stays 9 = .ok (.iconst 0, 1) := dk_3 (dk_at dksX25_stays_0 9 rfl rfl)
theorem dX25_stays_10 : decode cX25_stays 10 = .ok (.aload_n 0, 1) := dk_42 (dk_at dksX25_stays_0 10 rfl rfl)
theorem dX25_stays_11 : decode cX25_stays 11 = .ok (.iload_n 1, 1) := dk_27 (dk_at dksX25_stays_0 11 rfl rfl)
theorem dX25_stays_12 : decode cX25_stays 12 = .ok (.invokespecial 19, 3) := dk_183 0 19 (dk_at dksX25_stays_0 12 rfl rfl)
theorem dX25_stays_15 : decode cX25_stays 15 = .ok (.isub, 1) := dk_100 (dk_at dksX25_stays_0 15 rfl rfl)
theorem dX25_stays_16 : decode cX25_stays 16 = .ok (.ireturn, 1) := dk_172 (dk_at dksX25_stays_0 16 rfl rfl)
theorem q143 : (Jvm.Cond.initialized "HungryHedge$NestThing") ∈ lw_all := lw_g (lw_at lw_m1 38 rfl) rfl
theorem q1390 : (Jvm.Cond.instantiable "HungryHedge$NestThing" (4 : Nat)) ∈ lw_all := lw_g (lw_at lw_m6 85 rfl) rfl
theorem q1392 : (Jvm.Cond.instanceMethod ({ cls := "HungryHedge$NestThing", name := "<init>", desc := "(LHungryHedge;II)V" } : Jvm.MethodName)) ∈ lw_all := lw_g (lw_at lw_m6 87 rfl) rfl
theorem q1393 : (Jvm.Cond.code ({ cls := "HungryHedge$NestThing", name := "<init>", desc := "(LHungryHedge;II)V" } : Jvm.MethodName) prog_18_method_1_code (4 : Nat) (Option.none : Option Jvm.ClassFile.FieldType)) ∈ lw_all := lw_g (lw_at lw_m6 88 rfl) rfl
theorem q1394 : (Jvm.Cond.methodLink "HungryHedge$NestThing" (7 : Nat) ({ cls := "HungryHedge$PatchThing", name := "<init>", desc := "(LHungryHedge;II)V" } : Jvm.MethodName)) ∈ lw_all := lw_g (lw_at lw_m6 89 rfl) rfl
theorem q1395 : (Jvm.Cond.fieldLink "HungryHedge$NestThing" (1 : Nat) "HungryHedge$NestThing" "this$0" "LHungryHedge;") ∈ lw_all := lw_g (lw_at lw_m6 90 rfl) rfl
theorem q1396 : (Jvm.Cond.laysFinal "HungryHedge$NestThing" "HungryHedge$NestThing" "this$0" "LHungryHedge;") ∈ lw_all := lw_g (lw_at lw_m6 91 rfl) rfl
theorem q1397 : (Jvm.Cond.soleField "HungryHedge$NestThing" "this$0") ∈ lw_all := lw_g (lw_at lw_m6 92 rfl) rfl
theorem q1398 : (Jvm.Cond.laysFinal "HungryHedge$NestThing" "HungryHedge$PatchThing" "number" "I") ∈ lw_all := lw_g (lw_at lw_m6 93 rfl) rfl
theorem q1399 : (Jvm.Cond.laysFinal "HungryHedge$NestThing" "HungryHedge$PatchThing" "about" "I") ∈ lw_all := lw_g (lw_at lw_m6 94 rfl) rfl
theorem q1400 : (Jvm.Cond.laysFinal "HungryHedge$NestThing" "HungryHedge$PatchThing" "this$0" "LHungryHedge;") ∈ lw_all := lw_g (lw_at lw_m6 95 rfl) rfl
theorem q1401 : (Jvm.Cond.superclass "HungryHedge$NestThing" "HungryHedge$PatchThing") ∈ lw_all := lw_g (lw_at lw_m6 96 rfl) rfl
theorem q1449 : (Jvm.Cond.selects "HungryHedge$NestThing" ({ cls := "HungryHedge$PatchThing", name := "its", desc := "()I" } : Jvm.MethodName) ({ cls := "HungryHedge$PatchThing", name := "its", desc := "()I" } : Jvm.MethodName)) ∈ lw_all := lw_g (lw_at lw_m6 144 rfl) rfl
theorem q1465 : (Jvm.Cond.sameMethod "HungryHedge$NestThing" "HungryHedge$PatchThing" "its" "()I") ∈ lw_all := lw_g (lw_at lw_m6 160 rfl) rfl
theorem q1466 : (Jvm.Cond.selects "HungryHedge$NestThing" ({ cls := "HungryHedge$NestThing", name := "its", desc := "()I" } : Jvm.MethodName) ({ cls := "HungryHedge$PatchThing", name := "its", desc := "()I" } : Jvm.MethodName)) ∈ lw_all := lw_g (lw_at lw_m6 161 rfl) rfl
theorem q1538 : (Jvm.Cond.castable "HungryHedge$NestThing" "HungryHedge$Tells") ∈ lw_tbl := lw_at lw_m6 233 rfl
theorem q1539 : (Jvm.Cond.selects "HungryHedge$NestThing" ({ cls := "HungryHedge$Eats", name := "eats", desc := "(I)I" } : Jvm.MethodName) ({ cls := "HungryHedge$PatchThing", name := "eats", desc := "(I)I" } : Jvm.MethodName)) ∈ lw_all := lw_g (lw_at lw_m6 234 rfl) rfl
theorem q1540 : (Jvm.Cond.unhidden "HungryHedge$NestThing" "eats" "(I)I") ∈ lw_tbl := lw_at lw_m6 235 rfl
theorem q1575 : (Jvm.Cond.castable "HungryHedge$NestThing" "HungryHedge$Eats") ∈ lw_tbl := lw_at lw_m7 30 rfl
theorem q1581 : (Jvm.Cond.selects "HungryHedge$NestThing" ({ cls := "HungryHedge$Eats", name := "stays", desc := "(I)I" } : Jvm.MethodName) ({ cls := "HungryHedge$NestThing", name := "stays", desc := "(I)I" } : Jvm.MethodName)) ∈ lw_all := lw_g (lw_at lw_m7 36 rfl) rfl
theorem q1582 : (Jvm.Cond.unhidden "HungryHedge$NestThing" "stays" "(I)I") ∈ lw_tbl := lw_at lw_m7 37 rfl
theorem q1583 : (Jvm.Cond.instanceMethod ({ cls := "HungryHedge$NestThing", name := "stays", desc := "(I)I" } : Jvm.MethodName)) ∈ lw_all := lw_g (lw_at lw_m7 38 rfl) rfl
theorem q1584 : (Jvm.Cond.publicMethod ({ cls := "HungryHedge$NestThing", name := "stays", desc := "(I)I" } : Jvm.MethodName)) ∈ lw_tbl := lw_at lw_m7 39 rfl
theorem q1585 : (Jvm.Cond.code ({ cls := "HungryHedge$NestThing", name := "stays", desc := "(I)I" } : Jvm.MethodName) prog_18_method_2_code (2 : Nat) (Option.some Jvm.ClassFile.FieldType.int)) ∈ lw_all := lw_g (lw_at lw_m7 40 rfl) rfl
theorem q1586 : (Jvm.Cond.methodLinkNest "HungryHedge$NestThing" (13 : Nat) ({ cls := "HungryHedge", name := "ran", desc := "(I)V" } : Jvm.MethodName) "HungryHedge") ∈ lw_tbl := lw_at lw_m7 41 rfl
theorem q1587 : (Jvm.Cond.methodLink "HungryHedge$NestThing" (19 : Nat) ({ cls := "HungryHedge$PatchThing", name := "stays", desc := "(I)I" } : Jvm.MethodName)) ∈ lw_all := lw_g (lw_at lw_m7 42 rfl) rfl
theorem q1619 : (Jvm.Cond.selects "HungryHedge$NestThing" ({ cls := "HungryHedge$Flies", name := "flies", desc := "(I)I" } : Jvm.MethodName) ({ cls := "HungryHedge$PatchThing", name := "flies", desc := "(I)I" } : Jvm.MethodName)) ∈ lw_all := lw_g (lw_at lw_m7 74 rfl) rfl
theorem q1620 : (Jvm.Cond.unhidden "HungryHedge$NestThing" "flies" "(I)I") ∈ lw_tbl := lw_at lw_m7 75 rfl
theorem q1655 : (Jvm.Cond.selects "HungryHedge$NestThing" ({ cls := "HungryHedge$Tells", name := "tells", desc := "(I)I" } : Jvm.MethodName) ({ cls := "HungryHedge$PatchThing", name := "tells", desc := "(I)I" } : Jvm.MethodName)) ∈ lw_all := lw_g (lw_at lw_m7 110 rfl) rfl
theorem q1656 : (Jvm.Cond.unhidden "HungryHedge$NestThing" "tells" "(I)I") ∈ lw_tbl := lw_at lw_m7 111 rfl
theorem q2399 : (Jvm.Cond.selects "HungryHedge$NestThing" ({ cls := "HungryHedge$PatchThing", name := "stays", desc := "(I)I" } : Jvm.MethodName) ({ cls := "HungryHedge$NestThing", name := "stays", desc := "(I)I" } : Jvm.MethodName)) ∈ lw_all := lw_g (lw_at lw_m10 134 rfl) rfl
theorem q2404 : (Jvm.Cond.castable "HungryHedge$NestThing" "HungryHedge$PatchThing") ∈ lw_tbl := lw_at lw_m10 139 rfl
theorem in_X25 : ∀ w ∈ wsX250, w ∈ lw_all := lw_in wsX250 [1398, 1399, 1400, 1396] (by decide +kernel) (by decide +kernel)

/-! HungryHedge$RiskThing -/
set_option maxRecDepth 100000
def RX26 : String := "HungryHedge$RiskThing"
def TX26 : u_T := fun k => match k with
  | 0 => ("HungryHedge$RiskThing", "number", "I", true)
  | 1 => ("HungryHedge$RiskThing", "greatest", "I", true)
  | _ => ("HungryHedge$RiskThing", "this$0", "LHungryHedge;", true)
def tyX26 : Nat → FieldType := fun k => match k with
  | 0 => .int
  | 1 => .int
  | _ => .object "HungryHedge"
abbrev wsX260 : List Cond := u_ws RX26 TX26 3
theorem nmX26 : ∀ a, a < 3 → ∀ b, b < 3 → a ≠ b → (TX26 a).2.1 ≠ (TX26 b).2.1 := by decide +kernel
theorem tyX26_ok : ∀ k, k < 3 → parseFieldDescriptor (TX26 k).2.2.1 = some (tyX26 k) := by decide +kernel
abbrev cX26_init : ByteArray := prog_24_method_1_code
def yX26_init : MethodName := ⟨RX26, "<init>", "(LHungryHedge;II)V"⟩
def dkwX26_init_0 : List UInt8 := [42, 43, 181, 0, 1, 42, 183, 0, 7, 42, 28, 181, 0, 13, 42, 29, 181, 0, 17, 177]
abbrev dktX26_init_0 : List UInt8 := dkwX26_init_0 ++ []
theorem dksX26_init_0 : cX26_init.data.toList.drop 0 = dktX26_init_0 := by decide +kernel
theorem dX26_init_0 : decode cX26_init 0 = .ok (.aload_n 0, 1) := dk_42 (dk_at dksX26_init_0 0 rfl rfl)
theorem dX26_init_1 : decode cX26_init 1 = .ok (.aload_n 1, 1) := dk_43 (dk_at dksX26_init_0 1 rfl rfl)
theorem dX26_init_2 : decode cX26_init 2 = .ok (.putfield 1, 3) := dk_181 0 1 (dk_at dksX26_init_0 2 rfl rfl)
theorem dX26_init_5 : decode cX26_init 5 = .ok (.aload_n 0, 1) := dk_42 (dk_at dksX26_init_0 5 rfl rfl)
theorem dX26_init_6 : decode cX26_init 6 = .ok (.invokespecial 7, 3) := dk_183 0 7 (dk_at dksX26_init_0 6 rfl rfl)
theorem dX26_init_9 : decode cX26_init 9 = .ok (.aload_n 0, 1) := dk_42 (dk_at dksX26_init_0 9 rfl rfl)
theorem dX26_init_10 : decode cX26_init 10 = .ok (.iload_n 2, 1) := dk_28 (dk_at dksX26_init_0 10 rfl rfl)
theorem dX26_init_11 : decode cX26_init 11 = .ok (.putfield 13, 3) := dk_181 0 13 (dk_at dksX26_init_0 11 rfl rfl)
theorem dX26_init_14 : decode cX26_init 14 = .ok (.aload_n 0, 1) := dk_42 (dk_at dksX26_init_0 14 rfl rfl)
theorem dX26_init_15 : decode cX26_init 15 = .ok (.iload_n 3, 1) := dk_29 (dk_at dksX26_init_0 15 rfl rfl)
theorem dX26_init_16 : decode cX26_init 16 = .ok (.putfield 17, 3) := dk_181 0 17 (dk_at dksX26_init_0 16 rfl rfl)
theorem dX26_init_19 : decode cX26_init 19 = .ok (.return_, 1) := dk_177 (dk_at dksX26_init_0 19 rfl rfl)
abbrev cX26_its : ByteArray := prog_24_method_2_code
def yX26_its : MethodName := ⟨RX26, "its", "()I"⟩
theorem dX26_its_0 : decode cX26_its 0 = .ok (.aload_n 0, 1) := by decide +kernel
theorem dX26_its_1 : decode cX26_its 1 = .ok (.getfield 13, 3) := by decide +kernel
theorem dX26_its_4 : decode cX26_its 4 = .ok (.ireturn, 1) := by decide +kernel
abbrev cX26_eats : ByteArray := prog_24_method_3_code
def yX26_eats : MethodName := ⟨RX26, "eats", "(I)I"⟩
def dkwX26_eats_0 : List UInt8 := [42, 180, 0, 1, 16, 60, 182, 0, 20, 42, 180, 0, 17, 27, 100, 172]
abbrev dktX26_eats_0 : List UInt8 := dkwX26_eats_0 ++ []
theorem dksX26_eats_0 : cX26_eats.data.toList.drop 0 = dktX26_eats_0 := by decide +kernel
theorem dX26_eats_0 : decode cX26_eats 0 = .ok (.aload_n 0, 1) := dk_42 (dk_at dksX26_eats_0 0 rfl rfl)
theorem dX26_eats_1 : decode cX26_eats 1 = .ok (.getfield 1, 3) := dk_180 0 1 (dk_at dksX26_eats_0 1 rfl rfl)
theorem dX26_eats_4 : decode cX26_eats 4 = .ok (.bipush 60, 2) := dk_16 60 (dk_at dksX26_eats_0 4 rfl rfl)
theorem dX26_eats_6 : decode cX26_eats 6 = .ok (.invokevirtual 20, 3) := dk_182 0 20 (dk_at dksX26_eats_0 6 rfl rfl)
theorem dX26_eats_9 : decode cX26_eats 9 = .ok (.aload_n 0, 1) := dk_42 (dk_at dksX26_eats_0 9 rfl rfl)
theorem dX26_eats_10 : decode cX26_eats 10 = .ok (.getfield 17, 3) := dk_180 0 17 (dk_at dksX26_eats_0 10 rfl rfl)
theorem dX26_eats_13 : decode cX26_eats 13 = .ok (.iload_n 1, 1) := dk_27 (dk_at dksX26_eats_0 13 rfl rfl)
theorem dX26_eats_14 : decode cX26_eats 14 = .ok (.isub, 1) := dk_100 (dk_at dksX26_eats_0 14 rfl rfl)
theorem dX26_eats_15 : decode cX26_eats 15 = .ok (.ireturn, 1) := dk_172 (dk_at dksX26_eats_0 15 rfl rfl)
abbrev cX26_stays : ByteArray := prog_24_method_4_code
def yX26_stays : MethodName := ⟨RX26, "stays", "(I)I"⟩
def dkwX26_stays_0 : List UInt8 := [42, 180, 0, 1, 16, 61, 182, 0, 20, 42, 27, 182, 0, 26, 42, 180, 0, 13, 96, 172]
abbrev dktX26_stays_0 : List UInt8 := dkwX26_stays_0 ++ []
theorem dksX26_stays_0 : cX26_stays.data.toList.drop 0 = dktX26_stays_0 := by decide +kernel
theorem dX26_stays_0 : decode cX26_stays 0 = .ok (.aload_n 0, 1) := dk_42 (dk_at dksX26_stays_0 0 rfl rfl)
theorem dX26_stays_1 : decode cX26_stays 1 = .ok (.getfield 1, 3) := dk_180 0 1 (dk_at dksX26_stays_0 1 rfl rfl)
theorem dX26_stays_4 : decode cX26_stays 4 = .ok (.bipush 61, 2) := dk_16 61 (dk_at dksX26_stays_0 4 rfl rfl)
theorem dX26_stays_6 : decode cX26_stays 6 = .ok (.invokevirtual 20, 3) := dk_182 0 20 (dk_at dksX26_stays_0 6 rfl rfl)
theorem dX26_stays_9 : decode cX26_stays 9 = .ok (.aload_n 0, 1) := dk_42 (dk_at dksX26_stays_0 9 rfl rfl)
theorem dX26_stays_10 : decode cX26_stays 10 = .ok (.iload_n 1, 1) := dk_27 (dk_at dksX26_stays_0 10 rfl rfl)
theorem dX26_stays_11 : decode cX26_stays 11 = .ok (.invokevirtual 26, 3) := dk_182 0 26 (dk_at dksX26_stays_0 11 rfl rfl)
theorem dX26_stays_14 : decode cX26_stays 14 = .ok (.aload_n 0, 1) := dk_42 (dk_at dksX26_stays_0 14 rfl rfl)
theorem dX26_stays_15 : decode cX26_stays 15 = .ok (.getfield 13, 3) := dk_180 0 13 (dk_at dksX26_stays_0 15 rfl rfl)
theorem dX26_stays_18 : decode cX26_stays 18 = .ok (.iadd, 1) := dk_96 (dk_at dksX26_stays_0 18 rfl rfl)
theorem dX26_stays_19 : decode cX26_stays 19 = .ok (.ireturn, 1) := dk_172 (dk_at dksX26_stays_0 19 rfl rfl)
abbrev cX26_flies : ByteArray := prog_24_method_5_code
def yX26_flies : MethodName := ⟨RX26, "flies", "(I)I"⟩
def dkwX26_flies_0 : List UInt8 := [42, 180, 0, 1, 16, 62, 182, 0, 20, 27, 42, 180, 0, 17, 126, 172]
abbrev dktX26_flies_0 : List UInt8 := dkwX26_flies_0 ++ []
theorem dksX26_flies_0 : cX26_flies.data.toList.drop 0 = dktX26_flies_0 := by decide +kernel
theorem dX26_flies_0 : decode cX26_flies 0 = .ok (.aload_n 0, 1) := dk_42 (dk_at dksX26_flies_0 0 rfl rfl)
theorem dX26_flies_1 : decode cX26_flies 1 = .ok (.getfield 1, 3) := dk_180 0 1 (dk_at dksX26_flies_0 1 rfl rfl)
theorem dX26_flies_4 : decode cX26_flies 4 = .ok (.bipush 62, 2) := dk_16 62 (dk_at dksX26_flies_0 4 rfl rfl)
theorem dX26_flies_6 : decode cX26_flies 6 = .ok (.invokevirtual 20, 3) := dk_182 0 20 (dk_at dksX26_flies_0 6 rfl rfl)
theorem dX26_flies_9 : decode cX26_flies 9 = .ok (.iload_n 1, 1) := dk_27 (dk_at dksX26_flies_0 9 rfl rfl)
theorem dX26_flies_10 : decode cX26_flies 10 = .ok (.aload_n 0, 1) := dk_42 (dk_at dksX26_flies_0 10 rfl rfl)
theorem dX26_flies_11 : decode cX26_flies 11 = .ok (.getfield 17, 3) := dk_180 0 17 (dk_at dksX26_flies_0 11 rfl rfl)
theorem dX26_flies_14 : decode cX26_flies 14 = .ok (.iand, 1) := dk_126 (dk_at dksX26_flies_0 14 rfl rfl)
theorem dX26_flies_15 : decode cX26_flies 15 = .ok (.ireturn, 1) := dk_172 (dk_at dksX26_flies_0 15 rfl rfl)
abbrev cX26_tells : ByteArray := prog_24_method_6_code
def yX26_tells : MethodName := ⟨RX26, "tells", "(I)I"⟩
def dkwX26_tells_0 : List UInt8 := [42, 180, 0, 1, 16, 63, 182, 0, 20, 42, 27, 182, 0, 30, 16, 7, 104, 172]
abbrev dktX26_tells_0 : List UInt8 := dkwX26_tells_0 ++ []
theorem dksX26_tells_0 : cX26_tells.data.toList.drop 0 = dktX26_tells_0 := by decide +kernel
theorem dX26_tells_0 : decode cX26_tells 0 = .ok (.aload_n 0, 1) := dk_42 (dk_at dksX26_tells_0 0 rfl rfl)
theorem dX26_tells_1 : decode cX26_tells 1 = .ok (.getfield 1, 3) := dk_180 0 1 (dk_at dksX26_tells_0 1 rfl rfl)
theorem dX26_tells_4 : decode cX26_tells 4 = .ok (.bipush 63, 2) := dk_16 63 (dk_at dksX26_tells_0 4 rfl rfl)
theorem dX26_tells_6 : decode cX26_tells 6 = .ok (.invokevirtual 20, 3) := dk_182 0 20 (dk_at dksX26_tells_0 6 rfl rfl)
theorem dX26_tells_9 : decode cX26_tells 9 = .ok (.aload_n 0, 1) := dk_42 (dk_at dksX26_tells_0 9 rfl rfl)
theorem dX26_tells_10 : decode cX26_tells 10 = .ok (.iload_n 1, 1) := dk_27 (dk_at dksX26_tells_0 10 rfl rfl)
theorem dX26_tells_11 : decode cX26_tells 11 = .ok (.invokevirtual 30, 3) := dk_182 0 30 (dk_at dksX26_tells_0 11 rfl rfl)
theorem dX26_tells_14 : decode cX26_tells 14 = .ok (.bipush 7, 2) := dk_16 7 (dk_at dksX26_tells_0 14 rfl rfl)
theorem dX26_tells_16 : decode cX26_tells 16 = .ok (.imul, 1) := dk_104 (dk_at dksX26_tells_0 16 rfl rfl)
theorem dX26_tells_17 : decode cX26_tells 17 = .ok (.ireturn, 1) := dk_172 (dk_at dksX26_tells_0 17 rfl rfl)
theorem q144 : (Jvm.Cond.initialized "HungryHedge$RiskThing") ∈ lw_all := lw_g (lw_at lw_m1 39 rfl) rfl
theorem q1403 : (Jvm.Cond.instantiable "HungryHedge$RiskThing" (3 : Nat)) ∈ lw_all := lw_g (lw_at lw_m6 98 rfl) rfl
theorem q1410 : (Jvm.Cond.instanceMethod ({ cls := "HungryHedge$RiskThing", name := "<init>", desc := "(LHungryHedge;II)V" } : Jvm.MethodName)) ∈ lw_all := lw_g (lw_at lw_m6 105 rfl) rfl
theorem q1411 : (Jvm.Cond.code ({ cls := "HungryHedge$RiskThing", name := "<init>", desc := "(LHungryHedge;II)V" } : Jvm.MethodName) prog_24_method_1_code (4 : Nat) (Option.none : Option Jvm.ClassFile.FieldType)) ∈ lw_all := lw_g (lw_at lw_m6 106 rfl) rfl
theorem q1412 : (Jvm.Cond.methodLink "HungryHedge$RiskThing" (7 : Nat) ({ cls := "java/lang/Object", name := "<init>", desc := "()V" } : Jvm.MethodName)) ∈ lw_all := lw_g (lw_at lw_m6 107 rfl) rfl
theorem q1413 : (Jvm.Cond.fieldLink "HungryHedge$RiskThing" (13 : Nat) "HungryHedge$RiskThing" "number" "I") ∈ lw_all := lw_g (lw_at lw_m6 108 rfl) rfl
theorem q1414 : (Jvm.Cond.fieldLink "HungryHedge$RiskThing" (17 : Nat) "HungryHedge$RiskThing" "greatest" "I") ∈ lw_all := lw_g (lw_at lw_m6 109 rfl) rfl
theorem q1415 : (Jvm.Cond.fieldLink "HungryHedge$RiskThing" (1 : Nat) "HungryHedge$RiskThing" "this$0" "LHungryHedge;") ∈ lw_all := lw_g (lw_at lw_m6 110 rfl) rfl
theorem q1416 : (Jvm.Cond.laysFinal "HungryHedge$RiskThing" "HungryHedge$RiskThing" "number" "I") ∈ lw_all := lw_g (lw_at lw_m6 111 rfl) rfl
theorem q1417 : (Jvm.Cond.soleField "HungryHedge$RiskThing" "number") ∈ lw_all := lw_g (lw_at lw_m6 112 rfl) rfl
theorem q1418 : (Jvm.Cond.laysFinal "HungryHedge$RiskThing" "HungryHedge$RiskThing" "greatest" "I") ∈ lw_all := lw_g (lw_at lw_m6 113 rfl) rfl
theorem q1419 : (Jvm.Cond.soleField "HungryHedge$RiskThing" "greatest") ∈ lw_all := lw_g (lw_at lw_m6 114 rfl) rfl
theorem q1420 : (Jvm.Cond.laysFinal "HungryHedge$RiskThing" "HungryHedge$RiskThing" "this$0" "LHungryHedge;") ∈ lw_all := lw_g (lw_at lw_m6 115 rfl) rfl
theorem q1421 : (Jvm.Cond.soleField "HungryHedge$RiskThing" "this$0") ∈ lw_all := lw_g (lw_at lw_m6 116 rfl) rfl
theorem q1422 : (Jvm.Cond.superclass "HungryHedge$RiskThing" "java/lang/Object") ∈ lw_all := lw_g (lw_at lw_m6 117 rfl) rfl
theorem q1468 : (Jvm.Cond.instanceMethod ({ cls := "HungryHedge$RiskThing", name := "its", desc := "()I" } : Jvm.MethodName)) ∈ lw_all := lw_g (lw_at lw_m6 163 rfl) rfl
theorem q1469 : (Jvm.Cond.selects "HungryHedge$RiskThing" ({ cls := "HungryHedge$RiskThing", name := "its", desc := "()I" } : Jvm.MethodName) ({ cls := "HungryHedge$RiskThing", name := "its", desc := "()I" } : Jvm.MethodName)) ∈ lw_all := lw_g (lw_at lw_m6 164 rfl) rfl
theorem q1470 : (Jvm.Cond.code ({ cls := "HungryHedge$RiskThing", name := "its", desc := "()I" } : Jvm.MethodName) prog_24_method_2_code (1 : Nat) (Option.some Jvm.ClassFile.FieldType.int)) ∈ lw_all := lw_g (lw_at lw_m6 165 rfl) rfl
theorem q1541 : (Jvm.Cond.castable "HungryHedge$RiskThing" "HungryHedge$Tells") ∈ lw_tbl := lw_at lw_m6 236 rfl
theorem q1542 : (Jvm.Cond.selects "HungryHedge$RiskThing" ({ cls := "HungryHedge$Eats", name := "eats", desc := "(I)I" } : Jvm.MethodName) ({ cls := "HungryHedge$RiskThing", name := "eats", desc := "(I)I" } : Jvm.MethodName)) ∈ lw_all := lw_g (lw_at lw_m6 237 rfl) rfl
theorem q1543 : (Jvm.Cond.unhidden "HungryHedge$RiskThing" "eats" "(I)I") ∈ lw_tbl := lw_at lw_m6 238 rfl
theorem q1544 : (Jvm.Cond.instanceMethod ({ cls := "HungryHedge$RiskThing", name := "eats", desc := "(I)I" } : Jvm.MethodName)) ∈ lw_all := lw_g (lw_at lw_m6 239 rfl) rfl
theorem q1545 : (Jvm.Cond.publicMethod ({ cls := "HungryHedge$RiskThing", name := "eats", desc := "(I)I" } : Jvm.MethodName)) ∈ lw_tbl := lw_at lw_m7 0 rfl
theorem q1546 : (Jvm.Cond.code ({ cls := "HungryHedge$RiskThing", name := "eats", desc := "(I)I" } : Jvm.MethodName) prog_24_method_3_code (2 : Nat) (Option.some Jvm.ClassFile.FieldType.int)) ∈ lw_all := lw_g (lw_at lw_m7 1 rfl) rfl
theorem q1547 : (Jvm.Cond.methodLinkNest "HungryHedge$RiskThing" (20 : Nat) ({ cls := "HungryHedge", name := "ran", desc := "(I)V" } : Jvm.MethodName) "HungryHedge") ∈ lw_tbl := lw_at lw_m7 2 rfl
theorem q1576 : (Jvm.Cond.castable "HungryHedge$RiskThing" "HungryHedge$Eats") ∈ lw_tbl := lw_at lw_m7 31 rfl
theorem q1588 : (Jvm.Cond.selects "HungryHedge$RiskThing" ({ cls := "HungryHedge$Eats", name := "stays", desc := "(I)I" } : Jvm.MethodName) ({ cls := "HungryHedge$RiskThing", name := "stays", desc := "(I)I" } : Jvm.MethodName)) ∈ lw_all := lw_g (lw_at lw_m7 43 rfl) rfl
theorem q1589 : (Jvm.Cond.unhidden "HungryHedge$RiskThing" "stays" "(I)I") ∈ lw_tbl := lw_at lw_m7 44 rfl
theorem q1590 : (Jvm.Cond.instanceMethod ({ cls := "HungryHedge$RiskThing", name := "stays", desc := "(I)I" } : Jvm.MethodName)) ∈ lw_all := lw_g (lw_at lw_m7 45 rfl) rfl
theorem q1591 : (Jvm.Cond.publicMethod ({ cls := "HungryHedge$RiskThing", name := "stays", desc := "(I)I" } : Jvm.MethodName)) ∈ lw_tbl := lw_at lw_m7 46 rfl
theorem q1592 : (Jvm.Cond.code ({ cls := "HungryHedge$RiskThing", name := "stays", desc := "(I)I" } : Jvm.MethodName) prog_24_method_4_code (2 : Nat) (Option.some Jvm.ClassFile.FieldType.int)) ∈ lw_all := lw_g (lw_at lw_m7 47 rfl) rfl
theorem q1593 : (Jvm.Cond.methodLink "HungryHedge$RiskThing" (26 : Nat) ({ cls := "HungryHedge$RiskThing", name := "eats", desc := "(I)I" } : Jvm.MethodName)) ∈ lw_all := lw_g (lw_at lw_m7 48 rfl) rfl
theorem q1621 : (Jvm.Cond.selects "HungryHedge$RiskThing" ({ cls := "HungryHedge$Flies", name := "flies", desc := "(I)I" } : Jvm.MethodName) ({ cls := "HungryHedge$RiskThing", name := "flies", desc := "(I)I" } : Jvm.MethodName)) ∈ lw_all := lw_g (lw_at lw_m7 76 rfl) rfl
theorem q1622 : (Jvm.Cond.unhidden "HungryHedge$RiskThing" "flies" "(I)I") ∈ lw_tbl := lw_at lw_m7 77 rfl
theorem q1623 : (Jvm.Cond.instanceMethod ({ cls := "HungryHedge$RiskThing", name := "flies", desc := "(I)I" } : Jvm.MethodName)) ∈ lw_all := lw_g (lw_at lw_m7 78 rfl) rfl
theorem q1624 : (Jvm.Cond.publicMethod ({ cls := "HungryHedge$RiskThing", name := "flies", desc := "(I)I" } : Jvm.MethodName)) ∈ lw_tbl := lw_at lw_m7 79 rfl
theorem q1625 : (Jvm.Cond.code ({ cls := "HungryHedge$RiskThing", name := "flies", desc := "(I)I" } : Jvm.MethodName) prog_24_method_5_code (2 : Nat) (Option.some Jvm.ClassFile.FieldType.int)) ∈ lw_all := lw_g (lw_at lw_m7 80 rfl) rfl
theorem q1657 : (Jvm.Cond.selects "HungryHedge$RiskThing" ({ cls := "HungryHedge$Tells", name := "tells", desc := "(I)I" } : Jvm.MethodName) ({ cls := "HungryHedge$RiskThing", name := "tells", desc := "(I)I" } : Jvm.MethodName)) ∈ lw_all := lw_g (lw_at lw_m7 112 rfl) rfl
theorem q1658 : (Jvm.Cond.unhidden "HungryHedge$RiskThing" "tells" "(I)I") ∈ lw_tbl := lw_at lw_m7 113 rfl
theorem q1659 : (Jvm.Cond.instanceMethod ({ cls := "HungryHedge$RiskThing", name := "tells", desc := "(I)I" } : Jvm.MethodName)) ∈ lw_all := lw_g (lw_at lw_m7 114 rfl) rfl
theorem q1660 : (Jvm.Cond.publicMethod ({ cls := "HungryHedge$RiskThing", name := "tells", desc := "(I)I" } : Jvm.MethodName)) ∈ lw_tbl := lw_at lw_m7 115 rfl
theorem q1661 : (Jvm.Cond.code ({ cls := "HungryHedge$RiskThing", name := "tells", desc := "(I)I" } : Jvm.MethodName) prog_24_method_6_code (2 : Nat) (Option.some Jvm.ClassFile.FieldType.int)) ∈ lw_all := lw_g (lw_at lw_m7 116 rfl) rfl
theorem q1662 : (Jvm.Cond.methodLink "HungryHedge$RiskThing" (30 : Nat) ({ cls := "HungryHedge$RiskThing", name := "stays", desc := "(I)I" } : Jvm.MethodName)) ∈ lw_all := lw_g (lw_at lw_m7 117 rfl) rfl
theorem q2392 : (Jvm.Cond.selects "HungryHedge$RiskThing" ({ cls := "HungryHedge$RiskThing", name := "eats", desc := "(I)I" } : Jvm.MethodName) ({ cls := "HungryHedge$RiskThing", name := "eats", desc := "(I)I" } : Jvm.MethodName)) ∈ lw_all := lw_g (lw_at lw_m10 127 rfl) rfl
theorem q2400 : (Jvm.Cond.selects "HungryHedge$RiskThing" ({ cls := "HungryHedge$RiskThing", name := "stays", desc := "(I)I" } : Jvm.MethodName) ({ cls := "HungryHedge$RiskThing", name := "stays", desc := "(I)I" } : Jvm.MethodName)) ∈ lw_all := lw_g (lw_at lw_m10 135 rfl) rfl
theorem in_X26 : ∀ w ∈ wsX260, w ∈ lw_all := lw_in wsX260 [1416, 1418, 1420] (by decide +kernel) (by decide +kernel)

/-! HungryHedge$BirdThing -/
set_option maxRecDepth 100000
def RX27 : String := "HungryHedge$BirdThing"
def TX27 : u_T := fun k => match k with
  | 0 => ("HungryHedge$BirdThing", "place", "I", true)
  | 1 => ("HungryHedge$BirdThing", "got", "I", true)
  | _ => ("HungryHedge$BirdThing", "this$0", "LHungryHedge;", true)
def tyX27 : Nat → FieldType := fun k => match k with
  | 0 => .int
  | 1 => .int
  | _ => .object "HungryHedge"
abbrev wsX270 : List Cond := u_ws RX27 TX27 3
theorem nmX27 : ∀ a, a < 3 → ∀ b, b < 3 → a ≠ b → (TX27 a).2.1 ≠ (TX27 b).2.1 := by decide +kernel
theorem tyX27_ok : ∀ k, k < 3 → parseFieldDescriptor (TX27 k).2.2.1 = some (tyX27 k) := by decide +kernel
abbrev cX27_init : ByteArray := prog_3_method_1_code
def yX27_init : MethodName := ⟨RX27, "<init>", "(LHungryHedge;II)V"⟩
def dkwX27_init_0 : List UInt8 := [42, 43, 181, 0, 1, 42, 183, 0, 7, 42, 28, 181, 0, 13, 42, 29, 181, 0, 17, 177]
abbrev dktX27_init_0 : List UInt8 := dkwX27_init_0 ++ []
theorem dksX27_init_0 : cX27_init.data.toList.drop 0 = dktX27_init_0 := by decide +kernel
theorem dX27_init_0 : decode cX27_init 0 = .ok (.aload_n 0, 1) := dk_42 (dk_at dksX27_init_0 0 rfl rfl)
theorem dX27_init_1 : decode cX27_init 1 = .ok (.aload_n 1, 1) := dk_43 (dk_at dksX27_init_0 1 rfl rfl)
theorem dX27_init_2 : decode cX27_init 2 = .ok (.putfield 1, 3) := dk_181 0 1 (dk_at dksX27_init_0 2 rfl rfl)
theorem dX27_init_5 : decode cX27_init 5 = .ok (.aload_n 0, 1) := dk_42 (dk_at dksX27_init_0 5 rfl rfl)
theorem dX27_init_6 : decode cX27_init 6 = .ok (.invokespecial 7, 3) := dk_183 0 7 (dk_at dksX27_init_0 6 rfl rfl)
theorem dX27_init_9 : decode cX27_init 9 = .ok (.aload_n 0, 1) := dk_42 (dk_at dksX27_init_0 9 rfl rfl)
theorem dX27_init_10 : decode cX27_init 10 = .ok (.iload_n 2, 1) := dk_28 (dk_at dksX27_init_0 10 rfl rfl)
theorem dX27_init_11 : decode cX27_init 11 = .ok (.putfield 13, 3) := dk_181 0 13 (dk_at dksX27_init_0 11 rfl rfl)
theorem dX27_init_14 : decode cX27_init 14 = .ok (.aload_n 0, 1) := dk_42 (dk_at dksX27_init_0 14 rfl rfl)
theorem dX27_init_15 : decode cX27_init 15 = .ok (.iload_n 3, 1) := dk_29 (dk_at dksX27_init_0 15 rfl rfl)
theorem dX27_init_16 : decode cX27_init 16 = .ok (.putfield 17, 3) := dk_181 0 17 (dk_at dksX27_init_0 16 rfl rfl)
theorem dX27_init_19 : decode cX27_init 19 = .ok (.return_, 1) := dk_177 (dk_at dksX27_init_0 19 rfl rfl)
abbrev cX27_its : ByteArray := prog_3_method_2_code
def yX27_its : MethodName := ⟨RX27, "its", "()I"⟩
theorem dX27_its_0 : decode cX27_its 0 = .ok (.aload_n 0, 1) := by decide +kernel
theorem dX27_its_1 : decode cX27_its 1 = .ok (.getfield 13, 3) := by decide +kernel
theorem dX27_its_4 : decode cX27_its 4 = .ok (.ireturn, 1) := by decide +kernel
abbrev cX27_eats : ByteArray := prog_3_method_3_code
def yX27_eats : MethodName := ⟨RX27, "eats", "(I)I"⟩
def dkwX27_eats_0 : List UInt8 := [42, 180, 0, 1, 16, 70, 182, 0, 20, 27, 42, 180, 0, 17, 100, 172]
abbrev dktX27_eats_0 : List UInt8 := dkwX27_eats_0 ++ []
theorem dksX27_eats_0 : cX27_eats.data.toList.drop 0 = dktX27_eats_0 := by decide +kernel
theorem dX27_eats_0 : decode cX27_eats 0 = .ok (.aload_n 0, 1) := dk_42 (dk_at dksX27_eats_0 0 rfl rfl)
theorem dX27_eats_1 : decode cX27_eats 1 = .ok (.getfield 1, 3) := dk_180 0 1 (dk_at dksX27_eats_0 1 rfl rfl)
theorem dX27_eats_4 : decode cX27_eats 4 = .ok (.bipush 70, 2) := dk_16 70 (dk_at dksX27_eats_0 4 rfl rfl)
theorem dX27_eats_6 : decode cX27_eats 6 = .ok (.invokevirtual 20, 3) := dk_182 0 20 (dk_at dksX27_eats_0 6 rfl rfl)
theorem dX27_eats_9 : decode cX27_eats 9 = .ok (.iload_n 1, 1) := dk_27 (dk_at dksX27_eats_0 9 rfl rfl)
theorem dX27_eats_10 : decode cX27_eats 10 = .ok (.aload_n 0, 1) := dk_42 (dk_at dksX27_eats_0 10 rfl rfl)
theorem dX27_eats_11 : decode cX27_eats 11 = .ok (.getfield 17, 3) := dk_180 0 17 (dk_at dksX27_eats_0 11 rfl rfl)
theorem dX27_eats_14 : decode cX27_eats 14 = .ok (.isub, 1) := dk_100 (dk_at dksX27_eats_0 14 rfl rfl)
theorem dX27_eats_15 : decode cX27_eats 15 = .ok (.ireturn, 1) := dk_172 (dk_at dksX27_eats_0 15 rfl rfl)
abbrev cX27_stays : ByteArray := prog_3_method_4_code
def yX27_stays : MethodName := ⟨RX27, "stays", "(I)I"⟩
def dkwX27_stays_0 : List UInt8 := [42, 180, 0, 1, 16, 71, 182, 0, 20, 27, 42, 180, 0, 13, 104, 172]
abbrev dktX27_stays_0 : List UInt8 := dkwX27_stays_0 ++ []
theorem dksX27_stays_0 : cX27_stays.data.toList.drop 0 = dktX27_stays_0 := by decide +kernel
theorem dX27_stays_0 : decode cX27_stays 0 = .ok (.aload_n 0, 1) := dk_42 (dk_at dksX27_stays_0 0 rfl rfl)
theorem dX27_stays_1 : decode cX27_stays 1 = .ok (.getfield 1, 3) := dk_180 0 1 (dk_at dksX27_stays_0 1 rfl rfl)
theorem dX27_stays_4 : decode cX27_stays 4 = .ok (.bipush 71, 2) := dk_16 71 (dk_at dksX27_stays_0 4 rfl rfl)
theorem dX27_stays_6 : decode cX27_stays 6 = .ok (.invokevirtual 20, 3) := dk_182 0 20 (dk_at dksX27_stays_0 6 rfl rfl)
theorem dX27_stays_9 : decode cX27_stays 9 = .ok (.iload_n 1, 1) := dk_27 (dk_at dksX27_stays_0 9 rfl rfl)
theorem dX27_stays_10 : decode cX27_stays 10 = .ok (.aload_n 0, 1) := dk_42 (dk_at dksX27_stays_0 10 rfl rfl)
theorem dX27_stays_11 : decode cX27_stays 11 = .ok (.getfield 13, 3) := dk_180 0 13 (dk_at dksX27_stays_0 11 rfl rfl)
theorem dX27_stays_14 : decode cX27_stays 14 = .ok (.imul, 1) := dk_104 (dk_at dksX27_stays_0 14 rfl rfl)
theorem dX27_stays_15 : decode cX27_stays 15 = .ok (.ireturn, 1) := dk_172 (dk_at dksX27_stays_0 15 rfl rfl)
abbrev cX27_flies : ByteArray := prog_3_method_5_code
def yX27_flies : MethodName := ⟨RX27, "flies", "(I)I"⟩
def dkwX27_flies_0 : List UInt8 := [42, 180, 0, 1, 16, 72, 182, 0, 20, 42, 27, 182, 0, 26, 61, 28, 42, 27, 182, 0, 30, 96, 172]
abbrev dktX27_flies_0 : List UInt8 := dkwX27_flies_0 ++ []
theorem dksX27_flies_0 : cX27_flies.data.toList.drop 0 = dktX27_flies_0 := by decide +kernel
theorem dX27_flies_0 : decode cX27_flies 0 = .ok (.aload_n 0, 1) := dk_42 (dk_at dksX27_flies_0 0 rfl rfl)
theorem dX27_flies_1 : decode cX27_flies 1 = .ok (.getfield 1, 3) := dk_180 0 1 (dk_at dksX27_flies_0 1 rfl rfl)
theorem dX27_flies_4 : decode cX27_flies 4 = .ok (.bipush 72, 2) := dk_16 72 (dk_at dksX27_flies_0 4 rfl rfl)
theorem dX27_flies_6 : decode cX27_flies 6 = .ok (.invokevirtual 20, 3) := dk_182 0 20 (dk_at dksX27_flies_0 6 rfl rfl)
theorem dX27_flies_9 : decode cX27_flies 9 = .ok (.aload_n 0, 1) := dk_42 (dk_at dksX27_flies_0 9 rfl rfl)
theorem dX27_flies_10 : decode cX27_flies 10 = .ok (.iload_n 1, 1) := dk_27 (dk_at dksX27_flies_0 10 rfl rfl)
theorem dX27_flies_11 : decode cX27_flies 11 = .ok (.invokevirtual 26, 3) := dk_182 0 26 (dk_at dksX27_flies_0 11 rfl rfl)
theorem dX27_flies_14 : decode cX27_flies 14 = .ok (.istore_n 2, 1) := dk_61 (dk_at dksX27_flies_0 14 rfl rfl)
theorem dX27_flies_15 : decode cX27_flies 15 = .ok (.iload_n 2, 1) := dk_28 (dk_at dksX27_flies_0 15 rfl rfl)
theorem dX27_flies_16 : decode cX27_flies 16 = .ok (.aload_n 0, 1) := dk_42 (dk_at dksX27_flies_0 16 rfl rfl)
theorem dX27_flies_17 : decode cX27_flies 17 = .ok (.iload_n 1, 1) := dk_27 (dk_at dksX27_flies_0 17 rfl rfl)
theorem dX27_flies_18 : decode cX27_flies 18 = .ok (.invokevirtual 30, 3) := dk_182 0 30 (dk_at dksX27_flies_0 18 rfl rfl)
theorem dX27_flies_21 : decode cX27_flies 21 = .ok (.iadd, 1) := dk_96 (dk_at dksX27_flies_0 21 rfl rfl)
theorem dX27_flies_22 : decode cX27_flies 22 = .ok (.ireturn, 1) := dk_172 (dk_at dksX27_flies_0 22 rfl rfl)
abbrev cX27_tells : ByteArray := prog_3_method_6_code
def yX27_tells : MethodName := ⟨RX27, "tells", "(I)I"⟩
def dkwX27_tells_0 : List UInt8 := [42, 180, 0, 1, 16, 73, 182, 0, 20, 42, 27, 182, 0, 33, 42, 180, 0, 17, 130, 172]
abbrev dktX27_tells_0 : List UInt8 := dkwX27_tells_0 ++ []
theorem dksX27_tells_0 : cX27_tells.data.toList.drop 0 = dktX27_tells_0 := by decide +kernel
theorem dX27_tells_0 : decode cX27_tells 0 = .ok (.aload_n 0, 1) := dk_42 (dk_at dksX27_tells_0 0 rfl rfl)
theorem dX27_tells_1 : decode cX27_tells 1 = .ok (.getfield 1, 3) := dk_180 0 1 (dk_at dksX27_tells_0 1 rfl rfl)
theorem dX27_tells_4 : decode cX27_tells 4 = .ok (.bipush 73, 2) := dk_16 73 (dk_at dksX27_tells_0 4 rfl rfl)
theorem dX27_tells_6 : decode cX27_tells 6 = .ok (.invokevirtual 20, 3) := dk_182 0 20 (dk_at dksX27_tells_0 6 rfl rfl)
theorem dX27_tells_9 : decode cX27_tells 9 = .ok (.aload_n 0, 1) := dk_42 (dk_at dksX27_tells_0 9 rfl rfl)
theorem dX27_tells_10 : decode cX27_tells 10 = .ok (.iload_n 1, 1) := dk_27 (dk_at dksX27_tells_0 10 rfl rfl)
theorem dX27_tells_11 : decode cX27_tells 11 = .ok (.invokevirtual 33, 3) := dk_182 0 33 (dk_at dksX27_tells_0 11 rfl rfl)
theorem dX27_tells_14 : decode cX27_tells 14 = .ok (.aload_n 0, 1) := dk_42 (dk_at dksX27_tells_0 14 rfl rfl)
theorem dX27_tells_15 : decode cX27_tells 15 = .ok (.getfield 17, 3) := dk_180 0 17 (dk_at dksX27_tells_0 15 rfl rfl)
theorem dX27_tells_18 : decode cX27_tells 18 = .ok (.ixor, 1) := dk_130 (dk_at dksX27_tells_0 18 rfl rfl)
theorem dX27_tells_19 : decode cX27_tells 19 = .ok (.ireturn, 1) := dk_172 (dk_at dksX27_tells_0 19 rfl rfl)
theorem q145 : (Jvm.Cond.initialized "HungryHedge$BirdThing") ∈ lw_all := lw_g (lw_at lw_m1 40 rfl) rfl
theorem q1424 : (Jvm.Cond.instantiable "HungryHedge$BirdThing" (3 : Nat)) ∈ lw_all := lw_g (lw_at lw_m6 119 rfl) rfl
theorem q1426 : (Jvm.Cond.instanceMethod ({ cls := "HungryHedge$BirdThing", name := "<init>", desc := "(LHungryHedge;II)V" } : Jvm.MethodName)) ∈ lw_all := lw_g (lw_at lw_m6 121 rfl) rfl
theorem q1427 : (Jvm.Cond.code ({ cls := "HungryHedge$BirdThing", name := "<init>", desc := "(LHungryHedge;II)V" } : Jvm.MethodName) prog_3_method_1_code (4 : Nat) (Option.none : Option Jvm.ClassFile.FieldType)) ∈ lw_all := lw_g (lw_at lw_m6 122 rfl) rfl
theorem q1428 : (Jvm.Cond.methodLink "HungryHedge$BirdThing" (7 : Nat) ({ cls := "java/lang/Object", name := "<init>", desc := "()V" } : Jvm.MethodName)) ∈ lw_all := lw_g (lw_at lw_m6 123 rfl) rfl
theorem q1429 : (Jvm.Cond.fieldLink "HungryHedge$BirdThing" (13 : Nat) "HungryHedge$BirdThing" "place" "I") ∈ lw_all := lw_g (lw_at lw_m6 124 rfl) rfl
theorem q1430 : (Jvm.Cond.fieldLink "HungryHedge$BirdThing" (17 : Nat) "HungryHedge$BirdThing" "got" "I") ∈ lw_all := lw_g (lw_at lw_m6 125 rfl) rfl
theorem q1431 : (Jvm.Cond.fieldLink "HungryHedge$BirdThing" (1 : Nat) "HungryHedge$BirdThing" "this$0" "LHungryHedge;") ∈ lw_all := lw_g (lw_at lw_m6 126 rfl) rfl
theorem q1432 : (Jvm.Cond.laysFinal "HungryHedge$BirdThing" "HungryHedge$BirdThing" "place" "I") ∈ lw_all := lw_g (lw_at lw_m6 127 rfl) rfl
theorem q1433 : (Jvm.Cond.soleField "HungryHedge$BirdThing" "place") ∈ lw_all := lw_g (lw_at lw_m6 128 rfl) rfl
theorem q1434 : (Jvm.Cond.laysFinal "HungryHedge$BirdThing" "HungryHedge$BirdThing" "got" "I") ∈ lw_all := lw_g (lw_at lw_m6 129 rfl) rfl
theorem q1435 : (Jvm.Cond.soleField "HungryHedge$BirdThing" "got") ∈ lw_all := lw_g (lw_at lw_m6 130 rfl) rfl
theorem q1436 : (Jvm.Cond.laysFinal "HungryHedge$BirdThing" "HungryHedge$BirdThing" "this$0" "LHungryHedge;") ∈ lw_all := lw_g (lw_at lw_m6 131 rfl) rfl
theorem q1437 : (Jvm.Cond.soleField "HungryHedge$BirdThing" "this$0") ∈ lw_all := lw_g (lw_at lw_m6 132 rfl) rfl
theorem q1438 : (Jvm.Cond.superclass "HungryHedge$BirdThing" "java/lang/Object") ∈ lw_all := lw_g (lw_at lw_m6 133 rfl) rfl
theorem q1472 : (Jvm.Cond.instanceMethod ({ cls := "HungryHedge$BirdThing", name := "its", desc := "()I" } : Jvm.MethodName)) ∈ lw_all := lw_g (lw_at lw_m6 167 rfl) rfl
theorem q1473 : (Jvm.Cond.selects "HungryHedge$BirdThing" ({ cls := "HungryHedge$BirdThing", name := "its", desc := "()I" } : Jvm.MethodName) ({ cls := "HungryHedge$BirdThing", name := "its", desc := "()I" } : Jvm.MethodName)) ∈ lw_all := lw_g (lw_at lw_m6 168 rfl) rfl
theorem q1474 : (Jvm.Cond.code ({ cls := "HungryHedge$BirdThing", name := "its", desc := "()I" } : Jvm.MethodName) prog_3_method_2_code (1 : Nat) (Option.some Jvm.ClassFile.FieldType.int)) ∈ lw_all := lw_g (lw_at lw_m6 169 rfl) rfl
theorem q1503 : (Jvm.Cond.castable "HungryHedge$BirdThing" "HungryHedge$Tells") ∈ lw_tbl := lw_at lw_m6 198 rfl
theorem q1504 : (Jvm.Cond.selects "HungryHedge$BirdThing" ({ cls := "HungryHedge$Eats", name := "eats", desc := "(I)I" } : Jvm.MethodName) ({ cls := "HungryHedge$BirdThing", name := "eats", desc := "(I)I" } : Jvm.MethodName)) ∈ lw_all := lw_g (lw_at lw_m6 199 rfl) rfl
theorem q1505 : (Jvm.Cond.unhidden "HungryHedge$BirdThing" "eats" "(I)I") ∈ lw_tbl := lw_at lw_m6 200 rfl
theorem q1506 : (Jvm.Cond.instanceMethod ({ cls := "HungryHedge$BirdThing", name := "eats", desc := "(I)I" } : Jvm.MethodName)) ∈ lw_all := lw_g (lw_at lw_m6 201 rfl) rfl
theorem q1507 : (Jvm.Cond.publicMethod ({ cls := "HungryHedge$BirdThing", name := "eats", desc := "(I)I" } : Jvm.MethodName)) ∈ lw_tbl := lw_at lw_m6 202 rfl
theorem q1508 : (Jvm.Cond.code ({ cls := "HungryHedge$BirdThing", name := "eats", desc := "(I)I" } : Jvm.MethodName) prog_3_method_3_code (2 : Nat) (Option.some Jvm.ClassFile.FieldType.int)) ∈ lw_all := lw_g (lw_at lw_m6 203 rfl) rfl
theorem q1509 : (Jvm.Cond.methodLinkNest "HungryHedge$BirdThing" (20 : Nat) ({ cls := "HungryHedge", name := "ran", desc := "(I)V" } : Jvm.MethodName) "HungryHedge") ∈ lw_tbl := lw_at lw_m6 204 rfl
theorem q1551 : (Jvm.Cond.selects "HungryHedge$BirdThing" ({ cls := "HungryHedge$Eats", name := "stays", desc := "(I)I" } : Jvm.MethodName) ({ cls := "HungryHedge$BirdThing", name := "stays", desc := "(I)I" } : Jvm.MethodName)) ∈ lw_all := lw_g (lw_at lw_m7 6 rfl) rfl
theorem q1552 : (Jvm.Cond.unhidden "HungryHedge$BirdThing" "stays" "(I)I") ∈ lw_tbl := lw_at lw_m7 7 rfl
theorem q1553 : (Jvm.Cond.instanceMethod ({ cls := "HungryHedge$BirdThing", name := "stays", desc := "(I)I" } : Jvm.MethodName)) ∈ lw_all := lw_g (lw_at lw_m7 8 rfl) rfl
theorem q1554 : (Jvm.Cond.publicMethod ({ cls := "HungryHedge$BirdThing", name := "stays", desc := "(I)I" } : Jvm.MethodName)) ∈ lw_tbl := lw_at lw_m7 9 rfl
theorem q1555 : (Jvm.Cond.code ({ cls := "HungryHedge$BirdThing", name := "stays", desc := "(I)I" } : Jvm.MethodName) prog_3_method_4_code (2 : Nat) (Option.some Jvm.ClassFile.FieldType.int)) ∈ lw_all := lw_g (lw_at lw_m7 10 rfl) rfl
theorem q1571 : (Jvm.Cond.castable "HungryHedge$BirdThing" "HungryHedge$Eats") ∈ lw_tbl := lw_at lw_m7 26 rfl
theorem q1597 : (Jvm.Cond.selects "HungryHedge$BirdThing" ({ cls := "HungryHedge$Flies", name := "flies", desc := "(I)I" } : Jvm.MethodName) ({ cls := "HungryHedge$BirdThing", name := "flies", desc := "(I)I" } : Jvm.MethodName)) ∈ lw_all := lw_g (lw_at lw_m7 52 rfl) rfl
theorem q1598 : (Jvm.Cond.unhidden "HungryHedge$BirdThing" "flies" "(I)I") ∈ lw_tbl := lw_at lw_m7 53 rfl
theorem q1599 : (Jvm.Cond.instanceMethod ({ cls := "HungryHedge$BirdThing", name := "flies", desc := "(I)I" } : Jvm.MethodName)) ∈ lw_all := lw_g (lw_at lw_m7 54 rfl) rfl
theorem q1600 : (Jvm.Cond.publicMethod ({ cls := "HungryHedge$BirdThing", name := "flies", desc := "(I)I" } : Jvm.MethodName)) ∈ lw_tbl := lw_at lw_m7 55 rfl
theorem q1601 : (Jvm.Cond.code ({ cls := "HungryHedge$BirdThing", name := "flies", desc := "(I)I" } : Jvm.MethodName) prog_3_method_5_code (3 : Nat) (Option.some Jvm.ClassFile.FieldType.int)) ∈ lw_all := lw_g (lw_at lw_m7 56 rfl) rfl
theorem q1602 : (Jvm.Cond.methodLink "HungryHedge$BirdThing" (26 : Nat) ({ cls := "HungryHedge$BirdThing", name := "eats", desc := "(I)I" } : Jvm.MethodName)) ∈ lw_all := lw_g (lw_at lw_m7 57 rfl) rfl
theorem q1603 : (Jvm.Cond.methodLink "HungryHedge$BirdThing" (30 : Nat) ({ cls := "HungryHedge$BirdThing", name := "stays", desc := "(I)I" } : Jvm.MethodName)) ∈ lw_all := lw_g (lw_at lw_m7 58 rfl) rfl
theorem q1630 : (Jvm.Cond.selects "HungryHedge$BirdThing" ({ cls := "HungryHedge$Tells", name := "tells", desc := "(I)I" } : Jvm.MethodName) ({ cls := "HungryHedge$BirdThing", name := "tells", desc := "(I)I" } : Jvm.MethodName)) ∈ lw_all := lw_g (lw_at lw_m7 85 rfl) rfl
theorem q1631 : (Jvm.Cond.unhidden "HungryHedge$BirdThing" "tells" "(I)I") ∈ lw_tbl := lw_at lw_m7 86 rfl
theorem q1632 : (Jvm.Cond.instanceMethod ({ cls := "HungryHedge$BirdThing", name := "tells", desc := "(I)I" } : Jvm.MethodName)) ∈ lw_all := lw_g (lw_at lw_m7 87 rfl) rfl
theorem q1633 : (Jvm.Cond.publicMethod ({ cls := "HungryHedge$BirdThing", name := "tells", desc := "(I)I" } : Jvm.MethodName)) ∈ lw_tbl := lw_at lw_m7 88 rfl
theorem q1634 : (Jvm.Cond.code ({ cls := "HungryHedge$BirdThing", name := "tells", desc := "(I)I" } : Jvm.MethodName) prog_3_method_6_code (2 : Nat) (Option.some Jvm.ClassFile.FieldType.int)) ∈ lw_all := lw_g (lw_at lw_m7 89 rfl) rfl
theorem q1635 : (Jvm.Cond.methodLink "HungryHedge$BirdThing" (33 : Nat) ({ cls := "HungryHedge$BirdThing", name := "flies", desc := "(I)I" } : Jvm.MethodName)) ∈ lw_all := lw_g (lw_at lw_m7 90 rfl) rfl
theorem q2393 : (Jvm.Cond.selects "HungryHedge$BirdThing" ({ cls := "HungryHedge$BirdThing", name := "eats", desc := "(I)I" } : Jvm.MethodName) ({ cls := "HungryHedge$BirdThing", name := "eats", desc := "(I)I" } : Jvm.MethodName)) ∈ lw_all := lw_g (lw_at lw_m10 128 rfl) rfl
theorem q2394 : (Jvm.Cond.selects "HungryHedge$BirdThing" ({ cls := "HungryHedge$BirdThing", name := "stays", desc := "(I)I" } : Jvm.MethodName) ({ cls := "HungryHedge$BirdThing", name := "stays", desc := "(I)I" } : Jvm.MethodName)) ∈ lw_all := lw_g (lw_at lw_m10 129 rfl) rfl
theorem q2395 : (Jvm.Cond.selects "HungryHedge$BirdThing" ({ cls := "HungryHedge$BirdThing", name := "flies", desc := "(I)I" } : Jvm.MethodName) ({ cls := "HungryHedge$BirdThing", name := "flies", desc := "(I)I" } : Jvm.MethodName)) ∈ lw_all := lw_g (lw_at lw_m10 130 rfl) rfl
theorem in_X27 : ∀ w ∈ wsX270, w ∈ lw_all := lw_in wsX270 [1432, 1434, 1436] (by decide +kernel) (by decide +kernel)

/-! HungryHedge$Eats -/
set_option maxRecDepth 100000
def RX28 : String := "HungryHedge$Eats"
abbrev cX28_stays : ByteArray := prog_10_method_2_code
def yX28_stays : MethodName := ⟨RX28, "stays", "(I)I"⟩
def dkwX28_stays_0 : List UInt8 := [42, 27, 185, 0, 1, 2, 0, 5, 104, 172]
abbrev dktX28_stays_0 : List UInt8 := dkwX28_stays_0 ++ []
theorem dksX28_stays_0 : cX28_stays.data.toList.drop 0 = dktX28_stays_0 := by decide +kernel
theorem dX28_stays_0 : decode cX28_stays 0 = .ok (.aload_n 0, 1) := dk_42 (dk_at dksX28_stays_0 0 rfl rfl)
theorem dX28_stays_1 : decode cX28_stays 1 = .ok (.iload_n 1, 1) := dk_27 (dk_at dksX28_stays_0 1 rfl rfl)
theorem dX28_stays_2 : decode cX28_stays 2 = .ok (.invokeinterface 1 2, 5) := by decide +kernel
theorem dX28_stays_7 : decode cX28_stays 7 = .ok (.iconst 2, 1) := dk_5 (dk_at dksX28_stays_0 7 rfl rfl)
theorem dX28_stays_8 : decode cX28_stays 8 = .ok (.imul, 1) := dk_104 (dk_at dksX28_stays_0 8 rfl rfl)
theorem dX28_stays_9 : decode cX28_stays 9 = .ok (.ireturn, 1) := dk_172 (dk_at dksX28_stays_0 9 rfl rfl)
theorem q1501 : (Jvm.Cond.publicMethod ({ cls := "HungryHedge$Eats", name := "eats", desc := "(I)I" } : Jvm.MethodName)) ∈ lw_tbl := lw_at lw_m6 196 rfl
theorem q1502 : (Jvm.Cond.declares ({ cls := "HungryHedge$Eats", name := "eats", desc := "(I)I" } : Jvm.MethodName)) ∈ lw_tbl := lw_at lw_m6 197 rfl
theorem q1549 : (Jvm.Cond.publicMethod ({ cls := "HungryHedge$Eats", name := "stays", desc := "(I)I" } : Jvm.MethodName)) ∈ lw_tbl := lw_at lw_m7 4 rfl
theorem q1550 : (Jvm.Cond.declares ({ cls := "HungryHedge$Eats", name := "stays", desc := "(I)I" } : Jvm.MethodName)) ∈ lw_tbl := lw_at lw_m7 5 rfl
theorem q1566 : (Jvm.Cond.instanceMethod ({ cls := "HungryHedge$Eats", name := "stays", desc := "(I)I" } : Jvm.MethodName)) ∈ lw_all := lw_g (lw_at lw_m7 21 rfl) rfl
theorem q1567 : (Jvm.Cond.code ({ cls := "HungryHedge$Eats", name := "stays", desc := "(I)I" } : Jvm.MethodName) prog_10_method_2_code (2 : Nat) (Option.some Jvm.ClassFile.FieldType.int)) ∈ lw_all := lw_g (lw_at lw_m7 22 rfl) rfl
theorem q1568 : (Jvm.Cond.interfaceEntry "HungryHedge$Eats" (1 : Nat)) ∈ lw_tbl := lw_at lw_m7 23 rfl
theorem q1569 : (Jvm.Cond.methodLink "HungryHedge$Eats" (1 : Nat) ({ cls := "HungryHedge$Eats", name := "eats", desc := "(I)I" } : Jvm.MethodName)) ∈ lw_all := lw_g (lw_at lw_m7 24 rfl) rfl
theorem q1570 : (Jvm.Cond.interfaceMethod "HungryHedge$Eats" "HungryHedge$Eats" "eats" "(I)I") ∈ lw_tbl := lw_at lw_m7 25 rfl

/-! java/lang/Throwable -/
set_option maxRecDepth 100000
def RJ0 : String := "java/lang/Throwable"
def TJ0 : u_T := fun k => match k with
  | 0 => ("java/lang/Throwable", "cause", "Ljava/lang/Throwable;", false)
  | 1 => ("java/lang/Throwable", "stackTrace", "[Ljava/lang/StackTraceElement;", false)
  | 2 => ("java/lang/Throwable", "suppressedExceptions", "Ljava/util/List;", false)
  | 3 => ("java/lang/Throwable", "detailMessage", "Ljava/lang/String;", false)
  | _ => ("java/lang/Throwable", "backtrace", "Ljava/lang/Object;", false)
def tyJ0 : Nat → FieldType := fun k => match k with
  | 0 => .object "java/lang/Throwable"
  | 1 => .array (.object "java/lang/StackTraceElement")
  | 2 => .object "java/util/List"
  | 3 => .object "java/lang/String"
  | _ => .object "java/lang/Object"
abbrev wsJ00 : List Cond := u_ws RJ0 TJ0 5
theorem nmJ0 : ∀ a, a < 5 → ∀ b, b < 5 → a ≠ b → (TJ0 a).2.1 ≠ (TJ0 b).2.1 := by decide +kernel
theorem tyJ0_ok : ∀ k, k < 5 → parseFieldDescriptor (TJ0 k).2.2.1 = some (tyJ0 k) := by decide +kernel
abbrev cJ0_init : ByteArray := prog_44_method_1_code
def yJ0_init : MethodName := ⟨RJ0, "<init>", "()V"⟩
def dkwJ0_init_1 : List UInt8 := [182, 0, 27, 87, 177]
abbrev dktJ0_init_1 : List UInt8 := dkwJ0_init_1 ++ []
def dkwJ0_init_0 : List UInt8 := [42, 183, 0, 1, 42, 42, 181, 0, 7, 42, 178, 0, 13, 181, 0, 17, 42, 178, 0, 20, 181, 0, 24, 42]
abbrev dktJ0_init_0 : List UInt8 := dkwJ0_init_0 ++ dktJ0_init_1
theorem dksJ0_init_0 : cJ0_init.data.toList.drop 0 = dktJ0_init_0 := by decide +kernel
theorem dksJ0_init_1 : cJ0_init.data.toList.drop 24 = dktJ0_init_1 := dk_seg dksJ0_init_0 24 rfl rfl
theorem dJ0_init_0 : decode cJ0_init 0 = .ok (.aload_n 0, 1) := dk_42 (dk_at dksJ0_init_0 0 rfl rfl)
theorem dJ0_init_1 : decode cJ0_init 1 = .ok (.invokespecial 1, 3) := dk_183 0 1 (dk_at dksJ0_init_0 1 rfl rfl)
theorem dJ0_init_4 : decode cJ0_init 4 = .ok (.aload_n 0, 1) := dk_42 (dk_at dksJ0_init_0 4 rfl rfl)
theorem dJ0_init_5 : decode cJ0_init 5 = .ok (.aload_n 0, 1) := dk_42 (dk_at dksJ0_init_0 5 rfl rfl)
theorem dJ0_init_6 : decode cJ0_init 6 = .ok (.putfield 7, 3) := dk_181 0 7 (dk_at dksJ0_init_0 6 rfl rfl)
theorem dJ0_init_9 : decode cJ0_init 9 = .ok (.aload_n 0, 1) := dk_42 (dk_at dksJ0_init_0 9 rfl rfl)
theorem dJ0_init_10 : decode cJ0_init 10 = .ok (.getstatic 13, 3) := dk_178 0 13 (dk_at dksJ0_init_0 10 rfl rfl)
theorem dJ0_init_13 : decode cJ0_init 13 = .ok (.putfield 17, 3) := dk_181 0 17 (dk_at dksJ0_init_0 13 rfl rfl)
theorem dJ0_init_16 : decode cJ0_init 16 = .ok (.aload_n 0, 1) := dk_42 (dk_at dksJ0_init_0 16 rfl rfl)
theorem dJ0_init_17 : decode cJ0_init 17 = .ok (.getstatic 20, 3) := dk_178 0 20 (dk_at dksJ0_init_0 17 rfl rfl)
theorem dJ0_init_20 : decode cJ0_init 20 = .ok (.putfield 24, 3) := dk_181 0 24 (dk_at dksJ0_init_0 20 rfl rfl)
theorem dJ0_init_23 : decode cJ0_init 23 = .ok (.aload_n 0, 1) := dk_42 (dk_at dksJ0_init_0 23 rfl rfl)
theorem dJ0_init_24 : decode cJ0_init 24 = .ok (.invokevirtual 27, 3) := dk_182 0 27 (dk_at dksJ0_init_1 0 rfl rfl)
theorem dJ0_init_27 : decode cJ0_init 27 = .ok (.pop, 1) := dk_87 (dk_at dksJ0_init_1 3 rfl rfl)
theorem dJ0_init_28 : decode cJ0_init 28 = .ok (.return_, 1) := dk_177 (dk_at dksJ0_init_1 4 rfl rfl)
abbrev cJ0_init_2 : ByteArray := prog_44_method_5_code
def yJ0_init_2 : MethodName := ⟨RJ0, "<init>", "(Ljava/lang/String;Ljava/lang/Throwable;ZZ)V"⟩
def dkwJ0_init_2_2 : List UInt8 := [44, 181, 0, 7, 29, 154, 0, 8, 42, 1, 181, 0, 24, 177]
abbrev dktJ0_init_2_2 : List UInt8 := dkwJ0_init_2_2 ++ []
def dkwJ0_init_2_1 : List UInt8 := [21, 4, 153, 0, 11, 42, 182, 0, 27, 87, 167, 0, 8, 42, 1, 181, 0, 17, 42, 43, 181, 0, 31, 42]
abbrev dktJ0_init_2_1 : List UInt8 := dkwJ0_init_2_1 ++ dktJ0_init_2_2
def dkwJ0_init_2_0 : List UInt8 := [42, 183, 0, 1, 42, 42, 181, 0, 7, 42, 178, 0, 13, 181, 0, 17, 42, 178, 0, 20, 181, 0, 24]
abbrev dktJ0_init_2_0 : List UInt8 := dkwJ0_init_2_0 ++ dktJ0_init_2_1
theorem dksJ0_init_2_0 : cJ0_init_2.data.toList.drop 0 = dktJ0_init_2_0 := by decide +kernel
theorem dksJ0_init_2_1 : cJ0_init_2.data.toList.drop 23 = dktJ0_init_2_1 := dk_seg dksJ0_init_2_0 23 rfl rfl
theorem dksJ0_init_2_2 : cJ0_init_2.data.toList.drop 47 = dktJ0_init_2_2 := dk_seg dksJ0_init_2_1 24 rfl rfl
theorem dJ0_init_2_0 : decode cJ0_init_2 0 = .ok (.aload_n 0, 1) := dk_42 (dk_at dksJ0_init_2_0 0 rfl rfl)
theorem dJ0_init_2_1 : decode cJ0_init_2 1 = .ok (.invokespecial 1, 3) := dk_183 0 1 (dk_at dksJ0_init_2_0 1 rfl rfl)
theorem dJ0_init_2_4 : decode cJ0_init_2 4 = .ok (.aload_n 0, 1) := dk_42 (dk_at dksJ0_init_2_0 4 rfl rfl)
theorem dJ0_init_2_5 : decode cJ0_init_2 5 = .ok (.aload_n 0, 1) := dk_42 (dk_at dksJ0_init_2_0 5 rfl rfl)
theorem dJ0_init_2_6 : decode cJ0_init_2 6 = .ok (.putfield 7, 3) := dk_181 0 7 (dk_at dksJ0_init_2_0 6 rfl rfl)
theorem dJ0_init_2_9 : decode cJ0_init_2 9 = .ok (.aload_n 0, 1) := dk_42 (dk_at dksJ0_init_2_0 9 rfl rfl)
theorem dJ0_init_2_10 : decode cJ0_init_2 10 = .ok (.getstatic 13, 3) := dk_178 0 13 (dk_at dksJ0_init_2_0 10 rfl rfl)
theorem dJ0_init_2_13 : decode cJ0_init_2 13 = .ok (.putfield 17, 3) := dk_181 0 17 (dk_at dksJ0_init_2_0 13 rfl rfl)
theorem dJ0_init_2_16 : decode cJ0_init_2 16 = .ok (.aload_n 0, 1) := dk_42 (dk_at dksJ0_init_2_0 16 rfl rfl)
theorem dJ0_init_2_17 : decode cJ0_init_2 17 = .ok (.getstatic 20, 3) := dk_178 0 20 (dk_at dksJ0_init_2_0 17 rfl rfl)
theorem dJ0_init_2_20 : decode cJ0_init_2 20 = .ok (.putfield 24, 3) := dk_181 0 24 (dk_at dksJ0_init_2_0 20 rfl rfl)
theorem dJ0_init_2_23 : decode cJ0_init_2 23 = .ok (.iload 4, 2) := dk_21 4 (dk_at dksJ0_init_2_1 0 rfl rfl)
theorem dJ0_init_2_25 : decode cJ0_init_2 25 = .ok (.ifCond .eq 11, 3) := dk_153 0 11 (dk_at dksJ0_init_2_1 2 rfl rfl)
theorem dJ0_init_2_28 : decode cJ0_init_2 28 = .ok (.aload_n 0, 1) := dk_42 (dk_at dksJ0_init_2_1 5 rfl rfl)
theorem dJ0_init_2_29 : decode cJ0_init_2 29 = .ok (.invokevirtual 27, 3) := dk_182 0 27 (dk_at dksJ0_init_2_1 6 rfl rfl)
theorem dJ0_init_2_32 : decode cJ0_init_2 32 = .ok (.pop, 1) := dk_87 (dk_at dksJ0_init_2_1 9 rfl rfl)
theorem dJ0_init_2_33 : decode cJ0_init_2 33 = .ok (.goto 8, 3) := dk_167 0 8 (dk_at dksJ0_init_2_1 10 rfl rfl)
theorem dJ0_init_2_36 : decode cJ0_init_2 36 = .ok (.aload_n 0, 1) := dk_42 (dk_at dksJ0_init_2_1 13 rfl rfl)
theorem dJ0_init_2_37 : decode cJ0_init_2 37 = .ok (.aconst_null, 1) := dk_1 (dk_at dksJ0_init_2_1 14 rfl rfl)
theorem dJ0_init_2_38 : decode cJ0_init_2 38 = .ok (.putfield 17, 3) := dk_181 0 17 (dk_at dksJ0_init_2_1 15 rfl rfl)
theorem dJ0_init_2_41 : decode cJ0_init_2 41 = .ok (.aload_n 0, 1) := dk_42 (dk_at dksJ0_init_2_1 18 rfl rfl)
theorem dJ0_init_2_42 : decode cJ0_init_2 42 = .ok (.aload_n 1, 1) := dk_43 (dk_at dksJ0_init_2_1 19 rfl rfl)
theorem dJ0_init_2_43 : decode cJ0_init_2 43 = .ok (.putfield 31, 3) := dk_181 0 31 (dk_at dksJ0_init_2_1 20 rfl rfl)
theorem dJ0_init_2_46 : decode cJ0_init_2 46 = .ok (.aload_n 0, 1) := dk_42 (dk_at dksJ0_init_2_1 23 rfl rfl)
theorem dJ0_init_2_47 : decode cJ0_init_2 47 = .ok (.aload_n 2, 1) := dk_44 (dk_at dksJ0_init_2_2 0 rfl rfl)
theorem dJ0_init_2_48 : decode cJ0_init_2 48 = .ok (.putfield 7, 3) := dk_181 0 7 (dk_at dksJ0_init_2_2 1 rfl rfl)
theorem dJ0_init_2_51 : decode cJ0_init_2 51 = .ok (.iload_n 3, 1) := dk_29 (dk_at dksJ0_init_2_2 4 rfl rfl)
theorem dJ0_init_2_52 : decode cJ0_init_2 52 = .ok (.ifCond .ne 8, 3) := dk_154 0 8 (dk_at dksJ0_init_2_2 5 rfl rfl)
theorem dJ0_init_2_55 : decode cJ0_init_2 55 = .ok (.aload_n 0, 1) := dk_42 (dk_at dksJ0_init_2_2 8 rfl rfl)
theorem dJ0_init_2_56 : decode cJ0_init_2 56 = .ok (.aconst_null, 1) := dk_1 (dk_at dksJ0_init_2_2 9 rfl rfl)
theorem dJ0_init_2_57 : decode cJ0_init_2 57 = .ok (.putfield 24, 3) := dk_181 0 24 (dk_at dksJ0_init_2_2 10 rfl rfl)
theorem dJ0_init_2_60 : decode cJ0_init_2 60 = .ok (.return_, 1) := dk_177 (dk_at dksJ0_init_2_2 13 rfl rfl)
abbrev cJ0_init_3 : ByteArray := prog_44_method_2_code
def yJ0_init_3 : MethodName := ⟨RJ0, "<init>", "(Ljava/lang/String;)V"⟩
def dkwJ0_init_3_1 : List UInt8 := [182, 0, 27, 87, 42, 43, 181, 0, 31, 177]
abbrev dktJ0_init_3_1 : List UInt8 := dkwJ0_init_3_1 ++ []
def dkwJ0_init_3_0 : List UInt8 := [42, 183, 0, 1, 42, 42, 181, 0, 7, 42, 178, 0, 13, 181, 0, 17, 42, 178, 0, 20, 181, 0, 24, 42]
abbrev dktJ0_init_3_0 : List UInt8 := dkwJ0_init_3_0 ++ dktJ0_init_3_1
theorem dksJ0_init_3_0 : cJ0_init_3.data.toList.drop 0 = dktJ0_init_3_0 := by decide +kernel
theorem dksJ0_init_3_1 : cJ0_init_3.data.toList.drop 24 = dktJ0_init_3_1 := dk_seg dksJ0_init_3_0 24 rfl rfl
theorem dJ0_init_3_0 : decode cJ0_init_3 0 = .ok (.aload_n 0, 1) := dk_42 (dk_at dksJ0_init_3_0 0 rfl rfl)
theorem dJ0_init_3_1 : decode cJ0_init_3 1 = .ok (.invokespecial 1, 3) := dk_183 0 1 (dk_at dksJ0_init_3_0 1 rfl rfl)
theorem dJ0_init_3_4 : decode cJ0_init_3 4 = .ok (.aload_n 0, 1) := dk_42 (dk_at dksJ0_init_3_0 4 rfl rfl)
theorem dJ0_init_3_5 : decode cJ0_init_3 5 = .ok (.aload_n 0, 1) := dk_42 (dk_at dksJ0_init_3_0 5 rfl rfl)
theorem dJ0_init_3_6 : decode cJ0_init_3 6 = .ok (.putfield 7, 3) := dk_181 0 7 (dk_at dksJ0_init_3_0 6 rfl rfl)
theorem dJ0_init_3_9 : decode cJ0_init_3 9 = .ok (.aload_n 0, 1) := dk_42 (dk_at dksJ0_init_3_0 9 rfl rfl)
theorem dJ0_init_3_10 : decode cJ0_init_3 10 = .ok (.getstatic 13, 3) := dk_178 0 13 (dk_at dksJ0_init_3_0 10 rfl rfl)
theorem dJ0_init_3_13 : decode cJ0_init_3 13 = .ok (.putfield 17, 3) := dk_181 0 17 (dk_at dksJ0_init_3_0 13 rfl rfl)
theorem dJ0_init_3_16 : decode cJ0_init_3 16 = .ok (.aload_n 0, 1) := dk_42 (dk_at dksJ0_init_3_0 16 rfl rfl)
theorem dJ0_init_3_17 : decode cJ0_init_3 17 = .ok (.getstatic 20, 3) := dk_178 0 20 (dk_at dksJ0_init_3_0 17 rfl rfl)
theorem dJ0_init_3_20 : decode cJ0_init_3 20 = .ok (.putfield 24, 3) := dk_181 0 24 (dk_at dksJ0_init_3_0 20 rfl rfl)
theorem dJ0_init_3_23 : decode cJ0_init_3 23 = .ok (.aload_n 0, 1) := dk_42 (dk_at dksJ0_init_3_0 23 rfl rfl)
theorem dJ0_init_3_24 : decode cJ0_init_3 24 = .ok (.invokevirtual 27, 3) := dk_182 0 27 (dk_at dksJ0_init_3_1 0 rfl rfl)
theorem dJ0_init_3_27 : decode cJ0_init_3 27 = .ok (.pop, 1) := dk_87 (dk_at dksJ0_init_3_1 3 rfl rfl)
theorem dJ0_init_3_28 : decode cJ0_init_3 28 = .ok (.aload_n 0, 1) := dk_42 (dk_at dksJ0_init_3_1 4 rfl rfl)
theorem dJ0_init_3_29 : decode cJ0_init_3 29 = .ok (.aload_n 1, 1) := dk_43 (dk_at dksJ0_init_3_1 5 rfl rfl)
theorem dJ0_init_3_30 : decode cJ0_init_3 30 = .ok (.putfield 31, 3) := dk_181 0 31 (dk_at dksJ0_init_3_1 6 rfl rfl)
theorem dJ0_init_3_33 : decode cJ0_init_3 33 = .ok (.return_, 1) := dk_177 (dk_at dksJ0_init_3_1 9 rfl rfl)
theorem q114 : (Jvm.Cond.initialized "java/lang/Throwable") ∈ lw_all := lw_g (lw_at lw_m1 9 rfl) rfl
theorem q389 : (Jvm.Cond.declares ({ cls := "java/lang/Throwable", name := "<init>", desc := "()V" } : Jvm.MethodName)) ∈ lw_tbl := lw_at lw_m2 44 rfl
theorem q390 : (Jvm.Cond.declares ({ cls := "java/lang/Throwable", name := "<init>", desc := "(Ljava/lang/String;)V" } : Jvm.MethodName)) ∈ lw_tbl := lw_at lw_m2 45 rfl
theorem q394 : (Jvm.Cond.lays "java/lang/Throwable" "java/lang/Throwable" "cause" "Ljava/lang/Throwable;") ∈ lw_all := lw_g (lw_at lw_m2 49 rfl) rfl
theorem q396 : (Jvm.Cond.lays "java/lang/Throwable" "java/lang/Throwable" "stackTrace" "[Ljava/lang/StackTraceElement;") ∈ lw_all := lw_g (lw_at lw_m2 51 rfl) rfl
theorem q398 : (Jvm.Cond.lays "java/lang/Throwable" "java/lang/Throwable" "suppressedExceptions" "Ljava/util/List;") ∈ lw_all := lw_g (lw_at lw_m2 53 rfl) rfl
theorem q400 : (Jvm.Cond.lays "java/lang/Throwable" "java/lang/Throwable" "detailMessage" "Ljava/lang/String;") ∈ lw_all := lw_g (lw_at lw_m2 55 rfl) rfl
theorem q402 : (Jvm.Cond.lays "java/lang/Throwable" "java/lang/Throwable" "backtrace" "Ljava/lang/Object;") ∈ lw_all := lw_g (lw_at lw_m2 57 rfl) rfl
theorem q403 : (Jvm.Cond.fieldLink "java/lang/Throwable" (198 : Nat) "java/lang/Throwable" "backtrace" "Ljava/lang/Object;") ∈ lw_all := lw_g (lw_at lw_m2 58 rfl) rfl
theorem q404 : (Jvm.Cond.superclass "java/lang/Throwable" "java/lang/Object") ∈ lw_all := lw_g (lw_at lw_m2 59 rfl) rfl
theorem q405 : (Jvm.Cond.instanceMethod ({ cls := "java/lang/Throwable", name := "<init>", desc := "()V" } : Jvm.MethodName)) ∈ lw_all := lw_g (lw_at lw_m2 60 rfl) rfl
theorem q406 : (Jvm.Cond.code ({ cls := "java/lang/Throwable", name := "<init>", desc := "()V" } : Jvm.MethodName) prog_44_method_1_code (1 : Nat) (Option.none : Option Jvm.ClassFile.FieldType)) ∈ lw_all := lw_g (lw_at lw_m2 61 rfl) rfl
theorem q407 : (Jvm.Cond.methodLink "java/lang/Throwable" (1 : Nat) ({ cls := "java/lang/Object", name := "<init>", desc := "()V" } : Jvm.MethodName)) ∈ lw_all := lw_g (lw_at lw_m2 62 rfl) rfl
theorem q408 : (Jvm.Cond.fieldLink "java/lang/Throwable" (13 : Nat) "java/lang/Throwable" "UNASSIGNED_STACK" "[Ljava/lang/StackTraceElement;") ∈ lw_all := lw_g (lw_at lw_m2 63 rfl) rfl
theorem q409 : (Jvm.Cond.laysStatic "java/lang/Throwable" "UNASSIGNED_STACK" "[Ljava/lang/StackTraceElement;") ∈ lw_tbl := lw_at lw_m2 64 rfl
theorem q410 : (Jvm.Cond.fieldLink "java/lang/Throwable" (20 : Nat) "java/lang/Throwable" "SUPPRESSED_SENTINEL" "Ljava/util/List;") ∈ lw_all := lw_g (lw_at lw_m2 65 rfl) rfl
theorem q411 : (Jvm.Cond.laysStatic "java/lang/Throwable" "SUPPRESSED_SENTINEL" "Ljava/util/List;") ∈ lw_tbl := lw_at lw_m2 66 rfl
theorem q412 : (Jvm.Cond.methodLink "java/lang/Throwable" (27 : Nat) ({ cls := "java/lang/Throwable", name := "fillInStackTrace", desc := "()Ljava/lang/Throwable;" } : Jvm.MethodName)) ∈ lw_all := lw_g (lw_at lw_m2 67 rfl) rfl
theorem q413 : (Jvm.Cond.instanceMethod ({ cls := "java/lang/Throwable", name := "fillInStackTrace", desc := "()Ljava/lang/Throwable;" } : Jvm.MethodName)) ∈ lw_all := lw_g (lw_at lw_m2 68 rfl) rfl
theorem q414 : (Jvm.Cond.sameMethod "java/lang/Throwable" "java/lang/Throwable" "fillInStackTrace" "()Ljava/lang/Throwable;") ∈ lw_all := lw_g (lw_at lw_m2 69 rfl) rfl
theorem q420 : (Jvm.Cond.codeSync ({ cls := "java/lang/Throwable", name := "fillInStackTrace", desc := "()Ljava/lang/Throwable;" } : Jvm.MethodName) prog_44_method_18_code (1 : Nat) (Option.some (Jvm.ClassFile.FieldType.object "java/lang/Throwable"))) ∈ lw_all := lw_g (lw_at lw_m2 75 rfl) rfl
theorem q421 : (Jvm.Cond.methodLink "java/lang/Throwable" (202 : Nat) ({ cls := "java/lang/Throwable", name := "fillInStackTrace", desc := "(I)Ljava/lang/Throwable;" } : Jvm.MethodName)) ∈ lw_all := lw_g (lw_at lw_m2 76 rfl) rfl
theorem q422 : (Jvm.Cond.privateMethod ({ cls := "java/lang/Throwable", name := "fillInStackTrace", desc := "(I)Ljava/lang/Throwable;" } : Jvm.MethodName)) ∈ lw_tbl := lw_at lw_m2 77 rfl
theorem q423 : (Jvm.Cond.instanceMethod ({ cls := "java/lang/Throwable", name := "fillInStackTrace", desc := "(I)Ljava/lang/Throwable;" } : Jvm.MethodName)) ∈ lw_all := lw_g (lw_at lw_m2 78 rfl) rfl
theorem q424 : (Jvm.Cond.instantiable "java/lang/Throwable" (6 : Nat)) ∈ lw_all := lw_g (lw_at lw_m2 79 rfl) rfl
theorem q425 : (Jvm.Cond.native ({ cls := "java/lang/Throwable", name := "fillInStackTrace", desc := "(I)Ljava/lang/Throwable;" } : Jvm.MethodName)) ∈ lw_all := lw_g (lw_at lw_m2 80 rfl) rfl
theorem q436 : (Jvm.Cond.instanceMethod ({ cls := "java/lang/Throwable", name := "<init>", desc := "(Ljava/lang/String;Ljava/lang/Throwable;ZZ)V" } : Jvm.MethodName)) ∈ lw_all := lw_g (lw_at lw_m2 91 rfl) rfl
theorem q437 : (Jvm.Cond.code ({ cls := "java/lang/Throwable", name := "<init>", desc := "(Ljava/lang/String;Ljava/lang/Throwable;ZZ)V" } : Jvm.MethodName) prog_44_method_5_code (5 : Nat) (Option.none : Option Jvm.ClassFile.FieldType)) ∈ lw_all := lw_g (lw_at lw_m2 92 rfl) rfl
theorem q440 : (Jvm.Cond.fieldLink "java/lang/Throwable" (198 : Nat) "java/lang/Throwable" "backtrace" "Ljava/lang/Object;") ∈ lw_all := lw_g (lw_at lw_m2 95 rfl) rfl
theorem q441 : (Jvm.Cond.fieldLink "java/lang/Throwable" (31 : Nat) "java/lang/Throwable" "detailMessage" "Ljava/lang/String;") ∈ lw_all := lw_g (lw_at lw_m2 96 rfl) rfl
theorem q442 : (Jvm.Cond.fieldLink "java/lang/Throwable" (7 : Nat) "java/lang/Throwable" "cause" "Ljava/lang/Throwable;") ∈ lw_all := lw_g (lw_at lw_m2 97 rfl) rfl
theorem q443 : (Jvm.Cond.fieldLink "java/lang/Throwable" (17 : Nat) "java/lang/Throwable" "stackTrace" "[Ljava/lang/StackTraceElement;") ∈ lw_all := lw_g (lw_at lw_m2 98 rfl) rfl
theorem q444 : (Jvm.Cond.fieldLink "java/lang/Throwable" (24 : Nat) "java/lang/Throwable" "suppressedExceptions" "Ljava/util/List;") ∈ lw_all := lw_g (lw_at lw_m2 99 rfl) rfl
theorem q447 : (Jvm.Cond.soleField "java/lang/Throwable" "backtrace") ∈ lw_all := lw_g (lw_at lw_m2 102 rfl) rfl
theorem q448 : (Jvm.Cond.soleField "java/lang/Throwable" "detailMessage") ∈ lw_all := lw_g (lw_at lw_m2 103 rfl) rfl
theorem q449 : (Jvm.Cond.soleField "java/lang/Throwable" "cause") ∈ lw_all := lw_g (lw_at lw_m2 104 rfl) rfl
theorem q450 : (Jvm.Cond.soleField "java/lang/Throwable" "stackTrace") ∈ lw_all := lw_g (lw_at lw_m2 105 rfl) rfl
theorem q452 : (Jvm.Cond.soleField "java/lang/Throwable" "depth") ∈ lw_all := lw_g (lw_at lw_m2 107 rfl) rfl
theorem q453 : (Jvm.Cond.soleField "java/lang/Throwable" "suppressedExceptions") ∈ lw_all := lw_g (lw_at lw_m2 108 rfl) rfl
theorem q857 : (Jvm.Cond.instanceMethod ({ cls := "java/lang/Throwable", name := "<init>", desc := "(Ljava/lang/String;)V" } : Jvm.MethodName)) ∈ lw_all := lw_g (lw_at lw_m4 32 rfl) rfl
theorem q858 : (Jvm.Cond.code ({ cls := "java/lang/Throwable", name := "<init>", desc := "(Ljava/lang/String;)V" } : Jvm.MethodName) prog_44_method_2_code (2 : Nat) (Option.none : Option Jvm.ClassFile.FieldType)) ∈ lw_all := lw_g (lw_at lw_m4 33 rfl) rfl
theorem q2389 : (Jvm.Cond.sameMethod "java/lang/Throwable" "java/lang/Throwable" "fillInStackTrace" "(I)Ljava/lang/Throwable;") ∈ lw_all := lw_g (lw_at lw_m10 124 rfl) rfl
theorem in_J0 : ∀ w ∈ wsJ00, w ∈ lw_all := lw_in wsJ00 [394, 396, 398, 400, 402] (by decide +kernel) (by decide +kernel)

/-! java/lang/Exception -/
set_option maxRecDepth 100000
def RJ1 : String := "java/lang/Exception"
abbrev cJ1_init : ByteArray := prog_36_method_5_code
def yJ1_init : MethodName := ⟨RJ1, "<init>", "(Ljava/lang/String;Ljava/lang/Throwable;ZZ)V"⟩
def dkwJ1_init_0 : List UInt8 := [42, 43, 44, 29, 21, 4, 183, 0, 16, 177]
abbrev dktJ1_init_0 : List UInt8 := dkwJ1_init_0 ++ []
theorem dksJ1_init_0 : cJ1_init.data.toList.drop 0 = dktJ1_init_0 := by decide +kernel
theorem dJ1_init_0 : decode cJ1_init 0 = .ok (.aload_n 0, 1) := dk_42 (dk_at dksJ1_init_0 0 rfl rfl)
theorem dJ1_init_1 : decode cJ1_init 1 = .ok (.aload_n 1, 1) := dk_43 (dk_at dksJ1_init_0 1 rfl rfl)
theorem dJ1_init_2 : decode cJ1_init 2 = .ok (.aload_n 2, 1) := dk_44 (dk_at dksJ1_init_0 2 rfl rfl)
theorem dJ1_init_3 : decode cJ1_init 3 = .ok (.iload_n 3, 1) := dk_29 (dk_at dksJ1_init_0 3 rfl rfl)
theorem dJ1_init_4 : decode cJ1_init 4 = .ok (.iload 4, 2) := dk_21 4 (dk_at dksJ1_init_0 4 rfl rfl)
theorem dJ1_init_6 : decode cJ1_init 6 = .ok (.invokespecial 16, 3) := dk_183 0 16 (dk_at dksJ1_init_0 6 rfl rfl)
theorem dJ1_init_9 : decode cJ1_init 9 = .ok (.return_, 1) := dk_177 (dk_at dksJ1_init_0 9 rfl rfl)
abbrev cJ1_init_2 : ByteArray := prog_36_method_2_code
def yJ1_init_2 : MethodName := ⟨RJ1, "<init>", "(Ljava/lang/String;)V"⟩
def dkwJ1_init_2_0 : List UInt8 := [42, 43, 183, 0, 7, 177]
abbrev dktJ1_init_2_0 : List UInt8 := dkwJ1_init_2_0 ++ []
theorem dksJ1_init_2_0 : cJ1_init_2.data.toList.drop 0 = dktJ1_init_2_0 := by decide +kernel
theorem dJ1_init_2_0 : decode cJ1_init_2 0 = .ok (.aload_n 0, 1) := dk_42 (dk_at dksJ1_init_2_0 0 rfl rfl)
theorem dJ1_init_2_1 : decode cJ1_init_2 1 = .ok (.aload_n 1, 1) := dk_43 (dk_at dksJ1_init_2_0 1 rfl rfl)
theorem dJ1_init_2_2 : decode cJ1_init_2 2 = .ok (.invokespecial 7, 3) := dk_183 0 7 (dk_at dksJ1_init_2_0 2 rfl rfl)
theorem dJ1_init_2_5 : decode cJ1_init_2 5 = .ok (.return_, 1) := dk_177 (dk_at dksJ1_init_2_0 5 rfl rfl)
theorem q115 : (Jvm.Cond.initialized "java/lang/Exception") ∈ lw_all := lw_g (lw_at lw_m1 10 rfl) rfl
theorem q387 : (Jvm.Cond.declares ({ cls := "java/lang/Exception", name := "<init>", desc := "()V" } : Jvm.MethodName)) ∈ lw_tbl := lw_at lw_m2 42 rfl
theorem q388 : (Jvm.Cond.declares ({ cls := "java/lang/Exception", name := "<init>", desc := "(Ljava/lang/String;)V" } : Jvm.MethodName)) ∈ lw_tbl := lw_at lw_m2 43 rfl
theorem q433 : (Jvm.Cond.instanceMethod ({ cls := "java/lang/Exception", name := "<init>", desc := "(Ljava/lang/String;Ljava/lang/Throwable;ZZ)V" } : Jvm.MethodName)) ∈ lw_all := lw_g (lw_at lw_m2 88 rfl) rfl
theorem q434 : (Jvm.Cond.code ({ cls := "java/lang/Exception", name := "<init>", desc := "(Ljava/lang/String;Ljava/lang/Throwable;ZZ)V" } : Jvm.MethodName) prog_36_method_5_code (5 : Nat) (Option.none : Option Jvm.ClassFile.FieldType)) ∈ lw_all := lw_g (lw_at lw_m2 89 rfl) rfl
theorem q435 : (Jvm.Cond.methodLink "java/lang/Exception" (16 : Nat) ({ cls := "java/lang/Throwable", name := "<init>", desc := "(Ljava/lang/String;Ljava/lang/Throwable;ZZ)V" } : Jvm.MethodName)) ∈ lw_all := lw_g (lw_at lw_m2 90 rfl) rfl
theorem q854 : (Jvm.Cond.instanceMethod ({ cls := "java/lang/Exception", name := "<init>", desc := "(Ljava/lang/String;)V" } : Jvm.MethodName)) ∈ lw_all := lw_g (lw_at lw_m4 29 rfl) rfl
theorem q855 : (Jvm.Cond.code ({ cls := "java/lang/Exception", name := "<init>", desc := "(Ljava/lang/String;)V" } : Jvm.MethodName) prog_36_method_2_code (2 : Nat) (Option.none : Option Jvm.ClassFile.FieldType)) ∈ lw_all := lw_g (lw_at lw_m4 30 rfl) rfl
theorem q856 : (Jvm.Cond.methodLink "java/lang/Exception" (7 : Nat) ({ cls := "java/lang/Throwable", name := "<init>", desc := "(Ljava/lang/String;)V" } : Jvm.MethodName)) ∈ lw_all := lw_g (lw_at lw_m4 31 rfl) rfl

/-! java/lang/RuntimeException -/
set_option maxRecDepth 100000
def RJ2 : String := "java/lang/RuntimeException"
abbrev cJ2_init : ByteArray := prog_39_method_5_code
def yJ2_init : MethodName := ⟨RJ2, "<init>", "(Ljava/lang/String;Ljava/lang/Throwable;ZZ)V"⟩
def dkwJ2_init_0 : List UInt8 := [42, 43, 44, 29, 21, 4, 183, 0, 16, 177]
abbrev dktJ2_init_0 : List UInt8 := dkwJ2_init_0 ++ []
theorem dksJ2_init_0 : cJ2_init.data.toList.drop 0 = dktJ2_init_0 := by decide +kernel
theorem dJ2_init_0 : decode cJ2_init 0 = .ok (.aload_n 0, 1) := dk_42 (dk_at dksJ2_init_0 0 rfl rfl)
theorem dJ2_init_1 : decode cJ2_init 1 = .ok (.aload_n 1, 1) := dk_43 (dk_at dksJ2_init_0 1 rfl rfl)
theorem dJ2_init_2 : decode cJ2_init 2 = .ok (.aload_n 2, 1) := dk_44 (dk_at dksJ2_init_0 2 rfl rfl)
theorem dJ2_init_3 : decode cJ2_init 3 = .ok (.iload_n 3, 1) := dk_29 (dk_at dksJ2_init_0 3 rfl rfl)
theorem dJ2_init_4 : decode cJ2_init 4 = .ok (.iload 4, 2) := dk_21 4 (dk_at dksJ2_init_0 4 rfl rfl)
theorem dJ2_init_6 : decode cJ2_init 6 = .ok (.invokespecial 16, 3) := dk_183 0 16 (dk_at dksJ2_init_0 6 rfl rfl)
theorem dJ2_init_9 : decode cJ2_init 9 = .ok (.return_, 1) := dk_177 (dk_at dksJ2_init_0 9 rfl rfl)
abbrev cJ2_init_2 : ByteArray := prog_39_method_2_code
def yJ2_init_2 : MethodName := ⟨RJ2, "<init>", "(Ljava/lang/String;)V"⟩
def dkwJ2_init_2_0 : List UInt8 := [42, 43, 183, 0, 7, 177]
abbrev dktJ2_init_2_0 : List UInt8 := dkwJ2_init_2_0 ++ []
theorem dksJ2_init_2_0 : cJ2_init_2.data.toList.drop 0 = dktJ2_init_2_0 := by decide +kernel
theorem dJ2_init_2_0 : decode cJ2_init_2 0 = .ok (.aload_n 0, 1) := dk_42 (dk_at dksJ2_init_2_0 0 rfl rfl)
theorem dJ2_init_2_1 : decode cJ2_init_2 1 = .ok (.aload_n 1, 1) := dk_43 (dk_at dksJ2_init_2_0 1 rfl rfl)
theorem dJ2_init_2_2 : decode cJ2_init_2 2 = .ok (.invokespecial 7, 3) := dk_183 0 7 (dk_at dksJ2_init_2_0 2 rfl rfl)
theorem dJ2_init_2_5 : decode cJ2_init_2 5 = .ok (.return_, 1) := dk_177 (dk_at dksJ2_init_2_0 5 rfl rfl)
theorem q116 : (Jvm.Cond.initialized "java/lang/RuntimeException") ∈ lw_all := lw_g (lw_at lw_m1 11 rfl) rfl
theorem q385 : (Jvm.Cond.declares ({ cls := "java/lang/RuntimeException", name := "<init>", desc := "()V" } : Jvm.MethodName)) ∈ lw_tbl := lw_at lw_m2 40 rfl
theorem q386 : (Jvm.Cond.declares ({ cls := "java/lang/RuntimeException", name := "<init>", desc := "(Ljava/lang/String;)V" } : Jvm.MethodName)) ∈ lw_tbl := lw_at lw_m2 41 rfl
theorem q430 : (Jvm.Cond.instanceMethod ({ cls := "java/lang/RuntimeException", name := "<init>", desc := "(Ljava/lang/String;Ljava/lang/Throwable;ZZ)V" } : Jvm.MethodName)) ∈ lw_all := lw_g (lw_at lw_m2 85 rfl) rfl
theorem q431 : (Jvm.Cond.code ({ cls := "java/lang/RuntimeException", name := "<init>", desc := "(Ljava/lang/String;Ljava/lang/Throwable;ZZ)V" } : Jvm.MethodName) prog_39_method_5_code (5 : Nat) (Option.none : Option Jvm.ClassFile.FieldType)) ∈ lw_all := lw_g (lw_at lw_m2 86 rfl) rfl
theorem q432 : (Jvm.Cond.methodLink "java/lang/RuntimeException" (16 : Nat) ({ cls := "java/lang/Exception", name := "<init>", desc := "(Ljava/lang/String;Ljava/lang/Throwable;ZZ)V" } : Jvm.MethodName)) ∈ lw_all := lw_g (lw_at lw_m2 87 rfl) rfl
theorem q851 : (Jvm.Cond.instanceMethod ({ cls := "java/lang/RuntimeException", name := "<init>", desc := "(Ljava/lang/String;)V" } : Jvm.MethodName)) ∈ lw_all := lw_g (lw_at lw_m4 26 rfl) rfl
theorem q852 : (Jvm.Cond.code ({ cls := "java/lang/RuntimeException", name := "<init>", desc := "(Ljava/lang/String;)V" } : Jvm.MethodName) prog_39_method_2_code (2 : Nat) (Option.none : Option Jvm.ClassFile.FieldType)) ∈ lw_all := lw_g (lw_at lw_m4 27 rfl) rfl
theorem q853 : (Jvm.Cond.methodLink "java/lang/RuntimeException" (7 : Nat) ({ cls := "java/lang/Exception", name := "<init>", desc := "(Ljava/lang/String;)V" } : Jvm.MethodName)) ∈ lw_all := lw_g (lw_at lw_m4 28 rfl) rfl

/-! java/lang/ClassCastException -/
set_option maxRecDepth 100000
def RJ3 : String := "java/lang/ClassCastException"
def TJ3 : u_T := fun k => match k with
  | 0 => ("java/lang/Throwable", "backtrace", "Ljava/lang/Object;", false)
  | 1 => ("java/lang/Throwable", "detailMessage", "Ljava/lang/String;", false)
  | 2 => ("java/lang/Throwable", "cause", "Ljava/lang/Throwable;", false)
  | 3 => ("java/lang/Throwable", "stackTrace", "[Ljava/lang/StackTraceElement;", false)
  | 4 => ("java/lang/Throwable", "depth", "I", false)
  | _ => ("java/lang/Throwable", "suppressedExceptions", "Ljava/util/List;", false)
def tyJ3 : Nat → FieldType := fun k => match k with
  | 0 => .object "java/lang/Object"
  | 1 => .object "java/lang/String"
  | 2 => .object "java/lang/Throwable"
  | 3 => .array (.object "java/lang/StackTraceElement")
  | 4 => .int
  | _ => .object "java/util/List"
abbrev wsJ30 : List Cond := u_ws RJ3 TJ3 6
theorem nmJ3 : ∀ a, a < 6 → ∀ b, b < 6 → a ≠ b → (TJ3 a).2.1 ≠ (TJ3 b).2.1 := by decide +kernel
theorem tyJ3_ok : ∀ k, k < 6 → parseFieldDescriptor (TJ3 k).2.2.1 = some (tyJ3 k) := by decide +kernel
abbrev cJ3_init : ByteArray := prog_35_method_2_code
def yJ3_init : MethodName := ⟨RJ3, "<init>", "(Ljava/lang/String;)V"⟩
def dkwJ3_init_0 : List UInt8 := [42, 43, 183, 0, 7, 177]
abbrev dktJ3_init_0 : List UInt8 := dkwJ3_init_0 ++ []
theorem dksJ3_init_0 : cJ3_init.data.toList.drop 0 = dktJ3_init_0 := by decide +kernel
theorem dJ3_init_0 : decode cJ3_init 0 = .ok (.aload_n 0, 1) := dk_42 (dk_at dksJ3_init_0 0 rfl rfl)
theorem dJ3_init_1 : decode cJ3_init 1 = .ok (.aload_n 1, 1) := dk_43 (dk_at dksJ3_init_0 1 rfl rfl)
theorem dJ3_init_2 : decode cJ3_init 2 = .ok (.invokespecial 7, 3) := dk_183 0 7 (dk_at dksJ3_init_0 2 rfl rfl)
theorem dJ3_init_5 : decode cJ3_init 5 = .ok (.return_, 1) := dk_177 (dk_at dksJ3_init_0 5 rfl rfl)
theorem q124 : (Jvm.Cond.initialized "java/lang/ClassCastException") ∈ lw_all := lw_g (lw_at lw_m1 19 rfl) rfl
theorem q418 : (Jvm.Cond.selects "java/lang/ClassCastException" ({ cls := "java/lang/Throwable", name := "fillInStackTrace", desc := "()Ljava/lang/Throwable;" } : Jvm.MethodName) ({ cls := "java/lang/Throwable", name := "fillInStackTrace", desc := "()Ljava/lang/Throwable;" } : Jvm.MethodName)) ∈ lw_all := lw_g (lw_at lw_m2 73 rfl) rfl
theorem q847 : (Jvm.Cond.instantiable "java/lang/ClassCastException" (6 : Nat)) ∈ lw_all := lw_g (lw_at lw_m4 22 rfl) rfl
theorem q848 : (Jvm.Cond.instanceMethod ({ cls := "java/lang/ClassCastException", name := "<init>", desc := "(Ljava/lang/String;)V" } : Jvm.MethodName)) ∈ lw_all := lw_g (lw_at lw_m4 23 rfl) rfl
theorem q849 : (Jvm.Cond.code ({ cls := "java/lang/ClassCastException", name := "<init>", desc := "(Ljava/lang/String;)V" } : Jvm.MethodName) prog_35_method_2_code (2 : Nat) (Option.none : Option Jvm.ClassFile.FieldType)) ∈ lw_all := lw_g (lw_at lw_m4 24 rfl) rfl
theorem q850 : (Jvm.Cond.methodLink "java/lang/ClassCastException" (7 : Nat) ({ cls := "java/lang/RuntimeException", name := "<init>", desc := "(Ljava/lang/String;)V" } : Jvm.MethodName)) ∈ lw_all := lw_g (lw_at lw_m4 25 rfl) rfl
theorem q859 : (Jvm.Cond.lays "java/lang/ClassCastException" "java/lang/Throwable" "backtrace" "Ljava/lang/Object;") ∈ lw_all := lw_g (lw_at lw_m4 34 rfl) rfl
theorem q860 : (Jvm.Cond.lays "java/lang/ClassCastException" "java/lang/Throwable" "detailMessage" "Ljava/lang/String;") ∈ lw_all := lw_g (lw_at lw_m4 35 rfl) rfl
theorem q861 : (Jvm.Cond.lays "java/lang/ClassCastException" "java/lang/Throwable" "cause" "Ljava/lang/Throwable;") ∈ lw_all := lw_g (lw_at lw_m4 36 rfl) rfl
theorem q862 : (Jvm.Cond.lays "java/lang/ClassCastException" "java/lang/Throwable" "stackTrace" "[Ljava/lang/StackTraceElement;") ∈ lw_all := lw_g (lw_at lw_m4 37 rfl) rfl
theorem q863 : (Jvm.Cond.lays "java/lang/ClassCastException" "java/lang/Throwable" "depth" "I") ∈ lw_all := lw_g (lw_at lw_m4 38 rfl) rfl
theorem q864 : (Jvm.Cond.lays "java/lang/ClassCastException" "java/lang/Throwable" "suppressedExceptions" "Ljava/util/List;") ∈ lw_all := lw_g (lw_at lw_m4 39 rfl) rfl
theorem q865 : (Jvm.Cond.superclass "java/lang/ClassCastException" "java/lang/RuntimeException") ∈ lw_all := lw_g (lw_at lw_m4 40 rfl) rfl
theorem q866 : (Jvm.Cond.castable "java/lang/ClassCastException" "java/lang/ClassCastException") ∈ lw_tbl := lw_at lw_m4 41 rfl
theorem q867 : (Jvm.Cond.selects "java/lang/ClassCastException" ({ cls := "java/lang/Throwable", name := "fillInStackTrace", desc := "(I)Ljava/lang/Throwable;" } : Jvm.MethodName) ({ cls := "java/lang/Throwable", name := "fillInStackTrace", desc := "(I)Ljava/lang/Throwable;" } : Jvm.MethodName)) ∈ lw_all := lw_g (lw_at lw_m4 42 rfl) rfl
theorem in_J3 : ∀ w ∈ wsJ30, w ∈ lw_all := lw_in wsJ30 [859, 860, 861, 862, 863, 864] (by decide +kernel) (by decide +kernel)

/-! java/lang/String -/
set_option maxRecDepth 100000
def RJ4 : String := "java/lang/String"
def TJ4 : u_T := fun k => match k with
  | 0 => ("java/lang/String", "value", "[B", true)
  | _ => ("java/lang/String", "coder", "B", true)
def tyJ4 : Nat → FieldType := fun k => match k with
  | 0 => .array .byte
  | _ => .byte
abbrev wsJ40 : List Cond := u_ws RJ4 TJ4 2
theorem nmJ4 : ∀ a, a < 2 → ∀ b, b < 2 → a ≠ b → (TJ4 a).2.1 ≠ (TJ4 b).2.1 := by decide +kernel
theorem tyJ4_ok : ∀ k, k < 2 → parseFieldDescriptor (TJ4 k).2.2.1 = some (tyJ4 k) := by decide +kernel
abbrev cJ4_length : ByteArray := prog_40_method_54_code
def yJ4_length : MethodName := ⟨RJ4, "length", "()I"⟩
def dkwJ4_length_0 : List UInt8 := [42, 180, 0, 9, 190, 42, 182, 1, 79, 122, 172]
abbrev dktJ4_length_0 : List UInt8 := dkwJ4_length_0 ++ []
theorem dksJ4_length_0 : cJ4_length.data.toList.drop 0 = dktJ4_length_0 := by decide +kernel
theorem dJ4_length_0 : decode cJ4_length 0 = .ok (.aload_n 0, 1) := dk_42 (dk_at dksJ4_length_0 0 rfl rfl)
theorem dJ4_length_1 : decode cJ4_length 1 = .ok (.getfield 9, 3) := dk_180 0 9 (dk_at dksJ4_length_0 1 rfl rfl)
theorem dJ4_length_4 : decode cJ4_length 4 = .ok (.arraylength, 1) := dk_190 (dk_at dksJ4_length_0 4 rfl rfl)
theorem dJ4_length_5 : decode cJ4_length 5 = .ok (.aload_n 0, 1) := dk_42 (dk_at dksJ4_length_0 5 rfl rfl)
theorem dJ4_length_6 : decode cJ4_length 6 = .ok (.invokevirtual 335, 3) := dk_182 1 79 (dk_at dksJ4_length_0 6 rfl rfl)
theorem dJ4_length_9 : decode cJ4_length 9 = .ok (.ishr, 1) := dk_122 (dk_at dksJ4_length_0 9 rfl rfl)
theorem dJ4_length_10 : decode cJ4_length 10 = .ok (.ireturn, 1) := dk_172 (dk_at dksJ4_length_0 10 rfl rfl)
abbrev cJ4_coder : ByteArray := prog_40_method_152_code
def yJ4_coder : MethodName := ⟨RJ4, "coder", "()B"⟩
def dkwJ4_coder_0 : List UInt8 := [178, 0, 38, 153, 0, 10, 42, 180, 0, 15, 167, 0, 4, 4, 172]
abbrev dktJ4_coder_0 : List UInt8 := dkwJ4_coder_0 ++ []
theorem dksJ4_coder_0 : cJ4_coder.data.toList.drop 0 = dktJ4_coder_0 := by decide +kernel
theorem dJ4_coder_0 : decode cJ4_coder 0 = .ok (.getstatic 38, 3) := dk_178 0 38 (dk_at dksJ4_coder_0 0 rfl rfl)
theorem dJ4_coder_3 : decode cJ4_coder 3 = .ok (.ifCond .eq 10, 3) := dk_153 0 10 (dk_at dksJ4_coder_0 3 rfl rfl)
theorem dJ4_coder_6 : decode cJ4_coder 6 = .ok (.aload_n 0, 1) := dk_42 (dk_at dksJ4_coder_0 6 rfl rfl)
theorem dJ4_coder_7 : decode cJ4_coder 7 = .ok (.getfield 15, 3) := dk_180 0 15 (dk_at dksJ4_coder_0 7 rfl rfl)
theorem dJ4_coder_10 : decode cJ4_coder 10 = .ok (.goto 4, 3) := dk_167 0 4 (dk_at dksJ4_coder_0 10 rfl rfl)
theorem dJ4_coder_13 : decode cJ4_coder 13 = .ok (.iconst 1, 1) := dk_4 (dk_at dksJ4_coder_0 13 rfl rfl)
theorem dJ4_coder_14 : decode cJ4_coder 14 = .ok (.ireturn, 1) := dk_172 (dk_at dksJ4_coder_0 14 rfl rfl)
abbrev cJ4_charAt : ByteArray := prog_40_method_56_code
def yJ4_charAt : MethodName := ⟨RJ4, "charAt", "(I)C"⟩
def dkwJ4_charAt_1 : List UInt8 := [172]
abbrev dktJ4_charAt_1 : List UInt8 := dkwJ4_charAt_1 ++ []
def dkwJ4_charAt_0 : List UInt8 := [42, 182, 1, 236, 153, 0, 12, 42, 180, 0, 9, 27, 184, 1, 239, 172, 42, 180, 0, 9, 27, 184, 1, 242]
abbrev dktJ4_charAt_0 : List UInt8 := dkwJ4_charAt_0 ++ dktJ4_charAt_1
theorem dksJ4_charAt_0 : cJ4_charAt.data.toList.drop 0 = dktJ4_charAt_0 := by decide +kernel
theorem dksJ4_charAt_1 : cJ4_charAt.data.toList.drop 24 = dktJ4_charAt_1 := dk_seg dksJ4_charAt_0 24 rfl rfl
theorem dJ4_charAt_0 : decode cJ4_charAt 0 = .ok (.aload_n 0, 1) := dk_42 (dk_at dksJ4_charAt_0 0 rfl rfl)
theorem dJ4_charAt_1 : decode cJ4_charAt 1 = .ok (.invokevirtual 492, 3) := dk_182 1 236 (dk_at dksJ4_charAt_0 1 rfl rfl)
theorem dJ4_charAt_4 : decode cJ4_charAt 4 = .ok (.ifCond .eq 12, 3) := dk_153 0 12 (dk_at dksJ4_charAt_0 4 rfl rfl)
theorem dJ4_charAt_7 : decode cJ4_charAt 7 = .ok (.aload_n 0, 1) := dk_42 (dk_at dksJ4_charAt_0 7 rfl rfl)
theorem dJ4_charAt_8 : decode cJ4_charAt 8 = .ok (.getfield 9, 3) := dk_180 0 9 (dk_at dksJ4_charAt_0 8 rfl rfl)
theorem dJ4_charAt_11 : decode cJ4_charAt 11 = .ok (.iload_n 1, 1) := dk_27 (dk_at dksJ4_charAt_0 11 rfl rfl)
theorem dJ4_charAt_12 : decode cJ4_charAt 12 = .ok (.invokestatic 495, 3) := dk_184 1 239 (dk_at dksJ4_charAt_0 12 rfl rfl)
theorem dJ4_charAt_15 : decode cJ4_charAt 15 = .ok (.ireturn, 1) := dk_172 (dk_at dksJ4_charAt_0 15 rfl rfl)
theorem dJ4_charAt_16 : decode cJ4_charAt 16 = .ok (.aload_n 0, 1) := dk_42 (dk_at dksJ4_charAt_0 16 rfl rfl)
theorem dJ4_charAt_17 : decode cJ4_charAt 17 = .ok (.getfield 9, 3) := dk_180 0 9 (dk_at dksJ4_charAt_0 17 rfl rfl)
theorem dJ4_charAt_20 : decode cJ4_charAt 20 = .ok (.iload_n 1, 1) := dk_27 (dk_at dksJ4_charAt_0 20 rfl rfl)
theorem dJ4_charAt_21 : decode cJ4_charAt 21 = .ok (.invokestatic 498, 3) := dk_184 1 242 (dk_at dksJ4_charAt_0 21 rfl rfl)
theorem dJ4_charAt_24 : decode cJ4_charAt 24 = .ok (.ireturn, 1) := dk_172 (dk_at dksJ4_charAt_1 0 rfl rfl)
abbrev cJ4_isLatin1 : ByteArray := prog_40_method_154_code
def yJ4_isLatin1 : MethodName := ⟨RJ4, "isLatin1", "()Z"⟩
def dkwJ4_isLatin1_0 : List UInt8 := [178, 0, 38, 153, 0, 14, 42, 180, 0, 15, 154, 0, 7, 4, 167, 0, 4, 3, 172]
abbrev dktJ4_isLatin1_0 : List UInt8 := dkwJ4_isLatin1_0 ++ []
theorem dksJ4_isLatin1_0 : cJ4_isLatin1.data.toList.drop 0 = dktJ4_isLatin1_0 := by decide +kernel
theorem dJ4_isLatin1_0 : decode cJ4_isLatin1 0 = .ok (.getstatic 38, 3) := dk_178 0 38 (dk_at dksJ4_isLatin1_0 0 rfl rfl)
theorem dJ4_isLatin1_3 : decode cJ4_isLatin1 3 = .ok (.ifCond .eq 14, 3) := dk_153 0 14 (dk_at dksJ4_isLatin1_0 3 rfl rfl)
theorem dJ4_isLatin1_6 : decode cJ4_isLatin1 6 = .ok (.aload_n 0, 1) := dk_42 (dk_at dksJ4_isLatin1_0 6 rfl rfl)
theorem dJ4_isLatin1_7 : decode cJ4_isLatin1 7 = .ok (.getfield 15, 3) := dk_180 0 15 (dk_at dksJ4_isLatin1_0 7 rfl rfl)
theorem dJ4_isLatin1_10 : decode cJ4_isLatin1 10 = .ok (.ifCond .ne 7, 3) := dk_154 0 7 (dk_at dksJ4_isLatin1_0 10 rfl rfl)
theorem dJ4_isLatin1_13 : decode cJ4_isLatin1 13 = .ok (.iconst 1, 1) := dk_4 (dk_at dksJ4_isLatin1_0 13 rfl rfl)
theorem dJ4_isLatin1_14 : decode cJ4_isLatin1 14 = .ok (.goto 4, 3) := dk_167 0 4 (dk_at dksJ4_isLatin1_0 14 rfl rfl)
theorem dJ4_isLatin1_17 : decode cJ4_isLatin1 17 = .ok (.iconst 0, 1) := dk_3 (dk_at dksJ4_isLatin1_0 17 rfl rfl)
theorem dJ4_isLatin1_18 : decode cJ4_isLatin1 18 = .ok (.ireturn, 1) := dk_172 (dk_at dksJ4_isLatin1_0 18 rfl rfl)
abbrev cJ4_checkIndex : ByteArray := prog_40_method_155_code
def yJ4_checkIndex : MethodName := ⟨RJ4, "checkIndex", "(II)V"⟩
def dkwJ4_checkIndex_0 : List UInt8 := [26, 27, 178, 4, 29, 184, 4, 35, 87, 177]
abbrev dktJ4_checkIndex_0 : List UInt8 := dkwJ4_checkIndex_0 ++ []
theorem dksJ4_checkIndex_0 : cJ4_checkIndex.data.toList.drop 0 = dktJ4_checkIndex_0 := by decide +kernel
theorem dJ4_checkIndex_0 : decode cJ4_checkIndex 0 = .ok (.iload_n 0, 1) := dk_26 (dk_at dksJ4_checkIndex_0 0 rfl rfl)
theorem dJ4_checkIndex_1 : decode cJ4_checkIndex 1 = .ok (.iload_n 1, 1) := dk_27 (dk_at dksJ4_checkIndex_0 1 rfl rfl)
theorem dJ4_checkIndex_2 : decode cJ4_checkIndex 2 = .ok (.getstatic 1053, 3) := dk_178 4 29 (dk_at dksJ4_checkIndex_0 2 rfl rfl)
theorem dJ4_checkIndex_5 : decode cJ4_checkIndex 5 = .ok (.invokestatic 1059, 3) := dk_184 4 35 (dk_at dksJ4_checkIndex_0 5 rfl rfl)
theorem dJ4_checkIndex_8 : decode cJ4_checkIndex 8 = .ok (.pop, 1) := dk_87 (dk_at dksJ4_checkIndex_0 8 rfl rfl)
theorem dJ4_checkIndex_9 : decode cJ4_checkIndex 9 = .ok (.return_, 1) := dk_177 (dk_at dksJ4_checkIndex_0 9 rfl rfl)
theorem q125 : (Jvm.Cond.initialized "java/lang/String") ∈ lw_all := lw_g (lw_at lw_m1 20 rfl) rfl
theorem q868 : (Jvm.Cond.instantiable "java/lang/String" (4 : Nat)) ∈ lw_all := lw_g (lw_at lw_m4 43 rfl) rfl
theorem q869 : (Jvm.Cond.laysFinal "java/lang/String" "java/lang/String" "value" "[B") ∈ lw_all := lw_g (lw_at lw_m4 44 rfl) rfl
theorem q870 : (Jvm.Cond.soleField "java/lang/String" "value") ∈ lw_all := lw_g (lw_at lw_m4 45 rfl) rfl
theorem q871 : (Jvm.Cond.laysFinal "java/lang/String" "java/lang/String" "coder" "B") ∈ lw_all := lw_g (lw_at lw_m4 46 rfl) rfl
theorem q872 : (Jvm.Cond.soleField "java/lang/String" "coder") ∈ lw_all := lw_g (lw_at lw_m4 47 rfl) rfl
theorem q992 : (Jvm.Cond.instanceMethod ({ cls := "java/lang/String", name := "length", desc := "()I" } : Jvm.MethodName)) ∈ lw_all := lw_g (lw_at lw_m4 167 rfl) rfl
theorem q993 : (Jvm.Cond.selects "java/lang/String" ({ cls := "java/lang/String", name := "length", desc := "()I" } : Jvm.MethodName) ({ cls := "java/lang/String", name := "length", desc := "()I" } : Jvm.MethodName)) ∈ lw_all := lw_g (lw_at lw_m4 168 rfl) rfl
theorem q994 : (Jvm.Cond.code ({ cls := "java/lang/String", name := "length", desc := "()I" } : Jvm.MethodName) prog_40_method_54_code (1 : Nat) (Option.some Jvm.ClassFile.FieldType.int)) ∈ lw_all := lw_g (lw_at lw_m4 169 rfl) rfl
theorem q995 : (Jvm.Cond.methodLink "java/lang/String" (335 : Nat) ({ cls := "java/lang/String", name := "coder", desc := "()B" } : Jvm.MethodName)) ∈ lw_all := lw_g (lw_at lw_m4 170 rfl) rfl
theorem q996 : (Jvm.Cond.instanceMethod ({ cls := "java/lang/String", name := "coder", desc := "()B" } : Jvm.MethodName)) ∈ lw_all := lw_g (lw_at lw_m4 171 rfl) rfl
theorem q997 : (Jvm.Cond.selects "java/lang/String" ({ cls := "java/lang/String", name := "coder", desc := "()B" } : Jvm.MethodName) ({ cls := "java/lang/String", name := "coder", desc := "()B" } : Jvm.MethodName)) ∈ lw_all := lw_g (lw_at lw_m4 172 rfl) rfl
theorem q998 : (Jvm.Cond.code ({ cls := "java/lang/String", name := "coder", desc := "()B" } : Jvm.MethodName) prog_40_method_152_code (1 : Nat) (Option.some Jvm.ClassFile.FieldType.byte)) ∈ lw_all := lw_g (lw_at lw_m4 173 rfl) rfl
theorem q999 : (Jvm.Cond.fieldLink "java/lang/String" (38 : Nat) "java/lang/String" "COMPACT_STRINGS" "Z") ∈ lw_all := lw_g (lw_at lw_m4 174 rfl) rfl
theorem q1000 : (Jvm.Cond.laysStatic "java/lang/String" "COMPACT_STRINGS" "Z") ∈ lw_tbl := lw_at lw_m4 175 rfl
theorem q1002 : (Jvm.Cond.instanceMethod ({ cls := "java/lang/String", name := "charAt", desc := "(I)C" } : Jvm.MethodName)) ∈ lw_all := lw_g (lw_at lw_m4 177 rfl) rfl
theorem q1003 : (Jvm.Cond.selects "java/lang/String" ({ cls := "java/lang/String", name := "charAt", desc := "(I)C" } : Jvm.MethodName) ({ cls := "java/lang/String", name := "charAt", desc := "(I)C" } : Jvm.MethodName)) ∈ lw_all := lw_g (lw_at lw_m4 178 rfl) rfl
theorem q1004 : (Jvm.Cond.code ({ cls := "java/lang/String", name := "charAt", desc := "(I)C" } : Jvm.MethodName) prog_40_method_56_code (2 : Nat) (Option.some Jvm.ClassFile.FieldType.char)) ∈ lw_all := lw_g (lw_at lw_m4 179 rfl) rfl
theorem q1005 : (Jvm.Cond.methodLink "java/lang/String" (492 : Nat) ({ cls := "java/lang/String", name := "isLatin1", desc := "()Z" } : Jvm.MethodName)) ∈ lw_all := lw_g (lw_at lw_m4 180 rfl) rfl
theorem q1006 : (Jvm.Cond.instanceMethod ({ cls := "java/lang/String", name := "isLatin1", desc := "()Z" } : Jvm.MethodName)) ∈ lw_all := lw_g (lw_at lw_m4 181 rfl) rfl
theorem q1007 : (Jvm.Cond.selects "java/lang/String" ({ cls := "java/lang/String", name := "isLatin1", desc := "()Z" } : Jvm.MethodName) ({ cls := "java/lang/String", name := "isLatin1", desc := "()Z" } : Jvm.MethodName)) ∈ lw_all := lw_g (lw_at lw_m4 182 rfl) rfl
theorem q1008 : (Jvm.Cond.code ({ cls := "java/lang/String", name := "isLatin1", desc := "()Z" } : Jvm.MethodName) prog_40_method_154_code (1 : Nat) (Option.some Jvm.ClassFile.FieldType.boolean)) ∈ lw_all := lw_g (lw_at lw_m4 183 rfl) rfl
theorem q1009 : (Jvm.Cond.methodLink "java/lang/String" (495 : Nat) ({ cls := "java/lang/StringLatin1", name := "charAt", desc := "([BI)C" } : Jvm.MethodName)) ∈ lw_all := lw_g (lw_at lw_m4 184 rfl) rfl
theorem q1013 : (Jvm.Cond.static ({ cls := "java/lang/String", name := "checkIndex", desc := "(II)V" } : Jvm.MethodName)) ∈ lw_all := lw_g (lw_at lw_m4 188 rfl) rfl
theorem q1014 : (Jvm.Cond.code ({ cls := "java/lang/String", name := "checkIndex", desc := "(II)V" } : Jvm.MethodName) prog_40_method_155_code (2 : Nat) (Option.none : Option Jvm.ClassFile.FieldType)) ∈ lw_all := lw_g (lw_at lw_m4 189 rfl) rfl
theorem q1015 : (Jvm.Cond.fieldLink "java/lang/String" (1053 : Nat) "jdk/internal/util/Preconditions" "SIOOBE_FORMATTER" "Ljava/util/function/BiFunction;") ∈ lw_all := lw_g (lw_at lw_m4 190 rfl) rfl
theorem q1017 : (Jvm.Cond.methodLink "java/lang/String" (1059 : Nat) ({ cls := "jdk/internal/util/Preconditions", name := "checkIndex", desc := "(IILjava/util/function/BiFunction;)I" } : Jvm.MethodName)) ∈ lw_all := lw_g (lw_at lw_m4 192 rfl) rfl
theorem q1020 : (Jvm.Cond.methodLink "java/lang/String" (498 : Nat) ({ cls := "java/lang/StringUTF16", name := "charAt", desc := "([BI)C" } : Jvm.MethodName)) ∈ lw_all := lw_g (lw_at lw_m4 195 rfl) rfl
theorem q2408 : (Jvm.Cond.fieldLink "java/lang/String" (9 : Nat) "java/lang/String" "value" "[B") ∈ lw_all := lw_g (lw_at lw_m10 143 rfl) rfl
theorem q2409 : (Jvm.Cond.fieldLink "java/lang/String" (15 : Nat) "java/lang/String" "coder" "B") ∈ lw_all := lw_g (lw_at lw_m10 144 rfl) rfl
theorem in_J4 : ∀ w ∈ wsJ40, w ∈ lw_all := lw_in wsJ40 [869, 871] (by decide +kernel) (by decide +kernel)

/-! java/lang/Math -/
set_option maxRecDepth 100000
def RJ5 : String := "java/lang/Math"
abbrev cJ5_max : ByteArray := prog_37_method_65_code
def yJ5_max : MethodName := ⟨RJ5, "max", "(II)I"⟩
def dkwJ5_max_0 : List UInt8 := [26, 27, 161, 0, 7, 26, 167, 0, 4, 27, 172]
abbrev dktJ5_max_0 : List UInt8 := dkwJ5_max_0 ++ []
theorem dksJ5_max_0 : cJ5_max.data.toList.drop 0 = dktJ5_max_0 := by decide +kernel
theorem dJ5_max_0 : decode cJ5_max 0 = .ok (.iload_n 0, 1) := dk_26 (dk_at dksJ5_max_0 0 rfl rfl)
theorem dJ5_max_1 : decode cJ5_max 1 = .ok (.iload_n 1, 1) := dk_27 (dk_at dksJ5_max_0 1 rfl rfl)
theorem dJ5_max_2 : decode cJ5_max 2 = .ok (.if_icmp .lt 7, 3) := dk_161 0 7 (dk_at dksJ5_max_0 2 rfl rfl)
theorem dJ5_max_5 : decode cJ5_max 5 = .ok (.iload_n 0, 1) := dk_26 (dk_at dksJ5_max_0 5 rfl rfl)
theorem dJ5_max_6 : decode cJ5_max 6 = .ok (.goto 4, 3) := dk_167 0 4 (dk_at dksJ5_max_0 6 rfl rfl)
theorem dJ5_max_9 : decode cJ5_max 9 = .ok (.iload_n 1, 1) := dk_27 (dk_at dksJ5_max_0 9 rfl rfl)
theorem dJ5_max_10 : decode cJ5_max 10 = .ok (.ireturn, 1) := dk_172 (dk_at dksJ5_max_0 10 rfl rfl)
abbrev cJ5_min : ByteArray := prog_37_method_69_code
def yJ5_min : MethodName := ⟨RJ5, "min", "(II)I"⟩
def dkwJ5_min_0 : List UInt8 := [26, 27, 163, 0, 7, 26, 167, 0, 4, 27, 172]
abbrev dktJ5_min_0 : List UInt8 := dkwJ5_min_0 ++ []
theorem dksJ5_min_0 : cJ5_min.data.toList.drop 0 = dktJ5_min_0 := by decide +kernel
theorem dJ5_min_0 : decode cJ5_min 0 = .ok (.iload_n 0, 1) := dk_26 (dk_at dksJ5_min_0 0 rfl rfl)
theorem dJ5_min_1 : decode cJ5_min 1 = .ok (.iload_n 1, 1) := dk_27 (dk_at dksJ5_min_0 1 rfl rfl)
theorem dJ5_min_2 : decode cJ5_min 2 = .ok (.if_icmp .gt 7, 3) := dk_163 0 7 (dk_at dksJ5_min_0 2 rfl rfl)
theorem dJ5_min_5 : decode cJ5_min 5 = .ok (.iload_n 0, 1) := dk_26 (dk_at dksJ5_min_0 5 rfl rfl)
theorem dJ5_min_6 : decode cJ5_min 6 = .ok (.goto 4, 3) := dk_167 0 4 (dk_at dksJ5_min_0 6 rfl rfl)
theorem dJ5_min_9 : decode cJ5_min 9 = .ok (.iload_n 1, 1) := dk_27 (dk_at dksJ5_min_0 9 rfl rfl)
theorem dJ5_min_10 : decode cJ5_min 10 = .ok (.ireturn, 1) := dk_172 (dk_at dksJ5_min_0 10 rfl rfl)
abbrev cJ5_max_2 : ByteArray := prog_37_method_66_code
def yJ5_max_2 : MethodName := ⟨RJ5, "max", "(JJ)J"⟩
def dkwJ5_max_2_0 : List UInt8 := [30, 32, 148, 155, 0, 7, 30, 167, 0, 4, 32, 173]
abbrev dktJ5_max_2_0 : List UInt8 := dkwJ5_max_2_0 ++ []
theorem dksJ5_max_2_0 : cJ5_max_2.data.toList.drop 0 = dktJ5_max_2_0 := by decide +kernel
theorem dJ5_max_2_0 : decode cJ5_max_2 0 = .ok (.lload_n 0, 1) := dk_30 (dk_at dksJ5_max_2_0 0 rfl rfl)
theorem dJ5_max_2_1 : decode cJ5_max_2 1 = .ok (.lload_n 2, 1) := dk_32 (dk_at dksJ5_max_2_0 1 rfl rfl)
theorem dJ5_max_2_2 : decode cJ5_max_2 2 = .ok (.lcmp, 1) := dk_148 (dk_at dksJ5_max_2_0 2 rfl rfl)
theorem dJ5_max_2_3 : decode cJ5_max_2 3 = .ok (.ifCond .lt 7, 3) := dk_155 0 7 (dk_at dksJ5_max_2_0 3 rfl rfl)
theorem dJ5_max_2_6 : decode cJ5_max_2 6 = .ok (.lload_n 0, 1) := dk_30 (dk_at dksJ5_max_2_0 6 rfl rfl)
theorem dJ5_max_2_7 : decode cJ5_max_2 7 = .ok (.goto 4, 3) := dk_167 0 4 (dk_at dksJ5_max_2_0 7 rfl rfl)
theorem dJ5_max_2_10 : decode cJ5_max_2 10 = .ok (.lload_n 2, 1) := dk_32 (dk_at dksJ5_max_2_0 10 rfl rfl)
theorem dJ5_max_2_11 : decode cJ5_max_2 11 = .ok (.lreturn, 1) := dk_173 (dk_at dksJ5_max_2_0 11 rfl rfl)
theorem q127 : (Jvm.Cond.initialized "java/lang/Math") ∈ lw_all := lw_g (lw_at lw_m1 22 rfl) rfl
theorem q709 : (Jvm.Cond.static ({ cls := "java/lang/Math", name := "max", desc := "(II)I" } : Jvm.MethodName)) ∈ lw_all := lw_g (lw_at lw_m3 124 rfl) rfl
theorem q710 : (Jvm.Cond.code ({ cls := "java/lang/Math", name := "max", desc := "(II)I" } : Jvm.MethodName) prog_37_method_65_code (2 : Nat) (Option.some Jvm.ClassFile.FieldType.int)) ∈ lw_all := lw_g (lw_at lw_m3 125 rfl) rfl
theorem q716 : (Jvm.Cond.static ({ cls := "java/lang/Math", name := "min", desc := "(II)I" } : Jvm.MethodName)) ∈ lw_all := lw_g (lw_at lw_m3 131 rfl) rfl
theorem q717 : (Jvm.Cond.code ({ cls := "java/lang/Math", name := "min", desc := "(II)I" } : Jvm.MethodName) prog_37_method_69_code (2 : Nat) (Option.some Jvm.ClassFile.FieldType.int)) ∈ lw_all := lw_g (lw_at lw_m3 132 rfl) rfl
theorem q831 : (Jvm.Cond.static ({ cls := "java/lang/Math", name := "max", desc := "(JJ)J" } : Jvm.MethodName)) ∈ lw_all := lw_g (lw_at lw_m4 6 rfl) rfl
theorem q832 : (Jvm.Cond.code ({ cls := "java/lang/Math", name := "max", desc := "(JJ)J" } : Jvm.MethodName) prog_37_method_66_code (4 : Nat) (Option.some Jvm.ClassFile.FieldType.long)) ∈ lw_all := lw_g (lw_at lw_m4 7 rfl) rfl

/-! java/util/Arrays -/
set_option maxRecDepth 100000
def RJ6 : String := "java/util/Arrays"
abbrev cJ6_fill : ByteArray := prog_45_method_103_code
def yJ6_fill : MethodName := ⟨RJ6, "fill", "([II)V"⟩
def dkwJ6_fill_0 : List UInt8 := [3, 61, 42, 190, 62, 28, 29, 162, 0, 13, 42, 28, 27, 79, 132, 2, 1, 167, 255, 244, 177]
abbrev dktJ6_fill_0 : List UInt8 := dkwJ6_fill_0 ++ []
theorem dksJ6_fill_0 : cJ6_fill.data.toList.drop 0 = dktJ6_fill_0 := by decide +kernel
theorem dJ6_fill_0 : decode cJ6_fill 0 = .ok (.iconst 0, 1) := dk_3 (dk_at dksJ6_fill_0 0 rfl rfl)
theorem dJ6_fill_1 : decode cJ6_fill 1 = .ok (.istore_n 2, 1) := dk_61 (dk_at dksJ6_fill_0 1 rfl rfl)
theorem dJ6_fill_2 : decode cJ6_fill 2 = .ok (.aload_n 0, 1) := dk_42 (dk_at dksJ6_fill_0 2 rfl rfl)
theorem dJ6_fill_3 : decode cJ6_fill 3 = .ok (.arraylength, 1) := dk_190 (dk_at dksJ6_fill_0 3 rfl rfl)
theorem dJ6_fill_4 : decode cJ6_fill 4 = .ok (.istore_n 3, 1) := dk_62 (dk_at dksJ6_fill_0 4 rfl rfl)
theorem dJ6_fill_5 : decode cJ6_fill 5 = .ok (.iload_n 2, 1) := dk_28 (dk_at dksJ6_fill_0 5 rfl rfl)
theorem dJ6_fill_6 : decode cJ6_fill 6 = .ok (.iload_n 3, 1) := dk_29 (dk_at dksJ6_fill_0 6 rfl rfl)
theorem dJ6_fill_7 : decode cJ6_fill 7 = .ok (.if_icmp .ge 13, 3) := dk_162 0 13 (dk_at dksJ6_fill_0 7 rfl rfl)
theorem dJ6_fill_10 : decode cJ6_fill 10 = .ok (.aload_n 0, 1) := dk_42 (dk_at dksJ6_fill_0 10 rfl rfl)
theorem dJ6_fill_11 : decode cJ6_fill 11 = .ok (.iload_n 2, 1) := dk_28 (dk_at dksJ6_fill_0 11 rfl rfl)
theorem dJ6_fill_12 : decode cJ6_fill 12 = .ok (.iload_n 1, 1) := dk_27 (dk_at dksJ6_fill_0 12 rfl rfl)
theorem dJ6_fill_13 : decode cJ6_fill 13 = .ok (.iastore, 1) := dk_79 (dk_at dksJ6_fill_0 13 rfl rfl)
theorem dJ6_fill_14 : decode cJ6_fill 14 = .ok (.iinc 2 1, 3) := dk_132 2 1 (dk_at dksJ6_fill_0 14 rfl rfl)
theorem dJ6_fill_17 : decode cJ6_fill 17 = .ok (.goto (-12), 3) := dk_167 255 244 (dk_at dksJ6_fill_0 17 rfl rfl)
theorem dJ6_fill_20 : decode cJ6_fill 20 = .ok (.return_, 1) := dk_177 (dk_at dksJ6_fill_0 20 rfl rfl)
theorem q128 : (Jvm.Cond.initialized "java/util/Arrays") ∈ lw_all := lw_g (lw_at lw_m1 23 rfl) rfl
theorem q732 : (Jvm.Cond.static ({ cls := "java/util/Arrays", name := "fill", desc := "([II)V" } : Jvm.MethodName)) ∈ lw_all := lw_g (lw_at lw_m3 147 rfl) rfl
theorem q733 : (Jvm.Cond.code ({ cls := "java/util/Arrays", name := "fill", desc := "([II)V" } : Jvm.MethodName) prog_45_method_103_code (4 : Nat) (Option.none : Option Jvm.ClassFile.FieldType)) ∈ lw_all := lw_g (lw_at lw_m3 148 rfl) rfl

/-! java/lang/StringLatin1 -/
set_option maxRecDepth 100000
def RJ7 : String := "java/lang/StringLatin1"
abbrev cJ7_charAt : ByteArray := prog_41_method_2_code
def yJ7_charAt : MethodName := ⟨RJ7, "charAt", "([BI)C"⟩
def dkwJ7_charAt_0 : List UInt8 := [27, 42, 190, 184, 0, 9, 42, 27, 51, 17, 0, 255, 126, 146, 172]
abbrev dktJ7_charAt_0 : List UInt8 := dkwJ7_charAt_0 ++ []
theorem dksJ7_charAt_0 : cJ7_charAt.data.toList.drop 0 = dktJ7_charAt_0 := by decide +kernel
theorem dJ7_charAt_0 : decode cJ7_charAt 0 = .ok (.iload_n 1, 1) := dk_27 (dk_at dksJ7_charAt_0 0 rfl rfl)
theorem dJ7_charAt_1 : decode cJ7_charAt 1 = .ok (.aload_n 0, 1) := dk_42 (dk_at dksJ7_charAt_0 1 rfl rfl)
theorem dJ7_charAt_2 : decode cJ7_charAt 2 = .ok (.arraylength, 1) := dk_190 (dk_at dksJ7_charAt_0 2 rfl rfl)
theorem dJ7_charAt_3 : decode cJ7_charAt 3 = .ok (.invokestatic 9, 3) := dk_184 0 9 (dk_at dksJ7_charAt_0 3 rfl rfl)
theorem dJ7_charAt_6 : decode cJ7_charAt 6 = .ok (.aload_n 0, 1) := dk_42 (dk_at dksJ7_charAt_0 6 rfl rfl)
theorem dJ7_charAt_7 : decode cJ7_charAt 7 = .ok (.iload_n 1, 1) := dk_27 (dk_at dksJ7_charAt_0 7 rfl rfl)
theorem dJ7_charAt_8 : decode cJ7_charAt 8 = .ok (.baload, 1) := dk_51 (dk_at dksJ7_charAt_0 8 rfl rfl)
theorem dJ7_charAt_9 : decode cJ7_charAt 9 = .ok (.sipush 255, 3) := dk_17 0 255 (dk_at dksJ7_charAt_0 9 rfl rfl)
theorem dJ7_charAt_12 : decode cJ7_charAt 12 = .ok (.iand, 1) := dk_126 (dk_at dksJ7_charAt_0 12 rfl rfl)
theorem dJ7_charAt_13 : decode cJ7_charAt 13 = .ok (.i2c, 1) := dk_146 (dk_at dksJ7_charAt_0 13 rfl rfl)
theorem dJ7_charAt_14 : decode cJ7_charAt 14 = .ok (.ireturn, 1) := dk_172 (dk_at dksJ7_charAt_0 14 rfl rfl)
theorem q130 : (Jvm.Cond.initialized "java/lang/StringLatin1") ∈ lw_all := lw_g (lw_at lw_m1 25 rfl) rfl
theorem q1010 : (Jvm.Cond.static ({ cls := "java/lang/StringLatin1", name := "charAt", desc := "([BI)C" } : Jvm.MethodName)) ∈ lw_all := lw_g (lw_at lw_m4 185 rfl) rfl
theorem q1011 : (Jvm.Cond.code ({ cls := "java/lang/StringLatin1", name := "charAt", desc := "([BI)C" } : Jvm.MethodName) prog_41_method_2_code (2 : Nat) (Option.some Jvm.ClassFile.FieldType.char)) ∈ lw_all := lw_g (lw_at lw_m4 186 rfl) rfl
theorem q1012 : (Jvm.Cond.methodLink "java/lang/StringLatin1" (9 : Nat) ({ cls := "java/lang/String", name := "checkIndex", desc := "(II)V" } : Jvm.MethodName)) ∈ lw_all := lw_g (lw_at lw_m4 187 rfl) rfl

/-! jdk/internal/util/Preconditions -/
set_option maxRecDepth 100000
def RJ8 : String := "jdk/internal/util/Preconditions"
abbrev cJ8_checkIndex : ByteArray := prog_46_method_11_code
def yJ8_checkIndex : MethodName := ⟨RJ8, "checkIndex", "(IILjava/util/function/BiFunction;)I"⟩
def dkwJ8_checkIndex_0 : List UInt8 := [26, 155, 0, 8, 26, 27, 161, 0, 10, 44, 26, 27, 184, 0, 95, 191, 26, 172]
abbrev dktJ8_checkIndex_0 : List UInt8 := dkwJ8_checkIndex_0 ++ []
theorem dksJ8_checkIndex_0 : cJ8_checkIndex.data.toList.drop 0 = dktJ8_checkIndex_0 := by decide +kernel
theorem dJ8_checkIndex_0 : decode cJ8_checkIndex 0 = .ok (.iload_n 0, 1) := dk_26 (dk_at dksJ8_checkIndex_0 0 rfl rfl)
theorem dJ8_checkIndex_1 : decode cJ8_checkIndex 1 = .ok (.ifCond .lt 8, 3) := dk_155 0 8 (dk_at dksJ8_checkIndex_0 1 rfl rfl)
theorem dJ8_checkIndex_4 : decode cJ8_checkIndex 4 = .ok (.iload_n 0, 1) := dk_26 (dk_at dksJ8_checkIndex_0 4 rfl rfl)
theorem dJ8_checkIndex_5 : decode cJ8_checkIndex 5 = .ok (.iload_n 1, 1) := dk_27 (dk_at dksJ8_checkIndex_0 5 rfl rfl)
theorem dJ8_checkIndex_6 : decode cJ8_checkIndex 6 = .ok (.if_icmp .lt 10, 3) := dk_161 0 10 (dk_at dksJ8_checkIndex_0 6 rfl rfl)
theorem dJ8_checkIndex_9 : decode cJ8_checkIndex 9 = .ok (.aload_n 2, 1) := dk_44 (dk_at dksJ8_checkIndex_0 9 rfl rfl)
theorem dJ8_checkIndex_10 : decode cJ8_checkIndex 10 = .ok (.iload_n 0, 1) := dk_26 (dk_at dksJ8_checkIndex_0 10 rfl rfl)
theorem dJ8_checkIndex_11 : decode cJ8_checkIndex 11 = .ok (.iload_n 1, 1) := dk_27 (dk_at dksJ8_checkIndex_0 11 rfl rfl)
theorem dJ8_checkIndex_12 : decode cJ8_checkIndex 12 = .ok (.invokestatic 95, 3) := dk_184 0 95 (dk_at dksJ8_checkIndex_0 12 rfl rfl)
theorem dJ8_checkIndex_15 : decode cJ8_checkIndex 15 = .ok (.athrow, 1) := dk_191 (dk_at dksJ8_checkIndex_0 15 rfl rfl)
theorem dJ8_checkIndex_16 : decode cJ8_checkIndex 16 = .ok (.iload_n 0, 1) := dk_26 (dk_at dksJ8_checkIndex_0 16 rfl rfl)
theorem dJ8_checkIndex_17 : decode cJ8_checkIndex 17 = .ok (.ireturn, 1) := dk_172 (dk_at dksJ8_checkIndex_0 17 rfl rfl)
theorem q131 : (Jvm.Cond.initialized "jdk/internal/util/Preconditions") ∈ lw_all := lw_g (lw_at lw_m1 26 rfl) rfl
theorem q1016 : (Jvm.Cond.laysStatic "jdk/internal/util/Preconditions" "SIOOBE_FORMATTER" "Ljava/util/function/BiFunction;") ∈ lw_tbl := lw_at lw_m4 191 rfl
theorem q1018 : (Jvm.Cond.static ({ cls := "jdk/internal/util/Preconditions", name := "checkIndex", desc := "(IILjava/util/function/BiFunction;)I" } : Jvm.MethodName)) ∈ lw_all := lw_g (lw_at lw_m4 193 rfl) rfl
theorem q1019 : (Jvm.Cond.code ({ cls := "jdk/internal/util/Preconditions", name := "checkIndex", desc := "(IILjava/util/function/BiFunction;)I" } : Jvm.MethodName) prog_46_method_11_code (3 : Nat) (Option.some Jvm.ClassFile.FieldType.int)) ∈ lw_all := lw_g (lw_at lw_m4 194 rfl) rfl

/-! java/lang/StringUTF16 -/
set_option maxRecDepth 100000
def RJ9 : String := "java/lang/StringUTF16"
abbrev cJ9_charAt : ByteArray := prog_42_method_83_code
def yJ9_charAt : MethodName := ⟨RJ9, "charAt", "([BI)C"⟩
def dkwJ9_charAt_0 : List UInt8 := [27, 42, 184, 0, 67, 42, 27, 184, 0, 71, 172]
abbrev dktJ9_charAt_0 : List UInt8 := dkwJ9_charAt_0 ++ []
theorem dksJ9_charAt_0 : cJ9_charAt.data.toList.drop 0 = dktJ9_charAt_0 := by decide +kernel
theorem dJ9_charAt_0 : decode cJ9_charAt 0 = .ok (.iload_n 1, 1) := dk_27 (dk_at dksJ9_charAt_0 0 rfl rfl)
theorem dJ9_charAt_1 : decode cJ9_charAt 1 = .ok (.aload_n 0, 1) := dk_42 (dk_at dksJ9_charAt_0 1 rfl rfl)
theorem dJ9_charAt_2 : decode cJ9_charAt 2 = .ok (.invokestatic 67, 3) := dk_184 0 67 (dk_at dksJ9_charAt_0 2 rfl rfl)
theorem dJ9_charAt_5 : decode cJ9_charAt 5 = .ok (.aload_n 0, 1) := dk_42 (dk_at dksJ9_charAt_0 5 rfl rfl)
theorem dJ9_charAt_6 : decode cJ9_charAt 6 = .ok (.iload_n 1, 1) := dk_27 (dk_at dksJ9_charAt_0 6 rfl rfl)
theorem dJ9_charAt_7 : decode cJ9_charAt 7 = .ok (.invokestatic 71, 3) := dk_184 0 71 (dk_at dksJ9_charAt_0 7 rfl rfl)
theorem dJ9_charAt_10 : decode cJ9_charAt 10 = .ok (.ireturn, 1) := dk_172 (dk_at dksJ9_charAt_0 10 rfl rfl)
abbrev cJ9_checkIndex : ByteArray := prog_42_method_91_code
def yJ9_checkIndex : MethodName := ⟨RJ9, "checkIndex", "(I[B)V"⟩
def dkwJ9_checkIndex_0 : List UInt8 := [26, 43, 184, 0, 48, 184, 1, 158, 177]
abbrev dktJ9_checkIndex_0 : List UInt8 := dkwJ9_checkIndex_0 ++ []
theorem dksJ9_checkIndex_0 : cJ9_checkIndex.data.toList.drop 0 = dktJ9_checkIndex_0 := by decide +kernel
theorem dJ9_checkIndex_0 : decode cJ9_checkIndex 0 = .ok (.iload_n 0, 1) := dk_26 (dk_at dksJ9_checkIndex_0 0 rfl rfl)
theorem dJ9_checkIndex_1 : decode cJ9_checkIndex 1 = .ok (.aload_n 1, 1) := dk_43 (dk_at dksJ9_checkIndex_0 1 rfl rfl)
theorem dJ9_checkIndex_2 : decode cJ9_checkIndex 2 = .ok (.invokestatic 48, 3) := dk_184 0 48 (dk_at dksJ9_checkIndex_0 2 rfl rfl)
theorem dJ9_checkIndex_5 : decode cJ9_checkIndex 5 = .ok (.invokestatic 414, 3) := dk_184 1 158 (dk_at dksJ9_checkIndex_0 5 rfl rfl)
theorem dJ9_checkIndex_8 : decode cJ9_checkIndex 8 = .ok (.return_, 1) := dk_177 (dk_at dksJ9_checkIndex_0 8 rfl rfl)
abbrev cJ9_length : ByteArray := prog_42_method_6_code
def yJ9_length : MethodName := ⟨RJ9, "length", "([B)I"⟩
def dkwJ9_length_0 : List UInt8 := [42, 190, 4, 122, 172]
abbrev dktJ9_length_0 : List UInt8 := dkwJ9_length_0 ++ []
theorem dksJ9_length_0 : cJ9_length.data.toList.drop 0 = dktJ9_length_0 := by decide +kernel
theorem dJ9_length_0 : decode cJ9_length 0 = .ok (.aload_n 0, 1) := dk_42 (dk_at dksJ9_length_0 0 rfl rfl)
theorem dJ9_length_1 : decode cJ9_length 1 = .ok (.arraylength, 1) := dk_190 (dk_at dksJ9_length_0 1 rfl rfl)
theorem dJ9_length_2 : decode cJ9_length 2 = .ok (.iconst 1, 1) := dk_4 (dk_at dksJ9_length_0 2 rfl rfl)
theorem dJ9_length_3 : decode cJ9_length 3 = .ok (.ishr, 1) := dk_122 (dk_at dksJ9_length_0 3 rfl rfl)
theorem dJ9_length_4 : decode cJ9_length 4 = .ok (.ireturn, 1) := dk_172 (dk_at dksJ9_length_0 4 rfl rfl)
abbrev cJ9_getChar : ByteArray := prog_42_method_5_code
def yJ9_getChar : MethodName := ⟨RJ9, "getChar", "([BI)C"⟩
def dkwJ9_getChar_2 : List UInt8 := [51, 17, 0, 255, 126, 178, 0, 63, 120, 128, 146, 172]
abbrev dktJ9_getChar_2 : List UInt8 := dkwJ9_getChar_2 ++ []
def dkwJ9_getChar_1 : List UInt8 := [183, 0, 56, 191, 27, 4, 120, 60, 42, 27, 132, 1, 1, 51, 17, 0, 255, 126, 178, 0, 59, 120, 42, 27]
abbrev dktJ9_getChar_1 : List UInt8 := dkwJ9_getChar_1 ++ dktJ9_getChar_2
def dkwJ9_getChar_0 : List UInt8 := [178, 0, 44, 154, 0, 25, 27, 155, 0, 11, 27, 42, 184, 0, 48, 161, 0, 13, 187, 0, 52, 89, 18, 54]
abbrev dktJ9_getChar_0 : List UInt8 := dkwJ9_getChar_0 ++ dktJ9_getChar_1
theorem dksJ9_getChar_0 : cJ9_getChar.data.toList.drop 0 = dktJ9_getChar_0 := by decide +kernel
theorem dksJ9_getChar_1 : cJ9_getChar.data.toList.drop 24 = dktJ9_getChar_1 := dk_seg dksJ9_getChar_0 24 rfl rfl
theorem dksJ9_getChar_2 : cJ9_getChar.data.toList.drop 48 = dktJ9_getChar_2 := dk_seg dksJ9_getChar_1 24 rfl rfl
theorem dJ9_getChar_0 : decode cJ9_getChar 0 = .ok (.getstatic 44, 3) := dk_178 0 44 (dk_at dksJ9_getChar_0 0 rfl rfl)
theorem dJ9_getChar_3 : decode cJ9_getChar 3 = .ok (.ifCond .ne 25, 3) := dk_154 0 25 (dk_at dksJ9_getChar_0 3 rfl rfl)
theorem dJ9_getChar_6 : decode cJ9_getChar 6 = .ok (.iload_n 1, 1) := dk_27 (dk_at dksJ9_getChar_0 6 rfl rfl)
theorem dJ9_getChar_7 : decode cJ9_getChar 7 = .ok (.ifCond .lt 11, 3) := dk_155 0 11 (dk_at dksJ9_getChar_0 7 rfl rfl)
theorem dJ9_getChar_10 : decode cJ9_getChar 10 = .ok (.iload_n 1, 1) := dk_27 (dk_at dksJ9_getChar_0 10 rfl rfl)
theorem dJ9_getChar_11 : decode cJ9_getChar 11 = .ok (.aload_n 0, 1) := dk_42 (dk_at dksJ9_getChar_0 11 rfl rfl)
theorem dJ9_getChar_12 : decode cJ9_getChar 12 = .ok (.invokestatic 48, 3) := dk_184 0 48 (dk_at dksJ9_getChar_0 12 rfl rfl)
theorem dJ9_getChar_15 : decode cJ9_getChar 15 = .ok (.if_icmp .lt 13, 3) := dk_161 0 13 (dk_at dksJ9_getChar_0 15 rfl rfl)
theorem dJ9_getChar_18 : decode cJ9_getChar 18 = .ok (.new 52, 3) := dk_187 0 52 (dk_at dksJ9_getChar_0 18 rfl rfl)
theorem dJ9_getChar_21 : decode cJ9_getChar 21 = .ok (.dup, 1) := dk_89 (dk_at dksJ9_getChar_0 21 rfl rfl)
theorem dJ9_getChar_22 : decode cJ9_getChar 22 = .ok (.ldc 54, 2) := dk_18 54 (dk_at dksJ9_getChar_0 22 rfl rfl)
theorem dJ9_getChar_24 : decode cJ9_getChar 24 = .ok (.invokespecial 56, 3) := dk_183 0 56 (dk_at dksJ9_getChar_1 0 rfl rfl)
theorem dJ9_getChar_27 : decode cJ9_getChar 27 = .ok (.athrow, 1) := dk_191 (dk_at dksJ9_getChar_1 3 rfl rfl)
theorem dJ9_getChar_28 : decode cJ9_getChar 28 = .ok (.iload_n 1, 1) := dk_27 (dk_at dksJ9_getChar_1 4 rfl rfl)
theorem dJ9_getChar_29 : decode cJ9_getChar 29 = .ok (.iconst 1, 1) := dk_4 (dk_at dksJ9_getChar_1 5 rfl rfl)
theorem dJ9_getChar_30 : decode cJ9_getChar 30 = .ok (.ishl, 1) := dk_120 (dk_at dksJ9_getChar_1 6 rfl rfl)
theorem dJ9_getChar_31 : decode cJ9_getChar 31 = .ok (.istore_n 1, 1) := dk_60 (dk_at dksJ9_getChar_1 7 rfl rfl)
theorem dJ9_getChar_32 : decode cJ9_getChar 32 = .ok (.aload_n 0, 1) := dk_42 (dk_at dksJ9_getChar_1 8 rfl rfl)
theorem dJ9_getChar_33 : decode cJ9_getChar 33 = .ok (.iload_n 1, 1) := dk_27 (dk_at dksJ9_getChar_1 9 rfl rfl)
theorem dJ9_getChar_34 : decode cJ9_getChar 34 = .ok (.iinc 1 1, 3) := dk_132 1 1 (dk_at dksJ9_getChar_1 10 rfl rfl)
theorem dJ9_getChar_37 : decode cJ9_getChar 37 = .ok (.baload, 1) := dk_51 (dk_at dksJ9_getChar_1 13 rfl rfl)
theorem dJ9_getChar_38 : decode cJ9_getChar 38 = .ok (.sipush 255, 3) := dk_17 0 255 (dk_at dksJ9_getChar_1 14 rfl rfl)
theorem dJ9_getChar_41 : decode cJ9_getChar 41 = .ok (.iand, 1) := dk_126 (dk_at dksJ9_getChar_1 17 rfl rfl)
theorem dJ9_getChar_42 : decode cJ9_getChar 42 = .ok (.getstatic 59, 3) := dk_178 0 59 (dk_at dksJ9_getChar_1 18 rfl rfl)
theorem dJ9_getChar_45 : decode cJ9_getChar 45 = .ok (.ishl, 1) := dk_120 (dk_at dksJ9_getChar_1 21 rfl rfl)
theorem dJ9_getChar_46 : decode cJ9_getChar 46 = .ok (.aload_n 0, 1) := dk_42 (dk_at dksJ9_getChar_1 22 rfl rfl)
theorem dJ9_getChar_47 : decode cJ9_getChar 47 = .ok (.iload_n 1, 1) := dk_27 (dk_at dksJ9_getChar_1 23 rfl rfl)
theorem dJ9_getChar_48 : decode cJ9_getChar 48 = .ok (.baload, 1) := dk_51 (dk_at dksJ9_getChar_2 0 rfl rfl)
theorem dJ9_getChar_49 : decode cJ9_getChar 49 = .ok (.sipush 255, 3) := dk_17 0 255 (dk_at dksJ9_getChar_2 1 rfl rfl)
theorem dJ9_getChar_52 : decode cJ9_getChar 52 = .ok (.iand, 1) := dk_126 (dk_at dksJ9_getChar_2 4 rfl rfl)
theorem dJ9_getChar_53 : decode cJ9_getChar 53 = .ok (.getstatic 63, 3) := dk_178 0 63 (dk_at dksJ9_getChar_2 5 rfl rfl)
theorem dJ9_getChar_56 : decode cJ9_getChar 56 = .ok (.ishl, 1) := dk_120 (dk_at dksJ9_getChar_2 8 rfl rfl)
theorem dJ9_getChar_57 : decode cJ9_getChar 57 = .ok (.ior, 1) := dk_128 (dk_at dksJ9_getChar_2 9 rfl rfl)
theorem dJ9_getChar_58 : decode cJ9_getChar 58 = .ok (.i2c, 1) := dk_146 (dk_at dksJ9_getChar_2 10 rfl rfl)
theorem dJ9_getChar_59 : decode cJ9_getChar 59 = .ok (.ireturn, 1) := dk_172 (dk_at dksJ9_getChar_2 11 rfl rfl)
theorem q132 : (Jvm.Cond.initialized "java/lang/StringUTF16") ∈ lw_all := lw_g (lw_at lw_m1 27 rfl) rfl
theorem q1021 : (Jvm.Cond.static ({ cls := "java/lang/StringUTF16", name := "charAt", desc := "([BI)C" } : Jvm.MethodName)) ∈ lw_all := lw_g (lw_at lw_m4 196 rfl) rfl
theorem q1022 : (Jvm.Cond.code ({ cls := "java/lang/StringUTF16", name := "charAt", desc := "([BI)C" } : Jvm.MethodName) prog_42_method_83_code (2 : Nat) (Option.some Jvm.ClassFile.FieldType.char)) ∈ lw_all := lw_g (lw_at lw_m4 197 rfl) rfl
theorem q1023 : (Jvm.Cond.methodLink "java/lang/StringUTF16" (67 : Nat) ({ cls := "java/lang/StringUTF16", name := "checkIndex", desc := "(I[B)V" } : Jvm.MethodName)) ∈ lw_all := lw_g (lw_at lw_m4 198 rfl) rfl
theorem q1024 : (Jvm.Cond.static ({ cls := "java/lang/StringUTF16", name := "checkIndex", desc := "(I[B)V" } : Jvm.MethodName)) ∈ lw_all := lw_g (lw_at lw_m4 199 rfl) rfl
theorem q1025 : (Jvm.Cond.code ({ cls := "java/lang/StringUTF16", name := "checkIndex", desc := "(I[B)V" } : Jvm.MethodName) prog_42_method_91_code (2 : Nat) (Option.none : Option Jvm.ClassFile.FieldType)) ∈ lw_all := lw_g (lw_at lw_m4 200 rfl) rfl
theorem q1026 : (Jvm.Cond.methodLink "java/lang/StringUTF16" (48 : Nat) ({ cls := "java/lang/StringUTF16", name := "length", desc := "([B)I" } : Jvm.MethodName)) ∈ lw_all := lw_g (lw_at lw_m4 201 rfl) rfl
theorem q1027 : (Jvm.Cond.static ({ cls := "java/lang/StringUTF16", name := "length", desc := "([B)I" } : Jvm.MethodName)) ∈ lw_all := lw_g (lw_at lw_m4 202 rfl) rfl
theorem q1028 : (Jvm.Cond.code ({ cls := "java/lang/StringUTF16", name := "length", desc := "([B)I" } : Jvm.MethodName) prog_42_method_6_code (1 : Nat) (Option.some Jvm.ClassFile.FieldType.int)) ∈ lw_all := lw_g (lw_at lw_m4 203 rfl) rfl
theorem q1029 : (Jvm.Cond.methodLink "java/lang/StringUTF16" (414 : Nat) ({ cls := "java/lang/String", name := "checkIndex", desc := "(II)V" } : Jvm.MethodName)) ∈ lw_all := lw_g (lw_at lw_m4 204 rfl) rfl
theorem q1030 : (Jvm.Cond.methodLink "java/lang/StringUTF16" (71 : Nat) ({ cls := "java/lang/StringUTF16", name := "getChar", desc := "([BI)C" } : Jvm.MethodName)) ∈ lw_all := lw_g (lw_at lw_m4 205 rfl) rfl
theorem q1031 : (Jvm.Cond.static ({ cls := "java/lang/StringUTF16", name := "getChar", desc := "([BI)C" } : Jvm.MethodName)) ∈ lw_all := lw_g (lw_at lw_m4 206 rfl) rfl
theorem q1032 : (Jvm.Cond.code ({ cls := "java/lang/StringUTF16", name := "getChar", desc := "([BI)C" } : Jvm.MethodName) prog_42_method_5_code (2 : Nat) (Option.some Jvm.ClassFile.FieldType.char)) ∈ lw_all := lw_g (lw_at lw_m4 207 rfl) rfl
theorem q1033 : (Jvm.Cond.fieldLink "java/lang/StringUTF16" (44 : Nat) "java/lang/StringUTF16" "$assertionsDisabled" "Z") ∈ lw_all := lw_g (lw_at lw_m4 208 rfl) rfl
theorem q1034 : (Jvm.Cond.laysStatic "java/lang/StringUTF16" "$assertionsDisabled" "Z") ∈ lw_tbl := lw_at lw_m4 209 rfl
theorem q1035 : (Jvm.Cond.fieldLink "java/lang/StringUTF16" (59 : Nat) "java/lang/StringUTF16" "HI_BYTE_SHIFT" "I") ∈ lw_all := lw_g (lw_at lw_m4 210 rfl) rfl
theorem q1036 : (Jvm.Cond.laysStatic "java/lang/StringUTF16" "HI_BYTE_SHIFT" "I") ∈ lw_tbl := lw_at lw_m4 211 rfl
theorem q1037 : (Jvm.Cond.fieldLink "java/lang/StringUTF16" (63 : Nat) "java/lang/StringUTF16" "LO_BYTE_SHIFT" "I") ∈ lw_all := lw_g (lw_at lw_m4 212 rfl) rfl
theorem q1038 : (Jvm.Cond.laysStatic "java/lang/StringUTF16" "LO_BYTE_SHIFT" "I") ∈ lw_tbl := lw_at lw_m4 213 rfl

/-! java/lang/NegativeArraySizeException -/
set_option maxRecDepth 100000
def RJ10 : String := "java/lang/NegativeArraySizeException"
def TJ10 : u_T := fun k => match k with
  | 0 => ("java/lang/Throwable", "backtrace", "Ljava/lang/Object;", false)
  | 1 => ("java/lang/Throwable", "detailMessage", "Ljava/lang/String;", false)
  | 2 => ("java/lang/Throwable", "cause", "Ljava/lang/Throwable;", false)
  | 3 => ("java/lang/Throwable", "stackTrace", "[Ljava/lang/StackTraceElement;", false)
  | 4 => ("java/lang/Throwable", "depth", "I", false)
  | _ => ("java/lang/Throwable", "suppressedExceptions", "Ljava/util/List;", false)
def tyJ10 : Nat → FieldType := fun k => match k with
  | 0 => .object "java/lang/Object"
  | 1 => .object "java/lang/String"
  | 2 => .object "java/lang/Throwable"
  | 3 => .array (.object "java/lang/StackTraceElement")
  | 4 => .int
  | _ => .object "java/util/List"
abbrev wsJ100 : List Cond := u_ws RJ10 TJ10 6
theorem nmJ10 : ∀ a, a < 6 → ∀ b, b < 6 → a ≠ b → (TJ10 a).2.1 ≠ (TJ10 b).2.1 := by decide +kernel
theorem tyJ10_ok : ∀ k, k < 6 → parseFieldDescriptor (TJ10 k).2.2.1 = some (tyJ10 k) := by decide +kernel
abbrev cJ10_init : ByteArray := prog_38_method_2_code
def yJ10_init : MethodName := ⟨RJ10, "<init>", "(Ljava/lang/String;)V"⟩
def dkwJ10_init_0 : List UInt8 := [42, 43, 183, 0, 7, 177]
abbrev dktJ10_init_0 : List UInt8 := dkwJ10_init_0 ++ []
theorem dksJ10_init_0 : cJ10_init.data.toList.drop 0 = dktJ10_init_0 := by decide +kernel
theorem dJ10_init_0 : decode cJ10_init 0 = .ok (.aload_n 0, 1) := dk_42 (dk_at dksJ10_init_0 0 rfl rfl)
theorem dJ10_init_1 : decode cJ10_init 1 = .ok (.aload_n 1, 1) := dk_43 (dk_at dksJ10_init_0 1 rfl rfl)
theorem dJ10_init_2 : decode cJ10_init 2 = .ok (.invokespecial 7, 3) := dk_183 0 7 (dk_at dksJ10_init_0 2 rfl rfl)
theorem dJ10_init_5 : decode cJ10_init 5 = .ok (.return_, 1) := dk_177 (dk_at dksJ10_init_0 5 rfl rfl)
theorem q138 : (Jvm.Cond.initialized "java/lang/NegativeArraySizeException") ∈ lw_all := lw_g (lw_at lw_m1 33 rfl) rfl
theorem q419 : (Jvm.Cond.selects "java/lang/NegativeArraySizeException" ({ cls := "java/lang/Throwable", name := "fillInStackTrace", desc := "()Ljava/lang/Throwable;" } : Jvm.MethodName) ({ cls := "java/lang/Throwable", name := "fillInStackTrace", desc := "()Ljava/lang/Throwable;" } : Jvm.MethodName)) ∈ lw_all := lw_g (lw_at lw_m2 74 rfl) rfl
theorem q1243 : (Jvm.Cond.instantiable "java/lang/NegativeArraySizeException" (6 : Nat)) ∈ lw_all := lw_g (lw_at lw_m5 178 rfl) rfl
theorem q1244 : (Jvm.Cond.instanceMethod ({ cls := "java/lang/NegativeArraySizeException", name := "<init>", desc := "(Ljava/lang/String;)V" } : Jvm.MethodName)) ∈ lw_all := lw_g (lw_at lw_m5 179 rfl) rfl
theorem q1245 : (Jvm.Cond.code ({ cls := "java/lang/NegativeArraySizeException", name := "<init>", desc := "(Ljava/lang/String;)V" } : Jvm.MethodName) prog_38_method_2_code (2 : Nat) (Option.none : Option Jvm.ClassFile.FieldType)) ∈ lw_all := lw_g (lw_at lw_m5 180 rfl) rfl
theorem q1246 : (Jvm.Cond.methodLink "java/lang/NegativeArraySizeException" (7 : Nat) ({ cls := "java/lang/RuntimeException", name := "<init>", desc := "(Ljava/lang/String;)V" } : Jvm.MethodName)) ∈ lw_all := lw_g (lw_at lw_m5 181 rfl) rfl
theorem q1247 : (Jvm.Cond.lays "java/lang/NegativeArraySizeException" "java/lang/Throwable" "backtrace" "Ljava/lang/Object;") ∈ lw_all := lw_g (lw_at lw_m5 182 rfl) rfl
theorem q1248 : (Jvm.Cond.lays "java/lang/NegativeArraySizeException" "java/lang/Throwable" "detailMessage" "Ljava/lang/String;") ∈ lw_all := lw_g (lw_at lw_m5 183 rfl) rfl
theorem q1249 : (Jvm.Cond.lays "java/lang/NegativeArraySizeException" "java/lang/Throwable" "cause" "Ljava/lang/Throwable;") ∈ lw_all := lw_g (lw_at lw_m5 184 rfl) rfl
theorem q1250 : (Jvm.Cond.lays "java/lang/NegativeArraySizeException" "java/lang/Throwable" "stackTrace" "[Ljava/lang/StackTraceElement;") ∈ lw_all := lw_g (lw_at lw_m5 185 rfl) rfl
theorem q1251 : (Jvm.Cond.lays "java/lang/NegativeArraySizeException" "java/lang/Throwable" "depth" "I") ∈ lw_all := lw_g (lw_at lw_m5 186 rfl) rfl
theorem q1252 : (Jvm.Cond.lays "java/lang/NegativeArraySizeException" "java/lang/Throwable" "suppressedExceptions" "Ljava/util/List;") ∈ lw_all := lw_g (lw_at lw_m5 187 rfl) rfl
theorem q1253 : (Jvm.Cond.superclass "java/lang/NegativeArraySizeException" "java/lang/RuntimeException") ∈ lw_all := lw_g (lw_at lw_m5 188 rfl) rfl
theorem q1254 : (Jvm.Cond.castable "java/lang/NegativeArraySizeException" "java/lang/NegativeArraySizeException") ∈ lw_tbl := lw_at lw_m5 189 rfl
theorem q1255 : (Jvm.Cond.selects "java/lang/NegativeArraySizeException" ({ cls := "java/lang/Throwable", name := "fillInStackTrace", desc := "(I)Ljava/lang/Throwable;" } : Jvm.MethodName) ({ cls := "java/lang/Throwable", name := "fillInStackTrace", desc := "(I)Ljava/lang/Throwable;" } : Jvm.MethodName)) ∈ lw_all := lw_g (lw_at lw_m5 190 rfl) rfl
theorem in_J10 : ∀ w ∈ wsJ100, w ∈ lw_all := lw_in wsJ100 [1247, 1248, 1249, 1250, 1251, 1252] (by decide +kernel) (by decide +kernel)

/-! java/lang/ArithmeticException -/
set_option maxRecDepth 100000
def RJ11 : String := "java/lang/ArithmeticException"
def TJ11 : u_T := fun k => match k with
  | 0 => ("java/lang/Throwable", "backtrace", "Ljava/lang/Object;", false)
  | 1 => ("java/lang/Throwable", "detailMessage", "Ljava/lang/String;", false)
  | 2 => ("java/lang/Throwable", "cause", "Ljava/lang/Throwable;", false)
  | 3 => ("java/lang/Throwable", "stackTrace", "[Ljava/lang/StackTraceElement;", false)
  | 4 => ("java/lang/Throwable", "depth", "I", false)
  | _ => ("java/lang/Throwable", "suppressedExceptions", "Ljava/util/List;", false)
def tyJ11 : Nat → FieldType := fun k => match k with
  | 0 => .object "java/lang/Object"
  | 1 => .object "java/lang/String"
  | 2 => .object "java/lang/Throwable"
  | 3 => .array (.object "java/lang/StackTraceElement")
  | 4 => .int
  | _ => .object "java/util/List"
abbrev wsJ110 : List Cond := u_ws RJ11 TJ11 6
theorem nmJ11 : ∀ a, a < 6 → ∀ b, b < 6 → a ≠ b → (TJ11 a).2.1 ≠ (TJ11 b).2.1 := by decide +kernel
theorem tyJ11_ok : ∀ k, k < 6 → parseFieldDescriptor (TJ11 k).2.2.1 = some (tyJ11 k) := by decide +kernel
abbrev cJ11_init : ByteArray := prog_34_method_2_code
def yJ11_init : MethodName := ⟨RJ11, "<init>", "(Ljava/lang/String;)V"⟩
def dkwJ11_init_0 : List UInt8 := [42, 43, 183, 0, 7, 177]
abbrev dktJ11_init_0 : List UInt8 := dkwJ11_init_0 ++ []
theorem dksJ11_init_0 : cJ11_init.data.toList.drop 0 = dktJ11_init_0 := by decide +kernel
theorem dJ11_init_0 : decode cJ11_init 0 = .ok (.aload_n 0, 1) := dk_42 (dk_at dksJ11_init_0 0 rfl rfl)
theorem dJ11_init_1 : decode cJ11_init 1 = .ok (.aload_n 1, 1) := dk_43 (dk_at dksJ11_init_0 1 rfl rfl)
theorem dJ11_init_2 : decode cJ11_init 2 = .ok (.invokespecial 7, 3) := dk_183 0 7 (dk_at dksJ11_init_0 2 rfl rfl)
theorem dJ11_init_5 : decode cJ11_init 5 = .ok (.return_, 1) := dk_177 (dk_at dksJ11_init_0 5 rfl rfl)
theorem q146 : (Jvm.Cond.initialized "java/lang/ArithmeticException") ∈ lw_all := lw_g (lw_at lw_m1 41 rfl) rfl
theorem q417 : (Jvm.Cond.selects "java/lang/ArithmeticException" ({ cls := "java/lang/Throwable", name := "fillInStackTrace", desc := "()Ljava/lang/Throwable;" } : Jvm.MethodName) ({ cls := "java/lang/Throwable", name := "fillInStackTrace", desc := "()Ljava/lang/Throwable;" } : Jvm.MethodName)) ∈ lw_all := lw_g (lw_at lw_m2 72 rfl) rfl
theorem q1483 : (Jvm.Cond.instantiable "java/lang/ArithmeticException" (6 : Nat)) ∈ lw_all := lw_g (lw_at lw_m6 178 rfl) rfl
theorem q1484 : (Jvm.Cond.instanceMethod ({ cls := "java/lang/ArithmeticException", name := "<init>", desc := "(Ljava/lang/String;)V" } : Jvm.MethodName)) ∈ lw_all := lw_g (lw_at lw_m6 179 rfl) rfl
theorem q1485 : (Jvm.Cond.code ({ cls := "java/lang/ArithmeticException", name := "<init>", desc := "(Ljava/lang/String;)V" } : Jvm.MethodName) prog_34_method_2_code (2 : Nat) (Option.none : Option Jvm.ClassFile.FieldType)) ∈ lw_all := lw_g (lw_at lw_m6 180 rfl) rfl
theorem q1486 : (Jvm.Cond.methodLink "java/lang/ArithmeticException" (7 : Nat) ({ cls := "java/lang/RuntimeException", name := "<init>", desc := "(Ljava/lang/String;)V" } : Jvm.MethodName)) ∈ lw_all := lw_g (lw_at lw_m6 181 rfl) rfl
theorem q1487 : (Jvm.Cond.lays "java/lang/ArithmeticException" "java/lang/Throwable" "backtrace" "Ljava/lang/Object;") ∈ lw_all := lw_g (lw_at lw_m6 182 rfl) rfl
theorem q1488 : (Jvm.Cond.lays "java/lang/ArithmeticException" "java/lang/Throwable" "detailMessage" "Ljava/lang/String;") ∈ lw_all := lw_g (lw_at lw_m6 183 rfl) rfl
theorem q1489 : (Jvm.Cond.lays "java/lang/ArithmeticException" "java/lang/Throwable" "cause" "Ljava/lang/Throwable;") ∈ lw_all := lw_g (lw_at lw_m6 184 rfl) rfl
theorem q1490 : (Jvm.Cond.lays "java/lang/ArithmeticException" "java/lang/Throwable" "stackTrace" "[Ljava/lang/StackTraceElement;") ∈ lw_all := lw_g (lw_at lw_m6 185 rfl) rfl
theorem q1491 : (Jvm.Cond.lays "java/lang/ArithmeticException" "java/lang/Throwable" "depth" "I") ∈ lw_all := lw_g (lw_at lw_m6 186 rfl) rfl
theorem q1492 : (Jvm.Cond.lays "java/lang/ArithmeticException" "java/lang/Throwable" "suppressedExceptions" "Ljava/util/List;") ∈ lw_all := lw_g (lw_at lw_m6 187 rfl) rfl
theorem q1493 : (Jvm.Cond.superclass "java/lang/ArithmeticException" "java/lang/RuntimeException") ∈ lw_all := lw_g (lw_at lw_m6 188 rfl) rfl
theorem q1494 : (Jvm.Cond.castable "java/lang/ArithmeticException" "java/lang/ArithmeticException") ∈ lw_tbl := lw_at lw_m6 189 rfl
theorem q1495 : (Jvm.Cond.selects "java/lang/ArithmeticException" ({ cls := "java/lang/Throwable", name := "fillInStackTrace", desc := "(I)Ljava/lang/Throwable;" } : Jvm.MethodName) ({ cls := "java/lang/Throwable", name := "fillInStackTrace", desc := "(I)Ljava/lang/Throwable;" } : Jvm.MethodName)) ∈ lw_all := lw_g (lw_at lw_m6 190 rfl) rfl
theorem in_J11 : ∀ w ∈ wsJ110, w ∈ lw_all := lw_in wsJ110 [1487, 1488, 1489, 1490, 1491, 1492] (by decide +kernel) (by decide +kernel)

/-! java/lang/Object -/
set_option maxRecDepth 100000
def RJ12 : String := "java/lang/Object"
abbrev cJ12_init : ByteArray := object_method_1_code
def yJ12_init : MethodName := ⟨RJ12, "<init>", "()V"⟩
theorem dJ12_init_0 : decode cJ12_init 0 = .ok (.return_, 1) := by decide +kernel
theorem q153 : (Jvm.Cond.instanceMethod ({ cls := "java/lang/Object", name := "<init>", desc := "()V" } : Jvm.MethodName)) ∈ lw_all := lw_g (lw_at lw_m1 48 rfl) rfl
theorem q154 : (Jvm.Cond.code ({ cls := "java/lang/Object", name := "<init>", desc := "()V" } : Jvm.MethodName) object_method_1_code (1 : Nat) (Option.none : Option Jvm.ClassFile.FieldType)) ∈ lw_all := lw_g (lw_at lw_m1 49 rfl) rfl
