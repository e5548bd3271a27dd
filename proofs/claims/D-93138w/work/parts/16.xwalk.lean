set_option maxRecDepth 100000
set_option maxHeartbeats 4000000
theorem icx_m1 : Int32.ofInt (-1) = (-1) := by decide
theorem icx_0 : Int32.ofInt 0 = 0 := by decide
theorem icx_1 : Int32.ofInt 1 = 1 := by decide
theorem icx_2 : Int32.ofInt 2 = 2 := by decide
theorem icx_3 : Int32.ofInt 3 = 3 := by decide
theorem icx_4 : Int32.ofInt 4 = 4 := by decide
theorem icx_5 : Int32.ofInt 5 = 5 := by decide
theorem bix_m14 : (Int8.ofInt (-14)).toInt32 = (-14) := by decide
theorem bix_m13 : (Int8.ofInt (-13)).toInt32 = (-13) := by decide
theorem bix_m12 : (Int8.ofInt (-12)).toInt32 = (-12) := by decide
theorem bix_m11 : (Int8.ofInt (-11)).toInt32 = (-11) := by decide
theorem bix_m9 : (Int8.ofInt (-9)).toInt32 = (-9) := by decide
theorem bix_m4 : (Int8.ofInt (-4)).toInt32 = (-4) := by decide
theorem bix_m3 : (Int8.ofInt (-3)).toInt32 = (-3) := by decide
theorem bix_m2 : (Int8.ofInt (-2)).toInt32 = (-2) := by decide
theorem bix_6 : (Int8.ofInt 6).toInt32 = 6 := by decide
theorem bix_7 : (Int8.ofInt 7).toInt32 = 7 := by decide
theorem bix_8 : (Int8.ofInt 8).toInt32 = 8 := by decide
theorem bix_9 : (Int8.ofInt 9).toInt32 = 9 := by decide
theorem bix_10 : (Int8.ofInt 10).toInt32 = 10 := by decide
theorem bix_12 : (Int8.ofInt 12).toInt32 = 12 := by decide
theorem bix_20 : (Int8.ofInt 20).toInt32 = 20 := by decide
theorem bix_30 : (Int8.ofInt 30).toInt32 = 30 := by decide
theorem bix_31 : (Int8.ofInt 31).toInt32 = 31 := by decide
theorem bix_32 : (Int8.ofInt 32).toInt32 = 32 := by decide
theorem bix_40 : (Int8.ofInt 40).toInt32 = 40 := by decide
theorem bix_48 : (Int8.ofInt 48).toInt32 = 48 := by decide
theorem bix_57 : (Int8.ofInt 57).toInt32 = 57 := by decide
theorem bix_60 : (Int8.ofInt 60).toInt32 = 60 := by decide
theorem bix_62 : (Int8.ofInt 62).toInt32 = 62 := by decide
theorem bix_97 : (Int8.ofInt 97).toInt32 = 97 := by decide
theorem bix_122 : (Int8.ofInt 122).toInt32 = 122 := by decide
theorem six_200 : (Int16.ofInt 200).toInt32 = 200 := by decide
theorem six_240 : (Int16.ofInt 240).toInt32 = 240 := by decide
theorem six_1023 : (Int16.ofInt 1023).toInt32 = 1023 := by decide
theorem np_X20_init : yX20_init.cls ≠ "java/lang/invoke/MethodHandle" ∧ yX20_init.cls ≠ "java/lang/invoke/VarHandle" ∧ (parseMethodDescriptor yX20_init.desc).map (fun d => d.parameters.length) = some 2 := by decide +kernel
theorem np_X20_holds : yX20_holds.cls ≠ "java/lang/invoke/MethodHandle" ∧ yX20_holds.cls ≠ "java/lang/invoke/VarHandle" ∧ (parseMethodDescriptor yX20_holds.desc).map (fun d => d.parameters.length) = some 2 := by decide +kernel
theorem np_X15_init : yX15_init.cls ≠ "java/lang/invoke/MethodHandle" ∧ yX15_init.cls ≠ "java/lang/invoke/VarHandle" ∧ (parseMethodDescriptor yX15_init.desc).map (fun d => d.parameters.length) = some 0 := by decide +kernel
theorem np_X15_greatest : yX15_greatest.cls ≠ "java/lang/invoke/MethodHandle" ∧ yX15_greatest.cls ≠ "java/lang/invoke/VarHandle" ∧ (parseMethodDescriptor yX15_greatest.desc).map (fun d => d.parameters.length) = some 0 := by decide +kernel
theorem np_X9_init : yX9_init.cls ≠ "java/lang/invoke/MethodHandle" ∧ yX9_init.cls ≠ "java/lang/invoke/VarHandle" ∧ (parseMethodDescriptor yX9_init.desc).map (fun d => d.parameters.length) = some 0 := by decide +kernel
theorem np_X24_init : yX24_init.cls ≠ "java/lang/invoke/MethodHandle" ∧ yX24_init.cls ≠ "java/lang/invoke/VarHandle" ∧ (parseMethodDescriptor yX24_init.desc).map (fun d => d.parameters.length) = some 3 := by decide +kernel
theorem np_X24_eats : yX24_eats.cls ≠ "java/lang/invoke/MethodHandle" ∧ yX24_eats.cls ≠ "java/lang/invoke/VarHandle" ∧ (parseMethodDescriptor yX24_eats.desc).map (fun d => d.parameters.length) = some 1 := by decide +kernel
theorem np_X24_flies : yX24_flies.cls ≠ "java/lang/invoke/MethodHandle" ∧ yX24_flies.cls ≠ "java/lang/invoke/VarHandle" ∧ (parseMethodDescriptor yX24_flies.desc).map (fun d => d.parameters.length) = some 1 := by decide +kernel
theorem np_X2_init : yX2_init.cls ≠ "java/lang/invoke/MethodHandle" ∧ yX2_init.cls ≠ "java/lang/invoke/VarHandle" ∧ (parseMethodDescriptor yX2_init.desc).map (fun d => d.parameters.length) = some 0 := by decide +kernel
theorem np_X2_become : yX2_become.cls ≠ "java/lang/invoke/MethodHandle" ∧ yX2_become.cls ≠ "java/lang/invoke/VarHandle" ∧ (parseMethodDescriptor yX2_become.desc).map (fun d => d.parameters.length) = some 1 := by decide +kernel
theorem np_X8_init : yX8_init.cls ≠ "java/lang/invoke/MethodHandle" ∧ yX8_init.cls ≠ "java/lang/invoke/VarHandle" ∧ (parseMethodDescriptor yX8_init.desc).map (fun d => d.parameters.length) = some 0 := by decide +kernel
theorem np_X8_at : yX8_at.cls ≠ "java/lang/invoke/MethodHandle" ∧ yX8_at.cls ≠ "java/lang/invoke/VarHandle" ∧ (parseMethodDescriptor yX8_at.desc).map (fun d => d.parameters.length) = some 1 := by decide +kernel
theorem np_X17_init : yX17_init.cls ≠ "java/lang/invoke/MethodHandle" ∧ yX17_init.cls ≠ "java/lang/invoke/VarHandle" ∧ (parseMethodDescriptor yX17_init.desc).map (fun d => d.parameters.length) = some 5 := by decide +kernel
theorem np_X17_holds : yX17_holds.cls ≠ "java/lang/invoke/MethodHandle" ∧ yX17_holds.cls ≠ "java/lang/invoke/VarHandle" ∧ (parseMethodDescriptor yX17_holds.desc).map (fun d => d.parameters.length) = some 2 := by decide +kernel
theorem np_X12_init : yX12_init.cls ≠ "java/lang/invoke/MethodHandle" ∧ yX12_init.cls ≠ "java/lang/invoke/VarHandle" ∧ (parseMethodDescriptor yX12_init.desc).map (fun d => d.parameters.length) = some 0 := by decide +kernel
theorem np_X26_init : yX26_init.cls ≠ "java/lang/invoke/MethodHandle" ∧ yX26_init.cls ≠ "java/lang/invoke/VarHandle" ∧ (parseMethodDescriptor yX26_init.desc).map (fun d => d.parameters.length) = some 3 := by decide +kernel
theorem np_X26_its : yX26_its.cls ≠ "java/lang/invoke/MethodHandle" ∧ yX26_its.cls ≠ "java/lang/invoke/VarHandle" ∧ (parseMethodDescriptor yX26_its.desc).map (fun d => d.parameters.length) = some 0 := by decide +kernel
theorem np_X26_eats : yX26_eats.cls ≠ "java/lang/invoke/MethodHandle" ∧ yX26_eats.cls ≠ "java/lang/invoke/VarHandle" ∧ (parseMethodDescriptor yX26_eats.desc).map (fun d => d.parameters.length) = some 1 := by decide +kernel
theorem np_X26_stays : yX26_stays.cls ≠ "java/lang/invoke/MethodHandle" ∧ yX26_stays.cls ≠ "java/lang/invoke/VarHandle" ∧ (parseMethodDescriptor yX26_stays.desc).map (fun d => d.parameters.length) = some 1 := by decide +kernel
theorem np_X26_flies : yX26_flies.cls ≠ "java/lang/invoke/MethodHandle" ∧ yX26_flies.cls ≠ "java/lang/invoke/VarHandle" ∧ (parseMethodDescriptor yX26_flies.desc).map (fun d => d.parameters.length) = some 1 := by decide +kernel
theorem np_X26_tells : yX26_tells.cls ≠ "java/lang/invoke/MethodHandle" ∧ yX26_tells.cls ≠ "java/lang/invoke/VarHandle" ∧ (parseMethodDescriptor yX26_tells.desc).map (fun d => d.parameters.length) = some 1 := by decide +kernel
theorem np_X11_init : yX11_init.cls ≠ "java/lang/invoke/MethodHandle" ∧ yX11_init.cls ≠ "java/lang/invoke/VarHandle" ∧ (parseMethodDescriptor yX11_init.desc).map (fun d => d.parameters.length) = some 0 := by decide +kernel
theorem np_X19_init : yX19_init.cls ≠ "java/lang/invoke/MethodHandle" ∧ yX19_init.cls ≠ "java/lang/invoke/VarHandle" ∧ (parseMethodDescriptor yX19_init.desc).map (fun d => d.parameters.length) = some 2 := by decide +kernel
theorem np_X19_holds : yX19_holds.cls ≠ "java/lang/invoke/MethodHandle" ∧ yX19_holds.cls ≠ "java/lang/invoke/VarHandle" ∧ (parseMethodDescriptor yX19_holds.desc).map (fun d => d.parameters.length) = some 2 := by decide +kernel
theorem np_X5_init : yX5_init.cls ≠ "java/lang/invoke/MethodHandle" ∧ yX5_init.cls ≠ "java/lang/invoke/VarHandle" ∧ (parseMethodDescriptor yX5_init.desc).map (fun d => d.parameters.length) = some 1 := by decide +kernel
theorem np_X5_finds : yX5_finds.cls ≠ "java/lang/invoke/MethodHandle" ∧ yX5_finds.cls ≠ "java/lang/invoke/VarHandle" ∧ (parseMethodDescriptor yX5_finds.desc).map (fun d => d.parameters.length) = some 2 := by decide +kernel
theorem np_X5_first : yX5_first.cls ≠ "java/lang/invoke/MethodHandle" ∧ yX5_first.cls ≠ "java/lang/invoke/VarHandle" ∧ (parseMethodDescriptor yX5_first.desc).map (fun d => d.parameters.length) = some 2 := by decide +kernel
theorem np_X5_by : yX5_by.cls ≠ "java/lang/invoke/MethodHandle" ∧ yX5_by.cls ≠ "java/lang/invoke/VarHandle" ∧ (parseMethodDescriptor yX5_by.desc).map (fun d => d.parameters.length) = some 3 := by decide +kernel
theorem np_X5_left : yX5_left.cls ≠ "java/lang/invoke/MethodHandle" ∧ yX5_left.cls ≠ "java/lang/invoke/VarHandle" ∧ (parseMethodDescriptor yX5_left.desc).map (fun d => d.parameters.length) = some 2 := by decide +kernel
theorem np_X28_stays : yX28_stays.cls ≠ "java/lang/invoke/MethodHandle" ∧ yX28_stays.cls ≠ "java/lang/invoke/VarHandle" ∧ (parseMethodDescriptor yX28_stays.desc).map (fun d => d.parameters.length) = some 1 := by decide +kernel
theorem np_X22_init : yX22_init.cls ≠ "java/lang/invoke/MethodHandle" ∧ yX22_init.cls ≠ "java/lang/invoke/VarHandle" ∧ (parseMethodDescriptor yX22_init.desc).map (fun d => d.parameters.length) = some 3 := by decide +kernel
theorem np_X22_stays : yX22_stays.cls ≠ "java/lang/invoke/MethodHandle" ∧ yX22_stays.cls ≠ "java/lang/invoke/VarHandle" ∧ (parseMethodDescriptor yX22_stays.desc).map (fun d => d.parameters.length) = some 1 := by decide +kernel
theorem np_X25_init : yX25_init.cls ≠ "java/lang/invoke/MethodHandle" ∧ yX25_init.cls ≠ "java/lang/invoke/VarHandle" ∧ (parseMethodDescriptor yX25_init.desc).map (fun d => d.parameters.length) = some 3 := by decide +kernel
theorem np_X25_stays : yX25_stays.cls ≠ "java/lang/invoke/MethodHandle" ∧ yX25_stays.cls ≠ "java/lang/invoke/VarHandle" ∧ (parseMethodDescriptor yX25_stays.desc).map (fun d => d.parameters.length) = some 1 := by decide +kernel
theorem np_X7_init : yX7_init.cls ≠ "java/lang/invoke/MethodHandle" ∧ yX7_init.cls ≠ "java/lang/invoke/VarHandle" ∧ (parseMethodDescriptor yX7_init.desc).map (fun d => d.parameters.length) = some 0 := by decide +kernel
theorem np_X7_read : yX7_read.cls ≠ "java/lang/invoke/MethodHandle" ∧ yX7_read.cls ≠ "java/lang/invoke/VarHandle" ∧ (parseMethodDescriptor yX7_read.desc).map (fun d => d.parameters.length) = some 2 := by decide +kernel
theorem np_X7_next : yX7_next.cls ≠ "java/lang/invoke/MethodHandle" ∧ yX7_next.cls ≠ "java/lang/invoke/VarHandle" ∧ (parseMethodDescriptor yX7_next.desc).map (fun d => d.parameters.length) = some 0 := by decide +kernel
theorem np_X7_here : yX7_here.cls ≠ "java/lang/invoke/MethodHandle" ∧ yX7_here.cls ≠ "java/lang/invoke/VarHandle" ∧ (parseMethodDescriptor yX7_here.desc).map (fun d => d.parameters.length) = some 0 := by decide +kernel
theorem np_X7_isLetter : yX7_isLetter.cls ≠ "java/lang/invoke/MethodHandle" ∧ yX7_isLetter.cls ≠ "java/lang/invoke/VarHandle" ∧ (parseMethodDescriptor yX7_isLetter.desc).map (fun d => d.parameters.length) = some 1 := by decide +kernel
theorem np_X7_isDigit : yX7_isDigit.cls ≠ "java/lang/invoke/MethodHandle" ∧ yX7_isDigit.cls ≠ "java/lang/invoke/VarHandle" ∧ (parseMethodDescriptor yX7_isDigit.desc).map (fun d => d.parameters.length) = some 1 := by decide +kernel
theorem np_X7_whole : yX7_whole.cls ≠ "java/lang/invoke/MethodHandle" ∧ yX7_whole.cls ≠ "java/lang/invoke/VarHandle" ∧ (parseMethodDescriptor yX7_whole.desc).map (fun d => d.parameters.length) = some 0 := by decide +kernel
theorem np_X7_need : yX7_need.cls ≠ "java/lang/invoke/MethodHandle" ∧ yX7_need.cls ≠ "java/lang/invoke/VarHandle" ∧ (parseMethodDescriptor yX7_need.desc).map (fun d => d.parameters.length) = some 1 := by decide +kernel
theorem np_X7_may : yX7_may.cls ≠ "java/lang/invoke/MethodHandle" ∧ yX7_may.cls ≠ "java/lang/invoke/VarHandle" ∧ (parseMethodDescriptor yX7_may.desc).map (fun d => d.parameters.length) = some 1 := by decide +kernel
theorem np_X7_isWord : yX7_isWord.cls ≠ "java/lang/invoke/MethodHandle" ∧ yX7_isWord.cls ≠ "java/lang/invoke/VarHandle" ∧ (parseMethodDescriptor yX7_isWord.desc).map (fun d => d.parameters.length) = some 1 := by decide +kernel
theorem np_X7_must : yX7_must.cls ≠ "java/lang/invoke/MethodHandle" ∧ yX7_must.cls ≠ "java/lang/invoke/VarHandle" ∧ (parseMethodDescriptor yX7_must.desc).map (fun d => d.parameters.length) = some 1 := by decide +kernel
theorem np_X7_number : yX7_number.cls ≠ "java/lang/invoke/MethodHandle" ∧ yX7_number.cls ≠ "java/lang/invoke/VarHandle" ∧ (parseMethodDescriptor yX7_number.desc).map (fun d => d.parameters.length) = some 1 := by decide +kernel
theorem np_X7_cond : yX7_cond.cls ≠ "java/lang/invoke/MethodHandle" ∧ yX7_cond.cls ≠ "java/lang/invoke/VarHandle" ∧ (parseMethodDescriptor yX7_cond.desc).map (fun d => d.parameters.length) = some 0 := by decide +kernel
theorem np_X7_all : yX7_all.cls ≠ "java/lang/invoke/MethodHandle" ∧ yX7_all.cls ≠ "java/lang/invoke/VarHandle" ∧ (parseMethodDescriptor yX7_all.desc).map (fun d => d.parameters.length) = some 0 := by decide +kernel
theorem np_X7_one : yX7_one.cls ≠ "java/lang/invoke/MethodHandle" ∧ yX7_one.cls ≠ "java/lang/invoke/VarHandle" ∧ (parseMethodDescriptor yX7_one.desc).map (fun d => d.parameters.length) = some 0 := by decide +kernel
theorem np_X7_compared : yX7_compared.cls ≠ "java/lang/invoke/MethodHandle" ∧ yX7_compared.cls ≠ "java/lang/invoke/VarHandle" ∧ (parseMethodDescriptor yX7_compared.desc).map (fun d => d.parameters.length) = some 0 := by decide +kernel
theorem np_X7_value : yX7_value.cls ≠ "java/lang/invoke/MethodHandle" ∧ yX7_value.cls ≠ "java/lang/invoke/VarHandle" ∧ (parseMethodDescriptor yX7_value.desc).map (fun d => d.parameters.length) = some 0 := by decide +kernel
theorem np_X1_init : yX1_init.cls ≠ "java/lang/invoke/MethodHandle" ∧ yX1_init.cls ≠ "java/lang/invoke/VarHandle" ∧ (parseMethodDescriptor yX1_init.desc).map (fun d => d.parameters.length) = some 0 := by decide +kernel
theorem np_X1_brings : yX1_brings.cls ≠ "java/lang/invoke/MethodHandle" ∧ yX1_brings.cls ≠ "java/lang/invoke/VarHandle" ∧ (parseMethodDescriptor yX1_brings.desc).map (fun d => d.parameters.length) = some 2 := by decide +kernel
theorem np_X1_takes : yX1_takes.cls ≠ "java/lang/invoke/MethodHandle" ∧ yX1_takes.cls ≠ "java/lang/invoke/VarHandle" ∧ (parseMethodDescriptor yX1_takes.desc).map (fun d => d.parameters.length) = some 2 := by decide +kernel
theorem np_X1_does : yX1_does.cls ≠ "java/lang/invoke/MethodHandle" ∧ yX1_does.cls ≠ "java/lang/invoke/VarHandle" ∧ (parseMethodDescriptor yX1_does.desc).map (fun d => d.parameters.length) = some 2 := by decide +kernel
theorem np_X1_passes : yX1_passes.cls ≠ "java/lang/invoke/MethodHandle" ∧ yX1_passes.cls ≠ "java/lang/invoke/VarHandle" ∧ (parseMethodDescriptor yX1_passes.desc).map (fun d => d.parameters.length) = some 1 := by decide +kernel
theorem np_X1_become : yX1_become.cls ≠ "java/lang/invoke/MethodHandle" ∧ yX1_become.cls ≠ "java/lang/invoke/VarHandle" ∧ (parseMethodDescriptor yX1_become.desc).map (fun d => d.parameters.length) = some 1 := by decide +kernel
theorem np_X1_copy : yX1_copy.cls ≠ "java/lang/invoke/MethodHandle" ∧ yX1_copy.cls ≠ "java/lang/invoke/VarHandle" ∧ (parseMethodDescriptor yX1_copy.desc).map (fun d => d.parameters.length) = some 2 := by decide +kernel
theorem np_X27_init : yX27_init.cls ≠ "java/lang/invoke/MethodHandle" ∧ yX27_init.cls ≠ "java/lang/invoke/VarHandle" ∧ (parseMethodDescriptor yX27_init.desc).map (fun d => d.parameters.length) = some 3 := by decide +kernel
theorem np_X27_its : yX27_its.cls ≠ "java/lang/invoke/MethodHandle" ∧ yX27_its.cls ≠ "java/lang/invoke/VarHandle" ∧ (parseMethodDescriptor yX27_its.desc).map (fun d => d.parameters.length) = some 0 := by decide +kernel
theorem np_X27_eats : yX27_eats.cls ≠ "java/lang/invoke/MethodHandle" ∧ yX27_eats.cls ≠ "java/lang/invoke/VarHandle" ∧ (parseMethodDescriptor yX27_eats.desc).map (fun d => d.parameters.length) = some 1 := by decide +kernel
theorem np_X27_stays : yX27_stays.cls ≠ "java/lang/invoke/MethodHandle" ∧ yX27_stays.cls ≠ "java/lang/invoke/VarHandle" ∧ (parseMethodDescriptor yX27_stays.desc).map (fun d => d.parameters.length) = some 1 := by decide +kernel
theorem np_X27_flies : yX27_flies.cls ≠ "java/lang/invoke/MethodHandle" ∧ yX27_flies.cls ≠ "java/lang/invoke/VarHandle" ∧ (parseMethodDescriptor yX27_flies.desc).map (fun d => d.parameters.length) = some 1 := by decide +kernel
theorem np_X27_tells : yX27_tells.cls ≠ "java/lang/invoke/MethodHandle" ∧ yX27_tells.cls ≠ "java/lang/invoke/VarHandle" ∧ (parseMethodDescriptor yX27_tells.desc).map (fun d => d.parameters.length) = some 1 := by decide +kernel
theorem np_X21_init : yX21_init.cls ≠ "java/lang/invoke/MethodHandle" ∧ yX21_init.cls ≠ "java/lang/invoke/VarHandle" ∧ (parseMethodDescriptor yX21_init.desc).map (fun d => d.parameters.length) = some 3 := by decide +kernel
theorem np_X21_its : yX21_its.cls ≠ "java/lang/invoke/MethodHandle" ∧ yX21_its.cls ≠ "java/lang/invoke/VarHandle" ∧ (parseMethodDescriptor yX21_its.desc).map (fun d => d.parameters.length) = some 0 := by decide +kernel
theorem np_X21_eats : yX21_eats.cls ≠ "java/lang/invoke/MethodHandle" ∧ yX21_eats.cls ≠ "java/lang/invoke/VarHandle" ∧ (parseMethodDescriptor yX21_eats.desc).map (fun d => d.parameters.length) = some 1 := by decide +kernel
theorem np_X21_stays : yX21_stays.cls ≠ "java/lang/invoke/MethodHandle" ∧ yX21_stays.cls ≠ "java/lang/invoke/VarHandle" ∧ (parseMethodDescriptor yX21_stays.desc).map (fun d => d.parameters.length) = some 1 := by decide +kernel
theorem np_X21_flies : yX21_flies.cls ≠ "java/lang/invoke/MethodHandle" ∧ yX21_flies.cls ≠ "java/lang/invoke/VarHandle" ∧ (parseMethodDescriptor yX21_flies.desc).map (fun d => d.parameters.length) = some 1 := by decide +kernel
theorem np_X21_tells : yX21_tells.cls ≠ "java/lang/invoke/MethodHandle" ∧ yX21_tells.cls ≠ "java/lang/invoke/VarHandle" ∧ (parseMethodDescriptor yX21_tells.desc).map (fun d => d.parameters.length) = some 1 := by decide +kernel
theorem np_X13_init : yX13_init.cls ≠ "java/lang/invoke/MethodHandle" ∧ yX13_init.cls ≠ "java/lang/invoke/VarHandle" ∧ (parseMethodDescriptor yX13_init.desc).map (fun d => d.parameters.length) = some 0 := by decide +kernel
theorem np_X0_init : yX0_init.cls ≠ "java/lang/invoke/MethodHandle" ∧ yX0_init.cls ≠ "java/lang/invoke/VarHandle" ∧ (parseMethodDescriptor yX0_init.desc).map (fun d => d.parameters.length) = some 0 := by decide +kernel
theorem np_X0_someRows : yX0_someRows.cls ≠ "java/lang/invoke/MethodHandle" ∧ yX0_someRows.cls ≠ "java/lang/invoke/VarHandle" ∧ (parseMethodDescriptor yX0_someRows.desc).map (fun d => d.parameters.length) = some 0 := by decide +kernel
theorem np_X0_patch : yX0_patch.cls ≠ "java/lang/invoke/MethodHandle" ∧ yX0_patch.cls ≠ "java/lang/invoke/VarHandle" ∧ (parseMethodDescriptor yX0_patch.desc).map (fun d => d.parameters.length) = some 3 := by decide +kernel
theorem np_X0_in : yX0_in.cls ≠ "java/lang/invoke/MethodHandle" ∧ yX0_in.cls ≠ "java/lang/invoke/VarHandle" ∧ (parseMethodDescriptor yX0_in.desc).map (fun d => d.parameters.length) = some 3 := by decide +kernel
theorem np_X0_patchOf : yX0_patchOf.cls ≠ "java/lang/invoke/MethodHandle" ∧ yX0_patchOf.cls ≠ "java/lang/invoke/VarHandle" ∧ (parseMethodDescriptor yX0_patchOf.desc).map (fun d => d.parameters.length) = some 2 := by decide +kernel
theorem np_X0_isPatch : yX0_isPatch.cls ≠ "java/lang/invoke/MethodHandle" ∧ yX0_isPatch.cls ≠ "java/lang/invoke/VarHandle" ∧ (parseMethodDescriptor yX0_isPatch.desc).map (fun d => d.parameters.length) = some 1 := by decide +kernel
theorem np_X0_yieldOf : yX0_yieldOf.cls ≠ "java/lang/invoke/MethodHandle" ∧ yX0_yieldOf.cls ≠ "java/lang/invoke/VarHandle" ∧ (parseMethodDescriptor yX0_yieldOf.desc).map (fun d => d.parameters.length) = some 2 := by decide +kernel
theorem np_X0_lay : yX0_lay.cls ≠ "java/lang/invoke/MethodHandle" ∧ yX0_lay.cls ≠ "java/lang/invoke/VarHandle" ∧ (parseMethodDescriptor yX0_lay.desc).map (fun d => d.parameters.length) = some 3 := by decide +kernel
theorem np_X0_way : yX0_way.cls ≠ "java/lang/invoke/MethodHandle" ∧ yX0_way.cls ≠ "java/lang/invoke/VarHandle" ∧ (parseMethodDescriptor yX0_way.desc).map (fun d => d.parameters.length) = some 3 := by decide +kernel
theorem np_X0_dusk : yX0_dusk.cls ≠ "java/lang/invoke/MethodHandle" ∧ yX0_dusk.cls ≠ "java/lang/invoke/VarHandle" ∧ (parseMethodDescriptor yX0_dusk.desc).map (fun d => d.parameters.length) = some 1 := by decide +kernel
theorem np_X0_perch : yX0_perch.cls ≠ "java/lang/invoke/MethodHandle" ∧ yX0_perch.cls ≠ "java/lang/invoke/VarHandle" ∧ (parseMethodDescriptor yX0_perch.desc).map (fun d => d.parameters.length) = some 1 := by decide +kernel
theorem np_X0_dawn : yX0_dawn.cls ≠ "java/lang/invoke/MethodHandle" ∧ yX0_dawn.cls ≠ "java/lang/invoke/VarHandle" ∧ (parseMethodDescriptor yX0_dawn.desc).map (fun d => d.parameters.length) = some 0 := by decide +kernel
theorem np_X0_does : yX0_does.cls ≠ "java/lang/invoke/MethodHandle" ∧ yX0_does.cls ≠ "java/lang/invoke/VarHandle" ∧ (parseMethodDescriptor yX0_does.desc).map (fun d => d.parameters.length) = some 1 := by decide +kernel
theorem np_X0_isAct : yX0_isAct.cls ≠ "java/lang/invoke/MethodHandle" ∧ yX0_isAct.cls ≠ "java/lang/invoke/VarHandle" ∧ (parseMethodDescriptor yX0_isAct.desc).map (fun d => d.parameters.length) = some 1 := by decide +kernel
theorem np_X0_best : yX0_best.cls ≠ "java/lang/invoke/MethodHandle" ∧ yX0_best.cls ≠ "java/lang/invoke/VarHandle" ∧ (parseMethodDescriptor yX0_best.desc).map (fun d => d.parameters.length) = some 0 := by decide +kernel
theorem np_X0_first : yX0_first.cls ≠ "java/lang/invoke/MethodHandle" ∧ yX0_first.cls ≠ "java/lang/invoke/VarHandle" ∧ (parseMethodDescriptor yX0_first.desc).map (fun d => d.parameters.length) = some 0 := by decide +kernel
theorem np_X0_with : yX0_with.cls ≠ "java/lang/invoke/MethodHandle" ∧ yX0_with.cls ≠ "java/lang/invoke/VarHandle" ∧ (parseMethodDescriptor yX0_with.desc).map (fun d => d.parameters.length) = some 1 := by decide +kernel
theorem np_X0_journey : yX0_journey.cls ≠ "java/lang/invoke/MethodHandle" ∧ yX0_journey.cls ≠ "java/lang/invoke/VarHandle" ∧ (parseMethodDescriptor yX0_journey.desc).map (fun d => d.parameters.length) = some 1 := by decide +kernel
theorem np_X0_rate : yX0_rate.cls ≠ "java/lang/invoke/MethodHandle" ∧ yX0_rate.cls ≠ "java/lang/invoke/VarHandle" ∧ (parseMethodDescriptor yX0_rate.desc).map (fun d => d.parameters.length) = some 1 := by decide +kernel
theorem np_X0_broughtIn : yX0_broughtIn.cls ≠ "java/lang/invoke/MethodHandle" ∧ yX0_broughtIn.cls ≠ "java/lang/invoke/VarHandle" ∧ (parseMethodDescriptor yX0_broughtIn.desc).map (fun d => d.parameters.length) = some 2 := by decide +kernel
theorem np_X0_divisor : yX0_divisor.cls ≠ "java/lang/invoke/MethodHandle" ∧ yX0_divisor.cls ≠ "java/lang/invoke/VarHandle" ∧ (parseMethodDescriptor yX0_divisor.desc).map (fun d => d.parameters.length) = some 2 := by decide +kernel
theorem np_X0_stay : yX0_stay.cls ≠ "java/lang/invoke/MethodHandle" ∧ yX0_stay.cls ≠ "java/lang/invoke/VarHandle" ∧ (parseMethodDescriptor yX0_stay.desc).map (fun d => d.parameters.length) = some 1 := by decide +kernel
theorem np_X0_load : yX0_load.cls ≠ "java/lang/invoke/MethodHandle" ∧ yX0_load.cls ≠ "java/lang/invoke/VarHandle" ∧ (parseMethodDescriptor yX0_load.desc).map (fun d => d.parameters.length) = some 3 := by decide +kernel
theorem np_X0_dare : yX0_dare.cls ≠ "java/lang/invoke/MethodHandle" ∧ yX0_dare.cls ≠ "java/lang/invoke/VarHandle" ∧ (parseMethodDescriptor yX0_dare.desc).map (fun d => d.parameters.length) = some 2 := by decide +kernel
theorem np_X0_isDare : yX0_isDare.cls ≠ "java/lang/invoke/MethodHandle" ∧ yX0_isDare.cls ≠ "java/lang/invoke/VarHandle" ∧ (parseMethodDescriptor yX0_isDare.desc).map (fun d => d.parameters.length) = some 2 := by decide +kernel
theorem np_X0_bold : yX0_bold.cls ≠ "java/lang/invoke/MethodHandle" ∧ yX0_bold.cls ≠ "java/lang/invoke/VarHandle" ∧ (parseMethodDescriptor yX0_bold.desc).map (fun d => d.parameters.length) = some 2 := by decide +kernel
theorem np_X0_alike : yX0_alike.cls ≠ "java/lang/invoke/MethodHandle" ∧ yX0_alike.cls ≠ "java/lang/invoke/VarHandle" ∧ (parseMethodDescriptor yX0_alike.desc).map (fun d => d.parameters.length) = some 3 := by decide +kernel
theorem np_X0_risk : yX0_risk.cls ≠ "java/lang/invoke/MethodHandle" ∧ yX0_risk.cls ≠ "java/lang/invoke/VarHandle" ∧ (parseMethodDescriptor yX0_risk.desc).map (fun d => d.parameters.length) = some 1 := by decide +kernel
theorem np_X0_isSheet : yX0_isSheet.cls ≠ "java/lang/invoke/MethodHandle" ∧ yX0_isSheet.cls ≠ "java/lang/invoke/VarHandle" ∧ (parseMethodDescriptor yX0_isSheet.desc).map (fun d => d.parameters.length) = some 1 := by decide +kernel
theorem np_X0_there : yX0_there.cls ≠ "java/lang/invoke/MethodHandle" ∧ yX0_there.cls ≠ "java/lang/invoke/VarHandle" ∧ (parseMethodDescriptor yX0_there.desc).map (fun d => d.parameters.length) = some 1 := by decide +kernel
theorem np_X0_tenOf : yX0_tenOf.cls ≠ "java/lang/invoke/MethodHandle" ∧ yX0_tenOf.cls ≠ "java/lang/invoke/VarHandle" ∧ (parseMethodDescriptor yX0_tenOf.desc).map (fun d => d.parameters.length) = some 1 := by decide +kernel
theorem np_X0_yields : yX0_yields.cls ≠ "java/lang/invoke/MethodHandle" ∧ yX0_yields.cls ≠ "java/lang/invoke/VarHandle" ∧ (parseMethodDescriptor yX0_yields.desc).map (fun d => d.parameters.length) = some 2 := by decide +kernel
theorem np_X0_yieldsBy : yX0_yieldsBy.cls ≠ "java/lang/invoke/MethodHandle" ∧ yX0_yieldsBy.cls ≠ "java/lang/invoke/VarHandle" ∧ (parseMethodDescriptor yX0_yieldsBy.desc).map (fun d => d.parameters.length) = some 2 := by decide +kernel
theorem np_X0_flock : yX0_flock.cls ≠ "java/lang/invoke/MethodHandle" ∧ yX0_flock.cls ≠ "java/lang/invoke/VarHandle" ∧ (parseMethodDescriptor yX0_flock.desc).map (fun d => d.parameters.length) = some 2 := by decide +kernel
theorem np_X0_rests : yX0_rests.cls ≠ "java/lang/invoke/MethodHandle" ∧ yX0_rests.cls ≠ "java/lang/invoke/VarHandle" ∧ (parseMethodDescriptor yX0_rests.desc).map (fun d => d.parameters.length) = some 0 := by decide +kernel
theorem np_X0_restOf : yX0_restOf.cls ≠ "java/lang/invoke/MethodHandle" ∧ yX0_restOf.cls ≠ "java/lang/invoke/VarHandle" ∧ (parseMethodDescriptor yX0_restOf.desc).map (fun d => d.parameters.length) = some 2 := by decide +kernel
theorem np_X0_finders : yX0_finders.cls ≠ "java/lang/invoke/MethodHandle" ∧ yX0_finders.cls ≠ "java/lang/invoke/VarHandle" ∧ (parseMethodDescriptor yX0_finders.desc).map (fun d => d.parameters.length) = some 3 := by decide +kernel
theorem np_X0_feed : yX0_feed.cls ≠ "java/lang/invoke/MethodHandle" ∧ yX0_feed.cls ≠ "java/lang/invoke/VarHandle" ∧ (parseMethodDescriptor yX0_feed.desc).map (fun d => d.parameters.length) = some 2 := by decide +kernel
theorem np_X0_read : yX0_read.cls ≠ "java/lang/invoke/MethodHandle" ∧ yX0_read.cls ≠ "java/lang/invoke/VarHandle" ∧ (parseMethodDescriptor yX0_read.desc).map (fun d => d.parameters.length) = some 0 := by decide +kernel
theorem np_X0_ruled : yX0_ruled.cls ≠ "java/lang/invoke/MethodHandle" ∧ yX0_ruled.cls ≠ "java/lang/invoke/VarHandle" ∧ (parseMethodDescriptor yX0_ruled.desc).map (fun d => d.parameters.length) = some 0 := by decide +kernel
theorem np_X0_ruledFor : yX0_ruledFor.cls ≠ "java/lang/invoke/MethodHandle" ∧ yX0_ruledFor.cls ≠ "java/lang/invoke/VarHandle" ∧ (parseMethodDescriptor yX0_ruledFor.desc).map (fun d => d.parameters.length) = some 1 := by decide +kernel
theorem np_X0_clauseFor : yX0_clauseFor.cls ≠ "java/lang/invoke/MethodHandle" ∧ yX0_clauseFor.cls ≠ "java/lang/invoke/VarHandle" ∧ (parseMethodDescriptor yX0_clauseFor.desc).map (fun d => d.parameters.length) = some 1 := by decide +kernel
theorem np_X0_value : yX0_value.cls ≠ "java/lang/invoke/MethodHandle" ∧ yX0_value.cls ≠ "java/lang/invoke/VarHandle" ∧ (parseMethodDescriptor yX0_value.desc).map (fun d => d.parameters.length) = some 3 := by decide +kernel
theorem np_X0_clause : yX0_clause.cls ≠ "java/lang/invoke/MethodHandle" ∧ yX0_clause.cls ≠ "java/lang/invoke/VarHandle" ∧ (parseMethodDescriptor yX0_clause.desc).map (fun d => d.parameters.length) = some 0 := by decide +kernel
theorem np_X0_run : yX0_run.cls ≠ "java/lang/invoke/MethodHandle" ∧ yX0_run.cls ≠ "java/lang/invoke/VarHandle" ∧ (parseMethodDescriptor yX0_run.desc).map (fun d => d.parameters.length) = some 0 := by decide +kernel
theorem np_X0_runs : yX0_runs.cls ≠ "java/lang/invoke/MethodHandle" ∧ yX0_runs.cls ≠ "java/lang/invoke/VarHandle" ∧ (parseMethodDescriptor yX0_runs.desc).map (fun d => d.parameters.length) = some 0 := by decide +kernel
theorem np_X0_loss : yX0_loss.cls ≠ "java/lang/invoke/MethodHandle" ∧ yX0_loss.cls ≠ "java/lang/invoke/VarHandle" ∧ (parseMethodDescriptor yX0_loss.desc).map (fun d => d.parameters.length) = some 0 := by decide +kernel
theorem np_X0_prove : yX0_prove.cls ≠ "java/lang/invoke/MethodHandle" ∧ yX0_prove.cls ≠ "java/lang/invoke/VarHandle" ∧ (parseMethodDescriptor yX0_prove.desc).map (fun d => d.parameters.length) = some 0 := by decide +kernel
theorem np_X0_row : yX0_row.cls ≠ "java/lang/invoke/MethodHandle" ∧ yX0_row.cls ≠ "java/lang/invoke/VarHandle" ∧ (parseMethodDescriptor yX0_row.desc).map (fun d => d.parameters.length) = some 2 := by decide +kernel
theorem np_X0_isCell : yX0_isCell.cls ≠ "java/lang/invoke/MethodHandle" ∧ yX0_isCell.cls ≠ "java/lang/invoke/VarHandle" ∧ (parseMethodDescriptor yX0_isCell.desc).map (fun d => d.parameters.length) = some 2 := by decide +kernel
theorem np_X0_alterRow : yX0_alterRow.cls ≠ "java/lang/invoke/MethodHandle" ∧ yX0_alterRow.cls ≠ "java/lang/invoke/VarHandle" ∧ (parseMethodDescriptor yX0_alterRow.desc).map (fun d => d.parameters.length) = some 3 := by decide +kernel
theorem np_X0_judge : yX0_judge.cls ≠ "java/lang/invoke/MethodHandle" ∧ yX0_judge.cls ≠ "java/lang/invoke/VarHandle" ∧ (parseMethodDescriptor yX0_judge.desc).map (fun d => d.parameters.length) = some 0 := by decide +kernel
theorem np_X0_mayAny : yX0_mayAny.cls ≠ "java/lang/invoke/MethodHandle" ∧ yX0_mayAny.cls ≠ "java/lang/invoke/VarHandle" ∧ (parseMethodDescriptor yX0_mayAny.desc).map (fun d => d.parameters.length) = some 1 := by decide +kernel
theorem np_X0_sheet : yX0_sheet.cls ≠ "java/lang/invoke/MethodHandle" ∧ yX0_sheet.cls ≠ "java/lang/invoke/VarHandle" ∧ (parseMethodDescriptor yX0_sheet.desc).map (fun d => d.parameters.length) = some 3 := by decide +kernel
theorem np_X0_put : yX0_put.cls ≠ "java/lang/invoke/MethodHandle" ∧ yX0_put.cls ≠ "java/lang/invoke/VarHandle" ∧ (parseMethodDescriptor yX0_put.desc).map (fun d => d.parameters.length) = some 3 := by decide +kernel
theorem np_X0_set : yX0_set.cls ≠ "java/lang/invoke/MethodHandle" ∧ yX0_set.cls ≠ "java/lang/invoke/VarHandle" ∧ (parseMethodDescriptor yX0_set.desc).map (fun d => d.parameters.length) = some 3 := by decide +kernel
theorem np_X0_lengthOf : yX0_lengthOf.cls ≠ "java/lang/invoke/MethodHandle" ∧ yX0_lengthOf.cls ≠ "java/lang/invoke/VarHandle" ∧ (parseMethodDescriptor yX0_lengthOf.desc).map (fun d => d.parameters.length) = some 1 := by decide +kernel
theorem np_X0_within : yX0_within.cls ≠ "java/lang/invoke/MethodHandle" ∧ yX0_within.cls ≠ "java/lang/invoke/VarHandle" ∧ (parseMethodDescriptor yX0_within.desc).map (fun d => d.parameters.length) = some 2 := by decide +kernel
theorem np_X0_item : yX0_item.cls ≠ "java/lang/invoke/MethodHandle" ∧ yX0_item.cls ≠ "java/lang/invoke/VarHandle" ∧ (parseMethodDescriptor yX0_item.desc).map (fun d => d.parameters.length) = some 3 := by decide +kernel
theorem np_X0_itemOf : yX0_itemOf.cls ≠ "java/lang/invoke/MethodHandle" ∧ yX0_itemOf.cls ≠ "java/lang/invoke/VarHandle" ∧ (parseMethodDescriptor yX0_itemOf.desc).map (fun d => d.parameters.length) = some 3 := by decide +kernel
theorem np_X0_byteAt : yX0_byteAt.cls ≠ "java/lang/invoke/MethodHandle" ∧ yX0_byteAt.cls ≠ "java/lang/invoke/VarHandle" ∧ (parseMethodDescriptor yX0_byteAt.desc).map (fun d => d.parameters.length) = some 2 := by decide +kernel
theorem np_X0_shortAt : yX0_shortAt.cls ≠ "java/lang/invoke/MethodHandle" ∧ yX0_shortAt.cls ≠ "java/lang/invoke/VarHandle" ∧ (parseMethodDescriptor yX0_shortAt.desc).map (fun d => d.parameters.length) = some 2 := by decide +kernel
theorem np_X0_intAt : yX0_intAt.cls ≠ "java/lang/invoke/MethodHandle" ∧ yX0_intAt.cls ≠ "java/lang/invoke/VarHandle" ∧ (parseMethodDescriptor yX0_intAt.desc).map (fun d => d.parameters.length) = some 2 := by decide +kernel
theorem np_X0_longAt : yX0_longAt.cls ≠ "java/lang/invoke/MethodHandle" ∧ yX0_longAt.cls ≠ "java/lang/invoke/VarHandle" ∧ (parseMethodDescriptor yX0_longAt.desc).map (fun d => d.parameters.length) = some 2 := by decide +kernel
theorem np_X0_acts : yX0_acts.cls ≠ "java/lang/invoke/MethodHandle" ∧ yX0_acts.cls ≠ "java/lang/invoke/VarHandle" ∧ (parseMethodDescriptor yX0_acts.desc).map (fun d => d.parameters.length) = some 3 := by decide +kernel
theorem np_X0_doneBy : yX0_doneBy.cls ≠ "java/lang/invoke/MethodHandle" ∧ yX0_doneBy.cls ≠ "java/lang/invoke/VarHandle" ∧ (parseMethodDescriptor yX0_doneBy.desc).map (fun d => d.parameters.length) = some 3 := by decide +kernel
theorem np_X0_shelf : yX0_shelf.cls ≠ "java/lang/invoke/MethodHandle" ∧ yX0_shelf.cls ≠ "java/lang/invoke/VarHandle" ∧ (parseMethodDescriptor yX0_shelf.desc).map (fun d => d.parameters.length) = some 3 := by decide +kernel
theorem np_X0_isShelf : yX0_isShelf.cls ≠ "java/lang/invoke/MethodHandle" ∧ yX0_isShelf.cls ≠ "java/lang/invoke/VarHandle" ∧ (parseMethodDescriptor yX0_isShelf.desc).map (fun d => d.parameters.length) = some 1 := by decide +kernel
theorem np_X0_isRisk : yX0_isRisk.cls ≠ "java/lang/invoke/MethodHandle" ∧ yX0_isRisk.cls ≠ "java/lang/invoke/VarHandle" ∧ (parseMethodDescriptor yX0_isRisk.desc).map (fun d => d.parameters.length) = some 1 := by decide +kernel
theorem np_X0_taken : yX0_taken.cls ≠ "java/lang/invoke/MethodHandle" ∧ yX0_taken.cls ≠ "java/lang/invoke/VarHandle" ∧ (parseMethodDescriptor yX0_taken.desc).map (fun d => d.parameters.length) = some 2 := by decide +kernel
theorem np_X0_heldOf : yX0_heldOf.cls ≠ "java/lang/invoke/MethodHandle" ∧ yX0_heldOf.cls ≠ "java/lang/invoke/VarHandle" ∧ (parseMethodDescriptor yX0_heldOf.desc).map (fun d => d.parameters.length) = some 1 := by decide +kernel
theorem np_X0_patchThing : yX0_patchThing.cls ≠ "java/lang/invoke/MethodHandle" ∧ yX0_patchThing.cls ≠ "java/lang/invoke/VarHandle" ∧ (parseMethodDescriptor yX0_patchThing.desc).map (fun d => d.parameters.length) = some 1 := by decide +kernel
theorem np_X0_castTo : yX0_castTo.cls ≠ "java/lang/invoke/MethodHandle" ∧ yX0_castTo.cls ≠ "java/lang/invoke/VarHandle" ∧ (parseMethodDescriptor yX0_castTo.desc).map (fun d => d.parameters.length) = some 2 := by decide +kernel
theorem np_X0_rowAs : yX0_rowAs.cls ≠ "java/lang/invoke/MethodHandle" ∧ yX0_rowAs.cls ≠ "java/lang/invoke/VarHandle" ∧ (parseMethodDescriptor yX0_rowAs.desc).map (fun d => d.parameters.length) = some 2 := by decide +kernel
theorem np_X0_act : yX0_act.cls ≠ "java/lang/invoke/MethodHandle" ∧ yX0_act.cls ≠ "java/lang/invoke/VarHandle" ∧ (parseMethodDescriptor yX0_act.desc).map (fun d => d.parameters.length) = some 3 := by decide +kernel
theorem np_X0_acted : yX0_acted.cls ≠ "java/lang/invoke/MethodHandle" ∧ yX0_acted.cls ≠ "java/lang/invoke/VarHandle" ∧ (parseMethodDescriptor yX0_acted.desc).map (fun d => d.parameters.length) = some 3 := by decide +kernel
theorem np_X0_ran : yX0_ran.cls ≠ "java/lang/invoke/MethodHandle" ∧ yX0_ran.cls ≠ "java/lang/invoke/VarHandle" ∧ (parseMethodDescriptor yX0_ran.desc).map (fun d => d.parameters.length) = some 1 := by decide +kernel
theorem np_X0_trace : yX0_trace.cls ≠ "java/lang/invoke/MethodHandle" ∧ yX0_trace.cls ≠ "java/lang/invoke/VarHandle" ∧ (parseMethodDescriptor yX0_trace.desc).map (fun d => d.parameters.length) = some 1 := by decide +kernel
theorem np_X0_many : yX0_many.cls ≠ "java/lang/invoke/MethodHandle" ∧ yX0_many.cls ≠ "java/lang/invoke/VarHandle" ∧ (parseMethodDescriptor yX0_many.desc).map (fun d => d.parameters.length) = some 1 := by decide +kernel
theorem np_X0_keep : yX0_keep.cls ≠ "java/lang/invoke/MethodHandle" ∧ yX0_keep.cls ≠ "java/lang/invoke/VarHandle" ∧ (parseMethodDescriptor yX0_keep.desc).map (fun d => d.parameters.length) = some 0 := by decide +kernel
theorem np_X0_again : yX0_again.cls ≠ "java/lang/invoke/MethodHandle" ∧ yX0_again.cls ≠ "java/lang/invoke/VarHandle" ∧ (parseMethodDescriptor yX0_again.desc).map (fun d => d.parameters.length) = some 0 := by decide +kernel
theorem np_X4_init : yX4_init.cls ≠ "java/lang/invoke/MethodHandle" ∧ yX4_init.cls ≠ "java/lang/invoke/VarHandle" ∧ (parseMethodDescriptor yX4_init.desc).map (fun d => d.parameters.length) = some 1 := by decide +kernel
theorem np_X4_finds : yX4_finds.cls ≠ "java/lang/invoke/MethodHandle" ∧ yX4_finds.cls ≠ "java/lang/invoke/VarHandle" ∧ (parseMethodDescriptor yX4_finds.desc).map (fun d => d.parameters.length) = some 0 := by decide +kernel
theorem np_X4_tries : yX4_tries.cls ≠ "java/lang/invoke/MethodHandle" ∧ yX4_tries.cls ≠ "java/lang/invoke/VarHandle" ∧ (parseMethodDescriptor yX4_tries.desc).map (fun d => d.parameters.length) = some 3 := by decide +kernel
theorem np_X18_init : yX18_init.cls ≠ "java/lang/invoke/MethodHandle" ∧ yX18_init.cls ≠ "java/lang/invoke/VarHandle" ∧ (parseMethodDescriptor yX18_init.desc).map (fun d => d.parameters.length) = some 1 := by decide +kernel
theorem np_X18_holds : yX18_holds.cls ≠ "java/lang/invoke/MethodHandle" ∧ yX18_holds.cls ≠ "java/lang/invoke/VarHandle" ∧ (parseMethodDescriptor yX18_holds.desc).map (fun d => d.parameters.length) = some 2 := by decide +kernel
theorem np_X6_init : yX6_init.cls ≠ "java/lang/invoke/MethodHandle" ∧ yX6_init.cls ≠ "java/lang/invoke/VarHandle" ∧ (parseMethodDescriptor yX6_init.desc).map (fun d => d.parameters.length) = some 1 := by decide +kernel
theorem np_X6_finds : yX6_finds.cls ≠ "java/lang/invoke/MethodHandle" ∧ yX6_finds.cls ≠ "java/lang/invoke/VarHandle" ∧ (parseMethodDescriptor yX6_finds.desc).map (fun d => d.parameters.length) = some 1 := by decide +kernel
theorem np_X6_goes : yX6_goes.cls ≠ "java/lang/invoke/MethodHandle" ∧ yX6_goes.cls ≠ "java/lang/invoke/VarHandle" ∧ (parseMethodDescriptor yX6_goes.desc).map (fun d => d.parameters.length) = some 3 := by decide +kernel
theorem np_X6_rests : yX6_rests.cls ≠ "java/lang/invoke/MethodHandle" ∧ yX6_rests.cls ≠ "java/lang/invoke/VarHandle" ∧ (parseMethodDescriptor yX6_rests.desc).map (fun d => d.parameters.length) = some 0 := by decide +kernel
theorem np_X6_stays : yX6_stays.cls ≠ "java/lang/invoke/MethodHandle" ∧ yX6_stays.cls ≠ "java/lang/invoke/VarHandle" ∧ (parseMethodDescriptor yX6_stays.desc).map (fun d => d.parameters.length) = some 2 := by decide +kernel
theorem np_X16_init : yX16_init.cls ≠ "java/lang/invoke/MethodHandle" ∧ yX16_init.cls ≠ "java/lang/invoke/VarHandle" ∧ (parseMethodDescriptor yX16_init.desc).map (fun d => d.parameters.length) = some 2 := by decide +kernel
theorem np_X3_init : yX3_init.cls ≠ "java/lang/invoke/MethodHandle" ∧ yX3_init.cls ≠ "java/lang/invoke/VarHandle" ∧ (parseMethodDescriptor yX3_init.desc).map (fun d => d.parameters.length) = some 1 := by decide +kernel
theorem np_X3_all : yX3_all.cls ≠ "java/lang/invoke/MethodHandle" ∧ yX3_all.cls ≠ "java/lang/invoke/VarHandle" ∧ (parseMethodDescriptor yX3_all.desc).map (fun d => d.parameters.length) = some 1 := by decide +kernel
theorem np_X3_begins : yX3_begins.cls ≠ "java/lang/invoke/MethodHandle" ∧ yX3_begins.cls ≠ "java/lang/invoke/VarHandle" ∧ (parseMethodDescriptor yX3_begins.desc).map (fun d => d.parameters.length) = some 0 := by decide +kernel
theorem np_X3_from : yX3_from.cls ≠ "java/lang/invoke/MethodHandle" ∧ yX3_from.cls ≠ "java/lang/invoke/VarHandle" ∧ (parseMethodDescriptor yX3_from.desc).map (fun d => d.parameters.length) = some 2 := by decide +kernel
theorem np_X3_placeOf : yX3_placeOf.cls ≠ "java/lang/invoke/MethodHandle" ∧ yX3_placeOf.cls ≠ "java/lang/invoke/VarHandle" ∧ (parseMethodDescriptor yX3_placeOf.desc).map (fun d => d.parameters.length) = some 1 := by decide +kernel
theorem np_X3_by : yX3_by.cls ≠ "java/lang/invoke/MethodHandle" ∧ yX3_by.cls ≠ "java/lang/invoke/VarHandle" ∧ (parseMethodDescriptor yX3_by.desc).map (fun d => d.parameters.length) = some 3 := by decide +kernel
theorem np_X3_first : yX3_first.cls ≠ "java/lang/invoke/MethodHandle" ∧ yX3_first.cls ≠ "java/lang/invoke/VarHandle" ∧ (parseMethodDescriptor yX3_first.desc).map (fun d => d.parameters.length) = some 1 := by decide +kernel
theorem np_X3_with : yX3_with.cls ≠ "java/lang/invoke/MethodHandle" ∧ yX3_with.cls ≠ "java/lang/invoke/VarHandle" ∧ (parseMethodDescriptor yX3_with.desc).map (fun d => d.parameters.length) = some 2 := by decide +kernel
theorem np_X23_init : yX23_init.cls ≠ "java/lang/invoke/MethodHandle" ∧ yX23_init.cls ≠ "java/lang/invoke/VarHandle" ∧ (parseMethodDescriptor yX23_init.desc).map (fun d => d.parameters.length) = some 3 := by decide +kernel
theorem np_X23_eats : yX23_eats.cls ≠ "java/lang/invoke/MethodHandle" ∧ yX23_eats.cls ≠ "java/lang/invoke/VarHandle" ∧ (parseMethodDescriptor yX23_eats.desc).map (fun d => d.parameters.length) = some 1 := by decide +kernel
theorem np_X23_tells : yX23_tells.cls ≠ "java/lang/invoke/MethodHandle" ∧ yX23_tells.cls ≠ "java/lang/invoke/VarHandle" ∧ (parseMethodDescriptor yX23_tells.desc).map (fun d => d.parameters.length) = some 1 := by decide +kernel
theorem np_X10_init : yX10_init.cls ≠ "java/lang/invoke/MethodHandle" ∧ yX10_init.cls ≠ "java/lang/invoke/VarHandle" ∧ (parseMethodDescriptor yX10_init.desc).map (fun d => d.parameters.length) = some 0 := by decide +kernel
theorem np_X10_row : yX10_row.cls ≠ "java/lang/invoke/MethodHandle" ∧ yX10_row.cls ≠ "java/lang/invoke/VarHandle" ∧ (parseMethodDescriptor yX10_row.desc).map (fun d => d.parameters.length) = some 0 := by decide +kernel
theorem np_X10_becomes : yX10_becomes.cls ≠ "java/lang/invoke/MethodHandle" ∧ yX10_becomes.cls ≠ "java/lang/invoke/VarHandle" ∧ (parseMethodDescriptor yX10_becomes.desc).map (fun d => d.parameters.length) = some 2 := by decide +kernel
theorem np_cond : (⟨"HungryHedge$Cond", "holds", "(LHungryHedge;LHungryHedge$Trip;)Z"⟩ : MethodName).cls ≠ "java/lang/invoke/MethodHandle" ∧ (⟨"HungryHedge$Cond", "holds", "(LHungryHedge;LHungryHedge$Trip;)Z"⟩ : MethodName).cls ≠ "java/lang/invoke/VarHandle" ∧ (parseMethodDescriptor (⟨"HungryHedge$Cond", "holds", "(LHungryHedge;LHungryHedge$Trip;)Z"⟩ : MethodName).desc).map (fun d => d.parameters.length) = some 2 := by decide +kernel
theorem fl19_7_19 : hh_FL RX19 7 19 0 2 true := ⟨RX19, TX19, 2, tyX19, "HungryHedge$Both", by decide, rfl, in_X19, by decide, rfl, rfl, .inl q1110, tyX19_ok, .inl nmX19, rfl, rfl, .inl rfl⟩
theorem fl19_13_19 : hh_FL RX19 13 19 1 2 true := ⟨RX19, TX19, 2, tyX19, "HungryHedge$Both", by decide, rfl, in_X19, by decide, rfl, rfl, .inl q1113, tyX19_ok, .inl nmX19, rfl, rfl, .inl rfl⟩
theorem fl17_7_17 : hh_FL RX17 7 17 0 0 true := ⟨RX17, TX17, 5, tyX17, "HungryHedge$Compared", by decide, rfl, in_X17, by decide, rfl, rfl, .inl q1077, tyX17_ok, .inl nmX17, rfl, rfl, .inl rfl⟩
theorem fl17_13_17 : hh_FL RX17 13 17 1 0 true := ⟨RX17, TX17, 5, tyX17, "HungryHedge$Compared", by decide, rfl, in_X17, by decide, rfl, rfl, .inl q1078, tyX17_ok, .inl nmX17, rfl, rfl, .inl rfl⟩
theorem fl0_10_0 : hh_FL RX0 10 0 0 2 true := ⟨RX0, TX0, 19, tyX0, "HungryHedge", by decide, rfl, in_X0, by decide, rfl, rfl, .inl q585, tyX0_ok, .inl nmX0, rfl, rfl, .inl rfl⟩
theorem fl0_107_1 : hh_FL RX0 107 1 0 0 false := ⟨RX1, TX1, 17, tyX1, "HungryHedge$Kept", by decide, rfl, in_X1, by decide, rfl, rfl, .inr ⟨"HungryHedge", hh_nwm q201 rfl⟩, tyX1_ok, .inl nmX1, rfl, rfl, .inl rfl⟩
theorem fl0_130_2 : hh_FL RX0 130 2 3 2 true := ⟨RX2, TX2, 4, tyX2, "HungryHedge$Trip", by decide, rfl, in_X2, by decide, rfl, rfl, .inr ⟨"HungryHedge", hh_nwm q186 rfl⟩, tyX2_ok, .inl nmX2, rfl, rfl, .inl rfl⟩
theorem fl0_153_2 : hh_FL RX0 153 2 0 0 false := ⟨RX2, TX2, 4, tyX2, "HungryHedge$Trip", by decide, rfl, in_X2, by decide, rfl, rfl, .inr ⟨"HungryHedge", hh_nwm q174 rfl⟩, tyX2_ok, .inl nmX2, rfl, rfl, .inl rfl⟩
theorem fl0_144_1 : hh_FL RX0 144 1 13 2 true := ⟨RX1, TX1, 17, tyX1, "HungryHedge$Kept", by decide, rfl, in_X1, by decide, rfl, rfl, .inr ⟨"HungryHedge", hh_nwm q234 rfl⟩, tyX1_ok, .inl nmX1, rfl, rfl, .inl rfl⟩
theorem fl1_34_1 : hh_FL RX1 34 1 12 2 true := ⟨RX1, TX1, 17, tyX1, "HungryHedge$Kept", by decide, rfl, in_X1, by decide, rfl, rfl, .inl q231, tyX1_ok, .inl nmX1, rfl, rfl, .inl rfl⟩
theorem fl0_150_1 : hh_FL RX0 150 1 3 0 false := ⟨RX1, TX1, 17, tyX1, "HungryHedge$Kept", by decide, rfl, in_X1, by decide, rfl, rfl, .inr ⟨"HungryHedge", hh_nwm q208 rfl⟩, tyX1_ok, .inl nmX1, rfl, rfl, .inl rfl⟩
theorem fl0_147_2 : hh_FL RX0 147 2 1 0 false := ⟨RX2, TX2, 4, tyX2, "HungryHedge$Trip", by decide, rfl, in_X2, by decide, rfl, rfl, .inr ⟨"HungryHedge", hh_nwm q178 rfl⟩, tyX2_ok, .inl nmX2, rfl, rfl, .inl rfl⟩
theorem fl0_156_2 : hh_FL RX0 156 2 2 0 false := ⟨RX2, TX2, 4, tyX2, "HungryHedge$Trip", by decide, rfl, in_X2, by decide, rfl, rfl, .inr ⟨"HungryHedge", hh_nwm q182 rfl⟩, tyX2_ok, .inl nmX2, rfl, rfl, .inl rfl⟩
theorem fl17_19_17 : hh_FL RX17 19 17 3 0 true := ⟨RX17, TX17, 5, tyX17, "HungryHedge$Compared", by decide, rfl, in_X17, by decide, rfl, rfl, .inl q1080, tyX17_ok, .inl nmX17, rfl, rfl, .inl rfl⟩
theorem fl17_22_17 : hh_FL RX17 22 17 4 0 true := ⟨RX17, TX17, 5, tyX17, "HungryHedge$Compared", by decide, rfl, in_X17, by decide, rfl, rfl, .inl q1081, tyX17_ok, .inl nmX17, rfl, rfl, .inl rfl⟩
theorem fl17_16_17 : hh_FL RX17 16 17 2 0 true := ⟨RX17, TX17, 5, tyX17, "HungryHedge$Compared", by decide, rfl, in_X17, by decide, rfl, rfl, .inl q1079, tyX17_ok, .inl nmX17, rfl, rfl, .inl rfl⟩
theorem fl18_7_18 : hh_FL RX18 7 18 0 2 true := ⟨RX18, TX18, 1, tyX18, "HungryHedge$Not", by decide, rfl, in_X18, by decide, rfl, rfl, .inl q1099, tyX18_ok, .inl nmX18, rfl, rfl, .inl rfl⟩
theorem fl20_7_20 : hh_FL RX20 7 20 0 2 true := ⟨RX20, TX20, 2, tyX20, "HungryHedge$Either", by decide, rfl, in_X20, by decide, rfl, rfl, .inl q1111, tyX20_ok, .inl nmX20, rfl, rfl, .inr q1112⟩
theorem fl20_19_20 : hh_FL RX20 19 20 1 2 true := ⟨RX20, TX20, 2, tyX20, "HungryHedge$Either", by decide, rfl, in_X20, by decide, rfl, rfl, .inl q1114, tyX20_ok, .inl nmX20, rfl, rfl, .inr q1115⟩
theorem fl15_9_15 : hh_FL RX15 9 15 0 2 true := ⟨RX15, TX15, 1, tyX15, "HungryHedge$Risk", by decide, rfl, in_X15, by decide, rfl, rfl, .inl q895, tyX15_ok, .inl nmX15, rfl, rfl, .inl rfl⟩
theorem fl2_9_2 : hh_FL RX2 9 2 3 2 true := ⟨RX2, TX2, 4, tyX2, "HungryHedge$Trip", by decide, rfl, in_X2, by decide, rfl, rfl, .inl q183, tyX2_ok, .inl nmX2, rfl, rfl, .inl rfl⟩
theorem fl2_15_2 : hh_FL RX2 15 2 0 0 false := ⟨RX2, TX2, 4, tyX2, "HungryHedge$Trip", by decide, rfl, in_X2, by decide, rfl, rfl, .inl q171, tyX2_ok, .inl nmX2, rfl, rfl, .inl rfl⟩
theorem fl2_19_2 : hh_FL RX2 19 2 1 0 false := ⟨RX2, TX2, 4, tyX2, "HungryHedge$Trip", by decide, rfl, in_X2, by decide, rfl, rfl, .inl q176, tyX2_ok, .inl nmX2, rfl, rfl, .inl rfl⟩
theorem fl2_22_2 : hh_FL RX2 22 2 2 0 false := ⟨RX2, TX2, 4, tyX2, "HungryHedge$Trip", by decide, rfl, in_X2, by decide, rfl, rfl, .inl q179, tyX2_ok, .inl nmX2, rfl, rfl, .inl rfl⟩
theorem fl8_7_8 : hh_FL RX8 7 8 6 0 false := ⟨RX8, TX8, 7, tyX8, "HungryHedge$Fault", by decide, rfl, in_X8, by decide, rfl, rfl, .inl q438, tyX8_ok, .inl nmX8, rfl, rfl, .inl rfl⟩
theorem fl5_17_5 : hh_FL RX5 17 5 0 2 true := ⟨RX5, TX5, 2, tyX5, "HungryHedge$Dares", by decide, rfl, in_X5, by decide, rfl, rfl, .inl q333, tyX5_ok, .inl nmX5, rfl, rfl, .inl rfl⟩
theorem fl5_3_5 : hh_FL RX5 3 5 1 2 true := ⟨RX5, TX5, 2, tyX5, "HungryHedge$Dares", by decide, rfl, in_X5, by decide, rfl, rfl, .inl q335, tyX5_ok, .inl nmX5, rfl, rfl, .inl rfl⟩
theorem fl5_42_0 : hh_FL RX5 42 0 0 2 true := ⟨RX0, TX0, 19, tyX0, "HungryHedge", by decide, rfl, in_X0, by decide, rfl, rfl, .inr ⟨"HungryHedge", hh_nwm q587 rfl⟩, tyX0_ok, .inl nmX0, rfl, rfl, .inl rfl⟩
theorem fl5_46_1 : hh_FL RX5 46 1 1 0 false := ⟨RX1, TX1, 17, tyX1, "HungryHedge$Kept", by decide, rfl, in_X1, by decide, rfl, rfl, .inr ⟨"HungryHedge", hh_nwm q203 rfl⟩, tyX1_ok, .inl nmX1, rfl, rfl, .inl rfl⟩
theorem fl5_52_1 : hh_FL RX5 52 1 14 2 true := ⟨RX1, TX1, 17, tyX1, "HungryHedge$Kept", by decide, rfl, in_X1, by decide, rfl, rfl, .inr ⟨"HungryHedge", hh_nwm q236 rfl⟩, tyX1_ok, .inl nmX1, rfl, rfl, .inl rfl⟩
theorem fl5_26_15 : hh_FL RX5 26 15 0 2 true := ⟨RX15, TX15, 1, tyX15, "HungryHedge$Risk", by decide, rfl, in_X15, by decide, rfl, rfl, .inr ⟨"HungryHedge", hh_nwm q896 rfl⟩, tyX15_ok, .inl nmX15, rfl, rfl, .inl rfl⟩
theorem fl7_49_7 : hh_FL RX7 49 7 3 2 false := ⟨RX7, TX7, 11, tyX7, "HungryHedge$Reader", by decide, rfl, in_X7, by decide, rfl, rfl, .inl q461, tyX7_ok, .inl nmX7, rfl, rfl, .inl rfl⟩
theorem fl7_46_7 : hh_FL RX7 46 7 4 0 false := ⟨RX7, TX7, 11, tyX7, "HungryHedge$Reader", by decide, rfl, in_X7, by decide, rfl, rfl, .inl q462, tyX7_ok, .inl nmX7, rfl, rfl, .inl rfl⟩
theorem fl7_53_7 : hh_FL RX7 53 7 6 0 false := ⟨RX7, TX7, 11, tyX7, "HungryHedge$Reader", by decide, rfl, in_X7, by decide, rfl, rfl, .inl q464, tyX7_ok, .inl nmX7, rfl, rfl, .inl rfl⟩
theorem fl7_110_7 : hh_FL RX7 110 7 7 0 false := ⟨RX7, TX7, 11, tyX7, "HungryHedge$Reader", by decide, rfl, in_X7, by decide, rfl, rfl, .inl q465, tyX7_ok, .inl nmX7, rfl, rfl, .inl rfl⟩
theorem fl7_149_7 : hh_FL RX7 149 7 8 0 false := ⟨RX7, TX7, 11, tyX7, "HungryHedge$Reader", by decide, rfl, in_X7, by decide, rfl, rfl, .inl q466, tyX7_ok, .inl nmX7, rfl, rfl, .inl rfl⟩
theorem fl7_42_7 : hh_FL RX7 42 7 5 0 false := ⟨RX7, TX7, 11, tyX7, "HungryHedge$Reader", by decide, rfl, in_X7, by decide, rfl, rfl, .inl q463, tyX7_ok, .inl nmX7, rfl, rfl, .inl rfl⟩
theorem fl7_38_7 : hh_FL RX7 38 7 2 2 true := ⟨RX7, TX7, 11, tyX7, "HungryHedge$Reader", by decide, rfl, in_X7, by decide, rfl, rfl, .inl q459, tyX7_ok, .inl nmX7, rfl, rfl, .inl rfl⟩
theorem fl7_32_7 : hh_FL RX7 32 7 1 2 true := ⟨RX7, TX7, 11, tyX7, "HungryHedge$Reader", by decide, rfl, in_X7, by decide, rfl, rfl, .inl q458, tyX7_ok, .inl nmX7, rfl, rfl, .inl rfl⟩
theorem fl7_23_7 : hh_FL RX7 23 7 0 2 true := ⟨RX7, TX7, 11, tyX7, "HungryHedge$Reader", by decide, rfl, in_X7, by decide, rfl, rfl, .inl q457, tyX7_ok, .inl nmX7, rfl, rfl, .inl rfl⟩
theorem fl7_88_7 : hh_FL RX7 88 7 9 0 false := ⟨RX7, TX7, 11, tyX7, "HungryHedge$Reader", by decide, rfl, in_X7, by decide, rfl, rfl, .inl q468, tyX7_ok, .inl nmX7, rfl, rfl, .inl rfl⟩
theorem fl7_95_7 : hh_FL RX7 95 7 10 0 false := ⟨RX7, TX7, 11, tyX7, "HungryHedge$Reader", by decide, rfl, in_X7, by decide, rfl, rfl, .inl q469, tyX7_ok, .inl nmX7, rfl, rfl, .inl rfl⟩
theorem fl1_65_1 : hh_FL RX1 65 1 0 0 false := ⟨RX1, TX1, 17, tyX1, "HungryHedge$Kept", by decide, rfl, in_X1, by decide, rfl, rfl, .inl q199, tyX1_ok, .inl nmX1, rfl, rfl, .inl rfl⟩
theorem fl1_88_2 : hh_FL RX1 88 2 0 0 false := ⟨RX2, TX2, 4, tyX2, "HungryHedge$Trip", by decide, rfl, in_X2, by decide, rfl, rfl, .inr ⟨"HungryHedge", hh_nwm q173 rfl⟩, tyX2_ok, .inl nmX2, rfl, rfl, .inl rfl⟩
theorem fl1_37_1 : hh_FL RX1 37 1 13 2 true := ⟨RX1, TX1, 17, tyX1, "HungryHedge$Kept", by decide, rfl, in_X1, by decide, rfl, rfl, .inl q233, tyX1_ok, .inl nmX1, rfl, rfl, .inl rfl⟩
theorem fl1_91_2 : hh_FL RX1 91 2 1 0 false := ⟨RX2, TX2, 4, tyX2, "HungryHedge$Trip", by decide, rfl, in_X2, by decide, rfl, rfl, .inr ⟨"HungryHedge", hh_nwm q177 rfl⟩, tyX2_ok, .inl nmX2, rfl, rfl, .inl rfl⟩
theorem fl1_9_1 : hh_FL RX1 9 1 3 0 false := ⟨RX1, TX1, 17, tyX1, "HungryHedge$Kept", by decide, rfl, in_X1, by decide, rfl, rfl, .inl q207, tyX1_ok, .inl nmX1, rfl, rfl, .inl rfl⟩
theorem fl1_28_1 : hh_FL RX1 28 1 10 2 true := ⟨RX1, TX1, 17, tyX1, "HungryHedge$Kept", by decide, rfl, in_X1, by decide, rfl, rfl, .inl q226, tyX1_ok, .inl nmX1, rfl, rfl, .inl rfl⟩
theorem fl1_94_2 : hh_FL RX1 94 2 3 2 true := ⟨RX2, TX2, 4, tyX2, "HungryHedge$Trip", by decide, rfl, in_X2, by decide, rfl, rfl, .inr ⟨"HungryHedge", hh_nwm q185 rfl⟩, tyX2_ok, .inl nmX2, rfl, rfl, .inl rfl⟩
theorem fl1_25_1 : hh_FL RX1 25 1 9 2 true := ⟨RX1, TX1, 17, tyX1, "HungryHedge$Kept", by decide, rfl, in_X1, by decide, rfl, rfl, .inl q223, tyX1_ok, .inl nmX1, rfl, rfl, .inl rfl⟩
theorem fl1_107_2 : hh_FL RX1 107 2 2 0 false := ⟨RX2, TX2, 4, tyX2, "HungryHedge$Trip", by decide, rfl, in_X2, by decide, rfl, rfl, .inr ⟨"HungryHedge", hh_nwm q181 rfl⟩, tyX2_ok, .inl nmX2, rfl, rfl, .inl rfl⟩
theorem fl13_7_13 : hh_FL RX13 7 13 0 0 false := ⟨RX13, TX13, 3, tyX13, "HungryHedge$Shelf", by decide, rfl, in_X13, by decide, rfl, rfl, .inl q572, tyX13_ok, .inl nmX13, rfl, rfl, .inl rfl⟩
theorem fl0_115_1 : hh_FL RX0 115 1 8 2 true := ⟨RX1, TX1, 17, tyX1, "HungryHedge$Kept", by decide, rfl, in_X1, by decide, rfl, rfl, .inr ⟨"HungryHedge", hh_nwm q222 rfl⟩, tyX1_ok, .inl nmX1, rfl, rfl, .inl rfl⟩
theorem fl0_118_1 : hh_FL RX0 118 1 9 2 true := ⟨RX1, TX1, 17, tyX1, "HungryHedge$Kept", by decide, rfl, in_X1, by decide, rfl, rfl, .inr ⟨"HungryHedge", hh_nwm q225 rfl⟩, tyX1_ok, .inl nmX1, rfl, rfl, .inl rfl⟩
theorem fl0_121_1 : hh_FL RX0 121 1 10 2 true := ⟨RX1, TX1, 17, tyX1, "HungryHedge$Kept", by decide, rfl, in_X1, by decide, rfl, rfl, .inr ⟨"HungryHedge", hh_nwm q227 rfl⟩, tyX1_ok, .inl nmX1, rfl, rfl, .inl rfl⟩
theorem fl0_124_1 : hh_FL RX0 124 1 11 2 true := ⟨RX1, TX1, 17, tyX1, "HungryHedge$Kept", by decide, rfl, in_X1, by decide, rfl, rfl, .inr ⟨"HungryHedge", hh_nwm q230 rfl⟩, tyX1_ok, .inl nmX1, rfl, rfl, .inl rfl⟩
theorem fl0_127_1 : hh_FL RX0 127 1 16 2 true := ⟨RX1, TX1, 17, tyX1, "HungryHedge$Kept", by decide, rfl, in_X1, by decide, rfl, rfl, .inr ⟨"HungryHedge", hh_nwm q241 rfl⟩, tyX1_ok, .inl nmX1, rfl, rfl, .inl rfl⟩
theorem fl0_133_1 : hh_FL RX0 133 1 12 2 true := ⟨RX1, TX1, 17, tyX1, "HungryHedge$Kept", by decide, rfl, in_X1, by decide, rfl, rfl, .inr ⟨"HungryHedge", hh_nwm q232 rfl⟩, tyX1_ok, .inl nmX1, rfl, rfl, .inl rfl⟩
theorem fl0_24_0 : hh_FL RX0 24 0 3 2 true := ⟨RX0, TX0, 19, tyX0, "HungryHedge", by decide, rfl, in_X0, by decide, rfl, rfl, .inl q590, tyX0_ok, .inl nmX0, rfl, rfl, .inl rfl⟩
theorem fl3_41_3 : hh_FL RX3 41 3 2 0 false := ⟨RX3, TX3, 4, tyX3, "HungryHedge$Most", by decide, rfl, in_X3, by decide, rfl, rfl, .inl q289, tyX3_ok, .inl nmX3, rfl, rfl, .inl rfl⟩
theorem fl3_16_3 : hh_FL RX3 16 3 0 2 true := ⟨RX3, TX3, 4, tyX3, "HungryHedge$Most", by decide, rfl, in_X3, by decide, rfl, rfl, .inl q287, tyX3_ok, .inl nmX3, rfl, rfl, .inl rfl⟩
theorem fl3_27_2 : hh_FL RX3 27 2 1 0 false := ⟨RX2, TX2, 4, tyX2, "HungryHedge$Trip", by decide, rfl, in_X2, by decide, rfl, rfl, .inr ⟨"HungryHedge", hh_nwm q175 rfl⟩, tyX2_ok, .inl nmX2, rfl, rfl, .inl rfl⟩
theorem fl3_31_2 : hh_FL RX3 31 2 0 0 false := ⟨RX2, TX2, 4, tyX2, "HungryHedge$Trip", by decide, rfl, in_X2, by decide, rfl, rfl, .inr ⟨"HungryHedge", hh_nwm q172 rfl⟩, tyX2_ok, .inl nmX2, rfl, rfl, .inl rfl⟩
theorem fl3_34_2 : hh_FL RX3 34 2 3 2 true := ⟨RX2, TX2, 4, tyX2, "HungryHedge$Trip", by decide, rfl, in_X2, by decide, rfl, rfl, .inr ⟨"HungryHedge", hh_nwm q184 rfl⟩, tyX2_ok, .inl nmX2, rfl, rfl, .inl rfl⟩
theorem fl3_3_3 : hh_FL RX3 3 3 3 2 true := ⟨RX3, TX3, 4, tyX3, "HungryHedge$Most", by decide, rfl, in_X3, by decide, rfl, rfl, .inl q290, tyX3_ok, .inl nmX3, rfl, rfl, .inl rfl⟩
theorem fl3_44_0 : hh_FL RX3 44 0 0 2 true := ⟨RX0, TX0, 19, tyX0, "HungryHedge", by decide, rfl, in_X0, by decide, rfl, rfl, .inr ⟨"HungryHedge", hh_nwm q586 rfl⟩, tyX0_ok, .inl nmX0, rfl, rfl, .inl rfl⟩
theorem fl3_48_1 : hh_FL RX3 48 1 0 0 false := ⟨RX1, TX1, 17, tyX1, "HungryHedge$Kept", by decide, rfl, in_X1, by decide, rfl, rfl, .inr ⟨"HungryHedge", hh_nwm q200 rfl⟩, tyX1_ok, .inl nmX1, rfl, rfl, .inl rfl⟩
theorem fl3_22_3 : hh_FL RX3 22 3 1 2 true := ⟨RX3, TX3, 4, tyX3, "HungryHedge$Most", by decide, rfl, in_X3, by decide, rfl, rfl, .inl q288, tyX3_ok, .inl nmX3, rfl, rfl, .inl rfl⟩
theorem fl3_75_2 : hh_FL RX3 75 2 2 0 false := ⟨RX2, TX2, 4, tyX2, "HungryHedge$Trip", by decide, rfl, in_X2, by decide, rfl, rfl, .inr ⟨"HungryHedge", hh_nwm q180 rfl⟩, tyX2_ok, .inl nmX2, rfl, rfl, .inl rfl⟩
theorem fl0_186_1 : hh_FL RX0 186 1 4 0 false := ⟨RX1, TX1, 17, tyX1, "HungryHedge$Kept", by decide, rfl, in_X1, by decide, rfl, rfl, .inr ⟨"HungryHedge", hh_nwm q211 rfl⟩, tyX1_ok, .inl nmX1, rfl, rfl, .inl rfl⟩
theorem fl0_31_0 : hh_FL RX0 31 0 4 2 true := ⟨RX0, TX0, 19, tyX0, "HungryHedge", by decide, rfl, in_X0, by decide, rfl, rfl, .inl q591, tyX0_ok, .inl nmX0, rfl, rfl, .inl rfl⟩
theorem fl4_43_4 : hh_FL RX4 43 4 3 0 false := ⟨RX4, TX4, 5, tyX4, "HungryHedge$Round", by decide, rfl, in_X4, by decide, rfl, rfl, .inl q311, tyX4_ok, .inl nmX4, rfl, rfl, .inl rfl⟩
theorem fl4_3_4 : hh_FL RX4 3 4 4 2 true := ⟨RX4, TX4, 5, tyX4, "HungryHedge$Round", by decide, rfl, in_X4, by decide, rfl, rfl, .inl q313, tyX4_ok, .inl nmX4, rfl, rfl, .inl rfl⟩
theorem fl4_22_0 : hh_FL RX4 22 0 0 2 true := ⟨RX0, TX0, 19, tyX0, "HungryHedge", by decide, rfl, in_X0, by decide, rfl, rfl, .inr ⟨"HungryHedge", hh_nwm q583 rfl⟩, tyX0_ok, .inl nmX0, rfl, rfl, .inl rfl⟩
theorem fl4_55_1 : hh_FL RX4 55 1 4 0 false := ⟨RX1, TX1, 17, tyX1, "HungryHedge$Kept", by decide, rfl, in_X1, by decide, rfl, rfl, .inr ⟨"HungryHedge", hh_nwm q210 rfl⟩, tyX1_ok, .inl nmX1, rfl, rfl, .inl rfl⟩
theorem fl4_26_1 : hh_FL RX4 26 1 0 0 false := ⟨RX1, TX1, 17, tyX1, "HungryHedge$Kept", by decide, rfl, in_X1, by decide, rfl, rfl, .inr ⟨"HungryHedge", hh_nwm q197 rfl⟩, tyX1_ok, .inl nmX1, rfl, rfl, .inl rfl⟩
theorem fl4_46_4 : hh_FL RX4 46 4 2 0 false := ⟨RX4, TX4, 5, tyX4, "HungryHedge$Round", by decide, rfl, in_X4, by decide, rfl, rfl, .inl q309, tyX4_ok, .inl nmX4, rfl, rfl, .inl rfl⟩
theorem fl4_15_4 : hh_FL RX4 15 4 0 2 true := ⟨RX4, TX4, 5, tyX4, "HungryHedge$Round", by decide, rfl, in_X4, by decide, rfl, rfl, .inl q306, tyX4_ok, .inl nmX4, rfl, rfl, .inl rfl⟩
theorem fl4_19_4 : hh_FL RX4 19 4 1 2 true := ⟨RX4, TX4, 5, tyX4, "HungryHedge$Round", by decide, rfl, in_X4, by decide, rfl, rfl, .inl q307, tyX4_ok, .inl nmX4, rfl, rfl, .inl rfl⟩
theorem fl4_32_1 : hh_FL RX4 32 1 9 2 true := ⟨RX1, TX1, 17, tyX1, "HungryHedge$Kept", by decide, rfl, in_X1, by decide, rfl, rfl, .inr ⟨"HungryHedge", hh_nwm q224 rfl⟩, tyX1_ok, .inl nmX1, rfl, rfl, .inl rfl⟩
theorem fl0_192_4 : hh_FL RX0 192 4 2 0 false := ⟨RX4, TX4, 5, tyX4, "HungryHedge$Round", by decide, rfl, in_X4, by decide, rfl, rfl, .inr ⟨"HungryHedge", hh_nwm q310 rfl⟩, tyX4_ok, .inl nmX4, rfl, rfl, .inl rfl⟩
theorem fl0_195_4 : hh_FL RX0 195 4 3 0 false := ⟨RX4, TX4, 5, tyX4, "HungryHedge$Round", by decide, rfl, in_X4, by decide, rfl, rfl, .inr ⟨"HungryHedge", hh_nwm q312 rfl⟩, tyX4_ok, .inl nmX4, rfl, rfl, .inl rfl⟩
theorem fl0_202_4 : hh_FL RX0 202 4 1 2 true := ⟨RX4, TX4, 5, tyX4, "HungryHedge$Round", by decide, rfl, in_X4, by decide, rfl, rfl, .inr ⟨"HungryHedge", hh_nwm q308 rfl⟩, tyX4_ok, .inl nmX4, rfl, rfl, .inl rfl⟩
theorem fl0_38_0 : hh_FL RX0 38 0 5 2 true := ⟨RX0, TX0, 19, tyX0, "HungryHedge", by decide, rfl, in_X0, by decide, rfl, rfl, .inl q592, tyX0_ok, .inl nmX0, rfl, rfl, .inl rfl⟩
theorem fl0_217_5 : hh_FL RX0 217 5 0 2 true := ⟨RX5, TX5, 2, tyX5, "HungryHedge$Dares", by decide, rfl, in_X5, by decide, rfl, rfl, .inr ⟨"HungryHedge", hh_nwm q334 rfl⟩, tyX5_ok, .inl nmX5, rfl, rfl, .inl rfl⟩
theorem fl0_221_1 : hh_FL RX0 221 1 1 0 false := ⟨RX1, TX1, 17, tyX1, "HungryHedge$Kept", by decide, rfl, in_X1, by decide, rfl, rfl, .inr ⟨"HungryHedge", hh_nwm q204 rfl⟩, tyX1_ok, .inl nmX1, rfl, rfl, .inl rfl⟩
theorem fl0_224_1 : hh_FL RX0 224 1 14 2 true := ⟨RX1, TX1, 17, tyX1, "HungryHedge$Kept", by decide, rfl, in_X1, by decide, rfl, rfl, .inr ⟨"HungryHedge", hh_nwm q237 rfl⟩, tyX1_ok, .inl nmX1, rfl, rfl, .inl rfl⟩
theorem fl0_78_0 : hh_FL RX0 78 0 13 2 true := ⟨RX0, TX0, 19, tyX0, "HungryHedge", by decide, rfl, in_X0, by decide, rfl, rfl, .inl q600, tyX0_ok, .inl nmX0, rfl, rfl, .inl rfl⟩
theorem fl10_7_10 : hh_FL RX10 7 10 4 0 false := ⟨RX10, TX10, 5, tyX10, "HungryHedge$Sheet", by decide, rfl, in_X10, by decide, rfl, rfl, .inl q523, tyX10_ok, .inl nmX10, rfl, rfl, .inl rfl⟩
theorem fl10_13_10 : hh_FL RX10 13 10 0 2 false := ⟨RX10, TX10, 5, tyX10, "HungryHedge$Sheet", by decide, rfl, in_X10, by decide, rfl, rfl, .inl q519, tyX10_ok, .inl nmX10, rfl, rfl, .inl rfl⟩
theorem fl10_17_10 : hh_FL RX10 17 10 1 2 false := ⟨RX10, TX10, 5, tyX10, "HungryHedge$Sheet", by decide, rfl, in_X10, by decide, rfl, rfl, .inl q520, tyX10_ok, .inl nmX10, rfl, rfl, .inl rfl⟩
theorem fl10_21_10 : hh_FL RX10 21 10 2 2 false := ⟨RX10, TX10, 5, tyX10, "HungryHedge$Sheet", by decide, rfl, in_X10, by decide, rfl, rfl, .inl q521, tyX10_ok, .inl nmX10, rfl, rfl, .inl rfl⟩
theorem fl10_25_10 : hh_FL RX10 25 10 3 2 false := ⟨RX10, TX10, 5, tyX10, "HungryHedge$Sheet", by decide, rfl, in_X10, by decide, rfl, rfl, .inl q522, tyX10_ok, .inl nmX10, rfl, rfl, .inl rfl⟩
theorem fl0_92_0 : hh_FL RX0 92 0 15 2 true := ⟨RX0, TX0, 19, tyX0, "HungryHedge", by decide, rfl, in_X0, by decide, rfl, rfl, .inl q602, tyX0_ok, .inl nmX0, rfl, rfl, .inl rfl⟩
theorem fl0_235_15 : hh_FL RX0 235 15 0 2 true := ⟨RX15, TX15, 1, tyX15, "HungryHedge$Risk", by decide, rfl, in_X15, by decide, rfl, rfl, .inr ⟨"HungryHedge", hh_nwm q897 rfl⟩, tyX15_ok, .inl nmX15, rfl, rfl, .inl rfl⟩
theorem fl0_267_1 : hh_FL RX0 267 1 7 0 false := ⟨RX1, TX1, 17, tyX1, "HungryHedge$Kept", by decide, rfl, in_X1, by decide, rfl, rfl, .inr ⟨"HungryHedge", hh_nwm q220 rfl⟩, tyX1_ok, .inl nmX1, rfl, rfl, .inl rfl⟩
theorem fl0_261_1 : hh_FL RX0 261 1 5 0 false := ⟨RX1, TX1, 17, tyX1, "HungryHedge$Kept", by decide, rfl, in_X1, by decide, rfl, rfl, .inr ⟨"HungryHedge", hh_nwm q214 rfl⟩, tyX1_ok, .inl nmX1, rfl, rfl, .inl rfl⟩
theorem fl0_264_1 : hh_FL RX0 264 1 6 0 false := ⟨RX1, TX1, 17, tyX1, "HungryHedge$Kept", by decide, rfl, in_X1, by decide, rfl, rfl, .inr ⟨"HungryHedge", hh_nwm q217 rfl⟩, tyX1_ok, .inl nmX1, rfl, rfl, .inl rfl⟩
theorem fl0_45_0 : hh_FL RX0 45 0 6 2 true := ⟨RX0, TX0, 19, tyX0, "HungryHedge", by decide, rfl, in_X0, by decide, rfl, rfl, .inl q593, tyX0_ok, .inl nmX0, rfl, rfl, .inl rfl⟩
theorem fl6_56_6 : hh_FL RX6 56 6 3 0 false := ⟨RX6, TX6, 6, tyX6, "HungryHedge$Spread", by decide, rfl, in_X6, by decide, rfl, rfl, .inl q352, tyX6_ok, .inl nmX6, rfl, rfl, .inl rfl⟩
theorem fl6_59_6 : hh_FL RX6 59 6 4 0 false := ⟨RX6, TX6, 6, tyX6, "HungryHedge$Spread", by decide, rfl, in_X6, by decide, rfl, rfl, .inl q353, tyX6_ok, .inl nmX6, rfl, rfl, .inl rfl⟩
theorem fl6_3_6 : hh_FL RX6 3 6 5 2 true := ⟨RX6, TX6, 6, tyX6, "HungryHedge$Spread", by decide, rfl, in_X6, by decide, rfl, rfl, .inl q354, tyX6_ok, .inl nmX6, rfl, rfl, .inl rfl⟩
theorem fl6_25_0 : hh_FL RX6 25 0 0 2 true := ⟨RX0, TX0, 19, tyX0, "HungryHedge", by decide, rfl, in_X0, by decide, rfl, rfl, .inr ⟨"HungryHedge", hh_nwm q584 rfl⟩, tyX0_ok, .inl nmX0, rfl, rfl, .inl rfl⟩
theorem fl6_29_1 : hh_FL RX6 29 1 0 0 false := ⟨RX1, TX1, 17, tyX1, "HungryHedge$Kept", by decide, rfl, in_X1, by decide, rfl, rfl, .inr ⟨"HungryHedge", hh_nwm q198 rfl⟩, tyX1_ok, .inl nmX1, rfl, rfl, .inl rfl⟩
theorem fl6_68_1 : hh_FL RX6 68 1 5 0 false := ⟨RX1, TX1, 17, tyX1, "HungryHedge$Kept", by decide, rfl, in_X1, by decide, rfl, rfl, .inr ⟨"HungryHedge", hh_nwm q213 rfl⟩, tyX1_ok, .inl nmX1, rfl, rfl, .inl rfl⟩
theorem fl6_15_6 : hh_FL RX6 15 6 0 2 true := ⟨RX6, TX6, 6, tyX6, "HungryHedge$Spread", by decide, rfl, in_X6, by decide, rfl, rfl, .inl q348, tyX6_ok, .inl nmX6, rfl, rfl, .inl rfl⟩
theorem fl6_35_1 : hh_FL RX6 35 1 11 2 true := ⟨RX1, TX1, 17, tyX1, "HungryHedge$Kept", by decide, rfl, in_X1, by decide, rfl, rfl, .inr ⟨"HungryHedge", hh_nwm q229 rfl⟩, tyX1_ok, .inl nmX1, rfl, rfl, .inl rfl⟩
theorem fl6_22_6 : hh_FL RX6 22 6 2 2 true := ⟨RX6, TX6, 6, tyX6, "HungryHedge$Spread", by decide, rfl, in_X6, by decide, rfl, rfl, .inl q351, tyX6_ok, .inl nmX6, rfl, rfl, .inl rfl⟩
theorem fl6_38_1 : hh_FL RX6 38 1 7 0 false := ⟨RX1, TX1, 17, tyX1, "HungryHedge$Kept", by decide, rfl, in_X1, by decide, rfl, rfl, .inr ⟨"HungryHedge", hh_nwm q219 rfl⟩, tyX1_ok, .inl nmX1, rfl, rfl, .inl rfl⟩
theorem fl6_19_6 : hh_FL RX6 19 6 1 2 true := ⟨RX6, TX6, 6, tyX6, "HungryHedge$Spread", by decide, rfl, in_X6, by decide, rfl, rfl, .inl q349, tyX6_ok, .inl nmX6, rfl, rfl, .inl rfl⟩
theorem fl6_49_1 : hh_FL RX6 49 1 6 0 false := ⟨RX1, TX1, 17, tyX1, "HungryHedge$Kept", by decide, rfl, in_X1, by decide, rfl, rfl, .inr ⟨"HungryHedge", hh_nwm q216 rfl⟩, tyX1_ok, .inl nmX1, rfl, rfl, .inl rfl⟩
theorem fl0_273_6 : hh_FL RX0 273 6 1 2 true := ⟨RX6, TX6, 6, tyX6, "HungryHedge$Spread", by decide, rfl, in_X6, by decide, rfl, rfl, .inr ⟨"HungryHedge", hh_nwm q350 rfl⟩, tyX6_ok, .inl nmX6, rfl, rfl, .inl rfl⟩
theorem fl0_281_0 : hh_FL RX0 281 0 8 0 false := ⟨RX0, TX0, 19, tyX0, "HungryHedge", by decide, rfl, in_X0, by decide, rfl, rfl, .inl q595, tyX0_ok, .inl nmX0, rfl, rfl, .inl rfl⟩
theorem fl0_49_0 : hh_FL RX0 49 0 7 2 true := ⟨RX0, TX0, 19, tyX0, "HungryHedge", by decide, rfl, in_X0, by decide, rfl, rfl, .inl q594, tyX0_ok, .inl nmX0, rfl, rfl, .inl rfl⟩
theorem fl0_56_0 : hh_FL RX0 56 0 9 2 true := ⟨RX0, TX0, 19, tyX0, "HungryHedge", by decide, rfl, in_X0, by decide, rfl, rfl, .inl q596, tyX0_ok, .inl nmX0, rfl, rfl, .inl rfl⟩
theorem fl0_301_1 : hh_FL RX0 301 1 2 0 false := ⟨RX1, TX1, 17, tyX1, "HungryHedge$Kept", by decide, rfl, in_X1, by decide, rfl, rfl, .inr ⟨"HungryHedge", hh_nwm q206 rfl⟩, tyX1_ok, .inl nmX1, rfl, rfl, .inl rfl⟩
theorem fl0_297_1 : hh_FL RX0 297 1 15 2 true := ⟨RX1, TX1, 17, tyX1, "HungryHedge$Kept", by decide, rfl, in_X1, by decide, rfl, rfl, .inr ⟨"HungryHedge", hh_nwm q239 rfl⟩, tyX1_ok, .inl nmX1, rfl, rfl, .inl rfl⟩
theorem fl0_302_16 : hh_FL RX0 302 16 0 0 true := ⟨RX16, TX16, 2, tyX16, "HungryHedge$Clause", by decide, rfl, in_X16, by decide, rfl, rfl, .inr ⟨"HungryHedge", hh_nwm q1136 rfl⟩, tyX16_ok, .inl nmX16, rfl, rfl, .inl rfl⟩
theorem fl0_307_16 : hh_FL RX0 307 16 1 2 true := ⟨RX16, TX16, 2, tyX16, "HungryHedge$Clause", by decide, rfl, in_X16, by decide, rfl, rfl, .inr ⟨"HungryHedge", hh_nwm q1138 rfl⟩, tyX16_ok, .inl nmX16, rfl, rfl, .inl rfl⟩
theorem fl0_63_0 : hh_FL RX0 63 0 10 2 true := ⟨RX0, TX0, 19, tyX0, "HungryHedge", by decide, rfl, in_X0, by decide, rfl, rfl, .inl q597, tyX0_ok, .inl nmX0, rfl, rfl, .inl rfl⟩
theorem fl0_334_0 : hh_FL RX0 334 0 12 0 false := ⟨RX0, TX0, 19, tyX0, "HungryHedge", by decide, rfl, in_X0, by decide, rfl, rfl, .inl q599, tyX0_ok, .inl nmX0, rfl, rfl, .inl rfl⟩
theorem fl0_71_0 : hh_FL RX0 71 0 11 2 true := ⟨RX0, TX0, 19, tyX0, "HungryHedge", by decide, rfl, in_X0, by decide, rfl, rfl, .inl q598, tyX0_ok, .inl nmX0, rfl, rfl, .inl rfl⟩
theorem fl0_337_9 : hh_FL RX0 337 9 0 0 false := ⟨RX9, TX9, 2, tyX9, "HungryHedge$Row", by decide, rfl, in_X9, by decide, rfl, rfl, .inr ⟨"HungryHedge", hh_nwm q505 rfl⟩, tyX9_ok, .inl nmX9, rfl, rfl, .inl rfl⟩
theorem fl0_338_9 : hh_FL RX0 338 9 1 0 false := ⟨RX9, TX9, 2, tyX9, "HungryHedge$Row", by decide, rfl, in_X9, by decide, rfl, rfl, .inr ⟨"HungryHedge", hh_nwm q506 rfl⟩, tyX9_ok, .inl nmX9, rfl, rfl, .inl rfl⟩
theorem fl0_85_0 : hh_FL RX0 85 0 14 2 true := ⟨RX0, TX0, 19, tyX0, "HungryHedge", by decide, rfl, in_X0, by decide, rfl, rfl, .inl q601, tyX0_ok, .inl nmX0, rfl, rfl, .inl rfl⟩
theorem fl0_103_0 : hh_FL RX0 103 0 18 2 true := ⟨RX0, TX0, 19, tyX0, "HungryHedge", by decide, rfl, in_X0, by decide, rfl, rfl, .inl q605, tyX0_ok, .inl nmX0, rfl, rfl, .inl rfl⟩
theorem fl0_410_13 : hh_FL RX0 410 13 0 0 false := ⟨RX13, TX13, 3, tyX13, "HungryHedge$Shelf", by decide, rfl, in_X13, by decide, rfl, rfl, .inr ⟨"HungryHedge", hh_nwm q573 rfl⟩, tyX13_ok, .inl nmX13, rfl, rfl, .inl rfl⟩
theorem fl0_413_13 : hh_FL RX0 413 13 1 0 false := ⟨RX13, TX13, 3, tyX13, "HungryHedge$Shelf", by decide, rfl, in_X13, by decide, rfl, rfl, .inr ⟨"HungryHedge", hh_nwm q574 rfl⟩, tyX13_ok, .inl nmX13, rfl, rfl, .inl rfl⟩
theorem fl0_432_13 : hh_FL RX0 432 13 2 2 false := ⟨RX13, TX13, 3, tyX13, "HungryHedge$Shelf", by decide, rfl, in_X13, by decide, rfl, rfl, .inr ⟨"HungryHedge", hh_nwm q575 rfl⟩, tyX13_ok, .inl nmX13, rfl, rfl, .inl rfl⟩
theorem fl0_393_0 : hh_FL RX0 393 0 17 0 false := ⟨RX0, TX0, 19, tyX0, "HungryHedge", by decide, rfl, in_X0, by decide, rfl, rfl, .inl q604, tyX0_ok, .inl nmX0, rfl, rfl, .inl rfl⟩
theorem fl0_96_0 : hh_FL RX0 96 0 16 2 true := ⟨RX0, TX0, 19, tyX0, "HungryHedge", by decide, rfl, in_X0, by decide, rfl, rfl, .inl q603, tyX0_ok, .inl nmX0, rfl, rfl, .inl rfl⟩
theorem fl0_16_0 : hh_FL RX0 16 0 1 2 true := ⟨RX0, TX0, 19, tyX0, "HungryHedge", by decide, rfl, in_X0, by decide, rfl, rfl, .inl q588, tyX0_ok, .inl nmX0, rfl, rfl, .inl rfl⟩
theorem fl1_68_1 : hh_FL RX1 68 1 1 0 false := ⟨RX1, TX1, 17, tyX1, "HungryHedge$Kept", by decide, rfl, in_X1, by decide, rfl, rfl, .inl q202, tyX1_ok, .inl nmX1, rfl, rfl, .inl rfl⟩
theorem fl1_71_1 : hh_FL RX1 71 1 2 0 false := ⟨RX1, TX1, 17, tyX1, "HungryHedge$Kept", by decide, rfl, in_X1, by decide, rfl, rfl, .inl q205, tyX1_ok, .inl nmX1, rfl, rfl, .inl rfl⟩
theorem fl1_15_1 : hh_FL RX1 15 1 4 0 false := ⟨RX1, TX1, 17, tyX1, "HungryHedge$Kept", by decide, rfl, in_X1, by decide, rfl, rfl, .inl q209, tyX1_ok, .inl nmX1, rfl, rfl, .inl rfl⟩
theorem fl1_74_1 : hh_FL RX1 74 1 5 0 false := ⟨RX1, TX1, 17, tyX1, "HungryHedge$Kept", by decide, rfl, in_X1, by decide, rfl, rfl, .inl q212, tyX1_ok, .inl nmX1, rfl, rfl, .inl rfl⟩
theorem fl1_77_1 : hh_FL RX1 77 1 6 0 false := ⟨RX1, TX1, 17, tyX1, "HungryHedge$Kept", by decide, rfl, in_X1, by decide, rfl, rfl, .inl q215, tyX1_ok, .inl nmX1, rfl, rfl, .inl rfl⟩
theorem fl1_18_1 : hh_FL RX1 18 1 7 0 false := ⟨RX1, TX1, 17, tyX1, "HungryHedge$Kept", by decide, rfl, in_X1, by decide, rfl, rfl, .inl q218, tyX1_ok, .inl nmX1, rfl, rfl, .inl rfl⟩
theorem fl1_21_1 : hh_FL RX1 21 1 8 2 true := ⟨RX1, TX1, 17, tyX1, "HungryHedge$Kept", by decide, rfl, in_X1, by decide, rfl, rfl, .inl q221, tyX1_ok, .inl nmX1, rfl, rfl, .inl rfl⟩
theorem fl1_31_1 : hh_FL RX1 31 1 11 2 true := ⟨RX1, TX1, 17, tyX1, "HungryHedge$Kept", by decide, rfl, in_X1, by decide, rfl, rfl, .inl q228, tyX1_ok, .inl nmX1, rfl, rfl, .inl rfl⟩
theorem fl1_42_1 : hh_FL RX1 42 1 14 2 true := ⟨RX1, TX1, 17, tyX1, "HungryHedge$Kept", by decide, rfl, in_X1, by decide, rfl, rfl, .inl q235, tyX1_ok, .inl nmX1, rfl, rfl, .inl rfl⟩
theorem fl1_48_1 : hh_FL RX1 48 1 15 2 true := ⟨RX1, TX1, 17, tyX1, "HungryHedge$Kept", by decide, rfl, in_X1, by decide, rfl, rfl, .inl q238, tyX1_ok, .inl nmX1, rfl, rfl, .inl rfl⟩
theorem fl1_55_1 : hh_FL RX1 55 1 16 2 true := ⟨RX1, TX1, 17, tyX1, "HungryHedge$Kept", by decide, rfl, in_X1, by decide, rfl, rfl, .inl q240, tyX1_ok, .inl nmX1, rfl, rfl, .inl rfl⟩
theorem fl0_486_0 : hh_FL RX0 486 0 2 3 false := ⟨RX0, TX0, 19, tyX0, "HungryHedge", by decide, rfl, in_X0, by decide, rfl, rfl, .inl q589, tyX0_ok, .inl nmX0, rfl, rfl, .inl rfl⟩
theorem fl16_7_16 : hh_FL RX16 7 16 0 0 true := ⟨RX16, TX16, 2, tyX16, "HungryHedge$Clause", by decide, rfl, in_X16, by decide, rfl, rfl, .inl q1135, tyX16_ok, .inl nmX16, rfl, rfl, .inl rfl⟩
theorem fl16_13_16 : hh_FL RX16 13 16 1 2 true := ⟨RX16, TX16, 2, tyX16, "HungryHedge$Clause", by decide, rfl, in_X16, by decide, rfl, rfl, .inl q1137, tyX16_ok, .inl nmX16, rfl, rfl, .inl rfl⟩
theorem nl0_331 : hh_NL RX0 331 9 2 := ⟨RX9, TX9, tyX9, by decide, rfl, in_X9, tyX9_ok, rfl, by decide +kernel, q498, q500, q118⟩
theorem nl0_232 : hh_NL RX0 232 15 1 := ⟨RX15, TX15, tyX15, by decide, rfl, in_X15, tyX15_ok, rfl, by decide +kernel, q889, q890, q129⟩
theorem nl0_396 : hh_NL RX0 396 22 4 := ⟨RX22, TX22, tyX22, by decide, rfl, in_X22, tyX22_ok, rfl, by decide +kernel, q1334, q1335, q140⟩
/-! HungryHedge$Both.<init>(LHungryHedge$Cond;LHungryHedge$Cond;)V -/
def x_X19_init (a0 : Nat) (a1 : Nat) (a2 : Nat) (s : xS) (rd : xRd) (J : mJ) (I : mI) (Q : xRd → Prop) : Prop :=
  xo s a0 19 ∧ (xR0 a0 0 = none ∧ (xR0 a0 1 = none ∧ (Q (u2 (u2 rd a0 0 (some a1)) a0 1 (some a2)))))
theorem ct_X19_init  (a0 : Nat) (a1 : Nat) (a2 : Nat) (s : xS) (rd : xRd) (J : mJ) (I : mI) (Q : xRd → Prop) (hf : x_X19_init a0 a1 a2 s rd J I Q) : hh_Ct yX19_init cX19_init 3 none 1 20 [.ref a0, .ref a1, .ref a2] (hx s rd J I) (xQv (fun S9 R9 J9 I9 => s = S9 ∧ J = J9 ∧ I = I9 ∧ Q R9)) 0 0 := by
  refine hh_Ct.ofN (own := RX19) rfl (by decide +kernel) (Nat.le_of_ble_eq_true rfl) ?_
  intro X hX hN hE hNm
  show hh_V X 0 [(0, .ref a0), (1, .ref a1), (2, .ref a2)] [] 0 0 (hx s rd J I)
  unfold x_X19_init at hf
  refine hv_aload_n hX dX19_init_0 rfl 0 rfl ?_
  refine hv_objinit hX dX19_init_1 q1109 q153 q154 hN ⟨Nat.le_of_ble_eq_true rfl, Nat.le_of_ble_eq_true rfl⟩ ?_
  refine hv_aload_n hX dX19_init_4 rfl 0 rfl ?_
  refine hv_aload_n hX dX19_init_5 rfl 1 rfl ?_
  obtain ⟨o1, hf⟩ := hf
  obtain ⟨g, hf⟩ := hf
  refine hx_putFO (v := (some a1)) hX hNm dX19_init_6 fl19_7_19 ⟨RX19, TX19, 2, "HungryHedge$Both", rfl, rfl, q1110, .inl rfl⟩ o1 g ?_
  refine hv_aload_n hX dX19_init_9 rfl 0 rfl ?_
  refine hv_aload_n hX dX19_init_10 rfl 2 rfl ?_
  obtain ⟨g, hf⟩ := hf
  refine hx_putFO (v := (some a2)) hX hNm dX19_init_11 fl19_13_19 ⟨RX19, TX19, 2, "HungryHedge$Both", rfl, rfl, q1113, .inl rfl⟩ o1 g ?_
  exact hx_vret hX hE dX19_init_14 ⟨rfl, rfl, rfl, hf⟩
theorem fl19_7_20 : hh_FL RX19 7 20 0 2 true := ⟨RX20, TX20, 2, tyX20, "HungryHedge$Both", by decide, rfl, in_X20, by decide, rfl, rfl, .inl q1110, tyX20_ok, .inl nmX20, rfl, rfl, .inl rfl⟩
theorem fl19_13_20 : hh_FL RX19 13 20 1 2 true := ⟨RX20, TX20, 2, tyX20, "HungryHedge$Both", by decide, rfl, in_X20, by decide, rfl, rfl, .inl q1113, tyX20_ok, .inl nmX20, rfl, rfl, .inl rfl⟩
/-! HungryHedge$Both.<init>(LHungryHedge$Cond;LHungryHedge$Cond;)V -/
def x_X19_init_c20 (a0 : Nat) (a1 : Nat) (a2 : Nat) (s : xS) (rd : xRd) (J : mJ) (I : mI) (Q : xRd → Prop) : Prop :=
  xo s a0 20 ∧ (xR0 a0 0 = none ∧ (xR0 a0 1 = none ∧ (Q (u2 (u2 rd a0 0 (some a1)) a0 1 (some a2)))))
theorem ct_X19_init_c20  (a0 : Nat) (a1 : Nat) (a2 : Nat) (s : xS) (rd : xRd) (J : mJ) (I : mI) (Q : xRd → Prop) (hf : x_X19_init_c20 a0 a1 a2 s rd J I Q) : hh_Ct yX19_init cX19_init 3 none 1 20 [.ref a0, .ref a1, .ref a2] (hx s rd J I) (xQv (fun S9 R9 J9 I9 => s = S9 ∧ J = J9 ∧ I = I9 ∧ Q R9)) 0 0 := by
  refine hh_Ct.ofN (own := RX19) rfl (by decide +kernel) (Nat.le_of_ble_eq_true rfl) ?_
  intro X hX hN hE hNm
  show hh_V X 0 [(0, .ref a0), (1, .ref a1), (2, .ref a2)] [] 0 0 (hx s rd J I)
  unfold x_X19_init_c20 at hf
  refine hv_aload_n hX dX19_init_0 rfl 0 rfl ?_
  refine hv_objinit hX dX19_init_1 q1109 q153 q154 hN ⟨Nat.le_of_ble_eq_true rfl, Nat.le_of_ble_eq_true rfl⟩ ?_
  refine hv_aload_n hX dX19_init_4 rfl 0 rfl ?_
  refine hv_aload_n hX dX19_init_5 rfl 1 rfl ?_
  obtain ⟨o1, hf⟩ := hf
  obtain ⟨g, hf⟩ := hf
  refine hx_putFO (v := (some a1)) hX hNm dX19_init_6 fl19_7_20 ⟨RX20, TX20, 2, "HungryHedge$Both", rfl, rfl, q1110, .inl rfl⟩ o1 g ?_
  refine hv_aload_n hX dX19_init_9 rfl 0 rfl ?_
  refine hv_aload_n hX dX19_init_10 rfl 2 rfl ?_
  obtain ⟨g, hf⟩ := hf
  refine hx_putFO (v := (some a2)) hX hNm dX19_init_11 fl19_13_20 ⟨RX20, TX20, 2, "HungryHedge$Both", rfl, rfl, q1113, .inl rfl⟩ o1 g ?_
  exact hx_vret hX hE dX19_init_14 ⟨rfl, rfl, rfl, hf⟩
/-! HungryHedge$Either.<init>(LHungryHedge$Cond;LHungryHedge$Cond;)V -/
def x_X20_init (a0 : Nat) (a1 : Nat) (a2 : Nat) (s : xS) (rd : xRd) (J : mJ) (I : mI) (Q : xRd → Prop) : Prop :=
  xo s a0 20 ∧ (x_X19_init_c20 a0 a1 a2 s rd J I (fun rd1 => Q rd1))
theorem ct_X20_init  (a0 : Nat) (a1 : Nat) (a2 : Nat) (s : xS) (rd : xRd) (J : mJ) (I : mI) (Q : xRd → Prop) (hf : x_X20_init a0 a1 a2 s rd J I Q) : hh_Ct yX20_init cX20_init 3 none 2 42 [.ref a0, .ref a1, .ref a2] (hx s rd J I) (xQv (fun S9 R9 J9 I9 => s = S9 ∧ J = J9 ∧ I = I9 ∧ Q R9)) 0 0 := by
  refine hh_Ct.ofN (own := RX20) rfl (by decide +kernel) (Nat.le_of_ble_eq_true rfl) ?_
  intro X hX hN hE hNm
  show hh_V X 0 [(0, .ref a0), (1, .ref a1), (2, .ref a2)] [] 0 0 (hx s rd J I)
  unfold x_X20_init at hf
  refine hv_aload_n hX dX20_init_0 rfl 0 rfl ?_
  refine hv_aload_n hX dX20_init_1 rfl 1 rfl ?_
  refine hv_aload_n hX dX20_init_2 rfl 2 rfl ?_
  obtain ⟨o2, hf⟩ := hf
  refine hx_callIv (ci := 20) (q := (RX20, TX20, 2)) hX dX20_init_3 (ct_X19_init_c20 a0 a1 a2 s rd J I _ hf) q1127 rfl q1108 q136 q1107 rfl (by decide) np_X19_init rfl o2 rfl ⟨Nat.le_of_ble_eq_true rfl, Nat.le_of_ble_eq_true rfl⟩ ⟨Nat.le_of_ble_eq_true rfl, Nat.le_of_ble_eq_true rfl⟩ (Nat.le_of_ble_eq_true rfl) ?_
  intro  S9 rd1 J9 I9 hq
  clear hf
  obtain ⟨rfl, rfl, rfl, hf⟩ := hq
  exact hx_vret hX hE dX20_init_6 ⟨rfl, rfl, rfl, hf⟩
/-! HungryHedge.in(III)Z -/
def x_X0_in (a0 : Int32) (a1 : Int32) (a2 : Int32) (s : xS) (rd : xRd) (J : mJ) (I : mI) (Q : Int32 → Prop) : Prop :=
  (a0 < a1 →
    Q 0 ) ∧ (¬ a0 < a1 →
    (a2 < a0 →
      Q 0 ) ∧ (¬ a2 < a0 →
      Q 1 ))
theorem ct_X0_in  (a0 : Int32) (a1 : Int32) (a2 : Int32) (s : xS) (rd : xRd) (J : mJ) (I : mI) (Q : Int32 → Prop) (hf : x_X0_in a0 a1 a2 s rd J I Q) : hh_Ct yX0_in cX0_in 3 (some .boolean) 0 0 [.int a0, .int a1, .int a2] (hx s rd J I) (xQi (fun r9 S9 R9 J9 I9 => s = S9 ∧ rd = R9 ∧ J = J9 ∧ I = I9 ∧ Q r9)) 0 0 := by
  refine hh_Ct.of (own := RX0) rfl (by decide +kernel) (Nat.le_of_ble_eq_true rfl) ?_
  intro X hX hN hE
  show hh_V X 0 [(0, .int a0), (1, .int a1), (2, .int a2)] [] 0 0 (hx s rd J I)
  unfold x_X0_in at hf
  refine hv_iload_n hX dX0_in_0 rfl 0 rfl ?_
  refine hv_iload_n hX dX0_in_1 rfl 1 rfl ?_
  refine hv_icmp_lt (tgt := 14) hX dX0_in_2 (by decide) (fun c1 => ?_) (fun c1 => ?_)
  · replace hf := hf.1 c1
    refine hv_iconst (v := 0) hX icx_0 dX0_in_14 ?_
    exact hx_zret hX hE dX0_in_15 (by decide) ⟨rfl, rfl, rfl, rfl, hf⟩
  · replace hf := hf.2 c1
    refine hv_iload_n hX dX0_in_5 rfl 0 rfl ?_
    refine hv_iload_n hX dX0_in_6 rfl 2 rfl ?_
    refine hv_icmp_gt (tgt := 14) hX dX0_in_7 (by decide) (fun c2 => ?_) (fun c2 => ?_)
    · replace hf := hf.1 c2
      refine hv_iconst (v := 0) hX icx_0 dX0_in_14 ?_
      exact hx_zret hX hE dX0_in_15 (by decide) ⟨rfl, rfl, rfl, rfl, hf⟩
    · replace hf := hf.2 c2
      refine hv_iconst (v := 1) hX icx_1 dX0_in_10 ?_
      refine hv_goto (tgt := 15) hX dX0_in_11 (by decide) ?_
      exact hx_zret hX hE dX0_in_15 (by decide) ⟨rfl, rfl, rfl, rfl, hf⟩
/-! HungryHedge.isPatch(I)Z -/
def x_X0_isPatch (a1 : Int32) (s : xS) (rd : xRd) (J : mJ) (I : mI) (Q : Int32 → Prop) : Prop :=
  x_X0_in a1 0 ((I 1 0) - 1) s rd J I (fun r1 => (r1 = 0 ∨ r1 = 1) ∧ (Q r1 ))
theorem ct_X0_isPatch  (a1 : Int32) (s : xS) (rd : xRd) (J : mJ) (I : mI) (Q : Int32 → Prop) (hf : x_X0_isPatch a1 s rd J I Q) : hh_Ct yX0_isPatch cX0_isPatch 2 (some .boolean) 1 22 [.ref 0, .int a1] (hx s rd J I) (xQi (fun r9 S9 R9 J9 I9 => s = S9 ∧ rd = R9 ∧ J = J9 ∧ I = I9 ∧ Q r9)) 0 0 := by
  refine hh_Ct.of (own := RX0) rfl (by decide +kernel) (Nat.le_of_ble_eq_true rfl) ?_
  intro X hX hN hE
  show hh_V X 0 [(0, .ref 0), (1, .int a1)] [] 0 0 (hx s rd J I)
  unfold x_X0_isPatch at hf
  refine hv_iload_n hX dX0_isPatch_0 rfl 1 rfl ?_
  refine hv_iconst (v := 0) hX icx_0 dX0_isPatch_1 ?_
  refine hv_aload_n hX dX0_isPatch_2 rfl 0 rfl ?_
  refine hx_getR (v := 1) hX dX0_isPatch_3 fl0_10_0 (xo_c (by decide) rfl) (xR_c rfl) ?_
  refine hx_getI (v := (I 1 0)) hX dX0_isPatch_6 fl0_107_1 (.inl rfl) (xo_c (by decide) rfl) rfl ?_
  refine hv_iconst (v := 1) hX icx_1 dX0_isPatch_9 ?_
  refine hv_isub hX dX0_isPatch_10 ?_
  refine hx_callSi hX dX0_isPatch_11 (ct_X0_in a1 0 ((I 1 0) - 1) s rd J I _ hf) (lw_S q649 q650 q106 q651) np_X0_in rfl rfl ⟨Nat.le_of_ble_eq_true rfl, Nat.le_of_ble_eq_true rfl⟩ ⟨Nat.le_of_ble_eq_true rfl, Nat.le_of_ble_eq_true rfl⟩ (Nat.le_of_ble_eq_true rfl) ?_
  intro r1 S9 R9 J9 I9 hq
  clear hf
  obtain ⟨rfl, rfl, rfl, rfl, hf⟩ := hq
  obtain ⟨g, hf⟩ := hf
  exact hx_zret hX hE dX0_isPatch_14 g ⟨rfl, rfl, rfl, rfl, hf⟩
/-! HungryHedge$Kept.brings(II)I -/
def x_X1_brings (a1 : Int32) (a2 : Int32) (s : xS) (rd : xRd) (J : mJ) (I : mI) (Q : Int32 → Prop) : Prop :=
  vp_in ((7 * a1) + a2) 28 ∧ (Q (I 6 ((7 * a1) + a2).toNatClampNeg) )
theorem ct_X1_brings  (a1 : Int32) (a2 : Int32) (s : xS) (rd : xRd) (J : mJ) (I : mI) (Q : Int32 → Prop) (hf : x_X1_brings a1 a2 s rd J I Q) : hh_Ct yX1_brings cX1_brings 3 (some .int) 0 0 [.ref 1, .int a1, .int a2] (hx s rd J I) (xQi (fun r9 S9 R9 J9 I9 => s = S9 ∧ rd = R9 ∧ J = J9 ∧ I = I9 ∧ Q r9)) 0 0 := by
  refine hh_Ct.of (own := RX1) rfl (by decide +kernel) (Nat.le_of_ble_eq_true rfl) ?_
  intro X hX hN hE
  show hh_V X 0 [(0, .ref 1), (1, .int a1), (2, .int a2)] [] 0 0 (hx s rd J I)
  unfold x_X1_brings at hf
  refine hv_aload_n hX dX1_brings_0 rfl 0 rfl ?_
  refine hx_getR (v := 6) hX dX1_brings_1 fl1_34_1 (xo_c (by decide) rfl) (xR_c rfl) ?_
  refine hv_bipush (v := 7) hX bix_7 dX1_brings_4 ?_
  refine hv_iload_n hX dX1_brings_6 rfl 1 rfl ?_
  refine hv_imul hX dX1_brings_7 ?_
  refine hv_iload_n hX dX1_brings_8 rfl 2 rfl ?_
  refine hv_iadd hX dX1_brings_9 ?_
  obtain ⟨g, hf⟩ := hf
  refine hx_iald (v := (I 6 ((7 * a1) + a2).toNatClampNeg)) hX dX1_brings_10 (xo_c (by decide) rfl) (xlen_c (by decide) rfl) g rfl ?_
  exact hx_iret hX hE dX1_brings_11 ⟨rfl, rfl, rfl, rfl, hf⟩
/-! HungryHedge.value(LHungryHedge$Trip;II)I -/
def x_X0_value (a1 : Nat) (a2 : Int32) (a3 : Int32) (s : xS) (rd : xRd) (J : mJ) (I : mI) (Q : Int32 → Prop) : Prop :=
  (a2 = 0 →
    Q a3 ) ∧ (¬ a2 = 0 →
    (a2 = 1 →
    x_X0_isPatch a3 s rd J I (fun r3 => (r3 = 0 →
        Q 0 ) ∧ (¬ r3 = 0 →
        xo s a1 2 ∧ (∃ v6 : Nat, xR rd a1 3 = some v6 ∧ (xo s v6 100 ∧ (vp_in a3 (xlen s v6) ∧ (Q (I v6 a3.toNatClampNeg) ))))))) ∧ (¬ a2 = 1 →
    (a2 = 2 →
    x_X0_isPatch a3 s rd J I (fun r9 => (r9 = 0 →
          Q 0 ) ∧ (¬ r9 = 0 →
          xo s a1 2 ∧ (x_X0_isPatch (I a1 0) s rd J I (fun r12 => (r12 = 0 →
            Q 0 ) ∧ (¬ r12 = 0 →
            vp_in ((4 * (I a1 0)) + a3) 16 ∧ (Q (I 7 ((4 * (I a1 0)) + a3).toNatClampNeg) ))))))) ∧ (¬ a2 = 2 →
    (a2 = 3 →
    xo s a1 2 ∧ (x_X0_isPatch (I a1 0) s rd J I (fun r16 => (r16 = 0 →
            Q 0 ) ∧ (¬ r16 = 0 →
            ∃ v18 : Nat, xR rd a1 3 = some v18 ∧ (xo s v18 100 ∧ (vp_in (I a1 0) (xlen s v18) ∧ (x_X1_brings (I a1 0) (I v18 (I a1 0).toNatClampNeg) s rd J I (fun r20 => Q r20 )))))))) ∧ (¬ a2 = 3 →
    (a2 = 4 →
    xo s a1 2 ∧ (Q (if (0 : Int32) < ((I 1 3) - (I a1 1)) then ((I 1 3) - (I a1 1)) else 0) )) ∧ (¬ a2 = 4 →
    (a2 = 5 →
    xo s a1 2 ∧ (Q (I a1 2) )) ∧ (¬ a2 = 5 →
    xo s a1 2 ∧ (Q (I a1 0) )))))))
theorem ct_X0_value  (a1 : Nat) (a2 : Int32) (a3 : Int32) (s : xS) (rd : xRd) (J : mJ) (I : mI) (Q : Int32 → Prop) (hf : x_X0_value a1 a2 a3 s rd J I Q) : hh_Ct yX0_value cX0_value 4 (some .int) 2 43 [.ref 0, .ref a1, .int a2, .int a3] (hx s rd J I) (xQi (fun r9 S9 R9 J9 I9 => s = S9 ∧ rd = R9 ∧ J = J9 ∧ I = I9 ∧ Q r9)) 0 0 := by
  refine hh_Ct.of (own := RX0) rfl (by decide +kernel) (Nat.le_of_ble_eq_true rfl) ?_
  intro X hX hN hE
  show hh_V X 0 [(0, .ref 0), (1, .ref a1), (2, .int a2), (3, .int a3)] [] 0 0 (hx s rd J I)
  unfold x_X0_value at hf
  refine hv_iload_n hX dX0_value_0 rfl 2 rfl ?_
  by_cases c1 : a2 = 0
  · replace hf := hf.1 c1
    refine hv_tswA (v := 0) (tgt := 40) (off := 39) hX dX0_value_1 c1 ⟨by decide, by decide, by decide⟩ (by decide) ?_
    refine hv_iload_n hX dX0_value_40 rfl 3 rfl ?_
    exact hx_iret hX hE dX0_value_41 ⟨rfl, rfl, rfl, rfl, hf⟩
  · replace hf := hf.2 c1
    by_cases c2 : a2 = 1
    · replace hf := hf.1 c2
      refine hv_tswA (v := 1) (tgt := 42) (off := 41) hX dX0_value_1 c2 ⟨by decide, by decide, by decide⟩ (by decide) ?_
      refine hv_aload_n hX dX0_value_42 rfl 0 rfl ?_
      refine hv_iload_n hX dX0_value_43 rfl 3 rfl ?_
      refine hx_callVi (ci := 0) (q := (RX0, TX0, 19)) hX dX0_value_44 (ct_X0_isPatch a3 s rd J I _ hf) (lw_V q656 q658 qs1 q106 q659) rfl (by decide) ⟨rfl, np_X0_isPatch⟩ rfl (xo_c (by decide) rfl) rfl ⟨Nat.le_of_ble_eq_true rfl, Nat.le_of_ble_eq_true rfl⟩ ⟨Nat.le_of_ble_eq_true rfl, Nat.le_of_ble_eq_true rfl⟩ (Nat.le_of_ble_eq_true rfl) ?_
      intro r3 S9 R9 J9 I9 hq
      clear hf
      obtain ⟨rfl, rfl, rfl, rfl, hf⟩ := hq
      refine hv_if_eq (tgt := 59) hX dX0_value_47 (by decide) (fun c4 => ?_) (fun c4 => ?_)
      · replace hf := hf.1 c4
        refine hv_iconst (v := 0) hX icx_0 dX0_value_59 ?_
        exact hx_iret hX hE dX0_value_60 ⟨rfl, rfl, rfl, rfl, hf⟩
      · replace hf := hf.2 c4
        refine hv_aload_n hX dX0_value_50 rfl 1 rfl ?_
        obtain ⟨o5, hf⟩ := hf
        obtain ⟨v6, gv6, hf⟩ := hf
        refine hx_getR (v := v6) hX dX0_value_51 fl0_130_2 o5 gv6 ?_
        refine hv_iload_n hX dX0_value_54 rfl 3 rfl ?_
        obtain ⟨o7, hf⟩ := hf
        obtain ⟨g, hf⟩ := hf
        refine hx_iald (v := (I v6 a3.toNatClampNeg)) hX dX0_value_55 o7 rfl g rfl ?_
        refine hv_goto (tgt := 60) hX dX0_value_56 (by decide) ?_
        exact hx_iret hX hE dX0_value_60 ⟨rfl, rfl, rfl, rfl, hf⟩
    · replace hf := hf.2 c2
      by_cases c8 : a2 = 2
      · replace hf := hf.1 c8
        refine hv_tswA (v := 2) (tgt := 61) (off := 60) hX dX0_value_1 c8 ⟨by decide, by decide, by decide⟩ (by decide) ?_
        refine hv_aload_n hX dX0_value_61 rfl 0 rfl ?_
        refine hv_iload_n hX dX0_value_62 rfl 3 rfl ?_
        refine hx_callVi (ci := 0) (q := (RX0, TX0, 19)) hX dX0_value_63 (ct_X0_isPatch a3 s rd J I _ hf) (lw_V q656 q658 qs1 q106 q659) rfl (by decide) ⟨rfl, np_X0_isPatch⟩ rfl (xo_c (by decide) rfl) rfl ⟨Nat.le_of_ble_eq_true rfl, Nat.le_of_ble_eq_true rfl⟩ ⟨Nat.le_of_ble_eq_true rfl, Nat.le_of_ble_eq_true rfl⟩ (Nat.le_of_ble_eq_true rfl) ?_
        intro r9 S9 R9 J9 I9 hq
        clear hf
        obtain ⟨rfl, rfl, rfl, rfl, hf⟩ := hq
        refine hv_if_eq (tgt := 99) hX dX0_value_66 (by decide) (fun c10 => ?_) (fun c10 => ?_)
        · replace hf := hf.1 c10
          refine hv_iconst (v := 0) hX icx_0 dX0_value_99 ?_
          exact hx_iret hX hE dX0_value_100 ⟨rfl, rfl, rfl, rfl, hf⟩
        · replace hf := hf.2 c10
          refine hv_aload_n hX dX0_value_69 rfl 0 rfl ?_
          refine hv_aload_n hX dX0_value_70 rfl 1 rfl ?_
          obtain ⟨o11, hf⟩ := hf
          refine hx_getI (v := (I a1 0)) hX dX0_value_71 fl0_153_2 (.inl rfl) o11 rfl ?_
          refine hx_callVi (ci := 0) (q := (RX0, TX0, 19)) hX dX0_value_74 (ct_X0_isPatch (I a1 0) s rd J I _ hf) (lw_V q656 q658 qs1 q106 q659) rfl (by decide) ⟨rfl, np_X0_isPatch⟩ rfl (xo_c (by decide) rfl) rfl ⟨Nat.le_of_ble_eq_true rfl, Nat.le_of_ble_eq_true rfl⟩ ⟨Nat.le_of_ble_eq_true rfl, Nat.le_of_ble_eq_true rfl⟩ (Nat.le_of_ble_eq_true rfl) ?_
          intro r12 S9 R9 J9 I9 hq
          clear hf
          obtain ⟨rfl, rfl, rfl, rfl, hf⟩ := hq
          refine hv_if_eq (tgt := 99) hX dX0_value_77 (by decide) (fun c13 => ?_) (fun c13 => ?_)
          · replace hf := hf.1 c13
            refine hv_iconst (v := 0) hX icx_0 dX0_value_99 ?_
            exact hx_iret hX hE dX0_value_100 ⟨rfl, rfl, rfl, rfl, hf⟩
          · replace hf := hf.2 c13
            refine hv_aload_n hX dX0_value_80 rfl 0 rfl ?_
            refine hx_getR (v := 1) hX dX0_value_81 fl0_10_0 (xo_c (by decide) rfl) (xR_c rfl) ?_
            refine hx_getR (v := 7) hX dX0_value_84 fl0_144_1 (xo_c (by decide) rfl) (xR_c rfl) ?_
            refine hv_iconst (v := 4) hX icx_4 dX0_value_87 ?_
            refine hv_aload_n hX dX0_value_88 rfl 1 rfl ?_
            refine hx_getI (v := (I a1 0)) hX dX0_value_89 fl0_153_2 (.inl rfl) o11 rfl ?_
            refine hv_imul hX dX0_value_92 ?_
            refine hv_iload_n hX dX0_value_93 rfl 3 rfl ?_
            refine hv_iadd hX dX0_value_94 ?_
            obtain ⟨g, hf⟩ := hf
            refine hx_iald (v := (I 7 ((4 * (I a1 0)) + a3).toNatClampNeg)) hX dX0_value_95 (xo_c (by decide) rfl) (xlen_c (by decide) rfl) g rfl ?_
            refine hv_goto (tgt := 100) hX dX0_value_96 (by decide) ?_
            exact hx_iret hX hE dX0_value_100 ⟨rfl, rfl, rfl, rfl, hf⟩
      · replace hf := hf.2 c8
        by_cases c14 : a2 = 3
        · replace hf := hf.1 c14
          refine hv_tswA (v := 3) (tgt := 101) (off := 100) hX dX0_value_1 c14 ⟨by decide, by decide, by decide⟩ (by decide) ?_
          refine hv_aload_n hX dX0_value_101 rfl 0 rfl ?_
          refine hv_aload_n hX dX0_value_102 rfl 1 rfl ?_
          obtain ⟨o15, hf⟩ := hf
          refine hx_getI (v := (I a1 0)) hX dX0_value_103 fl0_153_2 (.inl rfl) o15 rfl ?_
          refine hx_callVi (ci := 0) (q := (RX0, TX0, 19)) hX dX0_value_106 (ct_X0_isPatch (I a1 0) s rd J I _ hf) (lw_V q656 q658 qs1 q106 q659) rfl (by decide) ⟨rfl, np_X0_isPatch⟩ rfl (xo_c (by decide) rfl) rfl ⟨Nat.le_of_ble_eq_true rfl, Nat.le_of_ble_eq_true rfl⟩ ⟨Nat.le_of_ble_eq_true rfl, Nat.le_of_ble_eq_true rfl⟩ (Nat.le_of_ble_eq_true rfl) ?_
          intro r16 S9 R9 J9 I9 hq
          clear hf
          obtain ⟨rfl, rfl, rfl, rfl, hf⟩ := hq
          refine hv_if_eq (tgt := 135) hX dX0_value_109 (by decide) (fun c17 => ?_) (fun c17 => ?_)
          · replace hf := hf.1 c17
            refine hv_iconst (v := 0) hX icx_0 dX0_value_135 ?_
            exact hx_iret hX hE dX0_value_136 ⟨rfl, rfl, rfl, rfl, hf⟩
          · replace hf := hf.2 c17
            refine hv_aload_n hX dX0_value_112 rfl 0 rfl ?_
            refine hx_getR (v := 1) hX dX0_value_113 fl0_10_0 (xo_c (by decide) rfl) (xR_c rfl) ?_
            refine hv_aload_n hX dX0_value_116 rfl 1 rfl ?_
            refine hx_getI (v := (I a1 0)) hX dX0_value_117 fl0_153_2 (.inl rfl) o15 rfl ?_
            refine hv_aload_n hX dX0_value_120 rfl 1 rfl ?_
            obtain ⟨v18, gv18, hf⟩ := hf
            refine hx_getR (v := v18) hX dX0_value_121 fl0_130_2 o15 gv18 ?_
            refine hv_aload_n hX dX0_value_124 rfl 1 rfl ?_
            refine hx_getI (v := (I a1 0)) hX dX0_value_125 fl0_153_2 (.inl rfl) o15 rfl ?_
            obtain ⟨o19, hf⟩ := hf
            obtain ⟨g, hf⟩ := hf
            refine hx_iald (v := (I v18 (I a1 0).toNatClampNeg)) hX dX0_value_128 o19 rfl g rfl ?_
            refine hx_callVi (ci := 1) (q := (RX1, TX1, 17)) hX dX0_value_129 (ct_X1_brings (I a1 0) (I v18 (I a1 0).toNatClampNeg) s rd J I _ hf) (lw_V q664 q665 q666 q107 q667) rfl (by decide) ⟨rfl, np_X1_brings⟩ rfl (xo_c (by decide) rfl) rfl ⟨Nat.le_of_ble_eq_true rfl, Nat.le_of_ble_eq_true rfl⟩ ⟨Nat.le_of_ble_eq_true rfl, Nat.le_of_ble_eq_true rfl⟩ (Nat.le_of_ble_eq_true rfl) ?_
            intro r20 S9 R9 J9 I9 hq
            clear hf
            obtain ⟨rfl, rfl, rfl, rfl, hf⟩ := hq
            refine hv_goto (tgt := 136) hX dX0_value_132 (by decide) ?_
            exact hx_iret hX hE dX0_value_136 ⟨rfl, rfl, rfl, rfl, hf⟩
        · replace hf := hf.2 c14
          by_cases c21 : a2 = 4
          · replace hf := hf.1 c21
            refine hv_tswA (v := 4) (tgt := 137) (off := 136) hX dX0_value_1 c21 ⟨by decide, by decide, by decide⟩ (by decide) ?_
            refine hv_iconst (v := 0) hX icx_0 dX0_value_137 ?_
            refine hv_aload_n hX dX0_value_138 rfl 0 rfl ?_
            refine hx_getR (v := 1) hX dX0_value_139 fl0_10_0 (xo_c (by decide) rfl) (xR_c rfl) ?_
            refine hx_getI (v := (I 1 3)) hX dX0_value_142 fl0_150_1 (.inl rfl) (xo_c (by decide) rfl) rfl ?_
            refine hv_aload_n hX dX0_value_145 rfl 1 rfl ?_
            obtain ⟨o22, hf⟩ := hf
            refine hx_getI (v := (I a1 1)) hX dX0_value_146 fl0_147_2 (.inl rfl) o22 rfl ?_
            refine hv_isub hX dX0_value_149 ?_
            refine hv_mmax hX dX0_value_150 q1179 q709 q127 q710 ⟨Nat.le_of_ble_eq_true rfl, Nat.le_of_ble_eq_true rfl⟩ ⟨Nat.le_of_ble_eq_true rfl, Nat.le_of_ble_eq_true rfl⟩ ?_
            exact hx_iret hX hE dX0_value_153 ⟨rfl, rfl, rfl, rfl, hf⟩
          · replace hf := hf.2 c21
            by_cases c23 : a2 = 5
            · replace hf := hf.1 c23
              refine hv_tswA (v := 5) (tgt := 154) (off := 153) hX dX0_value_1 c23 ⟨by decide, by decide, by decide⟩ (by decide) ?_
              refine hv_aload_n hX dX0_value_154 rfl 1 rfl ?_
              obtain ⟨o24, hf⟩ := hf
              refine hx_getI (v := (I a1 2)) hX dX0_value_155 fl0_156_2 (.inl rfl) o24 rfl ?_
              exact hx_iret hX hE dX0_value_158 ⟨rfl, rfl, rfl, rfl, hf⟩
            · replace hf := hf.2 c23
              refine hv_tswO (tgt := 159) hX dX0_value_1 (by have z0 := lv_neT c1 (a := 0) (by decide); have z1 := lv_neT c2 (a := 1) (by decide); have z2 := lv_neT c8 (a := 2) (by decide); have z3 := lv_neT c14 (a := 3) (by decide); have z4 := lv_neT c21 (a := 4) (by decide); have z5 := lv_neT c23 (a := 5) (by decide); omega) (by decide) ?_
              refine hv_aload_n hX dX0_value_159 rfl 1 rfl ?_
              obtain ⟨o25, hf⟩ := hf
              refine hx_getI (v := (I a1 0)) hX dX0_value_160 fl0_153_2 (.inl rfl) o25 rfl ?_
              exact hx_iret hX hE dX0_value_163 ⟨rfl, rfl, rfl, rfl, hf⟩
/-! HungryHedge$Compared.holds(LHungryHedge;LHungryHedge$Trip;)Z -/
def x_X17_holds (a0 : Nat) (a2 : Nat) (s : xS) (rd : xRd) (J : mJ) (I : mI) (Q : Int32 → Prop) : Prop :=
  xo s a0 17 ∧ (x_X0_value a2 (I a0 0) (I a0 1) s rd J I (fun r2 => x_X0_value a2 (I a0 3) (I a0 4) s rd J I (fun r3 => ((I a0 2) = 60 →
    (r3 ≤ r2 →
      Q 0 ) ∧ (¬ r3 ≤ r2 →
      Q 1 )) ∧ (¬ (I a0 2) = 60 →
    ((I a0 2) = 62 →
      (r2 ≤ r3 →
        Q 0 ) ∧ (¬ r2 ≤ r3 →
        Q 1 )) ∧ (¬ (I a0 2) = 62 →
      (r2 = r3 →
        Q 1 ) ∧ (¬ r2 = r3 →
        Q 0 ))))))
theorem ct_X17_holds  (a0 : Nat) (a2 : Nat) (s : xS) (rd : xRd) (J : mJ) (I : mI) (Q : Int32 → Prop) (hf : x_X17_holds a0 a2 s rd J I Q) : hh_Ct yX17_holds cX17_holds 5 (some .boolean) 3 66 [.ref a0, .ref 0, .ref a2] (hx s rd J I) (xQi (fun r9 S9 R9 J9 I9 => s = S9 ∧ rd = R9 ∧ J = J9 ∧ I = I9 ∧ Q r9)) 0 0 := by
  refine hh_Ct.of (own := RX17) rfl (by decide +kernel) (Nat.le_of_ble_eq_true rfl) ?_
  intro X hX hN hE
  show hh_V X 0 [(0, .ref a0), (1, .ref 0), (2, .ref a2)] [] 0 0 (hx s rd J I)
  unfold x_X17_holds at hf
  refine hv_aload_n hX dX17_holds_0 rfl 1 rfl ?_
  refine hv_aload_n hX dX17_holds_1 rfl 2 rfl ?_
  refine hv_aload_n hX dX17_holds_2 rfl 0 rfl ?_
  obtain ⟨o1, hf⟩ := hf
  refine hx_getI (v := (I a0 0)) hX dX17_holds_3 fl17_7_17 (.inl rfl) o1 rfl ?_
  refine hv_aload_n hX dX17_holds_6 rfl 0 rfl ?_
  refine hx_getI (v := (I a0 1)) hX dX17_holds_7 fl17_13_17 (.inl rfl) o1 rfl ?_
  refine hx_callVNi (ci := 0) (q := (RX0, TX0, 19)) hX dX17_holds_10 (ct_X0_value a2 (I a0 0) (I a0 1) s rd J I _ hf) (hh_nwm q1175 rfl) q1178 q106 q1177 qs33 rfl (by decide) np_X0_value rfl (xo_c (by decide) rfl) rfl ⟨Nat.le_of_ble_eq_true rfl, Nat.le_of_ble_eq_true rfl⟩ ⟨Nat.le_of_ble_eq_true rfl, Nat.le_of_ble_eq_true rfl⟩ (Nat.le_of_ble_eq_true rfl) ?_
  intro r2 S9 R9 J9 I9 hq
  clear hf
  obtain ⟨rfl, rfl, rfl, rfl, hf⟩ := hq
  refine hv_istore_n (loc2 := [(3, .int r2), (0, .ref a0), (1, .ref 0), (2, .ref a2)]) hX dX17_holds_13 rfl hN (Nat.le_of_ble_eq_true rfl) rfl ?_
  refine hv_aload_n hX dX17_holds_14 rfl 2 rfl ?_
  refine hv_aload_n hX dX17_holds_15 rfl 3 rfl ?_
  refine hv_aload_n hX dX17_holds_16 rfl 1 rfl ?_
  refine hx_getI (v := (I a0 3)) hX dX17_holds_17 fl17_19_17 (.inl rfl) o1 rfl ?_
  refine hv_aload_n hX dX17_holds_20 rfl 1 rfl ?_
  refine hx_getI (v := (I a0 4)) hX dX17_holds_21 fl17_22_17 (.inl rfl) o1 rfl ?_
  refine hx_callVNi (ci := 0) (q := (RX0, TX0, 19)) hX dX17_holds_24 (ct_X0_value a2 (I a0 3) (I a0 4) s rd J I _ hf) (hh_nwm q1175 rfl) q1178 q106 q1177 qs33 rfl (by decide) np_X0_value rfl (xo_c (by decide) rfl) rfl ⟨Nat.le_of_ble_eq_true rfl, Nat.le_of_ble_eq_true rfl⟩ ⟨Nat.le_of_ble_eq_true rfl, Nat.le_of_ble_eq_true rfl⟩ (Nat.le_of_ble_eq_true rfl) ?_
  intro r3 S9 R9 J9 I9 hq
  clear hf
  obtain ⟨rfl, rfl, rfl, rfl, hf⟩ := hq
  refine hv_istore (loc2 := [(4, .int r3), (3, .int r2), (0, .ref a0), (1, .ref 0), (2, .ref a2)]) hX dX17_holds_27 hN (Nat.le_of_ble_eq_true rfl) rfl ?_
  refine hv_aload_n hX dX17_holds_29 rfl 2 rfl ?_
  refine hx_getI (v := (I a0 2)) hX dX17_holds_30 fl17_16_17 (.inl rfl) o1 rfl ?_
  refine hv_bipush (v := 60) hX bix_60 dX17_holds_33 ?_
  refine hv_icmp_ne (tgt := 52) hX dX17_holds_35 (by decide) (fun c4 => ?_) (fun c4 => ?_)
  · replace hf := hf.2 c4
    refine hv_aload_n hX dX17_holds_52 rfl 2 rfl ?_
    refine hx_getI (v := (I a0 2)) hX dX17_holds_53 fl17_16_17 (.inl rfl) o1 rfl ?_
    refine hv_bipush (v := 62) hX bix_62 dX17_holds_56 ?_
    refine hv_icmp_ne (tgt := 75) hX dX17_holds_58 (by decide) (fun c5 => ?_) (fun c5 => ?_)
    · replace hf := hf.2 c5
      refine hv_iload_n hX dX17_holds_75 rfl 1 rfl ?_
      refine hv_iload hX dX17_holds_76 0 rfl ?_
      refine hv_icmp_ne (tgt := 85) hX dX17_holds_78 (by decide) (fun c6 => ?_) (fun c6 => ?_)
      · replace hf := hf.2 c6
        refine hv_iconst (v := 0) hX icx_0 dX17_holds_85 ?_
        exact hx_zret hX hE dX17_holds_86 (by decide) ⟨rfl, rfl, rfl, rfl, hf⟩
      · replace hf := hf.1 c6
        refine hv_iconst (v := 1) hX icx_1 dX17_holds_81 ?_
        refine hv_goto (tgt := 86) hX dX17_holds_82 (by decide) ?_
        exact hx_zret hX hE dX17_holds_86 (by decide) ⟨rfl, rfl, rfl, rfl, hf⟩
    · replace hf := hf.1 c5
      refine hv_iload_n hX dX17_holds_61 rfl 1 rfl ?_
      refine hv_iload hX dX17_holds_62 0 rfl ?_
      refine hv_icmp_le (tgt := 71) hX dX17_holds_64 (by decide) (fun c7 => ?_) (fun c7 => ?_)
      · replace hf := hf.1 c7
        refine hv_iconst (v := 0) hX icx_0 dX17_holds_71 ?_
        refine hv_goto (tgt := 86) hX dX17_holds_72 (by decide) ?_
        exact hx_zret hX hE dX17_holds_86 (by decide) ⟨rfl, rfl, rfl, rfl, hf⟩
      · replace hf := hf.2 c7
        refine hv_iconst (v := 1) hX icx_1 dX17_holds_67 ?_
        refine hv_goto (tgt := 86) hX dX17_holds_68 (by decide) ?_
        exact hx_zret hX hE dX17_holds_86 (by decide) ⟨rfl, rfl, rfl, rfl, hf⟩
  · replace hf := hf.1 c4
    refine hv_iload_n hX dX17_holds_38 rfl 1 rfl ?_
    refine hv_iload hX dX17_holds_39 0 rfl ?_
    refine hv_icmp_ge (tgt := 48) hX dX17_holds_41 (by decide) (fun c8 => ?_) (fun c8 => ?_)
    · replace hf := hf.1 c8
      refine hv_iconst (v := 0) hX icx_0 dX17_holds_48 ?_
      refine hv_goto (tgt := 86) hX dX17_holds_49 (by decide) ?_
      exact hx_zret hX hE dX17_holds_86 (by decide) ⟨rfl, rfl, rfl, rfl, hf⟩
    · replace hf := hf.2 c8
      refine hv_iconst (v := 1) hX icx_1 dX17_holds_44 ?_
      refine hv_goto (tgt := 86) hX dX17_holds_45 (by decide) ?_
      exact hx_zret hX hE dX17_holds_86 (by decide) ⟨rfl, rfl, rfl, rfl, hf⟩
/-! HungryHedge$Not.holds(LHungryHedge;LHungryHedge$Trip;)Z -/
def x_X18_holds (pf : Nat → Nat → xS → xRd → mJ → mI → (Int32 → Prop) → Prop) (a0 : Nat) (a2 : Nat) (s : xS) (rd : xRd) (J : mJ) (I : mI) (Q : Int32 → Prop) : Prop :=
  xo s a0 18 ∧ (∃ v2 : Nat, xR rd a0 0 = some v2 ∧ (pf v2 a2 s rd J I (fun r3 => (r3 = 0 →
    Q 1 ) ∧ (¬ r3 = 0 →
    Q 0 ))))
theorem ct_X18_holds {pf : Nat → Nat → xS → xRd → mJ → mI → (Int32 → Prop) → Prop} {F L : Nat}  (hpf : ∀ (c t : Nat) (s : xS) (rd : xRd) (J : mJ) (I : mI) (Q : Int32 → Prop), pf c t s rd J I Q → hh_IC ⟨"HungryHedge$Cond", "holds", "(LHungryHedge;LHungryHedge$Trip;)Z"⟩ (some .boolean) F L c [.ref 0, .ref t] (hx s rd J I) (xQi (fun r9 S9 R9 J9 I9 => s = S9 ∧ rd = R9 ∧ J = J9 ∧ I = I9 ∧ Q r9)) 0 0) (a0 : Nat) (a2 : Nat) (s : xS) (rd : xRd) (J : mJ) (I : mI) (Q : Int32 → Prop) (hf : x_X18_holds pf a0 a2 s rd J I Q) : hh_Ct yX18_holds cX18_holds 3 (some .boolean) (F + 2) (L + 200) [.ref a0, .ref 0, .ref a2] (hx s rd J I) (xQi (fun r9 S9 R9 J9 I9 => s = S9 ∧ rd = R9 ∧ J = J9 ∧ I = I9 ∧ Q r9)) 0 0 := by
  refine hh_Ct.of (own := RX18) rfl (by decide +kernel) (Nat.le_of_ble_eq_true rfl) ?_
  intro X hX hN hE
  show hh_V X 0 [(0, .ref a0), (1, .ref 0), (2, .ref a2)] [] 0 0 (hx s rd J I)
  unfold x_X18_holds at hf
  refine hv_aload_n hX dX18_holds_0 rfl 0 rfl ?_
  obtain ⟨o1, hf⟩ := hf
  obtain ⟨v2, gv2, hf⟩ := hf
  refine hx_getR (v := v2) hX dX18_holds_1 fl18_7_18 o1 gv2 ?_
  refine hv_aload_n hX dX18_holds_4 rfl 1 rfl ?_
  refine hv_aload_n hX dX18_holds_5 rfl 2 rfl ?_
  refine hx_callFi hX dX18_holds_6 (hpf v2 a2 s rd J I _ hf) q1195 np_cond rfl rfl ⟨by dsimp only [hrx]; omega, by dsimp only [hrx]; omega⟩ ⟨Nat.le_of_ble_eq_true rfl, Nat.le_of_ble_eq_true rfl⟩ (Nat.le_of_ble_eq_true rfl) ?_
  intro r3 S9 R9 J9 I9 hq
  clear hf
  obtain ⟨rfl, rfl, rfl, rfl, hf⟩ := hq
  refine hv_if_ne (tgt := 18) hX dX18_holds_11 (by decide) (fun c4 => ?_) (fun c4 => ?_)
  · replace hf := hf.2 c4
    refine hv_iconst (v := 0) hX icx_0 dX18_holds_18 ?_
    exact hx_zret hX hE dX18_holds_19 (by decide) ⟨rfl, rfl, rfl, rfl, hf⟩
  · replace hf := hf.1 c4
    refine hv_iconst (v := 1) hX icx_1 dX18_holds_14 ?_
    refine hv_goto (tgt := 19) hX dX18_holds_15 (by decide) ?_
    exact hx_zret hX hE dX18_holds_19 (by decide) ⟨rfl, rfl, rfl, rfl, hf⟩
/-! HungryHedge$Both.holds(LHungryHedge;LHungryHedge$Trip;)Z -/
def x_X19_holds (pf : Nat → Nat → xS → xRd → mJ → mI → (Int32 → Prop) → Prop) (a0 : Nat) (a2 : Nat) (s : xS) (rd : xRd) (J : mJ) (I : mI) (Q : Int32 → Prop) : Prop :=
  xo s a0 19 ∧ (∃ v2 : Nat, xR rd a0 0 = some v2 ∧ (pf v2 a2 s rd J I (fun r3 => (r3 = 0 →
    Q 0 ) ∧ (¬ r3 = 0 →
    ∃ v5 : Nat, xR rd a0 1 = some v5 ∧ (pf v5 a2 s rd J I (fun r6 => (r6 = 0 →
      Q 0 ) ∧ (¬ r6 = 0 →
      Q 1 )))))))
theorem ct_X19_holds {pf : Nat → Nat → xS → xRd → mJ → mI → (Int32 → Prop) → Prop} {F L : Nat}  (hpf : ∀ (c t : Nat) (s : xS) (rd : xRd) (J : mJ) (I : mI) (Q : Int32 → Prop), pf c t s rd J I Q → hh_IC ⟨"HungryHedge$Cond", "holds", "(LHungryHedge;LHungryHedge$Trip;)Z"⟩ (some .boolean) F L c [.ref 0, .ref t] (hx s rd J I) (xQi (fun r9 S9 R9 J9 I9 => s = S9 ∧ rd = R9 ∧ J = J9 ∧ I = I9 ∧ Q r9)) 0 0) (a0 : Nat) (a2 : Nat) (s : xS) (rd : xRd) (J : mJ) (I : mI) (Q : Int32 → Prop) (hf : x_X19_holds pf a0 a2 s rd J I Q) : hh_Ct yX19_holds cX19_holds 3 (some .boolean) (F + 2) (L + 200) [.ref a0, .ref 0, .ref a2] (hx s rd J I) (xQi (fun r9 S9 R9 J9 I9 => s = S9 ∧ rd = R9 ∧ J = J9 ∧ I = I9 ∧ Q r9)) 0 0 := by
  refine hh_Ct.of (own := RX19) rfl (by decide +kernel) (Nat.le_of_ble_eq_true rfl) ?_
  intro X hX hN hE
  show hh_V X 0 [(0, .ref a0), (1, .ref 0), (2, .ref a2)] [] 0 0 (hx s rd J I)
  unfold x_X19_holds at hf
  refine hv_aload_n hX dX19_holds_0 rfl 0 rfl ?_
  obtain ⟨o1, hf⟩ := hf
  obtain ⟨v2, gv2, hf⟩ := hf
  refine hx_getR (v := v2) hX dX19_holds_1 fl19_7_19 o1 gv2 ?_
  refine hv_aload_n hX dX19_holds_4 rfl 1 rfl ?_
  refine hv_aload_n hX dX19_holds_5 rfl 2 rfl ?_
  refine hx_callFi hX dX19_holds_6 (hpf v2 a2 s rd J I _ hf) q1168 np_cond rfl rfl ⟨by dsimp only [hrx]; omega, by dsimp only [hrx]; omega⟩ ⟨Nat.le_of_ble_eq_true rfl, Nat.le_of_ble_eq_true rfl⟩ (Nat.le_of_ble_eq_true rfl) ?_
  intro r3 S9 R9 J9 I9 hq
  clear hf
  obtain ⟨rfl, rfl, rfl, rfl, hf⟩ := hq
  refine hv_if_eq (tgt := 32) hX dX19_holds_11 (by decide) (fun c4 => ?_) (fun c4 => ?_)
  · replace hf := hf.1 c4
    refine hv_iconst (v := 0) hX icx_0 dX19_holds_32 ?_
    exact hx_zret hX hE dX19_holds_33 (by decide) ⟨rfl, rfl, rfl, rfl, hf⟩
  · replace hf := hf.2 c4
    refine hv_aload_n hX dX19_holds_14 rfl 0 rfl ?_
    obtain ⟨v5, gv5, hf⟩ := hf
    refine hx_getR (v := v5) hX dX19_holds_15 fl19_13_19 o1 gv5 ?_
    refine hv_aload_n hX dX19_holds_18 rfl 1 rfl ?_
    refine hv_aload_n hX dX19_holds_19 rfl 2 rfl ?_
    refine hx_callFi hX dX19_holds_20 (hpf v5 a2 s rd J I _ hf) q1168 np_cond rfl rfl ⟨by dsimp only [hrx]; omega, by dsimp only [hrx]; omega⟩ ⟨Nat.le_of_ble_eq_true rfl, Nat.le_of_ble_eq_true rfl⟩ (Nat.le_of_ble_eq_true rfl) ?_
    intro r6 S9 R9 J9 I9 hq
    clear hf
    obtain ⟨rfl, rfl, rfl, rfl, hf⟩ := hq
    refine hv_if_eq (tgt := 32) hX dX19_holds_25 (by decide) (fun c7 => ?_) (fun c7 => ?_)
    · replace hf := hf.1 c7
      refine hv_iconst (v := 0) hX icx_0 dX19_holds_32 ?_
      exact hx_zret hX hE dX19_holds_33 (by decide) ⟨rfl, rfl, rfl, rfl, hf⟩
    · replace hf := hf.2 c7
      refine hv_iconst (v := 1) hX icx_1 dX19_holds_28 ?_
      refine hv_goto (tgt := 33) hX dX19_holds_29 (by decide) ?_
      exact hx_zret hX hE dX19_holds_33 (by decide) ⟨rfl, rfl, rfl, rfl, hf⟩
/-! HungryHedge$Either.holds(LHungryHedge;LHungryHedge$Trip;)Z -/
def x_X20_holds (pf : Nat → Nat → xS → xRd → mJ → mI → (Int32 → Prop) → Prop) (a0 : Nat) (a2 : Nat) (s : xS) (rd : xRd) (J : mJ) (I : mI) (Q : Int32 → Prop) : Prop :=
  xo s a0 20 ∧ (∃ v2 : Nat, xR rd a0 0 = some v2 ∧ (pf v2 a2 s rd J I (fun r3 => (r3 = 0 →
    ∃ v5 : Nat, xR rd a0 1 = some v5 ∧ (pf v5 a2 s rd J I (fun r6 => (r6 = 0 →
      Q 0 ) ∧ (¬ r6 = 0 →
      Q 1 )))) ∧ (¬ r3 = 0 →
    Q 1 ))))
theorem ct_X20_holds {pf : Nat → Nat → xS → xRd → mJ → mI → (Int32 → Prop) → Prop} {F L : Nat}  (hpf : ∀ (c t : Nat) (s : xS) (rd : xRd) (J : mJ) (I : mI) (Q : Int32 → Prop), pf c t s rd J I Q → hh_IC ⟨"HungryHedge$Cond", "holds", "(LHungryHedge;LHungryHedge$Trip;)Z"⟩ (some .boolean) F L c [.ref 0, .ref t] (hx s rd J I) (xQi (fun r9 S9 R9 J9 I9 => s = S9 ∧ rd = R9 ∧ J = J9 ∧ I = I9 ∧ Q r9)) 0 0) (a0 : Nat) (a2 : Nat) (s : xS) (rd : xRd) (J : mJ) (I : mI) (Q : Int32 → Prop) (hf : x_X20_holds pf a0 a2 s rd J I Q) : hh_Ct yX20_holds cX20_holds 3 (some .boolean) (F + 2) (L + 200) [.ref a0, .ref 0, .ref a2] (hx s rd J I) (xQi (fun r9 S9 R9 J9 I9 => s = S9 ∧ rd = R9 ∧ J = J9 ∧ I = I9 ∧ Q r9)) 0 0 := by
  refine hh_Ct.of (own := RX20) rfl (by decide +kernel) (Nat.le_of_ble_eq_true rfl) ?_
  intro X hX hN hE
  show hh_V X 0 [(0, .ref a0), (1, .ref 0), (2, .ref a2)] [] 0 0 (hx s rd J I)
  unfold x_X20_holds at hf
  refine hv_aload_n hX dX20_holds_0 rfl 0 rfl ?_
  obtain ⟨o1, hf⟩ := hf
  obtain ⟨v2, gv2, hf⟩ := hf
  refine hx_getR (v := v2) hX dX20_holds_1 fl20_7_20 o1 gv2 ?_
  refine hv_aload_n hX dX20_holds_4 rfl 1 rfl ?_
  refine hv_aload_n hX dX20_holds_5 rfl 2 rfl ?_
  refine hx_callFi hX dX20_holds_6 (hpf v2 a2 s rd J I _ hf) q1187 np_cond rfl rfl ⟨by dsimp only [hrx]; omega, by dsimp only [hrx]; omega⟩ ⟨Nat.le_of_ble_eq_true rfl, Nat.le_of_ble_eq_true rfl⟩ (Nat.le_of_ble_eq_true rfl) ?_
  intro r3 S9 R9 J9 I9 hq
  clear hf
  obtain ⟨rfl, rfl, rfl, rfl, hf⟩ := hq
  refine hv_if_ne (tgt := 28) hX dX20_holds_11 (by decide) (fun c4 => ?_) (fun c4 => ?_)
  · replace hf := hf.2 c4
    refine hv_iconst (v := 1) hX icx_1 dX20_holds_28 ?_
    refine hv_goto (tgt := 33) hX dX20_holds_29 (by decide) ?_
    exact hx_zret hX hE dX20_holds_33 (by decide) ⟨rfl, rfl, rfl, rfl, hf⟩
  · replace hf := hf.1 c4
    refine hv_aload_n hX dX20_holds_14 rfl 0 rfl ?_
    obtain ⟨v5, gv5, hf⟩ := hf
    refine hx_getR (v := v5) hX dX20_holds_15 fl20_19_20 o1 gv5 ?_
    refine hv_aload_n hX dX20_holds_18 rfl 1 rfl ?_
    refine hv_aload_n hX dX20_holds_19 rfl 2 rfl ?_
    refine hx_callFi hX dX20_holds_20 (hpf v5 a2 s rd J I _ hf) q1187 np_cond rfl rfl ⟨by dsimp only [hrx]; omega, by dsimp only [hrx]; omega⟩ ⟨Nat.le_of_ble_eq_true rfl, Nat.le_of_ble_eq_true rfl⟩ (Nat.le_of_ble_eq_true rfl) ?_
    intro r6 S9 R9 J9 I9 hq
    clear hf
    obtain ⟨rfl, rfl, rfl, rfl, hf⟩ := hq
    refine hv_if_eq (tgt := 32) hX dX20_holds_25 (by decide) (fun c7 => ?_) (fun c7 => ?_)
    · replace hf := hf.1 c7
      refine hv_iconst (v := 0) hX icx_0 dX20_holds_32 ?_
      exact hx_zret hX hE dX20_holds_33 (by decide) ⟨rfl, rfl, rfl, rfl, hf⟩
    · replace hf := hf.2 c7
      refine hv_iconst (v := 1) hX icx_1 dX20_holds_28 ?_
      refine hv_goto (tgt := 33) hX dX20_holds_29 (by decide) ?_
      exact hx_zret hX hE dX20_holds_33 (by decide) ⟨rfl, rfl, rfl, rfl, hf⟩
/-! Cond.holds, by the class of the condition -/
def x_xcond_b (pf : Nat → Nat → xS → xRd → mJ → mI → (Int32 → Prop) → Prop) (c t : Nat) (s : xS) (rd : xRd) (J : mJ) (I : mI) (Q : Int32 → Prop) : Prop :=
  (xo s c 17 ∧ x_X17_holds c t s rd J I Q) ∨ (xo s c 18 ∧ x_X18_holds pf c t s rd J I Q) ∨ (xo s c 19 ∧ x_X19_holds pf c t s rd J I Q) ∨ (xo s c 20 ∧ x_X20_holds pf c t s rd J I Q)
theorem ct_xcond_b {pf : Nat → Nat → xS → xRd → mJ → mI → (Int32 → Prop) → Prop} {F L : Nat} (hpf : ∀ (c t : Nat) (s : xS) (rd : xRd) (J : mJ) (I : mI) (Q : Int32 → Prop), pf c t s rd J I Q → hh_IC ⟨"HungryHedge$Cond", "holds", "(LHungryHedge;LHungryHedge$Trip;)Z"⟩ (some .boolean) F L c [.ref 0, .ref t] (hx s rd J I) (xQi (fun r9 S9 R9 J9 I9 => s = S9 ∧ rd = R9 ∧ J = J9 ∧ I = I9 ∧ Q r9)) 0 0) (c t : Nat) (s : xS) (rd : xRd) (J : mJ) (I : mI) (Q : Int32 → Prop) (hf : x_xcond_b pf c t s rd J I Q) : hh_IC ⟨"HungryHedge$Cond", "holds", "(LHungryHedge;LHungryHedge$Trip;)Z"⟩ (some .boolean) (F + 4) (L + 239) c [.ref 0, .ref t] (hx s rd J I) (xQi (fun r9 S9 R9 J9 I9 => s = S9 ∧ rd = R9 ∧ J = J9 ∧ I = I9 ∧ Q r9)) 0 0 := by
  rcases hf with ⟨ho, hf⟩ | ⟨ho, hf⟩ | ⟨ho, hf⟩ | ⟨ho, hf⟩
  · exact ⟨17, (RX17, TX17, 5), yX17_holds, cX17_holds, 5, rfl, by decide, ho.1, ho.2, by decide, hh_Ct.wide (ct_X17_holds c t s rd J I Q hf) (by omega) (by omega), q1170, q1172, q134, q1174, by decide⟩
  · exact ⟨18, (RX18, TX18, 1), yX18_holds, cX18_holds, 3, rfl, by decide, ho.1, ho.2, by decide, hh_Ct.wide (ct_X18_holds hpf c t s rd J I Q hf) (by omega) (by omega), q1189, q1191, q135, q1193, by decide⟩
  · exact ⟨19, (RX19, TX19, 2), yX19_holds, cX19_holds, 3, rfl, by decide, ho.1, ho.2, by decide, hh_Ct.wide (ct_X19_holds hpf c t s rd J I Q hf) (by omega) (by omega), q1162, q1164, q136, q1166, by decide⟩
  · exact ⟨20, (RX20, TX20, 2), yX20_holds, cX20_holds, 3, rfl, by decide, ho.1, ho.2, by decide, hh_Ct.wide (ct_X20_holds hpf c t s rd J I Q hf) (by omega) (by omega), q1181, q1183, q137, q1185, by decide⟩
def x_xcond : Nat → Nat → Nat → xS → xRd → mJ → mI → (Int32 → Prop) → Prop
  | 0, _, _, _, _, _, _, _ => False
  | n + 1, c, t, s, rd, J, I, Q => x_xcond_b (fun c t s rd J I Q => x_xcond n c t s rd J I Q) c t s rd J I Q
theorem ct_xcond : ∀ (n : Nat) (c t : Nat) (s : xS) (rd : xRd) (J : mJ) (I : mI) (Q : Int32 → Prop), x_xcond n c t s rd J I Q → hh_IC ⟨"HungryHedge$Cond", "holds", "(LHungryHedge;LHungryHedge$Trip;)Z"⟩ (some .boolean) (4 * n) (239 * n) c [.ref 0, .ref t] (hx s rd J I) (xQi (fun r9 S9 R9 J9 I9 => s = S9 ∧ rd = R9 ∧ J = J9 ∧ I = I9 ∧ Q r9)) 0 0 := by
  intro n
  induction n with
  | zero => intro _ _ _ _ _ _ _ hf; exact hf.elim
  | succ n ih =>
    intro c t s rd J I Q hf
    exact ct_xcond_b (F := 4 * n) (L := 239 * n) ih c t s rd J I Q hf
/-! HungryHedge$Risk.<init>()V -/
def x_X15_init (a0 : Nat) (s : xS) (rd : xRd) (J : mJ) (I : mI) (Q : xS → xRd → mJ → mI → Prop) : Prop :=
  xnw s rd J I 100 10 (fun q1 s2 rd3 J4 I5 => xo s2 a0 15 ∧ (xR0 a0 0 = none ∧ (Q s2 (u2 rd3 a0 0 (some q1)) J4 I5)))
theorem ct_X15_init  (a0 : Nat) (s : xS) (rd : xRd) (J : mJ) (I : mI) (Q : xS → xRd → mJ → mI → Prop) (hf : x_X15_init a0 s rd J I Q) : hh_Ct yX15_init cX15_init 1 none 1 20 [.ref a0] (hx s rd J I) (xQv (fun S9 R9 J9 I9 => Q S9 R9 J9 I9)) 1 10 := by
  refine hh_Ct.ofN (own := RX15) rfl (by decide +kernel) (Nat.le_of_ble_eq_true rfl) ?_
  intro X hX hN hE hNm
  show hh_V X 0 [(0, .ref a0)] [] 0 0 (hx s rd J I)
  unfold x_X15_init at hf
  refine hv_aload_n hX dX15_init_0 rfl 0 rfl ?_
  refine hv_objinit hX dX15_init_1 q894 q153 q154 hN ⟨Nat.le_of_ble_eq_true rfl, Nat.le_of_ble_eq_true rfl⟩ ?_
  refine hv_aload_n hX dX15_init_4 rfl 0 rfl ?_
  refine hv_bipush (v := 10) hX bix_10 dX15_init_5 ?_
  refine hx_newAr (atype := .int) (a := 0) (N := 10) hX 0 rfl (by decide) rfl (by decide) rfl q196 dX15_init_7 (by decide) (by decide) (Nat.le_of_ble_eq_true rfl) hf ⟨Nat.le_of_ble_eq_true rfl, Nat.le_of_ble_eq_true rfl⟩ ?_
  intro q1 s2 rd3 J4 I5 hf o6 mono
  obtain ⟨o7, hf⟩ := hf
  obtain ⟨g, hf⟩ := hf
  refine hx_putFO (v := (some q1)) hX hNm dX15_init_9 fl15_9_15 ⟨RX15, TX15, 1, "HungryHedge$Risk", rfl, rfl, q895, .inl rfl⟩ o7 g ?_
  exact hx_vret hX hE dX15_init_12 hf
/-! HungryHedge$Risk.greatest()I -/
def x_X15_greatest_l13 (Q : Int32 → Prop) : Nat → Int32 → Nat → Int32 → Int32 → xS → xRd → mJ → mI → Prop
  | 0, _, _, _, _, _, _, _, _ => False
  | n + 1, a1, a2, a3, a4, s, rd, J, I =>
    (a3 ≤ a4 →
      Q a1 ) ∧ (¬ a3 ≤ a4 →
      xo s a2 100 ∧ (vp_in a4 (xlen s a2) ∧ (∀ v6 : Int32, v6 = (if a1 < (I a2 a4.toNatClampNeg) then (I a2 a4.toNatClampNeg) else a1) → (x_X15_greatest_l13 Q   n v6 a2 a3 (a4 + 1) s rd J I))))
theorem w_X15_greatest_l13 {X : hh_CX} {S0 : xS} {R0 : xRd} {J0 : mJ} {I0 : mI} {Q : Int32 → Prop} (hX : hh_C X cX15_greatest RX15 (hrx 1 21 0 0)) (hN : hh_nL X = 6) (hE : hh_E X (some .int) (xQi (fun r9 S9 R9 J9 I9 => S0 = S9 ∧ R0 = R9 ∧ J0 = J9 ∧ I0 = I9 ∧ Q r9)) 0 0) : ∀ (n : Nat) (a1 : Int32) (a2 : Nat) (a3 : Int32) (a4 : Int32) (s : xS) (rd : xRd) (J : mJ) (I : mI), s = S0 → rd = R0 → J = J0 → I = I0 → x_X15_greatest_l13 Q  n a1 a2 a3 a4 s rd J I → hh_V X 13 [(1, .int a1), (2, .ref a2), (3, .int a3), (4, .int a4)] [] 0 0 (hx s rd J I) := by
  intro n
  induction n with
  | zero => intro _ _ _ _ _ _ _ _ _ _ _ _ hf; exact hf.elim
  | succ n ih =>
    intro a1 a2 a3 a4 s rd J I e0 e1 e2 e3 hf
    subst e0
    subst e1
    subst e2
    subst e3
    unfold x_X15_greatest_l13 at hf
    refine hv_iload hX dX15_greatest_13 3 rfl ?_
    refine hv_iload_n hX dX15_greatest_15 rfl 2 rfl ?_
    refine hv_icmp_ge (tgt := 38) hX dX15_greatest_16 (by decide) (fun c4 => ?_) (fun c4 => ?_)
    · replace hf := hf.1 c4
      refine hv_iload_n hX dX15_greatest_38 rfl 0 rfl ?_
      exact hx_iret hX hE dX15_greatest_39 ⟨rfl, rfl, rfl, rfl, hf⟩
    · replace hf := hf.2 c4
      refine hv_aload_n hX dX15_greatest_19 rfl 1 rfl ?_
      refine hv_iload hX dX15_greatest_20 3 rfl ?_
      obtain ⟨o5, hf⟩ := hf
      obtain ⟨g, hf⟩ := hf
      refine hx_iald (v := (I a2 a4.toNatClampNeg)) hX dX15_greatest_22 o5 rfl g rfl ?_
      refine hv_istore (loc2 := [(5, .int (I a2 a4.toNatClampNeg)), (1, .int a1), (2, .ref a2), (3, .int a3), (4, .int a4)]) hX dX15_greatest_23 hN (Nat.le_of_ble_eq_true rfl) rfl ?_
      refine hv_iload_n hX dX15_greatest_25 rfl 1 rfl ?_
      refine hv_iload hX dX15_greatest_26 0 rfl ?_
      refine hv_mmax hX dX15_greatest_28 q1408 q709 q127 q710 ⟨Nat.le_of_ble_eq_true rfl, Nat.le_of_ble_eq_true rfl⟩ ⟨Nat.le_of_ble_eq_true rfl, Nat.le_of_ble_eq_true rfl⟩ ?_
      refine hv_topi (fun v6 ev6 => ?_)
      replace hf := hf v6 ev6
      refine hv_istore_n (loc2 := [(1, .int v6), (5, .int (I a2 a4.toNatClampNeg)), (2, .ref a2), (3, .int a3), (4, .int a4)]) hX dX15_greatest_31 rfl hN (Nat.le_of_ble_eq_true rfl) rfl ?_
      refine hv_iinc (v := (a4 + 1)) (loc2 := [(4, .int (a4 + 1)), (1, .int v6), (5, .int (I a2 a4.toNatClampNeg)), (2, .ref a2), (3, .int a3)]) hX dX15_greatest_32 4 rfl (congrArg (fun y => a4 + y) icx_1) hN (Nat.le_of_ble_eq_true rfl) rfl ?_
      refine hv_goto (tgt := 13) hX dX15_greatest_35 (by decide) ?_
      refine hv_fewer [1, 3, 4, 0] (loc2 := [(1, .int v6), (2, .ref a2), (3, .int a3), (4, .int (a4 + 1))]) rfl ?_
      exact ih _ _ _ _ _ _ _ _ rfl rfl rfl rfl hf
def x_X15_greatest (a0 : Nat) (s : xS) (rd : xRd) (J : mJ) (I : mI) (Q : Int32 → Prop) : Prop :=
  xo s a0 15 ∧ (∃ v2 : Nat, xR rd a0 0 = some v2 ∧ (xo s v2 100 ∧ (∃ n0 : Nat, x_X15_greatest_l13 Q   n0 0 v2 (nI (xlen s v2)) 0 s rd J I)))
theorem ct_X15_greatest  (a0 : Nat) (s : xS) (rd : xRd) (J : mJ) (I : mI) (Q : Int32 → Prop) (hf : x_X15_greatest a0 s rd J I Q) : hh_Ct yX15_greatest cX15_greatest 6 (some .int) 1 21 [.ref a0] (hx s rd J I) (xQi (fun r9 S9 R9 J9 I9 => s = S9 ∧ rd = R9 ∧ J = J9 ∧ I = I9 ∧ Q r9)) 0 0 := by
  refine hh_Ct.of (own := RX15) rfl (by decide +kernel) (Nat.le_of_ble_eq_true rfl) ?_
  intro X hX hN hE
  show hh_V X 0 [(0, .ref a0)] [] 0 0 (hx s rd J I)
  unfold x_X15_greatest at hf
  refine hv_iconst (v := 0) hX icx_0 dX15_greatest_0 ?_
  refine hv_istore_n (loc2 := [(1, .int 0), (0, .ref a0)]) hX dX15_greatest_1 rfl hN (Nat.le_of_ble_eq_true rfl) rfl ?_
  refine hv_aload_n hX dX15_greatest_2 rfl 1 rfl ?_
  obtain ⟨o1, hf⟩ := hf
  obtain ⟨v2, gv2, hf⟩ := hf
  refine hx_getR (v := v2) hX dX15_greatest_3 fl15_9_15 o1 gv2 ?_
  refine hv_astore_n (loc2 := [(2, .ref v2), (1, .int 0), (0, .ref a0)]) hX dX15_greatest_6 rfl hN (Nat.le_of_ble_eq_true rfl) rfl ?_
  refine hv_aload_n hX dX15_greatest_7 rfl 0 rfl ?_
  obtain ⟨o3, hf⟩ := hf
  refine hx_alen (v := nI (xlen s v2)) hX 0 rfl dX15_greatest_8 o3 rfl ?_
  refine hv_istore_n (loc2 := [(3, .int (nI (xlen s v2))), (2, .ref v2), (1, .int 0), (0, .ref a0)]) hX dX15_greatest_9 rfl hN (Nat.le_of_ble_eq_true rfl) rfl ?_
  refine hv_iconst (v := 0) hX icx_0 dX15_greatest_10 ?_
  refine hv_istore (loc2 := [(4, .int 0), (3, .int (nI (xlen s v2))), (2, .ref v2), (1, .int 0), (0, .ref a0)]) hX dX15_greatest_11 hN (Nat.le_of_ble_eq_true rfl) rfl ?_
  refine hv_fewer [3, 2, 1, 0] (loc2 := [(1, .int 0), (2, .ref v2), (3, .int (nI (xlen s v2))), (4, .int 0)]) rfl ?_
  obtain ⟨n0, hf⟩ := hf
  exact w_X15_greatest_l13 hX hN hE  n0 _ _ _ _ _ _ _ _ rfl rfl rfl rfl hf
/-! HungryHedge$Row.<init>()V -/
def x_X9_init (a0 : Nat) (s : xS) (rd : xRd) (J : mJ) (I : mI) (Q : Prop) : Prop :=
  Q 
theorem ct_X9_init  (a0 : Nat) (s : xS) (rd : xRd) (J : mJ) (I : mI) (Q : Prop) (hf : x_X9_init a0 s rd J I Q) : hh_Ct yX9_init cX9_init 1 none 1 20 [.ref a0] (hx s rd J I) (xQv (fun S9 R9 J9 I9 => s = S9 ∧ rd = R9 ∧ J = J9 ∧ I = I9 ∧ Q)) 0 0 := by
  refine hh_Ct.ofN (own := RX9) rfl (by decide +kernel) (Nat.le_of_ble_eq_true rfl) ?_
  intro X hX hN hE hNm
  show hh_V X 0 [(0, .ref a0)] [] 0 0 (hx s rd J I)
  unfold x_X9_init at hf
  refine hv_aload_n hX dX9_init_0 rfl 0 rfl ?_
  refine hv_objinit hX dX9_init_1 q504 q153 q154 hN ⟨Nat.le_of_ble_eq_true rfl, Nat.le_of_ble_eq_true rfl⟩ ?_
  exact hx_vret hX hE dX9_init_4 ⟨rfl, rfl, rfl, rfl, hf⟩
/-! HungryHedge$Trip.<init>()V -/
def x_X2_init (a0 : Nat) (s : xS) (rd : xRd) (J : mJ) (I : mI) (Q : xS → xRd → mJ → mI → Prop) : Prop :=
  xnw s rd J I 100 4 (fun q1 s2 rd3 J4 I5 => xo s2 a0 2 ∧ (xR0 a0 3 = none ∧ (Q s2 (u2 rd3 a0 3 (some q1)) J4 I5)))
theorem ct_X2_init  (a0 : Nat) (s : xS) (rd : xRd) (J : mJ) (I : mI) (Q : xS → xRd → mJ → mI → Prop) (hf : x_X2_init a0 s rd J I Q) : hh_Ct yX2_init cX2_init 1 none 1 20 [.ref a0] (hx s rd J I) (xQv (fun S9 R9 J9 I9 => Q S9 R9 J9 I9)) 1 4 := by
  refine hh_Ct.ofN (own := RX2) rfl (by decide +kernel) (Nat.le_of_ble_eq_true rfl) ?_
  intro X hX hN hE hNm
  show hh_V X 0 [(0, .ref a0)] [] 0 0 (hx s rd J I)
  unfold x_X2_init at hf
  refine hv_aload_n hX dX2_init_0 rfl 0 rfl ?_
  refine hv_objinit hX dX2_init_1 q170 q153 q154 hN ⟨Nat.le_of_ble_eq_true rfl, Nat.le_of_ble_eq_true rfl⟩ ?_
  refine hv_aload_n hX dX2_init_4 rfl 0 rfl ?_
  refine hv_iconst (v := 4) hX icx_4 dX2_init_5 ?_
  refine hx_newAr (atype := .int) (a := 0) (N := 4) hX 0 rfl (by decide) rfl (by decide) rfl q196 dX2_init_6 (by decide) (by decide) (Nat.le_of_ble_eq_true rfl) hf ⟨Nat.le_of_ble_eq_true rfl, Nat.le_of_ble_eq_true rfl⟩ ?_
  intro q1 s2 rd3 J4 I5 hf o6 mono
  obtain ⟨o7, hf⟩ := hf
  obtain ⟨g, hf⟩ := hf
  refine hx_putFO (v := (some q1)) hX hNm dX2_init_8 fl2_9_2 ⟨RX2, TX2, 4, "HungryHedge$Trip", rfl, rfl, q183, .inl rfl⟩ o7 g ?_
  exact hx_vret hX hE dX2_init_11 hf
/-! HungryHedge$Trip.become(LHungryHedge$Trip;)V -/
def x_X2_become (a0 : Nat) (a1 : Nat) (s : xS) (rd : xRd) (J : mJ) (I : mI) (Q : mI → Prop) : Prop :=
  xo s a1 2 ∧ (xo s a0 2 ∧ (∃ v3 : Nat, xR rd a1 3 = some v3 ∧ (∃ v4 : Nat, xR rd a0 3 = some v4 ∧ (xo s v3 100 ∧ (xo s v4 100 ∧ ((¬ (0 : Int32) < 0 ∧ ¬ (0 : Int32) < 0 ∧ ¬ (4 : Int32) < 0 ∧ (0 : Int32).toNatClampNeg + (4 : Int32).toNatClampNeg ≤ (xlen s v3) ∧ (0 : Int32).toNatClampNeg + (4 : Int32).toNatClampNeg ≤ (xlen s v4)) ∧ (∀ I7 : mI, I7 = (ur (u2 (u2 (u2 I a0 0 (I a1 0)) a0 1 (I a1 1)) a0 2 (I a1 2)) v4 (va_cpy ((u2 (u2 (u2 I a0 0 (I a1 0)) a0 1 (I a1 1)) a0 2 (I a1 2)) v3) ((u2 (u2 (u2 I a0 0 (I a1 0)) a0 1 (I a1 1)) a0 2 (I a1 2)) v4) (0 : Int32).toNatClampNeg (0 : Int32).toNatClampNeg (4 : Int32).toNatClampNeg)) → (Q I7))))))))
theorem ct_X2_become  (a0 : Nat) (a1 : Nat) (s : xS) (rd : xRd) (J : mJ) (I : mI) (Q : mI → Prop) (hf : x_X2_become a0 a1 s rd J I Q) : hh_Ct yX2_become cX2_become 2 none 1 26 [.ref a0, .ref a1] (hx s rd J I) (xQv (fun S9 R9 J9 I9 => s = S9 ∧ rd = R9 ∧ J = J9 ∧ Q I9)) 0 0 := by
  refine hh_Ct.of (own := RX2) rfl (by decide +kernel) (Nat.le_of_ble_eq_true rfl) ?_
  intro X hX hN hE
  show hh_V X 0 [(0, .ref a0), (1, .ref a1)] [] 0 0 (hx s rd J I)
  unfold x_X2_become at hf
  refine hv_aload_n hX dX2_become_0 rfl 0 rfl ?_
  refine hv_aload_n hX dX2_become_1 rfl 1 rfl ?_
  obtain ⟨o1, hf⟩ := hf
  refine hx_getI (v := (I a1 0)) hX dX2_become_2 fl2_15_2 (.inl rfl) o1 rfl ?_
  obtain ⟨o2, hf⟩ := hf
  refine hx_putI hX dX2_become_5 fl2_15_2 o2 ?_
  refine hv_aload_n hX dX2_become_8 rfl 0 rfl ?_
  refine hv_aload_n hX dX2_become_9 rfl 1 rfl ?_
  refine hx_getI (v := (I a1 1)) hX dX2_become_10 fl2_19_2 (.inl rfl) o1 ((u2_ne _ _ (.inr (by decide)))) ?_
  refine hx_putI hX dX2_become_13 fl2_19_2 o2 ?_
  refine hv_aload_n hX dX2_become_16 rfl 0 rfl ?_
  refine hv_aload_n hX dX2_become_17 rfl 1 rfl ?_
  refine hx_getI (v := (I a1 2)) hX dX2_become_18 fl2_22_2 (.inl rfl) o1 ((u2_ne _ _ (.inr (by decide))) |>.trans (u2_ne _ _ (.inr (by decide)))) ?_
  refine hx_putI hX dX2_become_21 fl2_22_2 o2 ?_
  refine hv_aload_n hX dX2_become_24 rfl 1 rfl ?_
  obtain ⟨v3, gv3, hf⟩ := hf
  refine hx_getR (v := v3) hX dX2_become_25 fl2_9_2 o1 gv3 ?_
  refine hv_iconst (v := 0) hX icx_0 dX2_become_28 ?_
  refine hv_aload_n hX dX2_become_29 rfl 0 rfl ?_
  obtain ⟨v4, gv4, hf⟩ := hf
  refine hx_getR (v := v4) hX dX2_become_30 fl2_9_2 o2 gv4 ?_
  refine hv_iconst (v := 0) hX icx_0 dX2_become_33 ?_
  refine hv_iconst (v := 4) hX icx_4 dX2_become_34 ?_
  obtain ⟨o5, hf⟩ := hf
  obtain ⟨o6, hf⟩ := hf
  obtain ⟨g, hf⟩ := hf
  refine hx_copyI hX dX2_become_35 q751 q690 q689 q126 o5 o6 g ⟨Nat.le_of_ble_eq_true rfl, Nat.le_of_ble_eq_true rfl⟩ ?_
  refine hx_nmI (fun I7 eI7 => ?_)
  replace hf := hf I7 eI7
  exact hx_vret hX hE dX2_become_38 ⟨rfl, rfl, rfl, hf⟩
/-! HungryHedge$Fault.at(I)LHungryHedge$Fault; -/
def x_X8_at (a0 : Nat) (a1 : Int32) (s : xS) (rd : xRd) (J : mJ) (I : mI) (Q : Nat → mI → Prop) : Prop :=
  xo s a0 8 ∧ (Q a0 (u2 I a0 6 a1))
theorem ct_X8_at  (a0 : Nat) (a1 : Int32) (s : xS) (rd : xRd) (J : mJ) (I : mI) (Q : Nat → mI → Prop) (hf : x_X8_at a0 a1 s rd J I Q) : hh_Ct yX8_at cX8_at 2 (some (.object "HungryHedge$Fault")) 0 0 [.ref a0, .int a1] (hx s rd J I) (xQr (fun r9 S9 R9 J9 I9 => s = S9 ∧ rd = R9 ∧ J = J9 ∧ Q r9 I9)) 0 0 := by
  refine hh_Ct.of (own := RX8) rfl (by decide +kernel) (Nat.le_of_ble_eq_true rfl) ?_
  intro X hX hN hE
  show hh_V X 0 [(0, .ref a0), (1, .int a1)] [] 0 0 (hx s rd J I)
  unfold x_X8_at at hf
  refine hv_aload_n hX dX8_at_0 rfl 0 rfl ?_
  refine hv_iload_n hX dX8_at_1 rfl 1 rfl ?_
  obtain ⟨o1, hf⟩ := hf
  refine hx_putI hX dX8_at_2 fl8_7_8 o1 ?_
  refine hv_aload_n hX dX8_at_5 rfl 0 rfl ?_
  exact hx_aret hX hE (.inl ⟨_, rfl⟩) dX8_at_6 ⟨rfl, rfl, rfl, hf⟩
/-! HungryHedge$Compared.<init>(IIIII)V -/
def x_X17_init (a0 : Nat) (a1 : Int32) (a2 : Int32) (a3 : Int32) (a4 : Int32) (a5 : Int32) (s : xS) (rd : xRd) (J : mJ) (I : mI) (Q : mI → Prop) : Prop :=
  xo s a0 17 ∧ (Q (u2 (u2 (u2 (u2 (u2 I a0 0 a1) a0 1 a2) a0 2 a3) a0 3 a4) a0 4 a5))
theorem ct_X17_init  (a0 : Nat) (a1 : Int32) (a2 : Int32) (a3 : Int32) (a4 : Int32) (a5 : Int32) (s : xS) (rd : xRd) (J : mJ) (I : mI) (Q : mI → Prop) (hf : x_X17_init a0 a1 a2 a3 a4 a5 s rd J I Q) : hh_Ct yX17_init cX17_init 6 none 1 20 [.ref a0, .int a1, .int a2, .int a3, .int a4, .int a5] (hx s rd J I) (xQv (fun S9 R9 J9 I9 => s = S9 ∧ rd = R9 ∧ J = J9 ∧ Q I9)) 0 0 := by
  refine hh_Ct.ofN (own := RX17) rfl (by decide +kernel) (Nat.le_of_ble_eq_true rfl) ?_
  intro X hX hN hE hNm
  show hh_V X 0 [(0, .ref a0), (1, .int a1), (2, .int a2), (3, .int a3), (4, .int a4), (5, .int a5)] [] 0 0 (hx s rd J I)
  unfold x_X17_init at hf
  refine hv_aload_n hX dX17_init_0 rfl 0 rfl ?_
  refine hv_objinit hX dX17_init_1 q1076 q153 q154 hN ⟨Nat.le_of_ble_eq_true rfl, Nat.le_of_ble_eq_true rfl⟩ ?_
  refine hv_aload_n hX dX17_init_4 rfl 0 rfl ?_
  refine hv_iload_n hX dX17_init_5 rfl 1 rfl ?_
  obtain ⟨o1, hf⟩ := hf
  refine hx_putFI hX hNm dX17_init_6 fl17_7_17 ⟨RX17, TX17, 5, "HungryHedge$Compared", rfl, rfl, q1077, .inl rfl⟩ o1 ?_
  refine hv_aload_n hX dX17_init_9 rfl 0 rfl ?_
  refine hv_iload_n hX dX17_init_10 rfl 2 rfl ?_
  refine hx_putFI hX hNm dX17_init_11 fl17_13_17 ⟨RX17, TX17, 5, "HungryHedge$Compared", rfl, rfl, q1078, .inl rfl⟩ o1 ?_
  refine hv_aload_n hX dX17_init_14 rfl 0 rfl ?_
  refine hv_iload_n hX dX17_init_15 rfl 3 rfl ?_
  refine hx_putFI hX hNm dX17_init_16 fl17_16_17 ⟨RX17, TX17, 5, "HungryHedge$Compared", rfl, rfl, q1079, .inl rfl⟩ o1 ?_
  refine hv_aload_n hX dX17_init_19 rfl 0 rfl ?_
  refine hv_iload hX dX17_init_20 4 rfl ?_
  refine hx_putFI hX hNm dX17_init_22 fl17_19_17 ⟨RX17, TX17, 5, "HungryHedge$Compared", rfl, rfl, q1080, .inl rfl⟩ o1 ?_
  refine hv_aload_n hX dX17_init_25 rfl 0 rfl ?_
  refine hv_iload hX dX17_init_26 5 rfl ?_
  refine hx_putFI hX hNm dX17_init_28 fl17_22_17 ⟨RX17, TX17, 5, "HungryHedge$Compared", rfl, rfl, q1081, .inl rfl⟩ o1 ?_
  exact hx_vret hX hE dX17_init_31 ⟨rfl, rfl, rfl, hf⟩
/-! HungryHedge$Dares.first(II)V -/
def x_X5_first (a1 : Int32) (a2 : Int32) (s : xS) (rd : xRd) (J : mJ) (I : mI) (Q : mJ → Prop) : Prop :=
  vp_in a1 13 ∧ (∃ v1 : Nat, xR rd 74 a1.toNatClampNeg = some v1 ∧ ((a2 ≤ 0 →
    (a1 = 0 →
      xo s v1 110 ∧ (vp_in a2 (xlen s v1) ∧ (Q (u2 J v1 a2.toNatClampNeg 1)))) ∧ (¬ a1 = 0 →
      vp_in (a1 - 1) 13 ∧ (∃ v4 : Nat, xR rd 74 (a1 - 1).toNatClampNeg = some v4 ∧ (xo s v4 110 ∧ (vp_in (0 : Int32) (xlen s v4) ∧ (xo s v1 110 ∧ (vp_in a2 (xlen s v1) ∧ (Q (u2 J v1 a2.toNatClampNeg (10 * (J v4 (0 : Int32).toNatClampNeg))))))))))) ∧ (¬ a2 ≤ 0 →
    xo s v1 110 ∧ (vp_in a2 (xlen s v1) ∧ (Q (u2 J v1 a2.toNatClampNeg 0))))))
theorem ct_X5_first  (a1 : Int32) (a2 : Int32) (s : xS) (rd : xRd) (J : mJ) (I : mI) (Q : mJ → Prop) (hf : x_X5_first a1 a2 s rd J I Q) : hh_Ct yX5_first cX5_first 3 none 0 0 [.ref 73, .int a1, .int a2] (hx s rd J I) (xQv (fun S9 R9 J9 I9 => s = S9 ∧ rd = R9 ∧ I = I9 ∧ Q J9)) 0 0 := by
  refine hh_Ct.of (own := RX5) rfl (by decide +kernel) (Nat.le_of_ble_eq_true rfl) ?_
  intro X hX hN hE
  show hh_V X 0 [(0, .ref 73), (1, .int a1), (2, .int a2)] [] 0 0 (hx s rd J I)
  unfold x_X5_first at hf
  refine hv_aload_n hX dX5_first_0 rfl 0 rfl ?_
  refine hx_getR (v := 74) hX dX5_first_1 fl5_17_5 (xo_c (by decide) rfl) (xR_c rfl) ?_
  refine hv_iload_n hX dX5_first_4 rfl 1 rfl ?_
  obtain ⟨g, hf⟩ := hf
  obtain ⟨v1, gv1, hf⟩ := hf
  refine hx_aald (v := v1) (a := 27) hX 11 rfl (by decide) dX5_first_5 (xo_c (by decide) rfl) (xlen_c (by decide) rfl) g gv1 ?_
  refine hv_iload_n hX dX5_first_6 rfl 2 rfl ?_
  refine hv_iload_n hX dX5_first_7 rfl 2 rfl ?_
  refine hv_if_le (tgt := 15) hX dX5_first_8 (by decide) (fun c2 => ?_) (fun c2 => ?_)
  · replace hf := hf.1 c2
    refine hv_iload_n hX dX5_first_15 rfl 1 rfl ?_
    refine hv_if_ne (tgt := 23) hX dX5_first_16 (by decide) (fun c3 => ?_) (fun c3 => ?_)
    · replace hf := hf.2 c3
      refine hv_ldc2 (v := 10) hX dX5_first_23 q820 ?_
      refine hv_aload_n hX dX5_first_26 rfl 0 rfl ?_
      refine hx_getR (v := 74) hX dX5_first_27 fl5_17_5 (xo_c (by decide) rfl) (xR_c rfl) ?_
      refine hv_iload_n hX dX5_first_30 rfl 1 rfl ?_
      refine hv_iconst (v := 1) hX icx_1 dX5_first_31 ?_
      refine hv_isub hX dX5_first_32 ?_
      obtain ⟨g, hf⟩ := hf
      obtain ⟨v4, gv4, hf⟩ := hf
      refine hx_aald (v := v4) (a := 27) hX 11 rfl (by decide) dX5_first_33 (xo_c (by decide) rfl) (xlen_c (by decide) rfl) g gv4 ?_
      refine hv_iconst (v := 0) hX icx_0 dX5_first_34 ?_
      obtain ⟨o5, hf⟩ := hf
      obtain ⟨g, hf⟩ := hf
      refine hx_lald (v := (J v4 (0 : Int32).toNatClampNeg)) hX dX5_first_35 o5 rfl g rfl ?_
      refine hv_lmul hX dX5_first_36 ?_
      obtain ⟨o6, hf⟩ := hf
      obtain ⟨g, hf⟩ := hf
      refine hx_last hX dX5_first_37 o6 rfl g ?_
      exact hx_vret hX hE dX5_first_38 ⟨rfl, rfl, rfl, hf⟩
    · replace hf := hf.1 c3
      refine hv_lconst (v := 1) hX rfl dX5_first_19 ?_
      refine hv_goto (tgt := 37) hX dX5_first_20 (by decide) ?_
      obtain ⟨o7, hf⟩ := hf
      obtain ⟨g, hf⟩ := hf
      refine hx_last hX dX5_first_37 o7 rfl g ?_
      exact hx_vret hX hE dX5_first_38 ⟨rfl, rfl, rfl, hf⟩
  · replace hf := hf.2 c2
    refine hv_lconst (v := 0) hX rfl dX5_first_11 ?_
    refine hv_goto (tgt := 37) hX dX5_first_12 (by decide) ?_
    obtain ⟨o8, hf⟩ := hf
    obtain ⟨g, hf⟩ := hf
    refine hx_last hX dX5_first_37 o8 rfl g ?_
    exact hx_vret hX hE dX5_first_38 ⟨rfl, rfl, rfl, hf⟩
/-! HungryHedge$Dares.left(II)J -/
def x_X5_left (a1 : Int32) (a2 : Int32) (s : xS) (rd : xRd) (J : mJ) (I : mI) (Q : Int64 → Prop) : Prop :=
  vp_in a1 13 ∧ (∃ v1 : Nat, xR rd 74 a1.toNatClampNeg = some v1 ∧ (xo s v1 110 ∧ (vp_in (if (0 : Int32) < a2 then a2 else 0) (xlen s v1) ∧ (Q (J v1 (if (0 : Int32) < a2 then a2 else 0).toNatClampNeg) ))))
theorem ct_X5_left  (a1 : Int32) (a2 : Int32) (s : xS) (rd : xRd) (J : mJ) (I : mI) (Q : Int64 → Prop) (hf : x_X5_left a1 a2 s rd J I Q) : hh_Ct yX5_left cX5_left 3 (some .long) 1 21 [.ref 73, .int a1, .int a2] (hx s rd J I) (xQl (fun r9 S9 R9 J9 I9 => s = S9 ∧ rd = R9 ∧ J = J9 ∧ I = I9 ∧ Q r9)) 0 0 := by
  refine hh_Ct.of (own := RX5) rfl (by decide +kernel) (Nat.le_of_ble_eq_true rfl) ?_
  intro X hX hN hE
  show hh_V X 0 [(0, .ref 73), (1, .int a1), (2, .int a2)] [] 0 0 (hx s rd J I)
  unfold x_X5_left at hf
  refine hv_aload_n hX dX5_left_0 rfl 0 rfl ?_
  refine hx_getR (v := 74) hX dX5_left_1 fl5_17_5 (xo_c (by decide) rfl) (xR_c rfl) ?_
  refine hv_iload_n hX dX5_left_4 rfl 1 rfl ?_
  obtain ⟨g, hf⟩ := hf
  obtain ⟨v1, gv1, hf⟩ := hf
  refine hx_aald (v := v1) (a := 27) hX 11 rfl (by decide) dX5_left_5 (xo_c (by decide) rfl) (xlen_c (by decide) rfl) g gv1 ?_
  refine hv_iconst (v := 0) hX icx_0 dX5_left_6 ?_
  refine hv_iload_n hX dX5_left_7 rfl 2 rfl ?_
  refine hv_mmax hX dX5_left_8 q829 q709 q127 q710 ⟨Nat.le_of_ble_eq_true rfl, Nat.le_of_ble_eq_true rfl⟩ ⟨Nat.le_of_ble_eq_true rfl, Nat.le_of_ble_eq_true rfl⟩ ?_
  obtain ⟨o2, hf⟩ := hf
  obtain ⟨g, hf⟩ := hf
  refine hx_lald (v := (J v1 (if (0 : Int32) < a2 then a2 else 0).toNatClampNeg)) hX dX5_left_11 o2 rfl g rfl ?_
  exact hx_lret hX hE dX5_left_12 ⟨rfl, rfl, rfl, rfl, hf⟩
/-! HungryHedge$Dares.by(LHungryHedge$Risk;II)J -/
def x_X5_by_l17 (Q : Int64 → Prop) : Nat → Int32 → Int32 → Int64 → Nat → Int32 → Int32 → xS → xRd → mJ → mI → Prop
  | 0, _, _, _, _, _, _, _, _, _, _ => False
  | n + 1, a2, a3, a4, a6, a7, a8, s, rd, J, I =>
    (a7 ≤ a8 →
      Q a4 ) ∧ (¬ a7 ≤ a8 →
      xo s a6 100 ∧ (vp_in a8 (xlen s a6) ∧ (x_X5_left (a2 - 1) (a3 - (I a6 a8.toNatClampNeg)) s rd J I (fun r6 => x_X5_by_l17 Q   n a2 a3 (a4 + r6) a6 a7 (a8 + 1) s rd J I))))
theorem w_X5_by_l17 {X : hh_CX} {S0 : xS} {R0 : xRd} {J0 : mJ} {I0 : mI} {Q : Int64 → Prop} (hX : hh_C X cX5_by RX5 (hrx 2 43 0 0)) (hN : hh_nL X = 10) (hE : hh_E X (some .long) (xQl (fun r9 S9 R9 J9 I9 => S0 = S9 ∧ R0 = R9 ∧ J0 = J9 ∧ I0 = I9 ∧ Q r9)) 0 0) : ∀ (n : Nat) (a2 : Int32) (a3 : Int32) (a4 : Int64) (a6 : Nat) (a7 : Int32) (a8 : Int32) (s : xS) (rd : xRd) (J : mJ) (I : mI), s = S0 → rd = R0 → J = J0 → I = I0 → x_X5_by_l17 Q  n a2 a3 a4 a6 a7 a8 s rd J I → hh_V X 17 [(0, .ref 73), (2, .int a2), (3, .int a3), (4, .long a4), (6, .ref a6), (7, .int a7), (8, .int a8)] [] 0 0 (hx s rd J I) := by
  intro n
  induction n with
  | zero => intro _ _ _ _ _ _ _ _ _ _ _ _ _ _ hf; exact hf.elim
  | succ n ih =>
    intro a2 a3 a4 a6 a7 a8 s rd J I e0 e1 e2 e3 hf
    subst e0
    subst e1
    subst e2
    subst e3
    unfold x_X5_by_l17 at hf
    refine hv_iload hX dX5_by_17 6 rfl ?_
    refine hv_iload hX dX5_by_19 5 rfl ?_
    refine hv_icmp_ge (tgt := 53) hX dX5_by_21 (by decide) (fun c4 => ?_) (fun c4 => ?_)
    · replace hf := hf.1 c4
      refine hv_lload hX dX5_by_53 3 rfl ?_
      exact hx_lret hX hE dX5_by_55 ⟨rfl, rfl, rfl, rfl, hf⟩
    · replace hf := hf.2 c4
      refine hv_aload hX dX5_by_24 4 rfl ?_
      refine hv_iload hX dX5_by_26 6 rfl ?_
      obtain ⟨o5, hf⟩ := hf
      obtain ⟨g, hf⟩ := hf
      refine hx_iald (v := (I a6 a8.toNatClampNeg)) hX dX5_by_28 o5 rfl g rfl ?_
      refine hv_istore (loc2 := [(9, .int (I a6 a8.toNatClampNeg)), (0, .ref 73), (2, .int a2), (3, .int a3), (4, .long a4), (6, .ref a6), (7, .int a7), (8, .int a8)]) hX dX5_by_29 hN (Nat.le_of_ble_eq_true rfl) rfl ?_
      refine hv_lload hX dX5_by_31 4 rfl ?_
      refine hv_aload_n hX dX5_by_33 rfl 1 rfl ?_
      refine hv_iload_n hX dX5_by_34 rfl 2 rfl ?_
      refine hv_iconst (v := 1) hX icx_1 dX5_by_35 ?_
      refine hv_isub hX dX5_by_36 ?_
      refine hv_iload_n hX dX5_by_37 rfl 3 rfl ?_
      refine hv_iload hX dX5_by_38 0 rfl ?_
      refine hv_isub hX dX5_by_40 ?_
      refine hx_callVl (ci := 5) (q := (RX5, TX5, 2)) hX dX5_by_41 (ct_X5_left (a2 - 1) (a3 - (I a6 a8.toNatClampNeg)) s rd J I _ hf) (lw_V q825 q827 qs11 q111 q828) rfl (by decide) ⟨rfl, np_X5_left⟩ rfl (xo_c (by decide) rfl) rfl ⟨Nat.le_of_ble_eq_true rfl, Nat.le_of_ble_eq_true rfl⟩ ⟨Nat.le_of_ble_eq_true rfl, Nat.le_of_ble_eq_true rfl⟩ (Nat.le_of_ble_eq_true rfl) ?_
      intro r6 S9 R9 J9 I9 hq
      clear hf
      obtain ⟨rfl, rfl, rfl, rfl, hf⟩ := hq
      refine hv_ladd hX dX5_by_44 ?_
      refine hv_lstore (loc2 := [(4, .long (a4 + r6)), (9, .int (I a6 a8.toNatClampNeg)), (0, .ref 73), (2, .int a2), (3, .int a3), (6, .ref a6), (7, .int a7), (8, .int a8)]) hX dX5_by_45 hN (Nat.le_of_ble_eq_true rfl) rfl ?_
      refine hv_iinc (v := (a8 + 1)) (loc2 := [(8, .int (a8 + 1)), (4, .long (a4 + r6)), (9, .int (I a6 a8.toNatClampNeg)), (0, .ref 73), (2, .int a2), (3, .int a3), (6, .ref a6), (7, .int a7)]) hX dX5_by_47 7 rfl (congrArg (fun y => a8 + y) icx_1) hN (Nat.le_of_ble_eq_true rfl) rfl ?_
      refine hv_goto (tgt := 17) hX dX5_by_50 (by decide) ?_
      refine hv_fewer [3, 4, 5, 1, 6, 7, 0] (loc2 := [(0, .ref 73), (2, .int a2), (3, .int a3), (4, .long (a4 + r6)), (6, .ref a6), (7, .int a7), (8, .int (a8 + 1))]) rfl ?_
      exact ih _ _ _ _ _ _ _ _ _ _ rfl rfl rfl rfl hf
def x_X5_by (a1 : Nat) (a2 : Int32) (a3 : Int32) (s : xS) (rd : xRd) (J : mJ) (I : mI) (Q : Int64 → Prop) : Prop :=
  xo s a1 15 ∧ (∃ v2 : Nat, xR rd a1 0 = some v2 ∧ (xo s v2 100 ∧ (∃ n0 : Nat, x_X5_by_l17 Q   n0 a2 a3 0 v2 (nI (xlen s v2)) 0 s rd J I)))
theorem ct_X5_by  (a1 : Nat) (a2 : Int32) (a3 : Int32) (s : xS) (rd : xRd) (J : mJ) (I : mI) (Q : Int64 → Prop) (hf : x_X5_by a1 a2 a3 s rd J I Q) : hh_Ct yX5_by cX5_by 10 (some .long) 2 43 [.ref 73, .ref a1, .int a2, .int a3] (hx s rd J I) (xQl (fun r9 S9 R9 J9 I9 => s = S9 ∧ rd = R9 ∧ J = J9 ∧ I = I9 ∧ Q r9)) 0 0 := by
  refine hh_Ct.of (own := RX5) rfl (by decide +kernel) (Nat.le_of_ble_eq_true rfl) ?_
  intro X hX hN hE
  show hh_V X 0 [(0, .ref 73), (1, .ref a1), (2, .int a2), (3, .int a3)] [] 0 0 (hx s rd J I)
  unfold x_X5_by at hf
  refine hv_lconst (v := 0) hX rfl dX5_by_0 ?_
  refine hv_lstore (loc2 := [(4, .long 0), (0, .ref 73), (1, .ref a1), (2, .int a2), (3, .int a3)]) hX dX5_by_1 hN (Nat.le_of_ble_eq_true rfl) rfl ?_
  refine hv_aload_n hX dX5_by_3 rfl 2 rfl ?_
  obtain ⟨o1, hf⟩ := hf
  obtain ⟨v2, gv2, hf⟩ := hf
  refine hx_getR (v := v2) hX dX5_by_4 fl5_26_15 o1 gv2 ?_
  refine hv_astore (loc2 := [(6, .ref v2), (4, .long 0), (0, .ref 73), (1, .ref a1), (2, .int a2), (3, .int a3)]) hX dX5_by_7 hN (Nat.le_of_ble_eq_true rfl) rfl ?_
  refine hv_aload hX dX5_by_9 0 rfl ?_
  obtain ⟨o3, hf⟩ := hf
  refine hx_alen (v := nI (xlen s v2)) hX 0 rfl dX5_by_11 o3 rfl ?_
  refine hv_istore (loc2 := [(7, .int (nI (xlen s v2))), (6, .ref v2), (4, .long 0), (0, .ref 73), (1, .ref a1), (2, .int a2), (3, .int a3)]) hX dX5_by_12 hN (Nat.le_of_ble_eq_true rfl) rfl ?_
  refine hv_iconst (v := 0) hX icx_0 dX5_by_14 ?_
  refine hv_istore (loc2 := [(8, .int 0), (7, .int (nI (xlen s v2))), (6, .ref v2), (4, .long 0), (0, .ref 73), (1, .ref a1), (2, .int a2), (3, .int a3)]) hX dX5_by_15 hN (Nat.le_of_ble_eq_true rfl) rfl ?_
  refine hv_fewer [4, 6, 7, 3, 2, 1, 0] (loc2 := [(0, .ref 73), (2, .int a2), (3, .int a3), (4, .long 0), (6, .ref v2), (7, .int (nI (xlen s v2))), (8, .int 0)]) rfl ?_
  obtain ⟨n0, hf⟩ := hf
  exact w_X5_by_l17 hX hN hE  n0 _ _ _ _ _ _ _ _ _ _ rfl rfl rfl rfl hf
/-! HungryHedge$Dares.finds(II)V -/
def x_X5_finds_j117 (Q : mJ → Prop) (k10 : Int32 → Int32 → Int32 → Int32 → xS → xRd → mJ → mI → Prop) (a1 : Int32) (a2 : Int32) (a3 : Int32) (a4 : Int32) (s : xS) (rd : xRd) (J : mJ) (I : mI) : Prop :=
  k10 a1 a2 a3 (a4 + 1) s rd J I
theorem w_X5_finds_j117 {X : hh_CX} {S0 : xS} {R0 : xRd} {I0 : mI} {Q : mJ → Prop} (hX : hh_C X cX5_finds RX5 (hrx 3 72 0 0)) (hN : hh_nL X = 8) (hE : hh_E X none (xQv (fun S9 R9 J9 I9 => S0 = S9 ∧ R0 = R9 ∧ I0 = I9 ∧ Q J9)) 0 0) {k10 : Int32 → Int32 → Int32 → Int32 → xS → xRd → mJ → mI → Prop} (hk10 : ∀ (b0 : Int32) (b1 : Int32) (b2 : Int32) (b3 : Int32) (s : xS) (rd : xRd) (J : mJ) (I : mI), s = S0 → rd = R0 → I = I0 → k10 b0 b1 b2 b3 s rd J I → hh_V X 10 [(0, .ref 73), (1, .int b0), (2, .int b1), (3, .int b2), (4, .int b3)] [] 0 0 (hx s rd J I)) : ∀ (a1 : Int32) (a2 : Int32) (a3 : Int32) (a4 : Int32) (s : xS) (rd : xRd) (J : mJ) (I : mI), s = S0 → rd = R0 → I = I0 → x_X5_finds_j117 Q k10 a1 a2 a3 a4 s rd J I → hh_V X 117 [(0, .ref 73), (1, .int a1), (2, .int a2), (3, .int a3), (4, .int a4)] [] 0 0 (hx s rd J I) := by
  intro a1 a2 a3 a4 s rd J I e0 e1 e2 hf
  subst e0
  subst e1
  subst e2
  unfold x_X5_finds_j117 at hf
  refine hv_iinc (v := (a4 + 1)) (loc2 := [(4, .int (a4 + 1)), (0, .ref 73), (1, .int a1), (2, .int a2), (3, .int a3)]) hX dX5_finds_117 4 rfl (congrArg (fun y => a4 + y) icx_1) hN (Nat.le_of_ble_eq_true rfl) rfl ?_
  refine hv_goto (tgt := 10) hX dX5_finds_120 (by decide) ?_
  refine hv_fewer [1, 2, 3, 4, 0] (loc2 := [(0, .ref 73), (1, .int a1), (2, .int a2), (3, .int a3), (4, .int (a4 + 1))]) rfl ?_
  exact hk10 _ _ _ _ _ _ _ _ rfl rfl rfl hf
def x_X5_finds_j86 (Q : mJ → Prop) (k28 : Int32 → Int32 → Int32 → Int32 → Int32 → xS → xRd → mJ → mI → Prop) (a1 : Int32) (a2 : Int32) (a3 : Int32) (a4 : Int32) (a5 : Int32) (p0 : Int64) (s : xS) (rd : xRd) (J : mJ) (I : mI) : Prop :=
  vp_in a3 13 ∧ (∃ v10 : Nat, xR rd 74 a3.toNatClampNeg = some v10 ∧ (vp_in a3 13 ∧ (∃ v11 : Nat, xR rd 74 a3.toNatClampNeg = some v11 ∧ (xo s v11 110 ∧ (vp_in a4 (xlen s v11) ∧ (xo s v10 110 ∧ (vp_in a4 (xlen s v10) ∧ (k28 a1 a2 a3 a4 (a5 + 1) s rd (u2 J v10 a4.toNatClampNeg (if p0 < (J v11 a4.toNatClampNeg) then (J v11 a4.toNatClampNeg) else p0)) I))))))))
theorem w_X5_finds_j86 {X : hh_CX} {S0 : xS} {R0 : xRd} {I0 : mI} {Q : mJ → Prop} (hX : hh_C X cX5_finds RX5 (hrx 3 72 0 0)) (hN : hh_nL X = 8) (hE : hh_E X none (xQv (fun S9 R9 J9 I9 => S0 = S9 ∧ R0 = R9 ∧ I0 = I9 ∧ Q J9)) 0 0) {k28 : Int32 → Int32 → Int32 → Int32 → Int32 → xS → xRd → mJ → mI → Prop} (hk28 : ∀ (b0 : Int32) (b1 : Int32) (b2 : Int32) (b3 : Int32) (b4 : Int32) (s : xS) (rd : xRd) (J : mJ) (I : mI), s = S0 → rd = R0 → I = I0 → k28 b0 b1 b2 b3 b4 s rd J I → hh_V X 28 [(0, .ref 73), (1, .int b0), (2, .int b1), (3, .int b2), (4, .int b3), (5, .int b4)] [] 0 0 (hx s rd J I)) : ∀ (a1 : Int32) (a2 : Int32) (a3 : Int32) (a4 : Int32) (a5 : Int32) (p0 : Int64) (s : xS) (rd : xRd) (J : mJ) (I : mI), s = S0 → rd = R0 → I = I0 → x_X5_finds_j86 Q k28 a1 a2 a3 a4 a5 p0 s rd J I → hh_V X 86 [(0, .ref 73), (1, .int a1), (2, .int a2), (3, .int a3), (4, .int a4), (5, .int a5)] [.long p0] 0 0 (hx s rd J I) := by
  intro a1 a2 a3 a4 a5 p0 s rd J I e0 e1 e2 hf
  subst e0
  subst e1
  subst e2
  unfold x_X5_finds_j86 at hf
  refine hv_lstore (loc2 := [(6, .long p0), (0, .ref 73), (1, .int a1), (2, .int a2), (3, .int a3), (4, .int a4), (5, .int a5)]) hX dX5_finds_86 hN (Nat.le_of_ble_eq_true rfl) rfl ?_
  refine hv_aload_n hX dX5_finds_88 rfl 1 rfl ?_
  refine hx_getR (v := 74) hX dX5_finds_89 fl5_17_5 (xo_c (by decide) rfl) (xR_c rfl) ?_
  refine hv_iload_n hX dX5_finds_92 rfl 4 rfl ?_
  obtain ⟨g, hf⟩ := hf
  obtain ⟨v10, gv10, hf⟩ := hf
  refine hx_aald (v := v10) (a := 27) hX 11 rfl (by decide) dX5_finds_93 (xo_c (by decide) rfl) (xlen_c (by decide) rfl) g gv10 ?_
  refine hv_iload hX dX5_finds_94 5 rfl ?_
  refine hv_aload_n hX dX5_finds_96 rfl 1 rfl ?_
  refine hx_getR (v := 74) hX dX5_finds_97 fl5_17_5 (xo_c (by decide) rfl) (xR_c rfl) ?_
  refine hv_iload_n hX dX5_finds_100 rfl 4 rfl ?_
  obtain ⟨g, hf⟩ := hf
  obtain ⟨v11, gv11, hf⟩ := hf
  refine hx_aald (v := v11) (a := 27) hX 11 rfl (by decide) dX5_finds_101 (xo_c (by decide) rfl) (xlen_c (by decide) rfl) g gv11 ?_
  refine hv_iload hX dX5_finds_102 5 rfl ?_
  obtain ⟨o12, hf⟩ := hf
  obtain ⟨g, hf⟩ := hf
  refine hx_lald (v := (J v11 a4.toNatClampNeg)) hX dX5_finds_104 o12 rfl g rfl ?_
  refine hv_lload hX dX5_finds_105 0 rfl ?_
  refine hv_mmaxl hX dX5_finds_107 q830 q831 q127 q832 ⟨Nat.le_of_ble_eq_true rfl, Nat.le_of_ble_eq_true rfl⟩ ⟨Nat.le_of_ble_eq_true rfl, Nat.le_of_ble_eq_true rfl⟩ ?_
  obtain ⟨o13, hf⟩ := hf
  obtain ⟨g, hf⟩ := hf
  refine hx_last hX dX5_finds_110 o13 rfl g ?_
  refine hv_iinc (v := (a5 + 1)) (loc2 := [(5, .int (a5 + 1)), (6, .long p0), (0, .ref 73), (1, .int a1), (2, .int a2), (3, .int a3), (4, .int a4)]) hX dX5_finds_111 6 rfl (congrArg (fun y => a5 + y) icx_1) hN (Nat.le_of_ble_eq_true rfl) rfl ?_
  refine hv_goto (tgt := 28) hX dX5_finds_114 (by decide) ?_
  refine hv_fewer [2, 3, 4, 5, 6, 0] (loc2 := [(0, .ref 73), (1, .int a1), (2, .int a2), (3, .int a3), (4, .int a4), (5, .int (a5 + 1))]) rfl ?_
  exact hk28 _ _ _ _ _ _ _ _ _ rfl rfl rfl hf
def x_X5_finds_j62 (Q : mJ → Prop) (k28 : Int32 → Int32 → Int32 → Int32 → Int32 → xS → xRd → mJ → mI → Prop) (a1 : Int32) (a2 : Int32) (a3 : Int32) (a4 : Int32) (a5 : Int32) (s : xS) (rd : xRd) (J : mJ) (I : mI) : Prop :=
  vp_in a5 4 ∧ (∃ v8 : Nat, xR rd 8 a5.toNatClampNeg = some v8 ∧ (x_X5_by v8 a3 a4 s rd J I (fun r9 => x_X5_finds_j86 Q  k28 a1 a2 a3 a4 a5 r9 s rd J I)))
theorem w_X5_finds_j62 {X : hh_CX} {S0 : xS} {R0 : xRd} {I0 : mI} {Q : mJ → Prop} (hX : hh_C X cX5_finds RX5 (hrx 3 72 0 0)) (hN : hh_nL X = 8) (hE : hh_E X none (xQv (fun S9 R9 J9 I9 => S0 = S9 ∧ R0 = R9 ∧ I0 = I9 ∧ Q J9)) 0 0) {k28 : Int32 → Int32 → Int32 → Int32 → Int32 → xS → xRd → mJ → mI → Prop} (hk28 : ∀ (b0 : Int32) (b1 : Int32) (b2 : Int32) (b3 : Int32) (b4 : Int32) (s : xS) (rd : xRd) (J : mJ) (I : mI), s = S0 → rd = R0 → I = I0 → k28 b0 b1 b2 b3 b4 s rd J I → hh_V X 28 [(0, .ref 73), (1, .int b0), (2, .int b1), (3, .int b2), (4, .int b3), (5, .int b4)] [] 0 0 (hx s rd J I)) : ∀ (a1 : Int32) (a2 : Int32) (a3 : Int32) (a4 : Int32) (a5 : Int32) (s : xS) (rd : xRd) (J : mJ) (I : mI), s = S0 → rd = R0 → I = I0 → x_X5_finds_j62 Q k28 a1 a2 a3 a4 a5 s rd J I → hh_V X 62 [(0, .ref 73), (1, .int a1), (2, .int a2), (3, .int a3), (4, .int a4), (5, .int a5)] [] 0 0 (hx s rd J I) := by
  intro a1 a2 a3 a4 a5 s rd J I e0 e1 e2 hf
  subst e0
  subst e1
  subst e2
  unfold x_X5_finds_j62 at hf
  refine hv_aload_n hX dX5_finds_62 rfl 0 rfl ?_
  refine hv_aload_n hX dX5_finds_63 rfl 0 rfl ?_
  refine hx_getR (v := 0) hX dX5_finds_64 fl5_3_5 (xo_c (by decide) rfl) (xR_c rfl) ?_
  refine hx_getR (v := 1) hX dX5_finds_67 fl5_42_0 (xo_c (by decide) rfl) (xR_c rfl) ?_
  refine hx_getR (v := 8) hX dX5_finds_70 fl5_52_1 (xo_c (by decide) rfl) (xR_c rfl) ?_
  refine hv_iload hX dX5_finds_73 5 rfl ?_
  obtain ⟨g, hf⟩ := hf
  obtain ⟨v8, gv8, hf⟩ := hf
  refine hx_aald (v := v8) (a := 21) hX 5 rfl (by decide) dX5_finds_75 (xo_c (by decide) rfl) (xlen_c (by decide) rfl) g gv8 ?_
  refine hv_iload_n hX dX5_finds_76 rfl 3 rfl ?_
  refine hv_iload hX dX5_finds_77 4 rfl ?_
  refine hx_callVl (ci := 5) (q := (RX5, TX5, 2)) hX dX5_finds_79 (ct_X5_by v8 a3 a4 s rd J I _ hf) (lw_V q821 q823 qs10 q111 q824) rfl (by decide) ⟨rfl, np_X5_by⟩ rfl (xo_c (by decide) rfl) rfl ⟨Nat.le_of_ble_eq_true rfl, Nat.le_of_ble_eq_true rfl⟩ ⟨Nat.le_of_ble_eq_true rfl, Nat.le_of_ble_eq_true rfl⟩ (Nat.le_of_ble_eq_true rfl) ?_
  intro r9 S9 R9 J9 I9 hq
  clear hf
  obtain ⟨rfl, rfl, rfl, rfl, hf⟩ := hq
  refine hv_goto (tgt := 86) hX dX5_finds_82 (by decide) ?_
  exact w_X5_finds_j86 hX hN hE hk28 _ _ _ _ _ _ _ _ _ _ rfl rfl rfl hf
def x_X5_finds_l28 (Q : mJ → Prop) (k10 : Int32 → Int32 → Int32 → Int32 → xS → xRd → mJ → mI → Prop) : Nat → Int32 → Int32 → Int32 → Int32 → Int32 → xS → xRd → mJ → mI → Prop
  | 0, _, _, _, _, _, _, _, _, _ => False
  | n + 1, a1, a2, a3, a4, a5, s, rd, J, I =>
    ((I 1 1) ≤ a5 →
      x_X5_finds_j117 Q  k10 a1 a2 a3 a4 s rd J I) ∧ (¬ (I 1 1) ≤ a5 →
      (a3 ≤ 0 →
        x_X5_finds_j117 Q  k10 a1 a2 a3 a4 s rd J I) ∧ (¬ a3 ≤ 0 →
        (a4 ≤ 0 →
          x_X5_finds_j117 Q  k10 a1 a2 a3 a4 s rd J I) ∧ (¬ a4 ≤ 0 →
          (a2 < 0 →
            x_X5_finds_j62 Q  (fun b0 b1 b2 b3 b4 s rd J I => x_X5_finds_l28 Q  k10 n b0 b1 b2 b3 b4 s rd J I) a1 a2 a3 a4 a5 s rd J I) ∧ (¬ a2 < 0 →
            (a2 = a5 →
              x_X5_finds_j62 Q  (fun b0 b1 b2 b3 b4 s rd J I => x_X5_finds_l28 Q  k10 n b0 b1 b2 b3 b4 s rd J I) a1 a2 a3 a4 a5 s rd J I) ∧ (¬ a2 = a5 →
              x_X5_finds_j86 Q  (fun b0 b1 b2 b3 b4 s rd J I => x_X5_finds_l28 Q  k10 n b0 b1 b2 b3 b4 s rd J I) a1 a2 a3 a4 a5 0 s rd J I)))))
theorem w_X5_finds_l28 {X : hh_CX} {S0 : xS} {R0 : xRd} {I0 : mI} {Q : mJ → Prop} (hX : hh_C X cX5_finds RX5 (hrx 3 72 0 0)) (hN : hh_nL X = 8) (hE : hh_E X none (xQv (fun S9 R9 J9 I9 => S0 = S9 ∧ R0 = R9 ∧ I0 = I9 ∧ Q J9)) 0 0) {k10 : Int32 → Int32 → Int32 → Int32 → xS → xRd → mJ → mI → Prop} (hk10 : ∀ (b0 : Int32) (b1 : Int32) (b2 : Int32) (b3 : Int32) (s : xS) (rd : xRd) (J : mJ) (I : mI), s = S0 → rd = R0 → I = I0 → k10 b0 b1 b2 b3 s rd J I → hh_V X 10 [(0, .ref 73), (1, .int b0), (2, .int b1), (3, .int b2), (4, .int b3)] [] 0 0 (hx s rd J I)) : ∀ (n : Nat) (a1 : Int32) (a2 : Int32) (a3 : Int32) (a4 : Int32) (a5 : Int32) (s : xS) (rd : xRd) (J : mJ) (I : mI), s = S0 → rd = R0 → I = I0 → x_X5_finds_l28 Q k10 n a1 a2 a3 a4 a5 s rd J I → hh_V X 28 [(0, .ref 73), (1, .int a1), (2, .int a2), (3, .int a3), (4, .int a4), (5, .int a5)] [] 0 0 (hx s rd J I) := by
  intro n
  induction n with
  | zero => intro _ _ _ _ _ _ _ _ _ _ _ _ hf; exact hf.elim
  | succ n ih =>
    intro a1 a2 a3 a4 a5 s rd J I e0 e1 e2 hf
    subst e0
    subst e1
    subst e2
    unfold x_X5_finds_l28 at hf
    refine hv_iload hX dX5_finds_28 5 rfl ?_
    refine hv_aload_n hX dX5_finds_30 rfl 0 rfl ?_
    refine hx_getR (v := 0) hX dX5_finds_31 fl5_3_5 (xo_c (by decide) rfl) (xR_c rfl) ?_
    refine hx_getR (v := 1) hX dX5_finds_34 fl5_42_0 (xo_c (by decide) rfl) (xR_c rfl) ?_
    refine hx_getI (v := (I 1 1)) hX dX5_finds_37 fl5_46_1 (.inl rfl) (xo_c (by decide) rfl) rfl ?_
    refine hv_icmp_ge (tgt := 117) hX dX5_finds_40 (by decide) (fun c4 => ?_) (fun c4 => ?_)
    · replace hf := hf.1 c4
      refine hv_fewer [0, 1, 2, 3, 4] (loc2 := [(0, .ref 73), (1, .int a1), (2, .int a2), (3, .int a3), (4, .int a4)]) rfl ?_
      exact w_X5_finds_j117 hX hN hE hk10 _ _ _ _ _ _ _ _ rfl rfl rfl hf
    · replace hf := hf.2 c4
      refine hv_iload_n hX dX5_finds_43 rfl 3 rfl ?_
      refine hv_if_le (tgt := 117) hX dX5_finds_44 (by decide) (fun c5 => ?_) (fun c5 => ?_)
      · replace hf := hf.1 c5
        refine hv_fewer [0, 1, 2, 3, 4] (loc2 := [(0, .ref 73), (1, .int a1), (2, .int a2), (3, .int a3), (4, .int a4)]) rfl ?_
        exact w_X5_finds_j117 hX hN hE hk10 _ _ _ _ _ _ _ _ rfl rfl rfl hf
      · replace hf := hf.2 c5
        refine hv_iload hX dX5_finds_47 4 rfl ?_
        refine hv_if_le (tgt := 117) hX dX5_finds_49 (by decide) (fun c6 => ?_) (fun c6 => ?_)
        · replace hf := hf.1 c6
          refine hv_fewer [0, 1, 2, 3, 4] (loc2 := [(0, .ref 73), (1, .int a1), (2, .int a2), (3, .int a3), (4, .int a4)]) rfl ?_
          exact w_X5_finds_j117 hX hN hE hk10 _ _ _ _ _ _ _ _ rfl rfl rfl hf
        · replace hf := hf.2 c6
          refine hv_iload_n hX dX5_finds_52 rfl 2 rfl ?_
          refine hv_if_lt (tgt := 62) hX dX5_finds_53 (by decide) (fun c7 => ?_) (fun c7 => ?_)
          · replace hf := hf.1 c7
            exact w_X5_finds_j62 hX hN hE ih _ _ _ _ _ _ _ _ _ rfl rfl rfl hf
          · replace hf := hf.2 c7
            refine hv_iload_n hX dX5_finds_56 rfl 2 rfl ?_
            refine hv_iload hX dX5_finds_57 5 rfl ?_
            refine hv_icmp_ne (tgt := 85) hX dX5_finds_59 (by decide) (fun c14 => ?_) (fun c14 => ?_)
            · replace hf := hf.2 c14
              refine hv_lconst (v := 0) hX rfl dX5_finds_85 ?_
              exact w_X5_finds_j86 hX hN hE ih _ _ _ _ _ _ _ _ _ _ rfl rfl rfl hf
            · replace hf := hf.1 c14
              exact w_X5_finds_j62 hX hN hE ih _ _ _ _ _ _ _ _ _ rfl rfl rfl hf
def x_X5_finds_l10 (Q : mJ → Prop) (k2 : Int32 → Int32 → Int32 → xS → xRd → mJ → mI → Prop) : Nat → Int32 → Int32 → Int32 → Int32 → xS → xRd → mJ → mI → Prop
  | 0, _, _, _, _, _, _, _, _ => False
  | n + 1, a1, a2, a3, a4, s, rd, J, I =>
    ((240 : Int32) < a4 →
      k2 a1 a2 (a3 + 1) s rd J I) ∧ (¬ (240 : Int32) < a4 →
      x_X5_first a3 a4 s rd J I (fun J3 => ∃ n0 : Nat, x_X5_finds_l28 Q  (fun b0 b1 b2 b3 s rd J I => x_X5_finds_l10 Q  k2 n b0 b1 b2 b3 s rd J I) n0 a1 a2 a3 a4 0 s rd J3 I))
theorem w_X5_finds_l10 {X : hh_CX} {S0 : xS} {R0 : xRd} {I0 : mI} {Q : mJ → Prop} (hX : hh_C X cX5_finds RX5 (hrx 3 72 0 0)) (hN : hh_nL X = 8) (hE : hh_E X none (xQv (fun S9 R9 J9 I9 => S0 = S9 ∧ R0 = R9 ∧ I0 = I9 ∧ Q J9)) 0 0) {k2 : Int32 → Int32 → Int32 → xS → xRd → mJ → mI → Prop} (hk2 : ∀ (b0 : Int32) (b1 : Int32) (b2 : Int32) (s : xS) (rd : xRd) (J : mJ) (I : mI), s = S0 → rd = R0 → I = I0 → k2 b0 b1 b2 s rd J I → hh_V X 2 [(0, .ref 73), (1, .int b0), (2, .int b1), (3, .int b2)] [] 0 0 (hx s rd J I)) : ∀ (n : Nat) (a1 : Int32) (a2 : Int32) (a3 : Int32) (a4 : Int32) (s : xS) (rd : xRd) (J : mJ) (I : mI), s = S0 → rd = R0 → I = I0 → x_X5_finds_l10 Q k2 n a1 a2 a3 a4 s rd J I → hh_V X 10 [(0, .ref 73), (1, .int a1), (2, .int a2), (3, .int a3), (4, .int a4)] [] 0 0 (hx s rd J I) := by
  intro n
  induction n with
  | zero => intro _ _ _ _ _ _ _ _ _ _ _ hf; exact hf.elim
  | succ n ih =>
    intro a1 a2 a3 a4 s rd J I e0 e1 e2 hf
    subst e0
    subst e1
    subst e2
    unfold x_X5_finds_l10 at hf
    refine hv_iload hX dX5_finds_10 4 rfl ?_
    refine hv_sipush (v := 240) hX six_240 dX5_finds_12 ?_
    refine hv_icmp_gt (tgt := 123) hX dX5_finds_15 (by decide) (fun c2 => ?_) (fun c2 => ?_)
    · replace hf := hf.1 c2
      refine hv_iinc (v := (a3 + 1)) (loc2 := [(3, .int (a3 + 1)), (0, .ref 73), (1, .int a1), (2, .int a2), (4, .int a4)]) hX dX5_finds_123 3 rfl (congrArg (fun y => a3 + y) icx_1) hN (Nat.le_of_ble_eq_true rfl) rfl ?_
      refine hv_goto (tgt := 2) hX dX5_finds_126 (by decide) ?_
      refine hv_fewer [1, 2, 3, 0] (loc2 := [(0, .ref 73), (1, .int a1), (2, .int a2), (3, .int (a3 + 1))]) rfl ?_
      exact hk2 _ _ _ _ _ _ _ rfl rfl rfl hf
    · replace hf := hf.2 c2
      refine hv_aload_n hX dX5_finds_18 rfl 0 rfl ?_
      refine hv_iload_n hX dX5_finds_19 rfl 3 rfl ?_
      refine hv_iload hX dX5_finds_20 4 rfl ?_
      refine hx_callVv (ci := 5) (q := (RX5, TX5, 2)) hX dX5_finds_22 (ct_X5_first a3 a4 s rd J I _ hf) (lw_V q816 q818 qs9 q111 q819) rfl (by decide) ⟨rfl, np_X5_first⟩ rfl (xo_c (by decide) rfl) rfl ⟨Nat.le_of_ble_eq_true rfl, Nat.le_of_ble_eq_true rfl⟩ ⟨Nat.le_of_ble_eq_true rfl, Nat.le_of_ble_eq_true rfl⟩ (Nat.le_of_ble_eq_true rfl) ?_
      intro  S9 R9 J3 I9 hq
      clear hf
      obtain ⟨rfl, rfl, rfl, hf⟩ := hq
      refine hv_iconst (v := 0) hX icx_0 dX5_finds_25 ?_
      refine hv_istore (loc2 := [(5, .int 0), (0, .ref 73), (1, .int a1), (2, .int a2), (3, .int a3), (4, .int a4)]) hX dX5_finds_26 hN (Nat.le_of_ble_eq_true rfl) rfl ?_
      refine hv_fewer [1, 2, 3, 4, 5, 0] (loc2 := [(0, .ref 73), (1, .int a1), (2, .int a2), (3, .int a3), (4, .int a4), (5, .int 0)]) rfl ?_
      obtain ⟨n0, hf⟩ := hf
      exact w_X5_finds_l28 hX hN hE ih n0 _ _ _ _ _ _ _ _ _ rfl rfl rfl hf
def x_X5_finds_l2 (Q : mJ → Prop) : Nat → Int32 → Int32 → Int32 → xS → xRd → mJ → mI → Prop
  | 0, _, _, _, _, _, _, _ => False
  | n + 1, a1, a2, a3, s, rd, J, I =>
    (a1 < a3 →
      Q J) ∧ (¬ a1 < a3 →
      ∃ n0 : Nat, x_X5_finds_l10 Q  (fun b0 b1 b2 s rd J I => x_X5_finds_l2 Q   n b0 b1 b2 s rd J I) n0 a1 a2 a3 0 s rd J I)
theorem w_X5_finds_l2 {X : hh_CX} {S0 : xS} {R0 : xRd} {I0 : mI} {Q : mJ → Prop} (hX : hh_C X cX5_finds RX5 (hrx 3 72 0 0)) (hN : hh_nL X = 8) (hE : hh_E X none (xQv (fun S9 R9 J9 I9 => S0 = S9 ∧ R0 = R9 ∧ I0 = I9 ∧ Q J9)) 0 0) : ∀ (n : Nat) (a1 : Int32) (a2 : Int32) (a3 : Int32) (s : xS) (rd : xRd) (J : mJ) (I : mI), s = S0 → rd = R0 → I = I0 → x_X5_finds_l2 Q  n a1 a2 a3 s rd J I → hh_V X 2 [(0, .ref 73), (1, .int a1), (2, .int a2), (3, .int a3)] [] 0 0 (hx s rd J I) := by
  intro n
  induction n with
  | zero => intro _ _ _ _ _ _ _ _ _ _ hf; exact hf.elim
  | succ n ih =>
    intro a1 a2 a3 s rd J I e0 e1 e2 hf
    subst e0
    subst e1
    subst e2
    unfold x_X5_finds_l2 at hf
    refine hv_iload_n hX dX5_finds_2 rfl 3 rfl ?_
    refine hv_iload_n hX dX5_finds_3 rfl 1 rfl ?_
    refine hv_icmp_gt (tgt := 129) hX dX5_finds_4 (by decide) (fun c1 => ?_) (fun c1 => ?_)
    · replace hf := hf.1 c1
      exact hx_vret hX hE dX5_finds_129 ⟨rfl, rfl, rfl, hf⟩
    · replace hf := hf.2 c1
      refine hv_iconst (v := 0) hX icx_0 dX5_finds_7 ?_
      refine hv_istore (loc2 := [(4, .int 0), (0, .ref 73), (1, .int a1), (2, .int a2), (3, .int a3)]) hX dX5_finds_8 hN (Nat.le_of_ble_eq_true rfl) rfl ?_
      refine hv_fewer [1, 2, 3, 4, 0] (loc2 := [(0, .ref 73), (1, .int a1), (2, .int a2), (3, .int a3), (4, .int 0)]) rfl ?_
      obtain ⟨n0, hf⟩ := hf
      exact w_X5_finds_l10 hX hN hE ih n0 _ _ _ _ _ _ _ _ rfl rfl rfl hf
def x_X5_finds (a1 : Int32) (a2 : Int32) (s : xS) (rd : xRd) (J : mJ) (I : mI) (Q : mJ → Prop) : Prop :=
  ∃ n0 : Nat, x_X5_finds_l2 Q   n0 a1 a2 0 s rd J I
theorem ct_X5_finds  (a1 : Int32) (a2 : Int32) (s : xS) (rd : xRd) (J : mJ) (I : mI) (Q : mJ → Prop) (hf : x_X5_finds a1 a2 s rd J I Q) : hh_Ct yX5_finds cX5_finds 8 none 3 72 [.ref 73, .int a1, .int a2] (hx s rd J I) (xQv (fun S9 R9 J9 I9 => s = S9 ∧ rd = R9 ∧ I = I9 ∧ Q J9)) 0 0 := by
  refine hh_Ct.of (own := RX5) rfl (by decide +kernel) (Nat.le_of_ble_eq_true rfl) ?_
  intro X hX hN hE
  show hh_V X 0 [(0, .ref 73), (1, .int a1), (2, .int a2)] [] 0 0 (hx s rd J I)
  unfold x_X5_finds at hf
  refine hv_iconst (v := 0) hX icx_0 dX5_finds_0 ?_
  refine hv_istore_n (loc2 := [(3, .int 0), (0, .ref 73), (1, .int a1), (2, .int a2)]) hX dX5_finds_1 rfl hN (Nat.le_of_ble_eq_true rfl) rfl ?_
  refine hv_fewer [1, 2, 3, 0] (loc2 := [(0, .ref 73), (1, .int a1), (2, .int a2), (3, .int 0)]) rfl ?_
  obtain ⟨n0, hf⟩ := hf
  exact w_X5_finds_l2 hX hN hE  n0 _ _ _ _ _ _ _ rfl rfl rfl hf
/-! HungryHedge$Reader.here()I -/
def x_X7_here  (s : xS) (rd : xRd) (J : mJ) (I : mI) (Q : Int32 → Prop) : Prop :=
  ((I 93 4) ≤ (I 93 5) →
    Q (-1) ) ∧ (¬ (I 93 4) ≤ (I 93 5) →
    ∃ v2 : Nat, xR rd 93 3 = some v2 ∧ (xo s v2 101 ∧ (vp_in (I 93 5) (xlen s v2) ∧ (Q (I v2 (I 93 5).toNatClampNeg) ))))
theorem ct_X7_here   (s : xS) (rd : xRd) (J : mJ) (I : mI) (Q : Int32 → Prop) (hf : x_X7_here  s rd J I Q) : hh_Ct yX7_here cX7_here 1 (some .int) 0 0 [.ref 93] (hx s rd J I) (xQi (fun r9 S9 R9 J9 I9 => s = S9 ∧ rd = R9 ∧ J = J9 ∧ I = I9 ∧ Q r9)) 0 0 := by
  refine hh_Ct.of (own := RX7) rfl (by decide +kernel) (Nat.le_of_ble_eq_true rfl) ?_
  intro X hX hN hE
  show hh_V X 0 [(0, .ref 93)] [] 0 0 (hx s rd J I)
  unfold x_X7_here at hf
  refine hv_aload_n hX dX7_here_0 rfl 0 rfl ?_
  refine hx_getI (v := (I 93 5)) hX dX7_here_1 fl7_42_7 (.inl rfl) (xo_c (by decide) rfl) rfl ?_
  refine hv_aload_n hX dX7_here_4 rfl 0 rfl ?_
  refine hx_getI (v := (I 93 4)) hX dX7_here_5 fl7_46_7 (.inl rfl) (xo_c (by decide) rfl) rfl ?_
  refine hv_icmp_ge (tgt := 23) hX dX7_here_8 (by decide) (fun c1 => ?_) (fun c1 => ?_)
  · replace hf := hf.1 c1
    refine hv_iconst (v := (-1)) hX icx_m1 dX7_here_23 ?_
    exact hx_iret hX hE dX7_here_24 ⟨rfl, rfl, rfl, rfl, hf⟩
  · replace hf := hf.2 c1
    refine hv_aload_n hX dX7_here_11 rfl 0 rfl ?_
    obtain ⟨v2, gv2, hf⟩ := hf
    refine hx_getR (v := v2) hX dX7_here_12 fl7_49_7 (xo_c (by decide) rfl) gv2 ?_
    refine hv_aload_n hX dX7_here_15 rfl 0 rfl ?_
    refine hx_getI (v := (I 93 5)) hX dX7_here_16 fl7_42_7 (.inl rfl) (xo_c (by decide) rfl) rfl ?_
    obtain ⟨o3, hf⟩ := hf
    obtain ⟨g, hf⟩ := hf
    refine hx_bald (v := (I v2 (I 93 5).toNatClampNeg)) hX dX7_here_19 o3 rfl g rfl ?_
    refine hv_goto (tgt := 24) hX dX7_here_20 (by decide) ?_
    exact hx_iret hX hE dX7_here_24 ⟨rfl, rfl, rfl, rfl, hf⟩
/-! HungryHedge$Reader.isLetter(I)Z -/
def x_X7_isLetter (a0 : Int32) (s : xS) (rd : xRd) (J : mJ) (I : mI) (Q : Int32 → Prop) : Prop :=
  (a0 < 97 →
    Q 0 ) ∧ (¬ a0 < 97 →
    ((122 : Int32) < a0 →
      Q 0 ) ∧ (¬ (122 : Int32) < a0 →
      Q 1 ))
theorem ct_X7_isLetter  (a0 : Int32) (s : xS) (rd : xRd) (J : mJ) (I : mI) (Q : Int32 → Prop) (hf : x_X7_isLetter a0 s rd J I Q) : hh_Ct yX7_isLetter cX7_isLetter 1 (some .boolean) 0 0 [.int a0] (hx s rd J I) (xQi (fun r9 S9 R9 J9 I9 => s = S9 ∧ rd = R9 ∧ J = J9 ∧ I = I9 ∧ Q r9)) 0 0 := by
  refine hh_Ct.of (own := RX7) rfl (by decide +kernel) (Nat.le_of_ble_eq_true rfl) ?_
  intro X hX hN hE
  show hh_V X 0 [(0, .int a0)] [] 0 0 (hx s rd J I)
  unfold x_X7_isLetter at hf
  refine hv_iload_n hX dX7_isLetter_0 rfl 0 rfl ?_
  refine hv_bipush (v := 97) hX bix_97 dX7_isLetter_1 ?_
  refine hv_icmp_lt (tgt := 16) hX dX7_isLetter_3 (by decide) (fun c1 => ?_) (fun c1 => ?_)
  · replace hf := hf.1 c1
    refine hv_iconst (v := 0) hX icx_0 dX7_isLetter_16 ?_
    exact hx_zret hX hE dX7_isLetter_17 (by decide) ⟨rfl, rfl, rfl, rfl, hf⟩
  · replace hf := hf.2 c1
    refine hv_iload_n hX dX7_isLetter_6 rfl 0 rfl ?_
    refine hv_bipush (v := 122) hX bix_122 dX7_isLetter_7 ?_
    refine hv_icmp_gt (tgt := 16) hX dX7_isLetter_9 (by decide) (fun c2 => ?_) (fun c2 => ?_)
    · replace hf := hf.1 c2
      refine hv_iconst (v := 0) hX icx_0 dX7_isLetter_16 ?_
      exact hx_zret hX hE dX7_isLetter_17 (by decide) ⟨rfl, rfl, rfl, rfl, hf⟩
    · replace hf := hf.2 c2
      refine hv_iconst (v := 1) hX icx_1 dX7_isLetter_12 ?_
      refine hv_goto (tgt := 17) hX dX7_isLetter_13 (by decide) ?_
      exact hx_zret hX hE dX7_isLetter_17 (by decide) ⟨rfl, rfl, rfl, rfl, hf⟩
/-! HungryHedge$Reader.isDigit(I)Z -/
def x_X7_isDigit (a0 : Int32) (s : xS) (rd : xRd) (J : mJ) (I : mI) (Q : Int32 → Prop) : Prop :=
  (a0 < 48 →
    Q 0 ) ∧ (¬ a0 < 48 →
    ((57 : Int32) < a0 →
      Q 0 ) ∧ (¬ (57 : Int32) < a0 →
      Q 1 ))
theorem ct_X7_isDigit  (a0 : Int32) (s : xS) (rd : xRd) (J : mJ) (I : mI) (Q : Int32 → Prop) (hf : x_X7_isDigit a0 s rd J I Q) : hh_Ct yX7_isDigit cX7_isDigit 1 (some .boolean) 0 0 [.int a0] (hx s rd J I) (xQi (fun r9 S9 R9 J9 I9 => s = S9 ∧ rd = R9 ∧ J = J9 ∧ I = I9 ∧ Q r9)) 0 0 := by
  refine hh_Ct.of (own := RX7) rfl (by decide +kernel) (Nat.le_of_ble_eq_true rfl) ?_
  intro X hX hN hE
  show hh_V X 0 [(0, .int a0)] [] 0 0 (hx s rd J I)
  unfold x_X7_isDigit at hf
  refine hv_iload_n hX dX7_isDigit_0 rfl 0 rfl ?_
  refine hv_bipush (v := 48) hX bix_48 dX7_isDigit_1 ?_
  refine hv_icmp_lt (tgt := 16) hX dX7_isDigit_3 (by decide) (fun c1 => ?_) (fun c1 => ?_)
  · replace hf := hf.1 c1
    refine hv_iconst (v := 0) hX icx_0 dX7_isDigit_16 ?_
    exact hx_zret hX hE dX7_isDigit_17 (by decide) ⟨rfl, rfl, rfl, rfl, hf⟩
  · replace hf := hf.2 c1
    refine hv_iload_n hX dX7_isDigit_6 rfl 0 rfl ?_
    refine hv_bipush (v := 57) hX bix_57 dX7_isDigit_7 ?_
    refine hv_icmp_gt (tgt := 16) hX dX7_isDigit_9 (by decide) (fun c2 => ?_) (fun c2 => ?_)
    · replace hf := hf.1 c2
      refine hv_iconst (v := 0) hX icx_0 dX7_isDigit_16 ?_
      exact hx_zret hX hE dX7_isDigit_17 (by decide) ⟨rfl, rfl, rfl, rfl, hf⟩
    · replace hf := hf.2 c2
      refine hv_iconst (v := 1) hX icx_1 dX7_isDigit_12 ?_
      refine hv_goto (tgt := 17) hX dX7_isDigit_13 (by decide) ?_
      exact hx_zret hX hE dX7_isDigit_17 (by decide) ⟨rfl, rfl, rfl, rfl, hf⟩
/-! HungryHedge$Reader.next()V -/
def x_X7_next_j139 (Q : mI → Prop) (k90 : Int32 → Int32 → xS → xRd → mJ → mI → Prop) (a1 : Int32) (a2 : Int32) (s : xS) (rd : xRd) (J : mJ) (I : mI) : Prop :=
  k90 a1 a2 s rd J (u2 I 93 6 ((I 93 6) + 1))
theorem w_X7_next_j139 {X : hh_CX} {S0 : xS} {R0 : xRd} {J0 : mJ} {Q : mI → Prop} (hX : hh_C X cX7_next RX7 (hrx 1 20 0 0)) (hN : hh_nL X = 3) (hE : hh_E X none (xQv (fun S9 R9 J9 I9 => S0 = S9 ∧ R0 = R9 ∧ J0 = J9 ∧ Q I9)) 0 0) {k90 : Int32 → Int32 → xS → xRd → mJ → mI → Prop} (hk90 : ∀ (b0 : Int32) (b1 : Int32) (s : xS) (rd : xRd) (J : mJ) (I : mI), s = S0 → rd = R0 → J = J0 → k90 b0 b1 s rd J I → hh_V X 90 [(0, .ref 93), (1, .int b0), (2, .int b1)] [] 0 0 (hx s rd J I)) : ∀ (a1 : Int32) (a2 : Int32) (s : xS) (rd : xRd) (J : mJ) (I : mI), s = S0 → rd = R0 → J = J0 → x_X7_next_j139 Q k90 a1 a2 s rd J I → hh_V X 139 [(0, .ref 93), (1, .int a1), (2, .int a2)] [] 0 0 (hx s rd J I) := by
  intro a1 a2 s rd J I e0 e1 e2 hf
  subst e0
  subst e1
  subst e2
  unfold x_X7_next_j139 at hf
  refine hv_aload_n hX dX7_next_139 rfl 0 rfl ?_
  refine hv_dup hX rfl dX7_next_140 ?_
  refine hx_getI (v := (I 93 6)) hX dX7_next_141 fl7_53_7 (.inl rfl) (xo_c (by decide) rfl) rfl ?_
  refine hv_iconst (v := 1) hX icx_1 dX7_next_144 ?_
  refine hv_iadd hX dX7_next_145 ?_
  refine hx_putI hX dX7_next_146 fl7_53_7 (xo_c (by decide) rfl) ?_
  refine hv_goto (tgt := 90) hX dX7_next_149 (by decide) ?_
  exact hk90 _ _ _ _ _ _ rfl rfl rfl hf
def x_X7_next_j120 (Q : mI → Prop) (k90 : Int32 → Int32 → xS → xRd → mJ → mI → Prop) (a1 : Int32) (a2 : Int32) (s : xS) (rd : xRd) (J : mJ) (I : mI) : Prop :=
  (a2 = 0 →
    Q I) ∧ (¬ a2 = 0 →
    ∃ v10 : Nat, xR rd 93 3 = some v10 ∧ (xo s v10 101 ∧ (vp_in (I 93 6) (xlen s v10) ∧ (x_X7_isDigit (I v10 (I 93 6).toNatClampNeg) s rd J I (fun r12 => (r12 = 0 →
      Q I) ∧ (¬ r12 = 0 →
      x_X7_next_j139 Q  k90 a1 a2 s rd J I))))))
theorem w_X7_next_j120 {X : hh_CX} {S0 : xS} {R0 : xRd} {J0 : mJ} {Q : mI → Prop} (hX : hh_C X cX7_next RX7 (hrx 1 20 0 0)) (hN : hh_nL X = 3) (hE : hh_E X none (xQv (fun S9 R9 J9 I9 => S0 = S9 ∧ R0 = R9 ∧ J0 = J9 ∧ Q I9)) 0 0) {k90 : Int32 → Int32 → xS → xRd → mJ → mI → Prop} (hk90 : ∀ (b0 : Int32) (b1 : Int32) (s : xS) (rd : xRd) (J : mJ) (I : mI), s = S0 → rd = R0 → J = J0 → k90 b0 b1 s rd J I → hh_V X 90 [(0, .ref 93), (1, .int b0), (2, .int b1)] [] 0 0 (hx s rd J I)) : ∀ (a1 : Int32) (a2 : Int32) (s : xS) (rd : xRd) (J : mJ) (I : mI), s = S0 → rd = R0 → J = J0 → x_X7_next_j120 Q k90 a1 a2 s rd J I → hh_V X 120 [(0, .ref 93), (1, .int a1), (2, .int a2)] [] 0 0 (hx s rd J I) := by
  intro a1 a2 s rd J I e0 e1 e2 hf
  subst e0
  subst e1
  subst e2
  unfold x_X7_next_j120 at hf
  refine hv_iload_n hX dX7_next_120 rfl 2 rfl ?_
  refine hv_if_eq (tgt := 152) hX dX7_next_121 (by decide) (fun c9 => ?_) (fun c9 => ?_)
  · replace hf := hf.1 c9
    exact hx_vret hX hE dX7_next_152 ⟨rfl, rfl, rfl, hf⟩
  · replace hf := hf.2 c9
    refine hv_aload_n hX dX7_next_124 rfl 0 rfl ?_
    obtain ⟨v10, gv10, hf⟩ := hf
    refine hx_getR (v := v10) hX dX7_next_125 fl7_49_7 (xo_c (by decide) rfl) gv10 ?_
    refine hv_aload_n hX dX7_next_128 rfl 0 rfl ?_
    refine hx_getI (v := (I 93 6)) hX dX7_next_129 fl7_53_7 (.inl rfl) (xo_c (by decide) rfl) rfl ?_
    obtain ⟨o11, hf⟩ := hf
    obtain ⟨g, hf⟩ := hf
    refine hx_bald (v := (I v10 (I 93 6).toNatClampNeg)) hX dX7_next_132 o11 rfl g rfl ?_
    refine hx_callSi hX dX7_next_133 (ct_X7_isDigit (I v10 (I 93 6).toNatClampNeg) s rd J I _ hf) (lw_S q967 q968 q113 q969) np_X7_isDigit rfl rfl ⟨Nat.le_of_ble_eq_true rfl, Nat.le_of_ble_eq_true rfl⟩ ⟨Nat.le_of_ble_eq_true rfl, Nat.le_of_ble_eq_true rfl⟩ (Nat.le_of_ble_eq_true rfl) ?_
    intro r12 S9 R9 J9 I9 hq
    clear hf
    obtain ⟨rfl, rfl, rfl, rfl, hf⟩ := hq
    refine hv_if_eq (tgt := 152) hX dX7_next_136 (by decide) (fun c13 => ?_) (fun c13 => ?_)
    · replace hf := hf.1 c13
      exact hx_vret hX hE dX7_next_152 ⟨rfl, rfl, rfl, hf⟩
    · replace hf := hf.2 c13
      exact w_X7_next_j139 hX hN hE hk90 _ _ _ _ _ _ rfl rfl rfl hf
def x_X7_next_l90 (Q : mI → Prop) : Nat → Int32 → Int32 → xS → xRd → mJ → mI → Prop
  | 0, _, _, _, _, _, _ => False
  | n + 1, a1, a2, s, rd, J, I =>
    ((I 93 4) ≤ (I 93 6) →
      Q I) ∧ (¬ (I 93 4) ≤ (I 93 6) →
      (a1 = 0 →
        x_X7_next_j120 Q  (fun b0 b1 s rd J I => x_X7_next_l90 Q   n b0 b1 s rd J I) a1 a2 s rd J I) ∧ (¬ a1 = 0 →
        ∃ v14 : Nat, xR rd 93 3 = some v14 ∧ (xo s v14 101 ∧ (vp_in (I 93 6) (xlen s v14) ∧ (x_X7_isLetter (I v14 (I 93 6).toNatClampNeg) s rd J I (fun r16 => (r16 = 0 →
          x_X7_next_j120 Q  (fun b0 b1 s rd J I => x_X7_next_l90 Q   n b0 b1 s rd J I) a1 a2 s rd J I) ∧ (¬ r16 = 0 →
          x_X7_next_j139 Q  (fun b0 b1 s rd J I => x_X7_next_l90 Q   n b0 b1 s rd J I) a1 a2 s rd J I)))))))
theorem w_X7_next_l90 {X : hh_CX} {S0 : xS} {R0 : xRd} {J0 : mJ} {Q : mI → Prop} (hX : hh_C X cX7_next RX7 (hrx 1 20 0 0)) (hN : hh_nL X = 3) (hE : hh_E X none (xQv (fun S9 R9 J9 I9 => S0 = S9 ∧ R0 = R9 ∧ J0 = J9 ∧ Q I9)) 0 0) : ∀ (n : Nat) (a1 : Int32) (a2 : Int32) (s : xS) (rd : xRd) (J : mJ) (I : mI), s = S0 → rd = R0 → J = J0 → x_X7_next_l90 Q  n a1 a2 s rd J I → hh_V X 90 [(0, .ref 93), (1, .int a1), (2, .int a2)] [] 0 0 (hx s rd J I) := by
  intro n
  induction n with
  | zero => intro _ _ _ _ _ _ _ _ _ hf; exact hf.elim
  | succ n ih =>
    intro a1 a2 s rd J I e0 e1 e2 hf
    subst e0
    subst e1
    subst e2
    unfold x_X7_next_l90 at hf
    refine hv_aload_n hX dX7_next_90 rfl 0 rfl ?_
    refine hx_getI (v := (I 93 6)) hX dX7_next_91 fl7_53_7 (.inl rfl) (xo_c (by decide) rfl) rfl ?_
    refine hv_aload_n hX dX7_next_94 rfl 0 rfl ?_
    refine hx_getI (v := (I 93 4)) hX dX7_next_95 fl7_46_7 (.inl rfl) (xo_c (by decide) rfl) rfl ?_
    refine hv_icmp_ge (tgt := 152) hX dX7_next_98 (by decide) (fun c7 => ?_) (fun c7 => ?_)
    · replace hf := hf.1 c7
      exact hx_vret hX hE dX7_next_152 ⟨rfl, rfl, rfl, hf⟩
    · replace hf := hf.2 c7
      refine hv_iload_n hX dX7_next_101 rfl 1 rfl ?_
      refine hv_if_eq (tgt := 120) hX dX7_next_102 (by decide) (fun c8 => ?_) (fun c8 => ?_)
      · replace hf := hf.1 c8
        exact w_X7_next_j120 hX hN hE ih _ _ _ _ _ _ rfl rfl rfl hf
      · replace hf := hf.2 c8
        refine hv_aload_n hX dX7_next_105 rfl 0 rfl ?_
        obtain ⟨v14, gv14, hf⟩ := hf
        refine hx_getR (v := v14) hX dX7_next_106 fl7_49_7 (xo_c (by decide) rfl) gv14 ?_
        refine hv_aload_n hX dX7_next_109 rfl 0 rfl ?_
        refine hx_getI (v := (I 93 6)) hX dX7_next_110 fl7_53_7 (.inl rfl) (xo_c (by decide) rfl) rfl ?_
        obtain ⟨o15, hf⟩ := hf
        obtain ⟨g, hf⟩ := hf
        refine hx_bald (v := (I v14 (I 93 6).toNatClampNeg)) hX dX7_next_113 o15 rfl g rfl ?_
        refine hx_callSi hX dX7_next_114 (ct_X7_isLetter (I v14 (I 93 6).toNatClampNeg) s rd J I _ hf) (lw_S q964 q965 q113 q966) np_X7_isLetter rfl rfl ⟨Nat.le_of_ble_eq_true rfl, Nat.le_of_ble_eq_true rfl⟩ ⟨Nat.le_of_ble_eq_true rfl, Nat.le_of_ble_eq_true rfl⟩ (Nat.le_of_ble_eq_true rfl) ?_
        intro r16 S9 R9 J9 I9 hq
        clear hf
        obtain ⟨rfl, rfl, rfl, rfl, hf⟩ := hq
        refine hv_if_ne (tgt := 139) hX dX7_next_117 (by decide) (fun c17 => ?_) (fun c17 => ?_)
        · replace hf := hf.2 c17
          exact w_X7_next_j139 hX hN hE ih _ _ _ _ _ _ rfl rfl rfl hf
        · replace hf := hf.1 c17
          exact w_X7_next_j120 hX hN hE ih _ _ _ _ _ _ rfl rfl rfl hf
def x_X7_next_j71 (Q : mI → Prop) (p1 : Int32) (s : xS) (rd : xRd) (J : mJ) (I : mI) : Prop :=
  x_X7_here s rd J (u2 I 93 6 p1) (fun r3 => x_X7_isLetter r3 s rd J (u2 I 93 6 p1) (fun r4 => x_X7_here s rd J (u2 I 93 6 p1) (fun r5 => x_X7_isDigit r5 s rd J (u2 I 93 6 p1) (fun r6 => ∃ n0 : Nat, x_X7_next_l90 Q   n0 r4 r6 s rd J (u2 I 93 6 p1)))))
theorem w_X7_next_j71 {X : hh_CX} {S0 : xS} {R0 : xRd} {J0 : mJ} {Q : mI → Prop} (hX : hh_C X cX7_next RX7 (hrx 1 20 0 0)) (hN : hh_nL X = 3) (hE : hh_E X none (xQv (fun S9 R9 J9 I9 => S0 = S9 ∧ R0 = R9 ∧ J0 = J9 ∧ Q I9)) 0 0) : ∀ (p1 : Int32) (s : xS) (rd : xRd) (J : mJ) (I : mI), s = S0 → rd = R0 → J = J0 → x_X7_next_j71 Q  p1 s rd J I → hh_V X 71 [(0, .ref 93)] [.int p1, .ref 93] 0 0 (hx s rd J I) := by
  intro p1 s rd J I e0 e1 e2 hf
  subst e0
  subst e1
  subst e2
  unfold x_X7_next_j71 at hf
  refine hx_putI hX dX7_next_71 fl7_53_7 (xo_c (by decide) rfl) ?_
  refine hv_aload_n hX dX7_next_74 rfl 0 rfl ?_
  refine hx_callVi (ci := 7) (q := (RX7, TX7, 11)) hX dX7_next_75 (ct_X7_here s rd J (u2 I 93 6 p1) _ hf) (lw_V q960 q962 qs19 q113 q963) rfl (by decide) ⟨rfl, np_X7_here⟩ rfl (xo_c (by decide) rfl) rfl ⟨Nat.le_of_ble_eq_true rfl, Nat.le_of_ble_eq_true rfl⟩ ⟨Nat.le_of_ble_eq_true rfl, Nat.le_of_ble_eq_true rfl⟩ (Nat.le_of_ble_eq_true rfl) ?_
  intro r3 S9 R9 J9 I9 hq
  clear hf
  obtain ⟨rfl, rfl, rfl, rfl, hf⟩ := hq
  refine hx_callSi hX dX7_next_78 (ct_X7_isLetter r3 s rd J (u2 I 93 6 p1) _ hf) (lw_S q964 q965 q113 q966) np_X7_isLetter rfl rfl ⟨Nat.le_of_ble_eq_true rfl, Nat.le_of_ble_eq_true rfl⟩ ⟨Nat.le_of_ble_eq_true rfl, Nat.le_of_ble_eq_true rfl⟩ (Nat.le_of_ble_eq_true rfl) ?_
  intro r4 S9 R9 J9 I9 hq
  clear hf
  obtain ⟨rfl, rfl, rfl, rfl, hf⟩ := hq
  refine hv_istore_n (loc2 := [(1, .int r4), (0, .ref 93)]) hX dX7_next_81 rfl hN (Nat.le_of_ble_eq_true rfl) rfl ?_
  refine hv_aload_n hX dX7_next_82 rfl 1 rfl ?_
  refine hx_callVi (ci := 7) (q := (RX7, TX7, 11)) hX dX7_next_83 (ct_X7_here s rd J (u2 I 93 6 p1) _ hf) (lw_V q960 q962 qs19 q113 q963) rfl (by decide) ⟨rfl, np_X7_here⟩ rfl (xo_c (by decide) rfl) rfl ⟨Nat.le_of_ble_eq_true rfl, Nat.le_of_ble_eq_true rfl⟩ ⟨Nat.le_of_ble_eq_true rfl, Nat.le_of_ble_eq_true rfl⟩ (Nat.le_of_ble_eq_true rfl) ?_
  intro r5 S9 R9 J9 I9 hq
  clear hf
  obtain ⟨rfl, rfl, rfl, rfl, hf⟩ := hq
  refine hx_callSi hX dX7_next_86 (ct_X7_isDigit r5 s rd J (u2 I 93 6 p1) _ hf) (lw_S q967 q968 q113 q969) np_X7_isDigit rfl rfl ⟨Nat.le_of_ble_eq_true rfl, Nat.le_of_ble_eq_true rfl⟩ ⟨Nat.le_of_ble_eq_true rfl, Nat.le_of_ble_eq_true rfl⟩ (Nat.le_of_ble_eq_true rfl) ?_
  intro r6 S9 R9 J9 I9 hq
  clear hf
  obtain ⟨rfl, rfl, rfl, rfl, hf⟩ := hq
  refine hv_istore_n (loc2 := [(2, .int r6), (1, .int r4), (0, .ref 93)]) hX dX7_next_89 rfl hN (Nat.le_of_ble_eq_true rfl) rfl ?_
  refine hv_fewer [2, 1, 0] (loc2 := [(0, .ref 93), (1, .int r4), (2, .int r6)]) rfl ?_
  obtain ⟨n0, hf⟩ := hf
  exact w_X7_next_l90 hX hN hE  n0 _ _ _ _ _ _ rfl rfl rfl hf
def x_X7_next_j46 (Q : mI → Prop)  (s : xS) (rd : xRd) (J : mJ) (I : mI) : Prop :=
  ((I 93 4) ≤ (I 93 5) →
    x_X7_next_j71 Q   (I 93 5) s rd J I) ∧ (¬ (I 93 4) ≤ (I 93 5) →
    x_X7_next_j71 Q   ((I 93 5) + 1) s rd J I)
theorem w_X7_next_j46 {X : hh_CX} {S0 : xS} {R0 : xRd} {J0 : mJ} {Q : mI → Prop} (hX : hh_C X cX7_next RX7 (hrx 1 20 0 0)) (hN : hh_nL X = 3) (hE : hh_E X none (xQv (fun S9 R9 J9 I9 => S0 = S9 ∧ R0 = R9 ∧ J0 = J9 ∧ Q I9)) 0 0) : ∀  (s : xS) (rd : xRd) (J : mJ) (I : mI), s = S0 → rd = R0 → J = J0 → x_X7_next_j46 Q   s rd J I → hh_V X 46 [(0, .ref 93)] [] 0 0 (hx s rd J I) := by
  intro  s rd J I e0 e1 e2 hf
  subst e0
  subst e1
  subst e2
  unfold x_X7_next_j46 at hf
  refine hv_aload_n hX dX7_next_46 rfl 0 rfl ?_
  refine hv_aload_n hX dX7_next_47 rfl 0 rfl ?_
  refine hx_getI (v := (I 93 5)) hX dX7_next_48 fl7_42_7 (.inl rfl) (xo_c (by decide) rfl) rfl ?_
  refine hv_aload_n hX dX7_next_51 rfl 0 rfl ?_
  refine hx_getI (v := (I 93 4)) hX dX7_next_52 fl7_46_7 (.inl rfl) (xo_c (by decide) rfl) rfl ?_
  refine hv_icmp_ge (tgt := 67) hX dX7_next_55 (by decide) (fun c2 => ?_) (fun c2 => ?_)
  · replace hf := hf.1 c2
    refine hv_aload_n hX dX7_next_67 rfl 0 rfl ?_
    refine hx_getI (v := (I 93 5)) hX dX7_next_68 fl7_42_7 (.inl rfl) (xo_c (by decide) rfl) rfl ?_
    exact w_X7_next_j71 hX hN hE  _ _ _ _ _ rfl rfl rfl hf
  · replace hf := hf.2 c2
    refine hv_aload_n hX dX7_next_58 rfl 0 rfl ?_
    refine hx_getI (v := (I 93 5)) hX dX7_next_59 fl7_42_7 (.inl rfl) (xo_c (by decide) rfl) rfl ?_
    refine hv_iconst (v := 1) hX icx_1 dX7_next_62 ?_
    refine hv_iadd hX dX7_next_63 ?_
    refine hv_goto (tgt := 71) hX dX7_next_64 (by decide) ?_
    exact w_X7_next_j71 hX hN hE  _ _ _ _ _ rfl rfl rfl hf
def x_X7_next_l8 (Q : mI → Prop) : Nat → xS → xRd → mJ → mI → Prop
  | 0, _, _, _, _ => False
  | n + 1, s, rd, J, I =>
    ((I 93 4) ≤ (I 93 5) →
      x_X7_next_j46 Q    s rd J I) ∧ (¬ (I 93 4) ≤ (I 93 5) →
      ∃ v18 : Nat, xR rd 93 3 = some v18 ∧ (xo s v18 101 ∧ (vp_in (I 93 5) (xlen s v18) ∧ (((I v18 (I 93 5).toNatClampNeg) = 32 →
        x_X7_next_l8 Q   n  s rd J (u2 I 93 5 ((I 93 5) + 1))) ∧ (¬ (I v18 (I 93 5).toNatClampNeg) = 32 →
        x_X7_next_j46 Q    s rd J I)))))
theorem w_X7_next_l8 {X : hh_CX} {S0 : xS} {R0 : xRd} {J0 : mJ} {Q : mI → Prop} (hX : hh_C X cX7_next RX7 (hrx 1 20 0 0)) (hN : hh_nL X = 3) (hE : hh_E X none (xQv (fun S9 R9 J9 I9 => S0 = S9 ∧ R0 = R9 ∧ J0 = J9 ∧ Q I9)) 0 0) : ∀ (n : Nat)  (s : xS) (rd : xRd) (J : mJ) (I : mI), s = S0 → rd = R0 → J = J0 → x_X7_next_l8 Q  n  s rd J I → hh_V X 8 [(0, .ref 93)] [] 0 0 (hx s rd J I) := by
  intro n
  induction n with
  | zero => intro  _ _ _ _ _ _ _ hf; exact hf.elim
  | succ n ih =>
    intro  s rd J I e0 e1 e2 hf
    subst e0
    subst e1
    subst e2
    unfold x_X7_next_l8 at hf
    refine hv_aload_n hX dX7_next_8 rfl 0 rfl ?_
    refine hx_getI (v := (I 93 5)) hX dX7_next_9 fl7_42_7 (.inl rfl) (xo_c (by decide) rfl) rfl ?_
    refine hv_aload_n hX dX7_next_12 rfl 0 rfl ?_
    refine hx_getI (v := (I 93 4)) hX dX7_next_13 fl7_46_7 (.inl rfl) (xo_c (by decide) rfl) rfl ?_
    refine hv_icmp_ge (tgt := 46) hX dX7_next_16 (by decide) (fun c1 => ?_) (fun c1 => ?_)
    · replace hf := hf.1 c1
      exact w_X7_next_j46 hX hN hE   _ _ _ _ rfl rfl rfl hf
    · replace hf := hf.2 c1
      refine hv_aload_n hX dX7_next_19 rfl 0 rfl ?_
      obtain ⟨v18, gv18, hf⟩ := hf
      refine hx_getR (v := v18) hX dX7_next_20 fl7_49_7 (xo_c (by decide) rfl) gv18 ?_
      refine hv_aload_n hX dX7_next_23 rfl 0 rfl ?_
      refine hx_getI (v := (I 93 5)) hX dX7_next_24 fl7_42_7 (.inl rfl) (xo_c (by decide) rfl) rfl ?_
      obtain ⟨o19, hf⟩ := hf
      obtain ⟨g, hf⟩ := hf
      refine hx_bald (v := (I v18 (I 93 5).toNatClampNeg)) hX dX7_next_27 o19 rfl g rfl ?_
      refine hv_bipush (v := 32) hX bix_32 dX7_next_28 ?_
      refine hv_icmp_ne (tgt := 46) hX dX7_next_30 (by decide) (fun c20 => ?_) (fun c20 => ?_)
      · replace hf := hf.2 c20
        exact w_X7_next_j46 hX hN hE   _ _ _ _ rfl rfl rfl hf
      · replace hf := hf.1 c20
        refine hv_aload_n hX dX7_next_33 rfl 0 rfl ?_
        refine hv_dup hX rfl dX7_next_34 ?_
        refine hx_getI (v := (I 93 5)) hX dX7_next_35 fl7_42_7 (.inl rfl) (xo_c (by decide) rfl) rfl ?_
        refine hv_iconst (v := 1) hX icx_1 dX7_next_38 ?_
        refine hv_iadd hX dX7_next_39 ?_
        refine hx_putI hX dX7_next_40 fl7_42_7 (xo_c (by decide) rfl) ?_
        refine hv_goto (tgt := 8) hX dX7_next_43 (by decide) ?_
        exact ih  _ _ _ _ rfl rfl rfl hf
def x_X7_next  (s : xS) (rd : xRd) (J : mJ) (I : mI) (Q : mI → Prop) : Prop :=
  ∃ n0 : Nat, x_X7_next_l8 Q   n0  s rd J (u2 I 93 5 (I 93 6))
theorem ct_X7_next   (s : xS) (rd : xRd) (J : mJ) (I : mI) (Q : mI → Prop) (hf : x_X7_next  s rd J I Q) : hh_Ct yX7_next cX7_next 3 none 1 20 [.ref 93] (hx s rd J I) (xQv (fun S9 R9 J9 I9 => s = S9 ∧ rd = R9 ∧ J = J9 ∧ Q I9)) 0 0 := by
  refine hh_Ct.of (own := RX7) rfl (by decide +kernel) (Nat.le_of_ble_eq_true rfl) ?_
  intro X hX hN hE
  show hh_V X 0 [(0, .ref 93)] [] 0 0 (hx s rd J I)
  unfold x_X7_next at hf
  refine hv_aload_n hX dX7_next_0 rfl 0 rfl ?_
  refine hv_aload_n hX dX7_next_1 rfl 0 rfl ?_
  refine hx_getI (v := (I 93 6)) hX dX7_next_2 fl7_53_7 (.inl rfl) (xo_c (by decide) rfl) rfl ?_
  refine hx_putI hX dX7_next_5 fl7_42_7 (xo_c (by decide) rfl) ?_
  obtain ⟨n0, hf⟩ := hf
  exact w_X7_next_l8 hX hN hE  n0  _ _ _ _ rfl rfl rfl hf
/-! HungryHedge$Reader.need(Z)V -/
def x_X7_need (a1 : Int32) (s : xS) (rd : xRd) (J : mJ) (I : mI) (QX : Nat → mI → Prop) (Q : mI → Prop) : Prop :=
  (a1 = 0 →
    x_X8_at 95 (I 93 5) s rd J I (fun r3 I2 => r3 = 95 ∧ (QX 2 I2))) ∧ (¬ a1 = 0 →
    Q I)
theorem ct_X7_need  (a1 : Int32) (s : xS) (rd : xRd) (J : mJ) (I : mI) (QX : Nat → mI → Prop) (Q : mI → Prop) (hf : x_X7_need a1 s rd J I QX Q) : hh_CtX yX7_need cX7_need 2 none 1 21 [.ref 93, .int a1] (hx s rd J I) (xQv (fun S9 R9 J9 I9 => s = S9 ∧ rd = R9 ∧ J = J9 ∧ Q I9)) (xQX (fun c9 S9 R9 J9 I9 => s = S9 ∧ rd = R9 ∧ J = J9 ∧ QX c9 I9)) 0 0 := by
  refine hh_CtX.of (own := RX7) rfl (by decide +kernel) (Nat.le_of_ble_eq_true rfl) ?_
  intro X hX hN hE hT
  show hh_V X 0 [(0, .ref 93), (1, .int a1)] [] 0 0 (hx s rd J I)
  unfold x_X7_need at hf
  refine hv_iload_n hX dX7_need_0 rfl 1 rfl ?_
  refine hv_if_ne (tgt := 16) hX dX7_need_1 (by decide) (fun c1 => ?_) (fun c1 => ?_)
  · replace hf := hf.2 c1
    exact hv_xret hX hE (fun X hX hE => hx_vret hX hE dX7_need_16 ⟨rfl, rfl, rfl, hf⟩)
  · replace hf := hf.1 c1
    refine hv_aload_n hX dX7_need_4 rfl 0 rfl ?_
    refine hx_getR (v := 95) hX dX7_need_5 fl7_32_7 (xo_c (by decide) rfl) (xR_c rfl) ?_
    refine hv_aload_n hX dX7_need_8 rfl 0 rfl ?_
    refine hx_getI (v := (I 93 5)) hX dX7_need_9 fl7_42_7 (.inl rfl) (xo_c (by decide) rfl) rfl ?_
    refine hx_callVr (ci := 8) (q := (RX8, TX8, 7)) hX dX7_need_12 (ct_X8_at 95 (I 93 5) s rd J I _ hf) (lw_V q978 q979 q980 q117 q981) rfl (by decide) ⟨rfl, np_X8_at⟩ rfl (xo_c (by decide) rfl) rfl ⟨Nat.le_of_ble_eq_true rfl, Nat.le_of_ble_eq_true rfl⟩ ⟨Nat.le_of_ble_eq_true rfl, Nat.le_of_ble_eq_true rfl⟩ (Nat.le_of_ble_eq_true rfl) ?_
    intro r3 S9 R9 J9 I2 hq
    clear hf
    obtain ⟨rfl, rfl, rfl, hf⟩ := hq
    obtain ⟨g, hf⟩ := hf
    subst g
    refine hx_athrow (ci := 8) (c := 2) (q := (RX8, TX8, 7)) hX rfl (by decide) (xo_c (by decide) rfl) rfl dX7_need_15 ?_
    exact hx_out (c := 2) hX hE hT ⟨Nat.le_of_ble_eq_true rfl, Nat.le_of_ble_eq_true rfl⟩ ⟨rfl, rfl, rfl, hf⟩
/-! HungryHedge$Reader.number(I)I -/
def x_X7_number_j79 (QX : Nat → mI → Prop) (Q : Int32 → mI → Prop) (a2 : Int32) (p1 : Int32) (s : xS) (rd : xRd) (J : mJ) (I : mI) : Prop :=
  x_X7_need p1 s rd J I (fun c11 I10 => QX c11 I10) (fun I9 => x_X7_next s rd J I9 (fun I12 => Q a2 I12))
theorem w_X7_number_j79 {X : hh_CX} {S0 : xS} {R0 : xRd} {J0 : mJ} {QX : Nat → mI → Prop} {Q : Int32 → mI → Prop} (hX : hh_C X cX7_number RX7 (hrx 2 42 0 0)) (hN : hh_nL X = 4) (hE : hh_EX X (some .int) (xQi (fun r9 S9 R9 J9 I9 => S0 = S9 ∧ R0 = R9 ∧ J0 = J9 ∧ Q r9 I9)) (xQX (fun c9 S9 R9 J9 I9 => S0 = S9 ∧ R0 = R9 ∧ J0 = J9 ∧ QX c9 I9)) 0 0) (hT : hh_XT X []) : ∀ (a2 : Int32) (p1 : Int32) (s : xS) (rd : xRd) (J : mJ) (I : mI), s = S0 → rd = R0 → J = J0 → x_X7_number_j79 QX Q  a2 p1 s rd J I → hh_V X 79 [(0, .ref 93), (2, .int a2)] [.int p1, .ref 93] 0 0 (hx s rd J I) := by
  intro a2 p1 s rd J I e0 e1 e2 hf
  subst e0
  subst e1
  subst e2
  unfold x_X7_number_j79 at hf
  refine hx_callVXv (ci := 7) (q := (RX7, TX7, 11)) hX dX7_number_79 (ct_X7_need p1 s rd J I _ _ hf) (lw_V q974 q976 qs21 q113 q977) rfl (by decide) ⟨rfl, np_X7_need⟩ rfl (xo_c (by decide) rfl) rfl ⟨Nat.le_of_ble_eq_true rfl, Nat.le_of_ble_eq_true rfl⟩ ⟨Nat.le_of_ble_eq_true rfl, Nat.le_of_ble_eq_true rfl⟩ (Nat.le_of_ble_eq_true rfl) ?_ ?_
  · intro c11 S9 R9 J9 I10 hq
    clear hf
    obtain ⟨rfl, rfl, rfl, hf⟩ := hq
    exact hx_out (c := c11) hX hE hT ⟨Nat.le_of_ble_eq_true rfl, Nat.le_of_ble_eq_true rfl⟩ ⟨rfl, rfl, rfl, hf⟩
  intro  S9 R9 J9 I9 hq
  clear hf
  obtain ⟨rfl, rfl, rfl, hf⟩ := hq
  refine hv_aload_n hX dX7_number_82 rfl 0 rfl ?_
  refine hx_callVv (ci := 7) (q := (RX7, TX7, 11)) hX dX7_number_83 (ct_X7_next s rd J I9 _ hf) (lw_V q956 q958 qs18 q113 q959) rfl (by decide) ⟨rfl, np_X7_next⟩ rfl (xo_c (by decide) rfl) rfl ⟨Nat.le_of_ble_eq_true rfl, Nat.le_of_ble_eq_true rfl⟩ ⟨Nat.le_of_ble_eq_true rfl, Nat.le_of_ble_eq_true rfl⟩ (Nat.le_of_ble_eq_true rfl) ?_
  intro  S9 R9 J9 I12 hq
  clear hf
  obtain ⟨rfl, rfl, rfl, hf⟩ := hq
  refine hv_iload_n hX dX7_number_86 rfl 1 rfl ?_
  exact hv_xret hX hE (fun X hX hE => hx_iret hX hE dX7_number_87 ⟨rfl, rfl, rfl, hf⟩)
def x_X7_number_l39 (QX : Nat → mI → Prop) (Q : Int32 → mI → Prop) : Nat → Int32 → Int32 → Int32 → xS → xRd → mJ → mI → Prop
  | 0, _, _, _, _, _, _, _ => False
  | n + 1, a1, a2, a3, s, rd, J, I =>
    ((I 93 6) ≤ a3 →
      (a1 < a2 →
        x_X7_number_j79 QX Q   a2 0 s rd J I) ∧ (¬ a1 < a2 →
        x_X7_number_j79 QX Q   a2 1 s rd J I)) ∧ (¬ (I 93 6) ≤ a3 →
      ∃ v13 : Nat, xR rd 93 3 = some v13 ∧ (xo s v13 101 ∧ (vp_in a3 (xlen s v13) ∧ (∀ v15 : Int32, v15 = (((10 * a2) + (I v13 a3.toNatClampNeg)) - 48) → (x_X7_number_l39 QX Q   n a1 v15 (a3 + 1) s rd J I)))))
theorem w_X7_number_l39 {X : hh_CX} {S0 : xS} {R0 : xRd} {J0 : mJ} {QX : Nat → mI → Prop} {Q : Int32 → mI → Prop} (hX : hh_C X cX7_number RX7 (hrx 2 42 0 0)) (hN : hh_nL X = 4) (hE : hh_EX X (some .int) (xQi (fun r9 S9 R9 J9 I9 => S0 = S9 ∧ R0 = R9 ∧ J0 = J9 ∧ Q r9 I9)) (xQX (fun c9 S9 R9 J9 I9 => S0 = S9 ∧ R0 = R9 ∧ J0 = J9 ∧ QX c9 I9)) 0 0) (hT : hh_XT X []) : ∀ (n : Nat) (a1 : Int32) (a2 : Int32) (a3 : Int32) (s : xS) (rd : xRd) (J : mJ) (I : mI), s = S0 → rd = R0 → J = J0 → x_X7_number_l39 QX Q  n a1 a2 a3 s rd J I → hh_V X 39 [(0, .ref 93), (1, .int a1), (2, .int a2), (3, .int a3)] [] 0 0 (hx s rd J I) := by
  intro n
  induction n with
  | zero => intro _ _ _ _ _ _ _ _ _ _ hf; exact hf.elim
  | succ n ih =>
    intro a1 a2 a3 s rd J I e0 e1 e2 hf
    subst e0
    subst e1
    subst e2
    unfold x_X7_number_l39 at hf
    refine hv_iload_n hX dX7_number_39 rfl 3 rfl ?_
    refine hv_aload_n hX dX7_number_40 rfl 0 rfl ?_
    refine hx_getI (v := (I 93 6)) hX dX7_number_41 fl7_53_7 (.inl rfl) (xo_c (by decide) rfl) rfl ?_
    refine hv_icmp_ge (tgt := 68) hX dX7_number_44 (by decide) (fun c7 => ?_) (fun c7 => ?_)
    · replace hf := hf.1 c7
      refine hv_aload_n hX dX7_number_68 rfl 0 rfl ?_
      refine hv_iload_n hX dX7_number_69 rfl 2 rfl ?_
      refine hv_iload_n hX dX7_number_70 rfl 1 rfl ?_
      refine hv_icmp_gt (tgt := 78) hX dX7_number_71 (by decide) (fun c8 => ?_) (fun c8 => ?_)
      · replace hf := hf.1 c8
        refine hv_iconst (v := 0) hX icx_0 dX7_number_78 ?_
        refine hv_fewer [0, 2] (loc2 := [(0, .ref 93), (2, .int a2)]) rfl ?_
        exact w_X7_number_j79 hX hN hE hT  _ _ _ _ _ _ rfl rfl rfl hf
      · replace hf := hf.2 c8
        refine hv_iconst (v := 1) hX icx_1 dX7_number_74 ?_
        refine hv_goto (tgt := 79) hX dX7_number_75 (by decide) ?_
        refine hv_fewer [0, 2] (loc2 := [(0, .ref 93), (2, .int a2)]) rfl ?_
        exact w_X7_number_j79 hX hN hE hT  _ _ _ _ _ _ rfl rfl rfl hf
    · replace hf := hf.2 c7
      refine hv_bipush (v := 10) hX bix_10 dX7_number_47 ?_
      refine hv_iload_n hX dX7_number_49 rfl 2 rfl ?_
      refine hv_imul hX dX7_number_50 ?_
      refine hv_aload_n hX dX7_number_51 rfl 0 rfl ?_
      obtain ⟨v13, gv13, hf⟩ := hf
      refine hx_getR (v := v13) hX dX7_number_52 fl7_49_7 (xo_c (by decide) rfl) gv13 ?_
      refine hv_iload_n hX dX7_number_55 rfl 3 rfl ?_
      obtain ⟨o14, hf⟩ := hf
      obtain ⟨g, hf⟩ := hf
      refine hx_bald (v := (I v13 a3.toNatClampNeg)) hX dX7_number_56 o14 rfl g rfl ?_
      refine hv_iadd hX dX7_number_57 ?_
      refine hv_bipush (v := 48) hX bix_48 dX7_number_58 ?_
      refine hv_isub hX dX7_number_60 ?_
      refine hv_topi (fun v15 ev15 => ?_)
      replace hf := hf v15 ev15
      refine hv_istore_n (loc2 := [(2, .int v15), (0, .ref 93), (1, .int a1), (3, .int a3)]) hX dX7_number_61 rfl hN (Nat.le_of_ble_eq_true rfl) rfl ?_
      refine hv_iinc (v := (a3 + 1)) (loc2 := [(3, .int (a3 + 1)), (2, .int v15), (0, .ref 93), (1, .int a1)]) hX dX7_number_62 3 rfl (congrArg (fun y => a3 + y) icx_1) hN (Nat.le_of_ble_eq_true rfl) rfl ?_
      refine hv_goto (tgt := 39) hX dX7_number_65 (by decide) ?_
      refine hv_fewer [2, 3, 1, 0] (loc2 := [(0, .ref 93), (1, .int a1), (2, .int v15), (3, .int (a3 + 1))]) rfl ?_
      exact ih _ _ _ _ _ _ _ rfl rfl rfl hf
def x_X7_number_j29 (QX : Nat → mI → Prop) (Q : Int32 → mI → Prop) (a1 : Int32) (p1 : Int32) (s : xS) (rd : xRd) (J : mJ) (I : mI) : Prop :=
  x_X7_need p1 s rd J I (fun c6 I5 => QX c6 I5) (fun I4 => ∃ n0 : Nat, x_X7_number_l39 QX Q   n0 a1 0 (I4 93 5) s rd J I4)
theorem w_X7_number_j29 {X : hh_CX} {S0 : xS} {R0 : xRd} {J0 : mJ} {QX : Nat → mI → Prop} {Q : Int32 → mI → Prop} (hX : hh_C X cX7_number RX7 (hrx 2 42 0 0)) (hN : hh_nL X = 4) (hE : hh_EX X (some .int) (xQi (fun r9 S9 R9 J9 I9 => S0 = S9 ∧ R0 = R9 ∧ J0 = J9 ∧ Q r9 I9)) (xQX (fun c9 S9 R9 J9 I9 => S0 = S9 ∧ R0 = R9 ∧ J0 = J9 ∧ QX c9 I9)) 0 0) (hT : hh_XT X []) : ∀ (a1 : Int32) (p1 : Int32) (s : xS) (rd : xRd) (J : mJ) (I : mI), s = S0 → rd = R0 → J = J0 → x_X7_number_j29 QX Q  a1 p1 s rd J I → hh_V X 29 [(0, .ref 93), (1, .int a1)] [.int p1, .ref 93] 0 0 (hx s rd J I) := by
  intro a1 p1 s rd J I e0 e1 e2 hf
  subst e0
  subst e1
  subst e2
  unfold x_X7_number_j29 at hf
  refine hx_callVXv (ci := 7) (q := (RX7, TX7, 11)) hX dX7_number_29 (ct_X7_need p1 s rd J I _ _ hf) (lw_V q974 q976 qs21 q113 q977) rfl (by decide) ⟨rfl, np_X7_need⟩ rfl (xo_c (by decide) rfl) rfl ⟨Nat.le_of_ble_eq_true rfl, Nat.le_of_ble_eq_true rfl⟩ ⟨Nat.le_of_ble_eq_true rfl, Nat.le_of_ble_eq_true rfl⟩ (Nat.le_of_ble_eq_true rfl) ?_ ?_
  · intro c6 S9 R9 J9 I5 hq
    clear hf
    obtain ⟨rfl, rfl, rfl, hf⟩ := hq
    exact hx_out (c := c6) hX hE hT ⟨Nat.le_of_ble_eq_true rfl, Nat.le_of_ble_eq_true rfl⟩ ⟨rfl, rfl, rfl, hf⟩
  intro  S9 R9 J9 I4 hq
  clear hf
  obtain ⟨rfl, rfl, rfl, hf⟩ := hq
  refine hv_iconst (v := 0) hX icx_0 dX7_number_32 ?_
  refine hv_istore_n (loc2 := [(2, .int 0), (0, .ref 93), (1, .int a1)]) hX dX7_number_33 rfl hN (Nat.le_of_ble_eq_true rfl) rfl ?_
  refine hv_aload_n hX dX7_number_34 rfl 1 rfl ?_
  refine hx_getI (v := (I4 93 5)) hX dX7_number_35 fl7_42_7 (.inl rfl) (xo_c (by decide) rfl) rfl ?_
  refine hv_istore_n (loc2 := [(3, .int (I4 93 5)), (2, .int 0), (0, .ref 93), (1, .int a1)]) hX dX7_number_38 rfl hN (Nat.le_of_ble_eq_true rfl) rfl ?_
  refine hv_fewer [2, 3, 1, 0] (loc2 := [(0, .ref 93), (1, .int a1), (2, .int 0), (3, .int (I4 93 5))]) rfl ?_
  obtain ⟨n0, hf⟩ := hf
  exact w_X7_number_l39 hX hN hE hT  n0 _ _ _ _ _ _ _ rfl rfl rfl hf
def x_X7_number_j28 (QX : Nat → mI → Prop) (Q : Int32 → mI → Prop) (a1 : Int32) (s : xS) (rd : xRd) (J : mJ) (I : mI) : Prop :=
  x_X7_number_j29 QX Q   a1 0 s rd J I
theorem w_X7_number_j28 {X : hh_CX} {S0 : xS} {R0 : xRd} {J0 : mJ} {QX : Nat → mI → Prop} {Q : Int32 → mI → Prop} (hX : hh_C X cX7_number RX7 (hrx 2 42 0 0)) (hN : hh_nL X = 4) (hE : hh_EX X (some .int) (xQi (fun r9 S9 R9 J9 I9 => S0 = S9 ∧ R0 = R9 ∧ J0 = J9 ∧ Q r9 I9)) (xQX (fun c9 S9 R9 J9 I9 => S0 = S9 ∧ R0 = R9 ∧ J0 = J9 ∧ QX c9 I9)) 0 0) (hT : hh_XT X []) : ∀ (a1 : Int32) (s : xS) (rd : xRd) (J : mJ) (I : mI), s = S0 → rd = R0 → J = J0 → x_X7_number_j28 QX Q  a1 s rd J I → hh_V X 28 [(0, .ref 93), (1, .int a1)] [.ref 93] 0 0 (hx s rd J I) := by
  intro a1 s rd J I e0 e1 e2 hf
  subst e0
  subst e1
  subst e2
  unfold x_X7_number_j28 at hf
  refine hv_iconst (v := 0) hX icx_0 dX7_number_28 ?_
  exact w_X7_number_j29 hX hN hE hT  _ _ _ _ _ _ rfl rfl rfl hf
def x_X7_number (a1 : Int32) (s : xS) (rd : xRd) (J : mJ) (I : mI) (QX : Nat → mI → Prop) (Q : Int32 → mI → Prop) : Prop :=
  x_X7_here s rd J I (fun r1 => x_X7_isDigit r1 s rd J I (fun r2 => (r2 = 0 →
    x_X7_number_j28 QX Q   a1 s rd J I) ∧ (¬ r2 = 0 →
    ((3 : Int32) < ((I 93 6) - (I 93 5)) →
      x_X7_number_j28 QX Q   a1 s rd J I) ∧ (¬ (3 : Int32) < ((I 93 6) - (I 93 5)) →
      x_X7_number_j29 QX Q   a1 1 s rd J I))))
theorem ct_X7_number  (a1 : Int32) (s : xS) (rd : xRd) (J : mJ) (I : mI) (QX : Nat → mI → Prop) (Q : Int32 → mI → Prop) (hf : x_X7_number a1 s rd J I QX Q) : hh_CtX yX7_number cX7_number 4 (some .int) 2 42 [.ref 93, .int a1] (hx s rd J I) (xQi (fun r9 S9 R9 J9 I9 => s = S9 ∧ rd = R9 ∧ J = J9 ∧ Q r9 I9)) (xQX (fun c9 S9 R9 J9 I9 => s = S9 ∧ rd = R9 ∧ J = J9 ∧ QX c9 I9)) 0 0 := by
  refine hh_CtX.of (own := RX7) rfl (by decide +kernel) (Nat.le_of_ble_eq_true rfl) ?_
  intro X hX hN hE hT
  show hh_V X 0 [(0, .ref 93), (1, .int a1)] [] 0 0 (hx s rd J I)
  unfold x_X7_number at hf
  refine hv_aload_n hX dX7_number_0 rfl 0 rfl ?_
  refine hv_aload_n hX dX7_number_1 rfl 0 rfl ?_
  refine hx_callVi (ci := 7) (q := (RX7, TX7, 11)) hX dX7_number_2 (ct_X7_here s rd J I _ hf) (lw_V q960 q962 qs19 q113 q963) rfl (by decide) ⟨rfl, np_X7_here⟩ rfl (xo_c (by decide) rfl) rfl ⟨Nat.le_of_ble_eq_true rfl, Nat.le_of_ble_eq_true rfl⟩ ⟨Nat.le_of_ble_eq_true rfl, Nat.le_of_ble_eq_true rfl⟩ (Nat.le_of_ble_eq_true rfl) ?_
  intro r1 S9 R9 J9 I9 hq
  clear hf
  obtain ⟨rfl, rfl, rfl, rfl, hf⟩ := hq
  refine hx_callSi hX dX7_number_5 (ct_X7_isDigit r1 s rd J I _ hf) (lw_S q967 q968 q113 q969) np_X7_isDigit rfl rfl ⟨Nat.le_of_ble_eq_true rfl, Nat.le_of_ble_eq_true rfl⟩ ⟨Nat.le_of_ble_eq_true rfl, Nat.le_of_ble_eq_true rfl⟩ (Nat.le_of_ble_eq_true rfl) ?_
  intro r2 S9 R9 J9 I9 hq
  clear hf
  obtain ⟨rfl, rfl, rfl, rfl, hf⟩ := hq
  refine hv_if_eq (tgt := 28) hX dX7_number_8 (by decide) (fun c3 => ?_) (fun c3 => ?_)
  · replace hf := hf.1 c3
    exact w_X7_number_j28 hX hN hE hT  _ _ _ _ _ rfl rfl rfl hf
  · replace hf := hf.2 c3
    refine hv_aload_n hX dX7_number_11 rfl 0 rfl ?_
    refine hx_getI (v := (I 93 6)) hX dX7_number_12 fl7_53_7 (.inl rfl) (xo_c (by decide) rfl) rfl ?_
    refine hv_aload_n hX dX7_number_15 rfl 0 rfl ?_
    refine hx_getI (v := (I 93 5)) hX dX7_number_16 fl7_42_7 (.inl rfl) (xo_c (by decide) rfl) rfl ?_
    refine hv_isub hX dX7_number_19 ?_
    refine hv_iconst (v := 3) hX icx_3 dX7_number_20 ?_
    refine hv_icmp_gt (tgt := 28) hX dX7_number_21 (by decide) (fun c16 => ?_) (fun c16 => ?_)
    · replace hf := hf.1 c16
      exact w_X7_number_j28 hX hN hE hT  _ _ _ _ _ rfl rfl rfl hf
    · replace hf := hf.2 c16
      refine hv_iconst (v := 1) hX icx_1 dX7_number_24 ?_
      refine hv_goto (tgt := 29) hX dX7_number_25 (by decide) ?_
      exact w_X7_number_j29 hX hN hE hT  _ _ _ _ _ _ rfl rfl rfl hf
/-! HungryHedge$Kept.takes(LHungryHedge$Trip;I)I -/
def x_X1_takes_j47 (Q : Int32 → Prop) (a1 : Nat) (p0 : Int32) (s : xS) (rd : xRd) (J : mJ) (I : mI) : Prop :=
  xo s a1 2 ∧ (((I 1 3) < ((I a1 1) + p0) →
    Q 0 ) ∧ (¬ (I 1 3) < ((I a1 1) + p0) →
    Q p0 ))
theorem w_X1_takes_j47 {X : hh_CX} {S0 : xS} {R0 : xRd} {J0 : mJ} {I0 : mI} {Q : Int32 → Prop} (hX : hh_C X cX1_takes RX1 (hrx 0 0 0 0)) (hN : hh_nL X = 4) (hE : hh_E X (some .int) (xQi (fun r9 S9 R9 J9 I9 => S0 = S9 ∧ R0 = R9 ∧ J0 = J9 ∧ I0 = I9 ∧ Q r9)) 0 0) : ∀ (a1 : Nat) (p0 : Int32) (s : xS) (rd : xRd) (J : mJ) (I : mI), s = S0 → rd = R0 → J = J0 → I = I0 → x_X1_takes_j47 Q  a1 p0 s rd J I → hh_V X 47 [(0, .ref 1), (1, .ref a1)] [.int p0] 0 0 (hx s rd J I) := by
  intro a1 p0 s rd J I e0 e1 e2 e3 hf
  subst e0
  subst e1
  subst e2
  subst e3
  unfold x_X1_takes_j47 at hf
  refine hv_istore_n (loc2 := [(3, .int p0), (0, .ref 1), (1, .ref a1)]) hX dX1_takes_47 rfl hN (Nat.le_of_ble_eq_true rfl) rfl ?_
  refine hv_aload_n hX dX1_takes_48 rfl 2 rfl ?_
  obtain ⟨o6, hf⟩ := hf
  refine hx_getI (v := (I a1 1)) hX dX1_takes_49 fl1_91_2 (.inl rfl) o6 rfl ?_
  refine hv_iload_n hX dX1_takes_52 rfl 0 rfl ?_
  refine hv_iadd hX dX1_takes_53 ?_
  refine hv_aload_n hX dX1_takes_54 rfl 1 rfl ?_
  refine hx_getI (v := (I 1 3)) hX dX1_takes_55 fl1_9_1 (.inl rfl) (xo_c (by decide) rfl) rfl ?_
  refine hv_icmp_gt (tgt := 65) hX dX1_takes_58 (by decide) (fun c7 => ?_) (fun c7 => ?_)
  · replace hf := hf.1 c7
    refine hv_iconst (v := 0) hX icx_0 dX1_takes_65 ?_
    exact hx_iret hX hE dX1_takes_66 ⟨rfl, rfl, rfl, rfl, hf⟩
  · replace hf := hf.2 c7
    refine hv_iload_n hX dX1_takes_61 rfl 0 rfl ?_
    refine hv_goto (tgt := 66) hX dX1_takes_62 (by decide) ?_
    exact hx_iret hX hE dX1_takes_66 ⟨rfl, rfl, rfl, rfl, hf⟩
def x_X1_takes (a1 : Nat) (a2 : Int32) (s : xS) (rd : xRd) (J : mJ) (I : mI) (Q : Int32 → Prop) : Prop :=
  ((I 1 0) = 0 →
    Q 0 ) ∧ (¬ (I 1 0) = 0 →
    ((I 1 0) ≤ a2 →
      Q 0 ) ∧ (¬ (I 1 0) ≤ a2 →
      xo s a1 2 ∧ ((a2 = (I a1 0) →
        Q 0 ) ∧ (¬ a2 = (I a1 0) →
        (a2 = (-1) →
          x_X1_takes_j47 Q   a1 1 s rd J I) ∧ (¬ a2 = (-1) →
          vp_in ((4 * (I a1 0)) + a2) 16 ∧ (x_X1_takes_j47 Q   a1 (I 7 ((4 * (I a1 0)) + a2).toNatClampNeg) s rd J I))))))
theorem ct_X1_takes  (a1 : Nat) (a2 : Int32) (s : xS) (rd : xRd) (J : mJ) (I : mI) (Q : Int32 → Prop) (hf : x_X1_takes a1 a2 s rd J I Q) : hh_Ct yX1_takes cX1_takes 4 (some .int) 0 0 [.ref 1, .ref a1, .int a2] (hx s rd J I) (xQi (fun r9 S9 R9 J9 I9 => s = S9 ∧ rd = R9 ∧ J = J9 ∧ I = I9 ∧ Q r9)) 0 0 := by
  refine hh_Ct.of (own := RX1) rfl (by decide +kernel) (Nat.le_of_ble_eq_true rfl) ?_
  intro X hX hN hE
  show hh_V X 0 [(0, .ref 1), (1, .ref a1), (2, .int a2)] [] 0 0 (hx s rd J I)
  unfold x_X1_takes at hf
  refine hv_aload_n hX dX1_takes_0 rfl 0 rfl ?_
  refine hx_getI (v := (I 1 0)) hX dX1_takes_1 fl1_65_1 (.inl rfl) (xo_c (by decide) rfl) rfl ?_
  refine hv_if_eq (tgt := 23) hX dX1_takes_4 (by decide) (fun c1 => ?_) (fun c1 => ?_)
  · replace hf := hf.1 c1
    refine hv_iconst (v := 0) hX icx_0 dX1_takes_23 ?_
    exact hx_iret hX hE dX1_takes_24 ⟨rfl, rfl, rfl, rfl, hf⟩
  · replace hf := hf.2 c1
    refine hv_iload_n hX dX1_takes_7 rfl 2 rfl ?_
    refine hv_aload_n hX dX1_takes_8 rfl 0 rfl ?_
    refine hx_getI (v := (I 1 0)) hX dX1_takes_9 fl1_65_1 (.inl rfl) (xo_c (by decide) rfl) rfl ?_
    refine hv_icmp_ge (tgt := 23) hX dX1_takes_12 (by decide) (fun c2 => ?_) (fun c2 => ?_)
    · replace hf := hf.1 c2
      refine hv_iconst (v := 0) hX icx_0 dX1_takes_23 ?_
      exact hx_iret hX hE dX1_takes_24 ⟨rfl, rfl, rfl, rfl, hf⟩
    · replace hf := hf.2 c2
      refine hv_iload_n hX dX1_takes_15 rfl 2 rfl ?_
      refine hv_aload_n hX dX1_takes_16 rfl 1 rfl ?_
      obtain ⟨o3, hf⟩ := hf
      refine hx_getI (v := (I a1 0)) hX dX1_takes_17 fl1_88_2 (.inl rfl) o3 rfl ?_
      refine hv_icmp_ne (tgt := 25) hX dX1_takes_20 (by decide) (fun c4 => ?_) (fun c4 => ?_)
      · replace hf := hf.2 c4
        refine hv_iload_n hX dX1_takes_25 rfl 2 rfl ?_
        refine hv_iconst (v := (-1)) hX icx_m1 dX1_takes_26 ?_
        refine hv_icmp_ne (tgt := 34) hX dX1_takes_27 (by decide) (fun c5 => ?_) (fun c5 => ?_)
        · replace hf := hf.2 c5
          refine hv_aload_n hX dX1_takes_34 rfl 0 rfl ?_
          refine hx_getR (v := 7) hX dX1_takes_35 fl1_37_1 (xo_c (by decide) rfl) (xR_c rfl) ?_
          refine hv_iconst (v := 4) hX icx_4 dX1_takes_38 ?_
          refine hv_aload_n hX dX1_takes_39 rfl 1 rfl ?_
          refine hx_getI (v := (I a1 0)) hX dX1_takes_40 fl1_88_2 (.inl rfl) o3 rfl ?_
          refine hv_imul hX dX1_takes_43 ?_
          refine hv_iload_n hX dX1_takes_44 rfl 2 rfl ?_
          refine hv_iadd hX dX1_takes_45 ?_
          obtain ⟨g, hf⟩ := hf
          refine hx_iald (v := (I 7 ((4 * (I a1 0)) + a2).toNatClampNeg)) hX dX1_takes_46 (xo_c (by decide) rfl) (xlen_c (by decide) rfl) g rfl ?_
          refine hv_fewer [0, 1] (loc2 := [(0, .ref 1), (1, .ref a1)]) rfl ?_
          exact w_X1_takes_j47 hX hN hE  _ _ _ _ _ _ rfl rfl rfl rfl hf
        · replace hf := hf.1 c5
          refine hv_iconst (v := 1) hX icx_1 dX1_takes_30 ?_
          refine hv_goto (tgt := 47) hX dX1_takes_31 (by decide) ?_
          refine hv_fewer [0, 1] (loc2 := [(0, .ref 1), (1, .ref a1)]) rfl ?_
          exact w_X1_takes_j47 hX hN hE  _ _ _ _ _ _ rfl rfl rfl rfl hf
      · replace hf := hf.1 c4
        refine hv_iconst (v := 0) hX icx_0 dX1_takes_23 ?_
        exact hx_iret hX hE dX1_takes_24 ⟨rfl, rfl, rfl, rfl, hf⟩
/-! HungryHedge$Kept.passes(LHungryHedge$Trip;)V -/
def x_X1_passes_j84 (Q : mI → Prop) (k12 : Nat → Int32 → xS → xRd → mJ → mI → Prop) (a1 : Nat) (a2 : Int32) (p0 : Nat) (p1 : Int32) (p2 : Int32) (s : xS) (rd : xRd) (J : mJ) (I : mI) : Prop :=
  xo s p0 100 ∧ (vp_in p1 (xlen s p0) ∧ (k12 a1 (a2 + 1) s rd J (u2 I p0 p1.toNatClampNeg p2)))
theorem w_X1_passes_j84 {X : hh_CX} {S0 : xS} {R0 : xRd} {J0 : mJ} {Q : mI → Prop} (hX : hh_C X cX1_passes RX1 (hrx 1 21 0 0)) (hN : hh_nL X = 4) (hE : hh_E X none (xQv (fun S9 R9 J9 I9 => S0 = S9 ∧ R0 = R9 ∧ J0 = J9 ∧ Q I9)) 0 0) {k12 : Nat → Int32 → xS → xRd → mJ → mI → Prop} (hk12 : ∀ (b0 : Nat) (b1 : Int32) (s : xS) (rd : xRd) (J : mJ) (I : mI), s = S0 → rd = R0 → J = J0 → k12 b0 b1 s rd J I → hh_V X 12 [(0, .ref 1), (1, .ref b0), (2, .int b1)] [] 0 0 (hx s rd J I)) : ∀ (a1 : Nat) (a2 : Int32) (p0 : Nat) (p1 : Int32) (p2 : Int32) (s : xS) (rd : xRd) (J : mJ) (I : mI), s = S0 → rd = R0 → J = J0 → x_X1_passes_j84 Q k12 a1 a2 p0 p1 p2 s rd J I → hh_V X 84 [(0, .ref 1), (1, .ref a1), (2, .int a2)] [.int p2, .int p1, .ref p0] 0 0 (hx s rd J I) := by
  intro a1 a2 p0 p1 p2 s rd J I e0 e1 e2 hf
  subst e0
  subst e1
  subst e2
  unfold x_X1_passes_j84 at hf
  obtain ⟨o9, hf⟩ := hf
  obtain ⟨g, hf⟩ := hf
  refine hx_iast hX dX1_passes_84 o9 rfl g ?_
  refine hv_iinc (v := (a2 + 1)) (loc2 := [(2, .int (a2 + 1)), (0, .ref 1), (1, .ref a1)]) hX dX1_passes_85 2 rfl (congrArg (fun y => a2 + y) icx_1) hN (Nat.le_of_ble_eq_true rfl) rfl ?_
  refine hv_goto (tgt := 12) hX dX1_passes_88 (by decide) ?_
  refine hv_fewer [1, 2, 0] (loc2 := [(0, .ref 1), (1, .ref a1), (2, .int (a2 + 1))]) rfl ?_
  exact hk12 _ _ _ _ _ _ rfl rfl rfl hf
def x_X1_passes_j48 (Q : mI → Prop) (k12 : Nat → Int32 → xS → xRd → mJ → mI → Prop) (a1 : Nat) (a2 : Int32) (p0 : Int32) (s : xS) (rd : xRd) (J : mJ) (I : mI) : Prop :=
  xo s a1 2 ∧ (∃ v5 : Nat, xR rd a1 3 = some v5 ∧ ((p0 = 0 →
    ∃ v7 : Nat, xR rd a1 3 = some v7 ∧ (xo s v7 100 ∧ (vp_in a2 (xlen s v7) ∧ (x_X1_passes_j84 Q  k12 a1 a2 v5 a2 (I v7 a2.toNatClampNeg) s rd J I)))) ∧ (¬ p0 = 0 →
    vp_in a2 4 ∧ (∃ v10 : Nat, xR rd a1 3 = some v10 ∧ (xo s v10 100 ∧ (vp_in a2 (xlen s v10) ∧ (x_X1_passes_j84 Q  k12 a1 a2 v5 a2 (if ((I v10 a2.toNatClampNeg) + 1) < (I 3 a2.toNatClampNeg) then ((I v10 a2.toNatClampNeg) + 1) else (I 3 a2.toNatClampNeg)) s rd J I)))))))
theorem w_X1_passes_j48 {X : hh_CX} {S0 : xS} {R0 : xRd} {J0 : mJ} {Q : mI → Prop} (hX : hh_C X cX1_passes RX1 (hrx 1 21 0 0)) (hN : hh_nL X = 4) (hE : hh_E X none (xQv (fun S9 R9 J9 I9 => S0 = S9 ∧ R0 = R9 ∧ J0 = J9 ∧ Q I9)) 0 0) {k12 : Nat → Int32 → xS → xRd → mJ → mI → Prop} (hk12 : ∀ (b0 : Nat) (b1 : Int32) (s : xS) (rd : xRd) (J : mJ) (I : mI), s = S0 → rd = R0 → J = J0 → k12 b0 b1 s rd J I → hh_V X 12 [(0, .ref 1), (1, .ref b0), (2, .int b1)] [] 0 0 (hx s rd J I)) : ∀ (a1 : Nat) (a2 : Int32) (p0 : Int32) (s : xS) (rd : xRd) (J : mJ) (I : mI), s = S0 → rd = R0 → J = J0 → x_X1_passes_j48 Q k12 a1 a2 p0 s rd J I → hh_V X 48 [(0, .ref 1), (1, .ref a1), (2, .int a2)] [.int p0] 0 0 (hx s rd J I) := by
  intro a1 a2 p0 s rd J I e0 e1 e2 hf
  subst e0
  subst e1
  subst e2
  unfold x_X1_passes_j48 at hf
  refine hv_istore_n (loc2 := [(3, .int p0), (0, .ref 1), (1, .ref a1), (2, .int a2)]) hX dX1_passes_48 rfl hN (Nat.le_of_ble_eq_true rfl) rfl ?_
  refine hv_aload_n hX dX1_passes_49 rfl 2 rfl ?_
  obtain ⟨o4, hf⟩ := hf
  obtain ⟨v5, gv5, hf⟩ := hf
  refine hx_getR (v := v5) hX dX1_passes_50 fl1_94_2 o4 gv5 ?_
  refine hv_iload_n hX dX1_passes_53 rfl 3 rfl ?_
  refine hv_iload_n hX dX1_passes_54 rfl 0 rfl ?_
  refine hv_if_eq (tgt := 78) hX dX1_passes_55 (by decide) (fun c6 => ?_) (fun c6 => ?_)
  · replace hf := hf.1 c6
    refine hv_aload_n hX dX1_passes_78 rfl 2 rfl ?_
    obtain ⟨v7, gv7, hf⟩ := hf
    refine hx_getR (v := v7) hX dX1_passes_79 fl1_94_2 o4 gv7 ?_
    refine hv_iload_n hX dX1_passes_82 rfl 3 rfl ?_
    obtain ⟨o8, hf⟩ := hf
    obtain ⟨g, hf⟩ := hf
    refine hx_iald (v := (I v7 a2.toNatClampNeg)) hX dX1_passes_83 o8 rfl g rfl ?_
    refine hv_fewer [1, 2, 3] (loc2 := [(0, .ref 1), (1, .ref a1), (2, .int a2)]) rfl ?_
    exact w_X1_passes_j84 hX hN hE hk12 _ _ _ _ _ _ _ _ _ rfl rfl rfl hf
  · replace hf := hf.2 c6
    refine hv_aload_n hX dX1_passes_58 rfl 1 rfl ?_
    refine hx_getR (v := 3) hX dX1_passes_59 fl1_25_1 (xo_c (by decide) rfl) (xR_c rfl) ?_
    refine hv_iload_n hX dX1_passes_62 rfl 3 rfl ?_
    obtain ⟨g, hf⟩ := hf
    refine hx_iald (v := (I 3 a2.toNatClampNeg)) hX dX1_passes_63 (xo_c (by decide) rfl) (xlen_c (by decide) rfl) g rfl ?_
    refine hv_aload_n hX dX1_passes_64 rfl 2 rfl ?_
    obtain ⟨v10, gv10, hf⟩ := hf
    refine hx_getR (v := v10) hX dX1_passes_65 fl1_94_2 o4 gv10 ?_
    refine hv_iload_n hX dX1_passes_68 rfl 3 rfl ?_
    obtain ⟨o11, hf⟩ := hf
    obtain ⟨g, hf⟩ := hf
    refine hx_iald (v := (I v10 a2.toNatClampNeg)) hX dX1_passes_69 o11 rfl g rfl ?_
    refine hv_iconst (v := 1) hX icx_1 dX1_passes_70 ?_
    refine hv_iadd hX dX1_passes_71 ?_
    refine hv_mmin hX dX1_passes_72 q715 q716 q127 q717 ⟨Nat.le_of_ble_eq_true rfl, Nat.le_of_ble_eq_true rfl⟩ ⟨Nat.le_of_ble_eq_true rfl, Nat.le_of_ble_eq_true rfl⟩ ?_
    refine hv_goto (tgt := 84) hX dX1_passes_75 (by decide) ?_
    refine hv_fewer [1, 2, 3] (loc2 := [(0, .ref 1), (1, .ref a1), (2, .int a2)]) rfl ?_
    exact w_X1_passes_j84 hX hN hE hk12 _ _ _ _ _ _ _ _ _ rfl rfl rfl hf
def x_X1_passes_j47 (Q : mI → Prop) (k12 : Nat → Int32 → xS → xRd → mJ → mI → Prop) (a1 : Nat) (a2 : Int32) (s : xS) (rd : xRd) (J : mJ) (I : mI) : Prop :=
  x_X1_passes_j48 Q  k12 a1 a2 0 s rd J I
theorem w_X1_passes_j47 {X : hh_CX} {S0 : xS} {R0 : xRd} {J0 : mJ} {Q : mI → Prop} (hX : hh_C X cX1_passes RX1 (hrx 1 21 0 0)) (hN : hh_nL X = 4) (hE : hh_E X none (xQv (fun S9 R9 J9 I9 => S0 = S9 ∧ R0 = R9 ∧ J0 = J9 ∧ Q I9)) 0 0) {k12 : Nat → Int32 → xS → xRd → mJ → mI → Prop} (hk12 : ∀ (b0 : Nat) (b1 : Int32) (s : xS) (rd : xRd) (J : mJ) (I : mI), s = S0 → rd = R0 → J = J0 → k12 b0 b1 s rd J I → hh_V X 12 [(0, .ref 1), (1, .ref b0), (2, .int b1)] [] 0 0 (hx s rd J I)) : ∀ (a1 : Nat) (a2 : Int32) (s : xS) (rd : xRd) (J : mJ) (I : mI), s = S0 → rd = R0 → J = J0 → x_X1_passes_j47 Q k12 a1 a2 s rd J I → hh_V X 47 [(0, .ref 1), (1, .ref a1), (2, .int a2)] [] 0 0 (hx s rd J I) := by
  intro a1 a2 s rd J I e0 e1 e2 hf
  subst e0
  subst e1
  subst e2
  unfold x_X1_passes_j47 at hf
  refine hv_iconst (v := 0) hX icx_0 dX1_passes_47 ?_
  exact w_X1_passes_j48 hX hN hE hk12 _ _ _ _ _ _ _ rfl rfl rfl hf
def x_X1_passes_l12 (Q : mI → Prop) : Nat → Nat → Int32 → xS → xRd → mJ → mI → Prop
  | 0, _, _, _, _, _, _ => False
  | n + 1, a1, a2, s, rd, J, I =>
    ((I 1 0) ≤ a2 →
      Q I) ∧ (¬ (I 1 0) ≤ a2 →
      vp_in a2 4 ∧ (((I 4 a2.toNatClampNeg) ≤ 0 →
        x_X1_passes_j47 Q  (fun b0 b1 s rd J I => x_X1_passes_l12 Q   n b0 b1 s rd J I) a1 a2 s rd J I) ∧ (¬ (I 4 a2.toNatClampNeg) ≤ 0 →
        xo s a1 2 ∧ (vp_in a2 4 ∧ (¬ (I 4 a2.toNatClampNeg) = 0 ∧ ((((I a1 1) - (I a1 1) / (I 4 a2.toNatClampNeg) * (I 4 a2.toNatClampNeg)) = 0 →
          x_X1_passes_j48 Q  (fun b0 b1 s rd J I => x_X1_passes_l12 Q   n b0 b1 s rd J I) a1 a2 1 s rd J I) ∧ (¬ ((I a1 1) - (I a1 1) / (I 4 a2.toNatClampNeg) * (I 4 a2.toNatClampNeg)) = 0 →
          x_X1_passes_j47 Q  (fun b0 b1 s rd J I => x_X1_passes_l12 Q   n b0 b1 s rd J I) a1 a2 s rd J I)))))))
theorem w_X1_passes_l12 {X : hh_CX} {S0 : xS} {R0 : xRd} {J0 : mJ} {Q : mI → Prop} (hX : hh_C X cX1_passes RX1 (hrx 1 21 0 0)) (hN : hh_nL X = 4) (hE : hh_E X none (xQv (fun S9 R9 J9 I9 => S0 = S9 ∧ R0 = R9 ∧ J0 = J9 ∧ Q I9)) 0 0) : ∀ (n : Nat) (a1 : Nat) (a2 : Int32) (s : xS) (rd : xRd) (J : mJ) (I : mI), s = S0 → rd = R0 → J = J0 → x_X1_passes_l12 Q  n a1 a2 s rd J I → hh_V X 12 [(0, .ref 1), (1, .ref a1), (2, .int a2)] [] 0 0 (hx s rd J I) := by
  intro n
  induction n with
  | zero => intro _ _ _ _ _ _ _ _ _ hf; exact hf.elim
  | succ n ih =>
    intro a1 a2 s rd J I e0 e1 e2 hf
    subst e0
    subst e1
    subst e2
    unfold x_X1_passes_l12 at hf
    refine hv_iload_n hX dX1_passes_12 rfl 2 rfl ?_
    refine hv_aload_n hX dX1_passes_13 rfl 0 rfl ?_
    refine hx_getI (v := (I 1 0)) hX dX1_passes_14 fl1_65_1 (.inl rfl) (xo_c (by decide) rfl) rfl ?_
    refine hv_icmp_ge (tgt := 91) hX dX1_passes_17 (by decide) (fun c2 => ?_) (fun c2 => ?_)
    · replace hf := hf.1 c2
      exact hx_vret hX hE dX1_passes_91 ⟨rfl, rfl, rfl, hf⟩
    · replace hf := hf.2 c2
      refine hv_aload_n hX dX1_passes_20 rfl 0 rfl ?_
      refine hx_getR (v := 4) hX dX1_passes_21 fl1_28_1 (xo_c (by decide) rfl) (xR_c rfl) ?_
      refine hv_iload_n hX dX1_passes_24 rfl 2 rfl ?_
      obtain ⟨g, hf⟩ := hf
      refine hx_iald (v := (I 4 a2.toNatClampNeg)) hX dX1_passes_25 (xo_c (by decide) rfl) (xlen_c (by decide) rfl) g rfl ?_
      refine hv_if_le (tgt := 47) hX dX1_passes_26 (by decide) (fun c3 => ?_) (fun c3 => ?_)
      · replace hf := hf.1 c3
        exact w_X1_passes_j47 hX hN hE ih _ _ _ _ _ _ rfl rfl rfl hf
      · replace hf := hf.2 c3
        refine hv_aload_n hX dX1_passes_29 rfl 1 rfl ?_
        obtain ⟨o12, hf⟩ := hf
        refine hx_getI (v := (I a1 1)) hX dX1_passes_30 fl1_91_2 (.inl rfl) o12 rfl ?_
        refine hv_aload_n hX dX1_passes_33 rfl 0 rfl ?_
        refine hx_getR (v := 4) hX dX1_passes_34 fl1_28_1 (xo_c (by decide) rfl) (xR_c rfl) ?_
        refine hv_iload_n hX dX1_passes_37 rfl 2 rfl ?_
        obtain ⟨g, hf⟩ := hf
        refine hx_iald (v := (I 4 a2.toNatClampNeg)) hX dX1_passes_38 (xo_c (by decide) rfl) (xlen_c (by decide) rfl) g rfl ?_
        obtain ⟨g, hf⟩ := hf
        refine hv_irem hX g dX1_passes_39 ?_
        refine hv_if_ne (tgt := 47) hX dX1_passes_40 (by decide) (fun c13 => ?_) (fun c13 => ?_)
        · replace hf := hf.2 c13
          exact w_X1_passes_j47 hX hN hE ih _ _ _ _ _ _ rfl rfl rfl hf
        · replace hf := hf.1 c13
          refine hv_iconst (v := 1) hX icx_1 dX1_passes_43 ?_
          refine hv_goto (tgt := 48) hX dX1_passes_44 (by decide) ?_
          exact w_X1_passes_j48 hX hN hE ih _ _ _ _ _ _ _ rfl rfl rfl hf
def x_X1_passes (a1 : Nat) (s : xS) (rd : xRd) (J : mJ) (I : mI) (Q : mI → Prop) : Prop :=
  xo s a1 2 ∧ (∃ n0 : Nat, x_X1_passes_l12 Q   n0 a1 0 s rd J (u2 I a1 1 ((I a1 1) + 1)))
theorem ct_X1_passes  (a1 : Nat) (s : xS) (rd : xRd) (J : mJ) (I : mI) (Q : mI → Prop) (hf : x_X1_passes a1 s rd J I Q) : hh_Ct yX1_passes cX1_passes 4 none 1 21 [.ref 1, .ref a1] (hx s rd J I) (xQv (fun S9 R9 J9 I9 => s = S9 ∧ rd = R9 ∧ J = J9 ∧ Q I9)) 0 0 := by
  refine hh_Ct.of (own := RX1) rfl (by decide +kernel) (Nat.le_of_ble_eq_true rfl) ?_
  intro X hX hN hE
  show hh_V X 0 [(0, .ref 1), (1, .ref a1)] [] 0 0 (hx s rd J I)
  unfold x_X1_passes at hf
  refine hv_aload_n hX dX1_passes_0 rfl 1 rfl ?_
  refine hv_dup hX rfl dX1_passes_1 ?_
  obtain ⟨o1, hf⟩ := hf
  refine hx_getI (v := (I a1 1)) hX dX1_passes_2 fl1_91_2 (.inl rfl) o1 rfl ?_
  refine hv_iconst (v := 1) hX icx_1 dX1_passes_5 ?_
  refine hv_iadd hX dX1_passes_6 ?_
  refine hx_putI hX dX1_passes_7 fl1_91_2 o1 ?_
  refine hv_iconst (v := 0) hX icx_0 dX1_passes_10 ?_
  refine hv_istore_n (loc2 := [(2, .int 0), (0, .ref 1), (1, .ref a1)]) hX dX1_passes_11 rfl hN (Nat.le_of_ble_eq_true rfl) rfl ?_
  refine hv_fewer [1, 2, 0] (loc2 := [(0, .ref 1), (1, .ref a1), (2, .int 0)]) rfl ?_
  obtain ⟨n0, hf⟩ := hf
  exact w_X1_passes_l12 hX hN hE  n0 _ _ _ _ _ _ rfl rfl rfl hf
/-! HungryHedge$Kept.does(LHungryHedge$Trip;I)V -/
def x_X1_does_l65 (Q : mI → Prop) : Nat → Nat → Int32 → Int32 → Int32 → xS → xRd → mJ → mI → Prop
  | 0, _, _, _, _, _, _, _, _ => False
  | n + 1, a1, a2, a3, a4, s, rd, J, I =>
    (a3 ≤ a4 →
      (a2 = (-1) →
        xo s a1 2 ∧ (Q (u2 I a1 0 (I a1 0)))) ∧ (¬ a2 = (-1) →
        xo s a1 2 ∧ (Q (u2 I a1 0 a2)))) ∧ (¬ a3 ≤ a4 →
      x_X1_passes a1 s rd J I (fun I7 => x_X1_does_l65 Q   n a1 a2 a3 (a4 + 1) s rd J I7))
theorem w_X1_does_l65 {X : hh_CX} {S0 : xS} {R0 : xRd} {J0 : mJ} {Q : mI → Prop} (hX : hh_C X cX1_does RX1 (hrx 2 44 0 0)) (hN : hh_nL X = 5) (hE : hh_E X none (xQv (fun S9 R9 J9 I9 => S0 = S9 ∧ R0 = R9 ∧ J0 = J9 ∧ Q I9)) 0 0) : ∀ (n : Nat) (a1 : Nat) (a2 : Int32) (a3 : Int32) (a4 : Int32) (s : xS) (rd : xRd) (J : mJ) (I : mI), s = S0 → rd = R0 → J = J0 → x_X1_does_l65 Q  n a1 a2 a3 a4 s rd J I → hh_V X 65 [(0, .ref 1), (1, .ref a1), (2, .int a2), (3, .int a3), (4, .int a4)] [] 0 0 (hx s rd J I) := by
  intro n
  induction n with
  | zero => intro _ _ _ _ _ _ _ _ _ _ _ hf; exact hf.elim
  | succ n ih =>
    intro a1 a2 a3 a4 s rd J I e0 e1 e2 hf
    subst e0
    subst e1
    subst e2
    unfold x_X1_does_l65 at hf
    refine hv_iload hX dX1_does_65 4 rfl ?_
    refine hv_iload_n hX dX1_does_67 rfl 3 rfl ?_
    refine hv_icmp_ge (tgt := 82) hX dX1_does_68 (by decide) (fun c3 => ?_) (fun c3 => ?_)
    · replace hf := hf.1 c3
      refine hv_aload_n hX dX1_does_82 rfl 1 rfl ?_
      refine hv_iload_n hX dX1_does_83 rfl 2 rfl ?_
      refine hv_iconst (v := (-1)) hX icx_m1 dX1_does_84 ?_
      refine hv_icmp_ne (tgt := 95) hX dX1_does_85 (by decide) (fun c4 => ?_) (fun c4 => ?_)
      · replace hf := hf.2 c4
        refine hv_iload_n hX dX1_does_95 rfl 2 rfl ?_
        obtain ⟨o5, hf⟩ := hf
        refine hx_putI hX dX1_does_96 fl1_88_2 o5 ?_
        exact hx_vret hX hE dX1_does_99 ⟨rfl, rfl, rfl, hf⟩
      · replace hf := hf.1 c4
        refine hv_aload_n hX dX1_does_88 rfl 1 rfl ?_
        obtain ⟨o6, hf⟩ := hf
        refine hx_getI (v := (I a1 0)) hX dX1_does_89 fl1_88_2 (.inl rfl) o6 rfl ?_
        refine hv_goto (tgt := 96) hX dX1_does_92 (by decide) ?_
        refine hx_putI hX dX1_does_96 fl1_88_2 o6 ?_
        exact hx_vret hX hE dX1_does_99 ⟨rfl, rfl, rfl, hf⟩
    · replace hf := hf.2 c3
      refine hv_aload_n hX dX1_does_71 rfl 0 rfl ?_
      refine hv_aload_n hX dX1_does_72 rfl 1 rfl ?_
      refine hx_callVv (ci := 1) (q := (RX1, TX1, 17)) hX dX1_does_73 (ct_X1_passes a1 s rd J I _ hf) (lw_V q711 q713 qs2 q107 q714) rfl (by decide) ⟨rfl, np_X1_passes⟩ rfl (xo_c (by decide) rfl) rfl ⟨Nat.le_of_ble_eq_true rfl, Nat.le_of_ble_eq_true rfl⟩ ⟨Nat.le_of_ble_eq_true rfl, Nat.le_of_ble_eq_true rfl⟩ (Nat.le_of_ble_eq_true rfl) ?_
      intro  S9 R9 J9 I7 hq
      clear hf
      obtain ⟨rfl, rfl, rfl, hf⟩ := hq
      refine hv_iinc (v := (a4 + 1)) (loc2 := [(4, .int (a4 + 1)), (0, .ref 1), (1, .ref a1), (2, .int a2), (3, .int a3)]) hX dX1_does_76 4 rfl (congrArg (fun y => a4 + y) icx_1) hN (Nat.le_of_ble_eq_true rfl) rfl ?_
      refine hv_goto (tgt := 65) hX dX1_does_79 (by decide) ?_
      refine hv_fewer [1, 2, 3, 4, 0] (loc2 := [(0, .ref 1), (1, .ref a1), (2, .int a2), (3, .int a3), (4, .int (a4 + 1))]) rfl ?_
      exact ih _ _ _ _ _ _ _ _ rfl rfl rfl hf
def x_X1_does_j62 (Q : mI → Prop) (a1 : Nat) (a2 : Int32) (a3 : Int32) (s : xS) (rd : xRd) (J : mJ) (I : mI) : Prop :=
  ∃ n0 : Nat, x_X1_does_l65 Q   n0 a1 a2 a3 0 s rd J I
theorem w_X1_does_j62 {X : hh_CX} {S0 : xS} {R0 : xRd} {J0 : mJ} {Q : mI → Prop} (hX : hh_C X cX1_does RX1 (hrx 2 44 0 0)) (hN : hh_nL X = 5) (hE : hh_E X none (xQv (fun S9 R9 J9 I9 => S0 = S9 ∧ R0 = R9 ∧ J0 = J9 ∧ Q I9)) 0 0) : ∀ (a1 : Nat) (a2 : Int32) (a3 : Int32) (s : xS) (rd : xRd) (J : mJ) (I : mI), s = S0 → rd = R0 → J = J0 → x_X1_does_j62 Q  a1 a2 a3 s rd J I → hh_V X 62 [(0, .ref 1), (1, .ref a1), (2, .int a2), (3, .int a3)] [] 0 0 (hx s rd J I) := by
  intro a1 a2 a3 s rd J I e0 e1 e2 hf
  subst e0
  subst e1
  subst e2
  unfold x_X1_does_j62 at hf
  refine hv_iconst (v := 0) hX icx_0 dX1_does_62 ?_
  refine hv_istore (loc2 := [(4, .int 0), (0, .ref 1), (1, .ref a1), (2, .int a2), (3, .int a3)]) hX dX1_does_63 hN (Nat.le_of_ble_eq_true rfl) rfl ?_
  refine hv_fewer [1, 2, 3, 4, 0] (loc2 := [(0, .ref 1), (1, .ref a1), (2, .int a2), (3, .int a3), (4, .int 0)]) rfl ?_
  obtain ⟨n0, hf⟩ := hf
  exact w_X1_does_l65 hX hN hE  n0 _ _ _ _ _ _ _ _ rfl rfl rfl hf
def x_X1_does (a1 : Nat) (a2 : Int32) (s : xS) (rd : xRd) (J : mJ) (I : mI) (Q : mI → Prop) : Prop :=
  x_X1_takes a1 a2 s rd J I (fun r1 => (a2 = (-1) →
    xo s a1 2 ∧ (∃ v9 : Nat, xR rd a1 3 = some v9 ∧ (xo s v9 100 ∧ (vp_in (I a1 0) (xlen s v9) ∧ (x_X1_brings (I a1 0) (I v9 (I a1 0).toNatClampNeg) s rd J I (fun r11 => ∃ v12 : Nat, xR rd a1 3 = some v12 ∧ (∃ v13 : Nat, xR rd a1 3 = some v13 ∧ (xo s v13 100 ∧ (vp_in (I a1 0) (xlen s v13) ∧ (xo s v12 100 ∧ (vp_in (I a1 0) (xlen s v12) ∧ (∀ I16 : mI, I16 = (u2 (u2 I a1 2 ((I a1 2) + r11)) v12 (I a1 0).toNatClampNeg (if (0 : Int32) < (((u2 I a1 2 ((I a1 2) + r11)) v13 (I a1 0).toNatClampNeg) - 1) then (((u2 I a1 2 ((I a1 2) + r11)) v13 (I a1 0).toNatClampNeg) - 1) else 0)) → (x_X1_does_j62 Q   a1 a2 r1 s rd J I16))))))))))))) ∧ (¬ a2 = (-1) →
    x_X1_does_j62 Q   a1 a2 r1 s rd J I))
theorem ct_X1_does  (a1 : Nat) (a2 : Int32) (s : xS) (rd : xRd) (J : mJ) (I : mI) (Q : mI → Prop) (hf : x_X1_does a1 a2 s rd J I Q) : hh_Ct yX1_does cX1_does 5 none 2 44 [.ref 1, .ref a1, .int a2] (hx s rd J I) (xQv (fun S9 R9 J9 I9 => s = S9 ∧ rd = R9 ∧ J = J9 ∧ Q I9)) 0 0 := by
  refine hh_Ct.of (own := RX1) rfl (by decide +kernel) (Nat.le_of_ble_eq_true rfl) ?_
  intro X hX hN hE
  show hh_V X 0 [(0, .ref 1), (1, .ref a1), (2, .int a2)] [] 0 0 (hx s rd J I)
  unfold x_X1_does at hf
  refine hv_aload_n hX dX1_does_0 rfl 0 rfl ?_
  refine hv_aload_n hX dX1_does_1 rfl 1 rfl ?_
  refine hv_iload_n hX dX1_does_2 rfl 2 rfl ?_
  refine hx_callVi (ci := 1) (q := (RX1, TX1, 17)) hX dX1_does_3 (ct_X1_takes a1 a2 s rd J I _ hf) (lw_V q706 q699 q700 q107 q701) rfl (by decide) ⟨rfl, np_X1_takes⟩ rfl (xo_c (by decide) rfl) rfl ⟨Nat.le_of_ble_eq_true rfl, Nat.le_of_ble_eq_true rfl⟩ ⟨Nat.le_of_ble_eq_true rfl, Nat.le_of_ble_eq_true rfl⟩ (Nat.le_of_ble_eq_true rfl) ?_
  intro r1 S9 R9 J9 I9 hq
  clear hf
  obtain ⟨rfl, rfl, rfl, rfl, hf⟩ := hq
  refine hv_istore_n (loc2 := [(3, .int r1), (0, .ref 1), (1, .ref a1), (2, .int a2)]) hX dX1_does_6 rfl hN (Nat.le_of_ble_eq_true rfl) rfl ?_
  refine hv_iload_n hX dX1_does_7 rfl 3 rfl ?_
  refine hv_iconst (v := (-1)) hX icx_m1 dX1_does_8 ?_
  refine hv_icmp_ne (tgt := 62) hX dX1_does_9 (by decide) (fun c2 => ?_) (fun c2 => ?_)
  · replace hf := hf.2 c2
    refine hv_fewer [1, 2, 3, 0] (loc2 := [(0, .ref 1), (1, .ref a1), (2, .int a2), (3, .int r1)]) rfl ?_
    exact w_X1_does_j62 hX hN hE  _ _ _ _ _ _ _ rfl rfl rfl hf
  · replace hf := hf.1 c2
    refine hv_aload_n hX dX1_does_12 rfl 2 rfl ?_
    refine hv_dup hX rfl dX1_does_13 ?_
    obtain ⟨o8, hf⟩ := hf
    refine hx_getI (v := (I a1 2)) hX dX1_does_14 fl1_107_2 (.inl rfl) o8 rfl ?_
    refine hv_aload_n hX dX1_does_17 rfl 1 rfl ?_
    refine hv_aload_n hX dX1_does_18 rfl 2 rfl ?_
    refine hx_getI (v := (I a1 0)) hX dX1_does_19 fl1_88_2 (.inl rfl) o8 rfl ?_
    refine hv_aload_n hX dX1_does_22 rfl 2 rfl ?_
    obtain ⟨v9, gv9, hf⟩ := hf
    refine hx_getR (v := v9) hX dX1_does_23 fl1_94_2 o8 gv9 ?_
    refine hv_aload_n hX dX1_does_26 rfl 2 rfl ?_
    refine hx_getI (v := (I a1 0)) hX dX1_does_27 fl1_88_2 (.inl rfl) o8 rfl ?_
    obtain ⟨o10, hf⟩ := hf
    obtain ⟨g, hf⟩ := hf
    refine hx_iald (v := (I v9 (I a1 0).toNatClampNeg)) hX dX1_does_30 o10 rfl g rfl ?_
    refine hx_callVi (ci := 1) (q := (RX1, TX1, 17)) hX dX1_does_31 (ct_X1_brings (I a1 0) (I v9 (I a1 0).toNatClampNeg) s rd J I _ hf) (lw_V q707 q665 q666 q107 q667) rfl (by decide) ⟨rfl, np_X1_brings⟩ rfl (xo_c (by decide) rfl) rfl ⟨Nat.le_of_ble_eq_true rfl, Nat.le_of_ble_eq_true rfl⟩ ⟨Nat.le_of_ble_eq_true rfl, Nat.le_of_ble_eq_true rfl⟩ (Nat.le_of_ble_eq_true rfl) ?_
    intro r11 S9 R9 J9 I9 hq
    clear hf
    obtain ⟨rfl, rfl, rfl, rfl, hf⟩ := hq
    refine hv_iadd hX dX1_does_34 ?_
    refine hx_putI hX dX1_does_35 fl1_107_2 o8 ?_
    refine hv_aload_n hX dX1_does_38 rfl 2 rfl ?_
    obtain ⟨v12, gv12, hf⟩ := hf
    refine hx_getR (v := v12) hX dX1_does_39 fl1_94_2 o8 gv12 ?_
    refine hv_aload_n hX dX1_does_42 rfl 2 rfl ?_
    refine hx_getI (v := (I a1 0)) hX dX1_does_43 fl1_88_2 (.inl rfl) o8 ((u2_ne _ _ (.inr (by decide)))) ?_
    refine hv_iconst (v := 0) hX icx_0 dX1_does_46 ?_
    refine hv_aload_n hX dX1_does_47 rfl 2 rfl ?_
    obtain ⟨v13, gv13, hf⟩ := hf
    refine hx_getR (v := v13) hX dX1_does_48 fl1_94_2 o8 gv13 ?_
    refine hv_aload_n hX dX1_does_51 rfl 2 rfl ?_
    refine hx_getI (v := (I a1 0)) hX dX1_does_52 fl1_88_2 (.inl rfl) o8 ((u2_ne _ _ (.inr (by decide)))) ?_
    obtain ⟨o14, hf⟩ := hf
    obtain ⟨g, hf⟩ := hf
    refine hx_iald (v := ((u2 I a1 2 ((I a1 2) + r11)) v13 (I a1 0).toNatClampNeg)) hX dX1_does_55 o14 rfl g rfl ?_
    refine hv_iconst (v := 1) hX icx_1 dX1_does_56 ?_
    refine hv_isub hX dX1_does_57 ?_
    refine hv_mmax hX dX1_does_58 q708 q709 q127 q710 ⟨Nat.le_of_ble_eq_true rfl, Nat.le_of_ble_eq_true rfl⟩ ⟨Nat.le_of_ble_eq_true rfl, Nat.le_of_ble_eq_true rfl⟩ ?_
    obtain ⟨o15, hf⟩ := hf
    obtain ⟨g, hf⟩ := hf
    refine hx_iast hX dX1_does_61 o15 rfl g ?_
    refine hx_nmI (fun I16 eI16 => ?_)
    replace hf := hf I16 eI16
    refine hv_fewer [1, 2, 3, 0] (loc2 := [(0, .ref 1), (1, .ref a1), (2, .int a2), (3, .int r1)]) rfl ?_
    exact w_X1_does_j62 hX hN hE  _ _ _ _ _ _ _ rfl rfl rfl hf
/-! HungryHedge$Kept.copy([I[I)V -/
def x_X1_copy (a0 : Nat) (a1 : Nat) (s : xS) (rd : xRd) (J : mJ) (I : mI) (Q : mI → Prop) : Prop :=
  xo s a1 100 ∧ (xo s a0 100 ∧ ((¬ (0 : Int32) < 0 ∧ ¬ (0 : Int32) < 0 ∧ ¬ (nI (xlen s a1)) < 0 ∧ (0 : Int32).toNatClampNeg + (nI (xlen s a1)).toNatClampNeg ≤ (xlen s a0) ∧ (0 : Int32).toNatClampNeg + (nI (xlen s a1)).toNatClampNeg ≤ (xlen s a1)) ∧ (Q (ur I a1 (va_cpy (I a0) (I a1) (0 : Int32).toNatClampNeg (0 : Int32).toNatClampNeg (nI (xlen s a1)).toNatClampNeg)))))
theorem ct_X1_copy  (a0 : Nat) (a1 : Nat) (s : xS) (rd : xRd) (J : mJ) (I : mI) (Q : mI → Prop) (hf : x_X1_copy a0 a1 s rd J I Q) : hh_Ct yX1_copy cX1_copy 2 none 1 26 [.ref a0, .ref a1] (hx s rd J I) (xQv (fun S9 R9 J9 I9 => s = S9 ∧ rd = R9 ∧ J = J9 ∧ Q I9)) 0 0 := by
  refine hh_Ct.of (own := RX1) rfl (by decide +kernel) (Nat.le_of_ble_eq_true rfl) ?_
  intro X hX hN hE
  show hh_V X 0 [(0, .ref a0), (1, .ref a1)] [] 0 0 (hx s rd J I)
  unfold x_X1_copy at hf
  refine hv_aload_n hX dX1_copy_0 rfl 0 rfl ?_
  refine hv_iconst (v := 0) hX icx_0 dX1_copy_1 ?_
  refine hv_aload_n hX dX1_copy_2 rfl 1 rfl ?_
  refine hv_iconst (v := 0) hX icx_0 dX1_copy_3 ?_
  refine hv_aload_n hX dX1_copy_4 rfl 1 rfl ?_
  obtain ⟨o1, hf⟩ := hf
  refine hx_alen (v := nI (xlen s a1)) hX 0 rfl dX1_copy_5 o1 rfl ?_
  obtain ⟨o2, hf⟩ := hf
  obtain ⟨g, hf⟩ := hf
  refine hx_copyI hX dX1_copy_6 q1683 q690 q689 q126 o2 o1 g ⟨Nat.le_of_ble_eq_true rfl, Nat.le_of_ble_eq_true rfl⟩ ?_
  exact hx_vret hX hE dX1_copy_9 ⟨rfl, rfl, rfl, hf⟩
/-! HungryHedge$Shelf.<init>()V -/
def x_X13_init (a0 : Nat) (s : xS) (rd : xRd) (J : mJ) (I : mI) (Q : mI → Prop) : Prop :=
  xo s a0 13 ∧ (Q (u2 I a0 0 4))
theorem ct_X13_init  (a0 : Nat) (s : xS) (rd : xRd) (J : mJ) (I : mI) (Q : mI → Prop) (hf : x_X13_init a0 s rd J I Q) : hh_Ct yX13_init cX13_init 1 none 1 20 [.ref a0] (hx s rd J I) (xQv (fun S9 R9 J9 I9 => s = S9 ∧ rd = R9 ∧ J = J9 ∧ Q I9)) 0 0 := by
  refine hh_Ct.ofN (own := RX13) rfl (by decide +kernel) (Nat.le_of_ble_eq_true rfl) ?_
  intro X hX hN hE hNm
  show hh_V X 0 [(0, .ref a0)] [] 0 0 (hx s rd J I)
  unfold x_X13_init at hf
  refine hv_aload_n hX dX13_init_0 rfl 0 rfl ?_
  refine hv_objinit hX dX13_init_1 q571 q153 q154 hN ⟨Nat.le_of_ble_eq_true rfl, Nat.le_of_ble_eq_true rfl⟩ ?_
  refine hv_aload_n hX dX13_init_4 rfl 0 rfl ?_
  refine hv_iconst (v := 4) hX icx_4 dX13_init_5 ?_
  obtain ⟨o1, hf⟩ := hf
  refine hx_putI hX dX13_init_6 fl13_7_13 o1 ?_
  exact hx_vret hX hE dX13_init_9 ⟨rfl, rfl, rfl, hf⟩
/-! HungryHedge.patch(III)I -/
def x_X0_patch_l115 (Q : Int32 → mI → Prop) : Nat → Int32 → Int32 → xS → xRd → mJ → mI → Prop
  | 0, _, _, _, _, _, _ => False
  | n + 1, a4, a5, s, rd, J, I =>
    ((7 : Int32) ≤ a5 →
      Q a4 (u2 I 1 0 ((I 1 0) + 1))) ∧ (¬ (7 : Int32) ≤ a5 →
      vp_in ((7 * a4) + a5) 28 ∧ (x_X0_patch_l115 Q   n a4 (a5 + 1) s rd J (u2 I 6 ((7 * a4) + a5).toNatClampNeg 0)))
theorem w_X0_patch_l115 {X : hh_CX} {S0 : xS} {R0 : xRd} {J0 : mJ} {Q : Int32 → mI → Prop} (hX : hh_C X cX0_patch RX0 (hrx 1 22 0 0)) (hN : hh_nL X = 6) (hE : hh_E X (some .int) (xQi (fun r9 S9 R9 J9 I9 => S0 = S9 ∧ R0 = R9 ∧ J0 = J9 ∧ Q r9 I9)) 0 0) : ∀ (n : Nat) (a4 : Int32) (a5 : Int32) (s : xS) (rd : xRd) (J : mJ) (I : mI), s = S0 → rd = R0 → J = J0 → x_X0_patch_l115 Q  n a4 a5 s rd J I → hh_V X 115 [(0, .ref 0), (4, .int a4), (5, .int a5)] [] 0 0 (hx s rd J I) := by
  intro n
  induction n with
  | zero => intro _ _ _ _ _ _ _ _ _ hf; exact hf.elim
  | succ n ih =>
    intro a4 a5 s rd J I e0 e1 e2 hf
    subst e0
    subst e1
    subst e2
    unfold x_X0_patch_l115 at hf
    refine hv_iload hX dX0_patch_115 2 rfl ?_
    refine hv_bipush (v := 7) hX bix_7 dX0_patch_117 ?_
    refine hv_icmp_ge (tgt := 145) hX dX0_patch_119 (by decide) (fun c9 => ?_) (fun c9 => ?_)
    · replace hf := hf.1 c9
      refine hv_aload_n hX dX0_patch_145 rfl 0 rfl ?_
      refine hx_getR (v := 1) hX dX0_patch_146 fl0_10_0 (xo_c (by decide) rfl) (xR_c rfl) ?_
      refine hv_dup hX rfl dX0_patch_149 ?_
      refine hx_getI (v := (I 1 0)) hX dX0_patch_150 fl0_107_1 (.inl rfl) (xo_c (by decide) rfl) rfl ?_
      refine hv_iconst (v := 1) hX icx_1 dX0_patch_153 ?_
      refine hv_iadd hX dX0_patch_154 ?_
      refine hx_putI hX dX0_patch_155 fl0_107_1 (xo_c (by decide) rfl) ?_
      refine hv_iload hX dX0_patch_158 1 rfl ?_
      exact hx_iret hX hE dX0_patch_160 ⟨rfl, rfl, rfl, hf⟩
    · replace hf := hf.2 c9
      refine hv_aload_n hX dX0_patch_122 rfl 0 rfl ?_
      refine hx_getR (v := 1) hX dX0_patch_123 fl0_10_0 (xo_c (by decide) rfl) (xR_c rfl) ?_
      refine hx_getR (v := 6) hX dX0_patch_126 fl0_133_1 (xo_c (by decide) rfl) (xR_c rfl) ?_
      refine hv_bipush (v := 7) hX bix_7 dX0_patch_129 ?_
      refine hv_iload hX dX0_patch_131 1 rfl ?_
      refine hv_imul hX dX0_patch_133 ?_
      refine hv_iload hX dX0_patch_134 2 rfl ?_
      refine hv_iadd hX dX0_patch_136 ?_
      refine hv_iconst (v := 0) hX icx_0 dX0_patch_137 ?_
      obtain ⟨g, hf⟩ := hf
      refine hx_iast hX dX0_patch_138 (xo_c (by decide) rfl) (xlen_c (by decide) rfl) g ?_
      refine hv_iinc (v := (a5 + 1)) (loc2 := [(5, .int (a5 + 1)), (0, .ref 0), (4, .int a4)]) hX dX0_patch_139 2 rfl (congrArg (fun y => a5 + y) icx_1) hN (Nat.le_of_ble_eq_true rfl) rfl ?_
      refine hv_goto (tgt := 115) hX dX0_patch_142 (by decide) ?_
      refine hv_fewer [1, 2, 0] (loc2 := [(0, .ref 0), (4, .int a4), (5, .int (a5 + 1))]) rfl ?_
      exact ih _ _ _ _ _ _ rfl rfl rfl hf
def x_X0_patch (a1 : Int32) (a2 : Int32) (a3 : Int32) (s : xS) (rd : xRd) (J : mJ) (I : mI) (Q : Int32 → mI → Prop) : Prop :=
  x_X0_in a1 1 4 s rd J I (fun r1 => (r1 = 0 →
    Q (-1) I) ∧ (¬ r1 = 0 →
    x_X0_in a2 1 6 s rd J I (fun r3 => (r3 = 0 →
      Q (-1) I) ∧ (¬ r3 = 0 →
      x_X0_in a3 0 9 s rd J I (fun r5 => (r5 = 0 →
        Q (-1) I) ∧ (¬ r5 = 0 →
        ((I 1 0) = 4 →
          Q (-2) I) ∧ (¬ (I 1 0) = 4 →
          vp_in (I 1 0) 4 ∧ (vp_in (I 1 0) 4 ∧ (vp_in (I 1 0) 4 ∧ (vp_in (I 1 0) 4 ∧ (vp_in (I 1 0) 4 ∧ (∀ I8 : mI, I8 = (u2 (u2 (u2 (u2 (u2 I 2 (I 1 0).toNatClampNeg a1) 3 (I 1 0).toNatClampNeg a2) 4 (I 1 0).toNatClampNeg a3) 5 (I 1 0).toNatClampNeg 0) 11 (I 1 0).toNatClampNeg a2) → (∃ n0 : Nat, x_X0_patch_l115 Q   n0 (I 1 0) 0 s rd J I8)))))))))))))
theorem ct_X0_patch  (a1 : Int32) (a2 : Int32) (a3 : Int32) (s : xS) (rd : xRd) (J : mJ) (I : mI) (Q : Int32 → mI → Prop) (hf : x_X0_patch a1 a2 a3 s rd J I Q) : hh_Ct yX0_patch cX0_patch 6 (some .int) 1 22 [.ref 0, .int a1, .int a2, .int a3] (hx s rd J I) (xQi (fun r9 S9 R9 J9 I9 => s = S9 ∧ rd = R9 ∧ J = J9 ∧ Q r9 I9)) 0 0 := by
  refine hh_Ct.of (own := RX0) rfl (by decide +kernel) (Nat.le_of_ble_eq_true rfl) ?_
  intro X hX hN hE
  show hh_V X 0 [(0, .ref 0), (1, .int a1), (2, .int a2), (3, .int a3)] [] 0 0 (hx s rd J I)
  unfold x_X0_patch at hf
  refine hv_iload_n hX dX0_patch_0 rfl 1 rfl ?_
  refine hv_iconst (v := 1) hX icx_1 dX0_patch_1 ?_
  refine hv_iconst (v := 4) hX icx_4 dX0_patch_2 ?_
  refine hx_callSi hX dX0_patch_3 (ct_X0_in a1 1 4 s rd J I _ hf) (lw_S q649 q650 q106 q651) np_X0_in rfl rfl ⟨Nat.le_of_ble_eq_true rfl, Nat.le_of_ble_eq_true rfl⟩ ⟨Nat.le_of_ble_eq_true rfl, Nat.le_of_ble_eq_true rfl⟩ (Nat.le_of_ble_eq_true rfl) ?_
  intro r1 S9 R9 J9 I9 hq
  clear hf
  obtain ⟨rfl, rfl, rfl, rfl, hf⟩ := hq
  refine hv_if_eq (tgt := 29) hX dX0_patch_6 (by decide) (fun c2 => ?_) (fun c2 => ?_)
  · replace hf := hf.1 c2
    refine hv_iconst (v := (-1)) hX icx_m1 dX0_patch_29 ?_
    exact hx_iret hX hE dX0_patch_30 ⟨rfl, rfl, rfl, hf⟩
  · replace hf := hf.2 c2
    refine hv_iload_n hX dX0_patch_9 rfl 2 rfl ?_
    refine hv_iconst (v := 1) hX icx_1 dX0_patch_10 ?_
    refine hv_bipush (v := 6) hX bix_6 dX0_patch_11 ?_
    refine hx_callSi hX dX0_patch_13 (ct_X0_in a2 1 6 s rd J I _ hf) (lw_S q649 q650 q106 q651) np_X0_in rfl rfl ⟨Nat.le_of_ble_eq_true rfl, Nat.le_of_ble_eq_true rfl⟩ ⟨Nat.le_of_ble_eq_true rfl, Nat.le_of_ble_eq_true rfl⟩ (Nat.le_of_ble_eq_true rfl) ?_
    intro r3 S9 R9 J9 I9 hq
    clear hf
    obtain ⟨rfl, rfl, rfl, rfl, hf⟩ := hq
    refine hv_if_eq (tgt := 29) hX dX0_patch_16 (by decide) (fun c4 => ?_) (fun c4 => ?_)
    · replace hf := hf.1 c4
      refine hv_iconst (v := (-1)) hX icx_m1 dX0_patch_29 ?_
      exact hx_iret hX hE dX0_patch_30 ⟨rfl, rfl, rfl, hf⟩
    · replace hf := hf.2 c4
      refine hv_iload_n hX dX0_patch_19 rfl 3 rfl ?_
      refine hv_iconst (v := 0) hX icx_0 dX0_patch_20 ?_
      refine hv_bipush (v := 9) hX bix_9 dX0_patch_21 ?_
      refine hx_callSi hX dX0_patch_23 (ct_X0_in a3 0 9 s rd J I _ hf) (lw_S q649 q650 q106 q651) np_X0_in rfl rfl ⟨Nat.le_of_ble_eq_true rfl, Nat.le_of_ble_eq_true rfl⟩ ⟨Nat.le_of_ble_eq_true rfl, Nat.le_of_ble_eq_true rfl⟩ (Nat.le_of_ble_eq_true rfl) ?_
      intro r5 S9 R9 J9 I9 hq
      clear hf
      obtain ⟨rfl, rfl, rfl, rfl, hf⟩ := hq
      refine hv_if_ne (tgt := 31) hX dX0_patch_26 (by decide) (fun c6 => ?_) (fun c6 => ?_)
      · replace hf := hf.2 c6
        refine hv_aload_n hX dX0_patch_31 rfl 0 rfl ?_
        refine hx_getR (v := 1) hX dX0_patch_32 fl0_10_0 (xo_c (by decide) rfl) (xR_c rfl) ?_
        refine hx_getI (v := (I 1 0)) hX dX0_patch_35 fl0_107_1 (.inl rfl) (xo_c (by decide) rfl) rfl ?_
        refine hv_iconst (v := 4) hX icx_4 dX0_patch_38 ?_
        refine hv_icmp_ne (tgt := 45) hX dX0_patch_39 (by decide) (fun c7 => ?_) (fun c7 => ?_)
        · replace hf := hf.2 c7
          refine hv_aload_n hX dX0_patch_45 rfl 0 rfl ?_
          refine hx_getR (v := 1) hX dX0_patch_46 fl0_10_0 (xo_c (by decide) rfl) (xR_c rfl) ?_
          refine hx_getI (v := (I 1 0)) hX dX0_patch_49 fl0_107_1 (.inl rfl) (xo_c (by decide) rfl) rfl ?_
          refine hv_istore (loc2 := [(4, .int (I 1 0)), (0, .ref 0), (1, .int a1), (2, .int a2), (3, .int a3)]) hX dX0_patch_52 hN (Nat.le_of_ble_eq_true rfl) rfl ?_
          refine hv_aload_n hX dX0_patch_54 rfl 1 rfl ?_
          refine hx_getR (v := 1) hX dX0_patch_55 fl0_10_0 (xo_c (by decide) rfl) (xR_c rfl) ?_
          refine hx_getR (v := 2) hX dX0_patch_58 fl0_115_1 (xo_c (by decide) rfl) (xR_c rfl) ?_
          refine hv_iload hX dX0_patch_61 0 rfl ?_
          refine hv_iload_n hX dX0_patch_63 rfl 2 rfl ?_
          obtain ⟨g, hf⟩ := hf
          refine hx_iast hX dX0_patch_64 (xo_c (by decide) rfl) (xlen_c (by decide) rfl) g ?_
          refine hv_aload_n hX dX0_patch_65 rfl 1 rfl ?_
          refine hx_getR (v := 1) hX dX0_patch_66 fl0_10_0 (xo_c (by decide) rfl) (xR_c rfl) ?_
          refine hx_getR (v := 3) hX dX0_patch_69 fl0_118_1 (xo_c (by decide) rfl) (xR_c rfl) ?_
          refine hv_iload hX dX0_patch_72 0 rfl ?_
          refine hv_iload_n hX dX0_patch_74 rfl 3 rfl ?_
          obtain ⟨g, hf⟩ := hf
          refine hx_iast hX dX0_patch_75 (xo_c (by decide) rfl) (xlen_c (by decide) rfl) g ?_
          refine hv_aload_n hX dX0_patch_76 rfl 1 rfl ?_
          refine hx_getR (v := 1) hX dX0_patch_77 fl0_10_0 (xo_c (by decide) rfl) (xR_c rfl) ?_
          refine hx_getR (v := 4) hX dX0_patch_80 fl0_121_1 (xo_c (by decide) rfl) (xR_c rfl) ?_
          refine hv_iload hX dX0_patch_83 0 rfl ?_
          refine hv_iload_n hX dX0_patch_85 rfl 4 rfl ?_
          obtain ⟨g, hf⟩ := hf
          refine hx_iast hX dX0_patch_86 (xo_c (by decide) rfl) (xlen_c (by decide) rfl) g ?_
          refine hv_aload_n hX dX0_patch_87 rfl 1 rfl ?_
          refine hx_getR (v := 1) hX dX0_patch_88 fl0_10_0 (xo_c (by decide) rfl) (xR_c rfl) ?_
          refine hx_getR (v := 5) hX dX0_patch_91 fl0_124_1 (xo_c (by decide) rfl) (xR_c rfl) ?_
          refine hv_iload hX dX0_patch_94 0 rfl ?_
          refine hv_iconst (v := 0) hX icx_0 dX0_patch_96 ?_
          obtain ⟨g, hf⟩ := hf
          refine hx_iast hX dX0_patch_97 (xo_c (by decide) rfl) (xlen_c (by decide) rfl) g ?_
          refine hv_aload_n hX dX0_patch_98 rfl 1 rfl ?_
          refine hx_getR (v := 1) hX dX0_patch_99 fl0_10_0 (xo_c (by decide) rfl) (xR_c rfl) ?_
          refine hx_getR (v := 10) hX dX0_patch_102 fl0_127_1 (xo_c (by decide) rfl) (xR_c rfl) ?_
          refine hx_getR (v := 11) hX dX0_patch_105 fl0_130_2 (xo_c (by decide) rfl) (xR_c rfl) ?_
          refine hv_iload hX dX0_patch_108 0 rfl ?_
          refine hv_iload_n hX dX0_patch_110 rfl 3 rfl ?_
          obtain ⟨g, hf⟩ := hf
          refine hx_iast hX dX0_patch_111 (xo_c (by decide) rfl) (xlen_c (by decide) rfl) g ?_
          refine hx_nmI (fun I8 eI8 => ?_)
          replace hf := hf I8 eI8
          refine hv_iconst (v := 0) hX icx_0 dX0_patch_112 ?_
          refine hv_istore (loc2 := [(5, .int 0), (4, .int (I 1 0)), (0, .ref 0), (1, .int a1), (2, .int a2), (3, .int a3)]) hX dX0_patch_113 hN (Nat.le_of_ble_eq_true rfl) rfl ?_
          refine hv_fewer [2, 1, 0] (loc2 := [(0, .ref 0), (4, .int (I 1 0)), (5, .int 0)]) rfl ?_
          obtain ⟨n0, hf⟩ := hf
          exact w_X0_patch_l115 hX hN hE  n0 _ _ _ _ _ _ rfl rfl rfl hf
        · replace hf := hf.1 c7
          refine hv_bipush (v := (-2)) hX bix_m2 dX0_patch_42 ?_
          exact hx_iret hX hE dX0_patch_44 ⟨rfl, rfl, rfl, hf⟩
      · replace hf := hf.1 c6
        refine hv_iconst (v := (-1)) hX icx_m1 dX0_patch_29 ?_
        exact hx_iret hX hE dX0_patch_30 ⟨rfl, rfl, rfl, hf⟩
/-! HungryHedge.patchOf(II)I -/
def x_X0_patchOf (a1 : Int32) (a2 : Int32) (s : xS) (rd : xRd) (J : mJ) (I : mI) (Q : Int32 → Prop) : Prop :=
  x_X0_isPatch a1 s rd J I (fun r1 => (r1 = 0 →
    Q (-1) ) ∧ (¬ r1 = 0 →
    (a2 = 0 →
      vp_in a1 4 ∧ (Q (I 2 a1.toNatClampNeg) )) ∧ (¬ a2 = 0 →
      (a2 = 1 →
      vp_in a1 4 ∧ (Q (I 3 a1.toNatClampNeg) )) ∧ (¬ a2 = 1 →
      (a2 = 2 →
      vp_in a1 4 ∧ (Q (I 11 a1.toNatClampNeg) )) ∧ (¬ a2 = 2 →
      (a2 = 3 →
      vp_in a1 4 ∧ (Q (I 4 a1.toNatClampNeg) )) ∧ (¬ a2 = 3 →
      (a2 = 4 →
      vp_in a1 4 ∧ (Q (I 5 a1.toNatClampNeg) )) ∧ (¬ a2 = 4 →
      Q (-1) )))))))
theorem ct_X0_patchOf  (a1 : Int32) (a2 : Int32) (s : xS) (rd : xRd) (J : mJ) (I : mI) (Q : Int32 → Prop) (hf : x_X0_patchOf a1 a2 s rd J I Q) : hh_Ct yX0_patchOf cX0_patchOf 3 (some .int) 2 43 [.ref 0, .int a1, .int a2] (hx s rd J I) (xQi (fun r9 S9 R9 J9 I9 => s = S9 ∧ rd = R9 ∧ J = J9 ∧ I = I9 ∧ Q r9)) 0 0 := by
  refine hh_Ct.of (own := RX0) rfl (by decide +kernel) (Nat.le_of_ble_eq_true rfl) ?_
  intro X hX hN hE
  show hh_V X 0 [(0, .ref 0), (1, .int a1), (2, .int a2)] [] 0 0 (hx s rd J I)
  unfold x_X0_patchOf at hf
  refine hv_aload_n hX dX0_patchOf_0 rfl 0 rfl ?_
  refine hv_iload_n hX dX0_patchOf_1 rfl 1 rfl ?_
  refine hx_callVi (ci := 0) (q := (RX0, TX0, 19)) hX dX0_patchOf_2 (ct_X0_isPatch a1 s rd J I _ hf) (lw_V q656 q658 qs1 q106 q659) rfl (by decide) ⟨rfl, np_X0_isPatch⟩ rfl (xo_c (by decide) rfl) rfl ⟨Nat.le_of_ble_eq_true rfl, Nat.le_of_ble_eq_true rfl⟩ ⟨Nat.le_of_ble_eq_true rfl, Nat.le_of_ble_eq_true rfl⟩ (Nat.le_of_ble_eq_true rfl) ?_
  intro r1 S9 R9 J9 I9 hq
  clear hf
  obtain ⟨rfl, rfl, rfl, rfl, hf⟩ := hq
  refine hv_if_ne (tgt := 10) hX dX0_patchOf_5 (by decide) (fun c2 => ?_) (fun c2 => ?_)
  · replace hf := hf.2 c2
    refine hv_iload_n hX dX0_patchOf_10 rfl 2 rfl ?_
    by_cases c3 : a2 = 0
    · replace hf := hf.1 c3
      refine hv_tswA (v := 0) (tgt := 44) (off := 33) hX dX0_patchOf_11 c3 ⟨by decide, by decide, by decide⟩ (by decide) ?_
      refine hv_aload_n hX dX0_patchOf_44 rfl 0 rfl ?_
      refine hx_getR (v := 1) hX dX0_patchOf_45 fl0_10_0 (xo_c (by decide) rfl) (xR_c rfl) ?_
      refine hx_getR (v := 2) hX dX0_patchOf_48 fl0_115_1 (xo_c (by decide) rfl) (xR_c rfl) ?_
      refine hv_iload_n hX dX0_patchOf_51 rfl 1 rfl ?_
      obtain ⟨g, hf⟩ := hf
      refine hx_iald (v := (I 2 a1.toNatClampNeg)) hX dX0_patchOf_52 (xo_c (by decide) rfl) (xlen_c (by decide) rfl) g rfl ?_
      exact hx_iret hX hE dX0_patchOf_53 ⟨rfl, rfl, rfl, rfl, hf⟩
    · replace hf := hf.2 c3
      by_cases c4 : a2 = 1
      · replace hf := hf.1 c4
        refine hv_tswA (v := 1) (tgt := 54) (off := 43) hX dX0_patchOf_11 c4 ⟨by decide, by decide, by decide⟩ (by decide) ?_
        refine hv_aload_n hX dX0_patchOf_54 rfl 0 rfl ?_
        refine hx_getR (v := 1) hX dX0_patchOf_55 fl0_10_0 (xo_c (by decide) rfl) (xR_c rfl) ?_
        refine hx_getR (v := 3) hX dX0_patchOf_58 fl0_118_1 (xo_c (by decide) rfl) (xR_c rfl) ?_
        refine hv_iload_n hX dX0_patchOf_61 rfl 1 rfl ?_
        obtain ⟨g, hf⟩ := hf
        refine hx_iald (v := (I 3 a1.toNatClampNeg)) hX dX0_patchOf_62 (xo_c (by decide) rfl) (xlen_c (by decide) rfl) g rfl ?_
        exact hx_iret hX hE dX0_patchOf_63 ⟨rfl, rfl, rfl, rfl, hf⟩
      · replace hf := hf.2 c4
        by_cases c5 : a2 = 2
        · replace hf := hf.1 c5
          refine hv_tswA (v := 2) (tgt := 64) (off := 53) hX dX0_patchOf_11 c5 ⟨by decide, by decide, by decide⟩ (by decide) ?_
          refine hv_aload_n hX dX0_patchOf_64 rfl 0 rfl ?_
          refine hx_getR (v := 1) hX dX0_patchOf_65 fl0_10_0 (xo_c (by decide) rfl) (xR_c rfl) ?_
          refine hx_getR (v := 10) hX dX0_patchOf_68 fl0_127_1 (xo_c (by decide) rfl) (xR_c rfl) ?_
          refine hx_getR (v := 11) hX dX0_patchOf_71 fl0_130_2 (xo_c (by decide) rfl) (xR_c rfl) ?_
          refine hv_iload_n hX dX0_patchOf_74 rfl 1 rfl ?_
          obtain ⟨g, hf⟩ := hf
          refine hx_iald (v := (I 11 a1.toNatClampNeg)) hX dX0_patchOf_75 (xo_c (by decide) rfl) (xlen_c (by decide) rfl) g rfl ?_
          exact hx_iret hX hE dX0_patchOf_76 ⟨rfl, rfl, rfl, rfl, hf⟩
        · replace hf := hf.2 c5
          by_cases c6 : a2 = 3
          · replace hf := hf.1 c6
            refine hv_tswA (v := 3) (tgt := 77) (off := 66) hX dX0_patchOf_11 c6 ⟨by decide, by decide, by decide⟩ (by decide) ?_
            refine hv_aload_n hX dX0_patchOf_77 rfl 0 rfl ?_
            refine hx_getR (v := 1) hX dX0_patchOf_78 fl0_10_0 (xo_c (by decide) rfl) (xR_c rfl) ?_
            refine hx_getR (v := 4) hX dX0_patchOf_81 fl0_121_1 (xo_c (by decide) rfl) (xR_c rfl) ?_
            refine hv_iload_n hX dX0_patchOf_84 rfl 1 rfl ?_
            obtain ⟨g, hf⟩ := hf
            refine hx_iald (v := (I 4 a1.toNatClampNeg)) hX dX0_patchOf_85 (xo_c (by decide) rfl) (xlen_c (by decide) rfl) g rfl ?_
            exact hx_iret hX hE dX0_patchOf_86 ⟨rfl, rfl, rfl, rfl, hf⟩
          · replace hf := hf.2 c6
            by_cases c7 : a2 = 4
            · replace hf := hf.1 c7
              refine hv_tswA (v := 4) (tgt := 87) (off := 76) hX dX0_patchOf_11 c7 ⟨by decide, by decide, by decide⟩ (by decide) ?_
              refine hv_aload_n hX dX0_patchOf_87 rfl 0 rfl ?_
              refine hx_getR (v := 1) hX dX0_patchOf_88 fl0_10_0 (xo_c (by decide) rfl) (xR_c rfl) ?_
              refine hx_getR (v := 5) hX dX0_patchOf_91 fl0_124_1 (xo_c (by decide) rfl) (xR_c rfl) ?_
              refine hv_iload_n hX dX0_patchOf_94 rfl 1 rfl ?_
              obtain ⟨g, hf⟩ := hf
              refine hx_iald (v := (I 5 a1.toNatClampNeg)) hX dX0_patchOf_95 (xo_c (by decide) rfl) (xlen_c (by decide) rfl) g rfl ?_
              exact hx_iret hX hE dX0_patchOf_96 ⟨rfl, rfl, rfl, rfl, hf⟩
            · replace hf := hf.2 c7
              refine hv_tswO (tgt := 97) hX dX0_patchOf_11 (by have z0 := lv_neT c3 (a := 0) (by decide); have z1 := lv_neT c4 (a := 1) (by decide); have z2 := lv_neT c5 (a := 2) (by decide); have z3 := lv_neT c6 (a := 3) (by decide); have z4 := lv_neT c7 (a := 4) (by decide); omega) (by decide) ?_
              refine hv_iconst (v := (-1)) hX icx_m1 dX0_patchOf_97 ?_
              exact hx_iret hX hE dX0_patchOf_98 ⟨rfl, rfl, rfl, rfl, hf⟩
  · replace hf := hf.1 c2
    refine hv_iconst (v := (-1)) hX icx_m1 dX0_patchOf_8 ?_
    exact hx_iret hX hE dX0_patchOf_9 ⟨rfl, rfl, rfl, rfl, hf⟩
/-! HungryHedge.yieldOf(II)I -/
def x_X0_yieldOf (a1 : Int32) (a2 : Int32) (s : xS) (rd : xRd) (J : mJ) (I : mI) (Q : Int32 → Prop) : Prop :=
  x_X0_isPatch a1 s rd J I (fun r1 => (r1 = 0 →
    Q (-1) ) ∧ (¬ r1 = 0 →
    x_X0_in a2 0 6 s rd J I (fun r3 => (r3 = 0 →
      Q (-1) ) ∧ (¬ r3 = 0 →
      x_X1_brings a1 a2 s rd J I (fun r5 => Q r5 )))))
theorem ct_X0_yieldOf  (a1 : Int32) (a2 : Int32) (s : xS) (rd : xRd) (J : mJ) (I : mI) (Q : Int32 → Prop) (hf : x_X0_yieldOf a1 a2 s rd J I Q) : hh_Ct yX0_yieldOf cX0_yieldOf 3 (some .int) 2 43 [.ref 0, .int a1, .int a2] (hx s rd J I) (xQi (fun r9 S9 R9 J9 I9 => s = S9 ∧ rd = R9 ∧ J = J9 ∧ I = I9 ∧ Q r9)) 0 0 := by
  refine hh_Ct.of (own := RX0) rfl (by decide +kernel) (Nat.le_of_ble_eq_true rfl) ?_
  intro X hX hN hE
  show hh_V X 0 [(0, .ref 0), (1, .int a1), (2, .int a2)] [] 0 0 (hx s rd J I)
  unfold x_X0_yieldOf at hf
  refine hv_aload_n hX dX0_yieldOf_0 rfl 0 rfl ?_
  refine hv_iload_n hX dX0_yieldOf_1 rfl 1 rfl ?_
  refine hx_callVi (ci := 0) (q := (RX0, TX0, 19)) hX dX0_yieldOf_2 (ct_X0_isPatch a1 s rd J I _ hf) (lw_V q656 q658 qs1 q106 q659) rfl (by decide) ⟨rfl, np_X0_isPatch⟩ rfl (xo_c (by decide) rfl) rfl ⟨Nat.le_of_ble_eq_true rfl, Nat.le_of_ble_eq_true rfl⟩ ⟨Nat.le_of_ble_eq_true rfl, Nat.le_of_ble_eq_true rfl⟩ (Nat.le_of_ble_eq_true rfl) ?_
  intro r1 S9 R9 J9 I9 hq
  clear hf
  obtain ⟨rfl, rfl, rfl, rfl, hf⟩ := hq
  refine hv_if_eq (tgt := 30) hX dX0_yieldOf_5 (by decide) (fun c2 => ?_) (fun c2 => ?_)
  · replace hf := hf.1 c2
    refine hv_iconst (v := (-1)) hX icx_m1 dX0_yieldOf_30 ?_
    exact hx_iret hX hE dX0_yieldOf_31 ⟨rfl, rfl, rfl, rfl, hf⟩
  · replace hf := hf.2 c2
    refine hv_iload_n hX dX0_yieldOf_8 rfl 2 rfl ?_
    refine hv_iconst (v := 0) hX icx_0 dX0_yieldOf_9 ?_
    refine hv_bipush (v := 6) hX bix_6 dX0_yieldOf_10 ?_
    refine hx_callSi hX dX0_yieldOf_12 (ct_X0_in a2 0 6 s rd J I _ hf) (lw_S q649 q650 q106 q651) np_X0_in rfl rfl ⟨Nat.le_of_ble_eq_true rfl, Nat.le_of_ble_eq_true rfl⟩ ⟨Nat.le_of_ble_eq_true rfl, Nat.le_of_ble_eq_true rfl⟩ (Nat.le_of_ble_eq_true rfl) ?_
    intro r3 S9 R9 J9 I9 hq
    clear hf
    obtain ⟨rfl, rfl, rfl, rfl, hf⟩ := hq
    refine hv_if_eq (tgt := 30) hX dX0_yieldOf_15 (by decide) (fun c4 => ?_) (fun c4 => ?_)
    · replace hf := hf.1 c4
      refine hv_iconst (v := (-1)) hX icx_m1 dX0_yieldOf_30 ?_
      exact hx_iret hX hE dX0_yieldOf_31 ⟨rfl, rfl, rfl, rfl, hf⟩
    · replace hf := hf.2 c4
      refine hv_aload_n hX dX0_yieldOf_18 rfl 0 rfl ?_
      refine hx_getR (v := 1) hX dX0_yieldOf_19 fl0_10_0 (xo_c (by decide) rfl) (xR_c rfl) ?_
      refine hv_iload_n hX dX0_yieldOf_22 rfl 1 rfl ?_
      refine hv_iload_n hX dX0_yieldOf_23 rfl 2 rfl ?_
      refine hx_callVi (ci := 1) (q := (RX1, TX1, 17)) hX dX0_yieldOf_24 (ct_X1_brings a1 a2 s rd J I _ hf) (lw_V q664 q665 q666 q107 q667) rfl (by decide) ⟨rfl, np_X1_brings⟩ rfl (xo_c (by decide) rfl) rfl ⟨Nat.le_of_ble_eq_true rfl, Nat.le_of_ble_eq_true rfl⟩ ⟨Nat.le_of_ble_eq_true rfl, Nat.le_of_ble_eq_true rfl⟩ (Nat.le_of_ble_eq_true rfl) ?_
      intro r5 S9 R9 J9 I9 hq
      clear hf
      obtain ⟨rfl, rfl, rfl, rfl, hf⟩ := hq
      refine hv_goto (tgt := 31) hX dX0_yieldOf_27 (by decide) ?_
      exact hx_iret hX hE dX0_yieldOf_31 ⟨rfl, rfl, rfl, rfl, hf⟩
/-! HungryHedge.lay(III)I -/
def x_X0_lay_j69 (Q : Int32 → mI → Prop) (a1 : Int32) (a3 : Int32) (p0 : Nat) (s : xS) (rd : xRd) (J : mJ) (I : mI) : Prop :=
  xo s p0 100 ∧ (vp_in a1 (xlen s p0) ∧ (vp_in a1 (xlen s p0) ∧ (Q (I p0 a1.toNatClampNeg) (u2 I p0 a1.toNatClampNeg a3))))
theorem w_X0_lay_j69 {X : hh_CX} {S0 : xS} {R0 : xRd} {J0 : mJ} {Q : Int32 → mI → Prop} (hX : hh_C X cX0_lay RX0 (hrx 2 43 0 0)) (hN : hh_nL X = 6) (hE : hh_E X (some .int) (xQi (fun r9 S9 R9 J9 I9 => S0 = S9 ∧ R0 = R9 ∧ J0 = J9 ∧ Q r9 I9)) 0 0) : ∀ (a1 : Int32) (a3 : Int32) (p0 : Nat) (s : xS) (rd : xRd) (J : mJ) (I : mI), s = S0 → rd = R0 → J = J0 → x_X0_lay_j69 Q  a1 a3 p0 s rd J I → hh_V X 69 [(1, .int a1), (3, .int a3)] [.ref p0] 0 0 (hx s rd J I) := by
  intro a1 a3 p0 s rd J I e0 e1 e2 hf
  subst e0
  subst e1
  subst e2
  unfold x_X0_lay_j69 at hf
  refine hv_astore (loc2 := [(4, .ref p0), (1, .int a1), (3, .int a3)]) hX dX0_lay_69 hN (Nat.le_of_ble_eq_true rfl) rfl ?_
  refine hv_aload hX dX0_lay_71 0 rfl ?_
  refine hv_iload_n hX dX0_lay_73 rfl 1 rfl ?_
  obtain ⟨o9, hf⟩ := hf
  obtain ⟨g, hf⟩ := hf
  refine hx_iald (v := (I p0 a1.toNatClampNeg)) hX dX0_lay_74 o9 rfl g rfl ?_
  refine hv_istore (loc2 := [(5, .int (I p0 a1.toNatClampNeg)), (4, .ref p0), (1, .int a1), (3, .int a3)]) hX dX0_lay_75 hN (Nat.le_of_ble_eq_true rfl) rfl ?_
  refine hv_aload hX dX0_lay_77 1 rfl ?_
  refine hv_iload_n hX dX0_lay_79 rfl 2 rfl ?_
  refine hv_iload_n hX dX0_lay_80 rfl 3 rfl ?_
  obtain ⟨g, hf⟩ := hf
  refine hx_iast hX dX0_lay_81 o9 rfl g ?_
  refine hv_iload hX dX0_lay_82 0 rfl ?_
  exact hx_iret hX hE dX0_lay_84 ⟨rfl, rfl, rfl, hf⟩
def x_X0_lay_j37 (Q : Int32 → mI → Prop) (a1 : Int32) (a2 : Int32) (a3 : Int32) (p0 : Int32) (p1 : Int32) (p2 : Int32) (s : xS) (rd : xRd) (J : mJ) (I : mI) : Prop :=
  x_X0_in p0 p1 p2 s rd J I (fun r6 => (r6 = 0 →
    Q (-1) I) ∧ (¬ r6 = 0 →
    (a2 = 0 →
      x_X0_lay_j69 Q   a1 a3 11 s rd J I) ∧ (¬ a2 = 0 →
      x_X0_lay_j69 Q   a1 a3 5 s rd J I)))
theorem w_X0_lay_j37 {X : hh_CX} {S0 : xS} {R0 : xRd} {J0 : mJ} {Q : Int32 → mI → Prop} (hX : hh_C X cX0_lay RX0 (hrx 2 43 0 0)) (hN : hh_nL X = 6) (hE : hh_E X (some .int) (xQi (fun r9 S9 R9 J9 I9 => S0 = S9 ∧ R0 = R9 ∧ J0 = J9 ∧ Q r9 I9)) 0 0) : ∀ (a1 : Int32) (a2 : Int32) (a3 : Int32) (p0 : Int32) (p1 : Int32) (p2 : Int32) (s : xS) (rd : xRd) (J : mJ) (I : mI), s = S0 → rd = R0 → J = J0 → x_X0_lay_j37 Q  a1 a2 a3 p0 p1 p2 s rd J I → hh_V X 37 [(0, .ref 0), (1, .int a1), (2, .int a2), (3, .int a3)] [.int p2, .int p1, .int p0] 0 0 (hx s rd J I) := by
  intro a1 a2 a3 p0 p1 p2 s rd J I e0 e1 e2 hf
  subst e0
  subst e1
  subst e2
  unfold x_X0_lay_j37 at hf
  refine hx_callSi hX dX0_lay_37 (ct_X0_in p0 p1 p2 s rd J I _ hf) (lw_S q649 q650 q106 q651) np_X0_in rfl rfl ⟨Nat.le_of_ble_eq_true rfl, Nat.le_of_ble_eq_true rfl⟩ ⟨Nat.le_of_ble_eq_true rfl, Nat.le_of_ble_eq_true rfl⟩ (Nat.le_of_ble_eq_true rfl) ?_
  intro r6 S9 R9 J9 I9 hq
  clear hf
  obtain ⟨rfl, rfl, rfl, rfl, hf⟩ := hq
  refine hv_if_ne (tgt := 45) hX dX0_lay_40 (by decide) (fun c7 => ?_) (fun c7 => ?_)
  · replace hf := hf.2 c7
    refine hv_iload_n hX dX0_lay_45 rfl 2 rfl ?_
    refine hv_if_ne (tgt := 62) hX dX0_lay_46 (by decide) (fun c8 => ?_) (fun c8 => ?_)
    · replace hf := hf.2 c8
      refine hv_aload_n hX dX0_lay_62 rfl 0 rfl ?_
      refine hx_getR (v := 1) hX dX0_lay_63 fl0_10_0 (xo_c (by decide) rfl) (xR_c rfl) ?_
      refine hx_getR (v := 5) hX dX0_lay_66 fl0_124_1 (xo_c (by decide) rfl) (xR_c rfl) ?_
      refine hv_fewer [1, 3] (loc2 := [(1, .int a1), (3, .int a3)]) rfl ?_
      exact w_X0_lay_j69 hX hN hE  _ _ _ _ _ _ _ rfl rfl rfl hf
    · replace hf := hf.1 c8
      refine hv_aload_n hX dX0_lay_49 rfl 0 rfl ?_
      refine hx_getR (v := 1) hX dX0_lay_50 fl0_10_0 (xo_c (by decide) rfl) (xR_c rfl) ?_
      refine hx_getR (v := 10) hX dX0_lay_53 fl0_127_1 (xo_c (by decide) rfl) (xR_c rfl) ?_
      refine hx_getR (v := 11) hX dX0_lay_56 fl0_130_2 (xo_c (by decide) rfl) (xR_c rfl) ?_
      refine hv_goto (tgt := 69) hX dX0_lay_59 (by decide) ?_
      refine hv_fewer [1, 3] (loc2 := [(1, .int a1), (3, .int a3)]) rfl ?_
      exact w_X0_lay_j69 hX hN hE  _ _ _ _ _ _ _ rfl rfl rfl hf
  · replace hf := hf.1 c7
    refine hv_iconst (v := (-1)) hX icx_m1 dX0_lay_43 ?_
    exact hx_iret hX hE dX0_lay_44 ⟨rfl, rfl, rfl, hf⟩
def x_X0_lay (a1 : Int32) (a2 : Int32) (a3 : Int32) (s : xS) (rd : xRd) (J : mJ) (I : mI) (Q : Int32 → mI → Prop) : Prop :=
  x_X0_isPatch a1 s rd J I (fun r1 => (r1 = 0 →
    Q (-1) I) ∧ (¬ r1 = 0 →
    x_X0_in a2 0 1 s rd J I (fun r3 => (r3 = 0 →
      Q (-1) I) ∧ (¬ r3 = 0 →
      (a2 = 0 →
        vp_in a1 4 ∧ (x_X0_lay_j37 Q   a1 a2 a3 a3 0 (I 3 a1.toNatClampNeg) s rd J I)) ∧ (¬ a2 = 0 →
        x_X0_lay_j37 Q   a1 a2 a3 a3 0 60 s rd J I)))))
theorem ct_X0_lay  (a1 : Int32) (a2 : Int32) (a3 : Int32) (s : xS) (rd : xRd) (J : mJ) (I : mI) (Q : Int32 → mI → Prop) (hf : x_X0_lay a1 a2 a3 s rd J I Q) : hh_Ct yX0_lay cX0_lay 6 (some .int) 2 43 [.ref 0, .int a1, .int a2, .int a3] (hx s rd J I) (xQi (fun r9 S9 R9 J9 I9 => s = S9 ∧ rd = R9 ∧ J = J9 ∧ Q r9 I9)) 0 0 := by
  refine hh_Ct.of (own := RX0) rfl (by decide +kernel) (Nat.le_of_ble_eq_true rfl) ?_
  intro X hX hN hE
  show hh_V X 0 [(0, .ref 0), (1, .int a1), (2, .int a2), (3, .int a3)] [] 0 0 (hx s rd J I)
  unfold x_X0_lay at hf
  refine hv_aload_n hX dX0_lay_0 rfl 0 rfl ?_
  refine hv_iload_n hX dX0_lay_1 rfl 1 rfl ?_
  refine hx_callVi (ci := 0) (q := (RX0, TX0, 19)) hX dX0_lay_2 (ct_X0_isPatch a1 s rd J I _ hf) (lw_V q656 q658 qs1 q106 q659) rfl (by decide) ⟨rfl, np_X0_isPatch⟩ rfl (xo_c (by decide) rfl) rfl ⟨Nat.le_of_ble_eq_true rfl, Nat.le_of_ble_eq_true rfl⟩ ⟨Nat.le_of_ble_eq_true rfl, Nat.le_of_ble_eq_true rfl⟩ (Nat.le_of_ble_eq_true rfl) ?_
  intro r1 S9 R9 J9 I9 hq
  clear hf
  obtain ⟨rfl, rfl, rfl, rfl, hf⟩ := hq
  refine hv_if_eq (tgt := 43) hX dX0_lay_5 (by decide) (fun c2 => ?_) (fun c2 => ?_)
  · replace hf := hf.1 c2
    refine hv_iconst (v := (-1)) hX icx_m1 dX0_lay_43 ?_
    exact hx_iret hX hE dX0_lay_44 ⟨rfl, rfl, rfl, hf⟩
  · replace hf := hf.2 c2
    refine hv_iload_n hX dX0_lay_8 rfl 2 rfl ?_
    refine hv_iconst (v := 0) hX icx_0 dX0_lay_9 ?_
    refine hv_iconst (v := 1) hX icx_1 dX0_lay_10 ?_
    refine hx_callSi hX dX0_lay_11 (ct_X0_in a2 0 1 s rd J I _ hf) (lw_S q649 q650 q106 q651) np_X0_in rfl rfl ⟨Nat.le_of_ble_eq_true rfl, Nat.le_of_ble_eq_true rfl⟩ ⟨Nat.le_of_ble_eq_true rfl, Nat.le_of_ble_eq_true rfl⟩ (Nat.le_of_ble_eq_true rfl) ?_
    intro r3 S9 R9 J9 I9 hq
    clear hf
    obtain ⟨rfl, rfl, rfl, rfl, hf⟩ := hq
    refine hv_if_eq (tgt := 43) hX dX0_lay_14 (by decide) (fun c4 => ?_) (fun c4 => ?_)
    · replace hf := hf.1 c4
      refine hv_iconst (v := (-1)) hX icx_m1 dX0_lay_43 ?_
      exact hx_iret hX hE dX0_lay_44 ⟨rfl, rfl, rfl, hf⟩
    · replace hf := hf.2 c4
      refine hv_iload_n hX dX0_lay_17 rfl 3 rfl ?_
      refine hv_iconst (v := 0) hX icx_0 dX0_lay_18 ?_
      refine hv_iload_n hX dX0_lay_19 rfl 2 rfl ?_
      refine hv_if_ne (tgt := 35) hX dX0_lay_20 (by decide) (fun c5 => ?_) (fun c5 => ?_)
      · replace hf := hf.2 c5
        refine hv_bipush (v := 60) hX bix_60 dX0_lay_35 ?_
        exact w_X0_lay_j37 hX hN hE  _ _ _ _ _ _ _ _ _ _ rfl rfl rfl hf
      · replace hf := hf.1 c5
        refine hv_aload_n hX dX0_lay_23 rfl 0 rfl ?_
        refine hx_getR (v := 1) hX dX0_lay_24 fl0_10_0 (xo_c (by decide) rfl) (xR_c rfl) ?_
        refine hx_getR (v := 3) hX dX0_lay_27 fl0_118_1 (xo_c (by decide) rfl) (xR_c rfl) ?_
        refine hv_iload_n hX dX0_lay_30 rfl 1 rfl ?_
        obtain ⟨g, hf⟩ := hf
        refine hx_iald (v := (I 3 a1.toNatClampNeg)) hX dX0_lay_31 (xo_c (by decide) rfl) (xlen_c (by decide) rfl) g rfl ?_
        refine hv_goto (tgt := 37) hX dX0_lay_32 (by decide) ?_
        exact w_X0_lay_j37 hX hN hE  _ _ _ _ _ _ _ _ _ _ rfl rfl rfl hf
/-! HungryHedge.way(III)I -/
def x_X0_way (a1 : Int32) (a2 : Int32) (a3 : Int32) (s : xS) (rd : xRd) (J : mJ) (I : mI) (Q : Int32 → mI → Prop) : Prop :=
  x_X0_isPatch a1 s rd J I (fun r1 => (r1 = 0 →
    Q (-1) I) ∧ (¬ r1 = 0 →
    x_X0_isPatch a2 s rd J I (fun r3 => (r3 = 0 →
      Q (-1) I) ∧ (¬ r3 = 0 →
      (a1 = a2 →
        Q (-1) I) ∧ (¬ a1 = a2 →
        x_X0_in a3 0 5 s rd J I (fun r6 => (r6 = 0 →
          Q (-1) I) ∧ (¬ r6 = 0 →
          vp_in ((4 * a1) + a2) 16 ∧ (∀ v8 : Int32, v8 = (I 7 ((4 * a1) + a2).toNatClampNeg) → (vp_in ((4 * a1) + a2) 16 ∧ (vp_in ((4 * a2) + a1) 16 ∧ (Q v8 (u2 (u2 I 7 ((4 * a1) + a2).toNatClampNeg a3) 7 ((4 * a2) + a1).toNatClampNeg a3))))))))))))
theorem ct_X0_way  (a1 : Int32) (a2 : Int32) (a3 : Int32) (s : xS) (rd : xRd) (J : mJ) (I : mI) (Q : Int32 → mI → Prop) (hf : x_X0_way a1 a2 a3 s rd J I Q) : hh_Ct yX0_way cX0_way 5 (some .int) 2 43 [.ref 0, .int a1, .int a2, .int a3] (hx s rd J I) (xQi (fun r9 S9 R9 J9 I9 => s = S9 ∧ rd = R9 ∧ J = J9 ∧ Q r9 I9)) 0 0 := by
  refine hh_Ct.of (own := RX0) rfl (by decide +kernel) (Nat.le_of_ble_eq_true rfl) ?_
  intro X hX hN hE
  show hh_V X 0 [(0, .ref 0), (1, .int a1), (2, .int a2), (3, .int a3)] [] 0 0 (hx s rd J I)
  unfold x_X0_way at hf
  refine hv_aload_n hX dX0_way_0 rfl 0 rfl ?_
  refine hv_iload_n hX dX0_way_1 rfl 1 rfl ?_
  refine hx_callVi (ci := 0) (q := (RX0, TX0, 19)) hX dX0_way_2 (ct_X0_isPatch a1 s rd J I _ hf) (lw_V q656 q658 qs1 q106 q659) rfl (by decide) ⟨rfl, np_X0_isPatch⟩ rfl (xo_c (by decide) rfl) rfl ⟨Nat.le_of_ble_eq_true rfl, Nat.le_of_ble_eq_true rfl⟩ ⟨Nat.le_of_ble_eq_true rfl, Nat.le_of_ble_eq_true rfl⟩ (Nat.le_of_ble_eq_true rfl) ?_
  intro r1 S9 R9 J9 I9 hq
  clear hf
  obtain ⟨rfl, rfl, rfl, rfl, hf⟩ := hq
  refine hv_if_eq (tgt := 30) hX dX0_way_5 (by decide) (fun c2 => ?_) (fun c2 => ?_)
  · replace hf := hf.1 c2
    refine hv_iconst (v := (-1)) hX icx_m1 dX0_way_30 ?_
    exact hx_iret hX hE dX0_way_31 ⟨rfl, rfl, rfl, hf⟩
  · replace hf := hf.2 c2
    refine hv_aload_n hX dX0_way_8 rfl 0 rfl ?_
    refine hv_iload_n hX dX0_way_9 rfl 2 rfl ?_
    refine hx_callVi (ci := 0) (q := (RX0, TX0, 19)) hX dX0_way_10 (ct_X0_isPatch a2 s rd J I _ hf) (lw_V q656 q658 qs1 q106 q659) rfl (by decide) ⟨rfl, np_X0_isPatch⟩ rfl (xo_c (by decide) rfl) rfl ⟨Nat.le_of_ble_eq_true rfl, Nat.le_of_ble_eq_true rfl⟩ ⟨Nat.le_of_ble_eq_true rfl, Nat.le_of_ble_eq_true rfl⟩ (Nat.le_of_ble_eq_true rfl) ?_
    intro r3 S9 R9 J9 I9 hq
    clear hf
    obtain ⟨rfl, rfl, rfl, rfl, hf⟩ := hq
    refine hv_if_eq (tgt := 30) hX dX0_way_13 (by decide) (fun c4 => ?_) (fun c4 => ?_)
    · replace hf := hf.1 c4
      refine hv_iconst (v := (-1)) hX icx_m1 dX0_way_30 ?_
      exact hx_iret hX hE dX0_way_31 ⟨rfl, rfl, rfl, hf⟩
    · replace hf := hf.2 c4
      refine hv_iload_n hX dX0_way_16 rfl 1 rfl ?_
      refine hv_iload_n hX dX0_way_17 rfl 2 rfl ?_
      refine hv_icmp_eq (tgt := 30) hX dX0_way_18 (by decide) (fun c5 => ?_) (fun c5 => ?_)
      · replace hf := hf.1 c5
        refine hv_iconst (v := (-1)) hX icx_m1 dX0_way_30 ?_
        exact hx_iret hX hE dX0_way_31 ⟨rfl, rfl, rfl, hf⟩
      · replace hf := hf.2 c5
        refine hv_iload_n hX dX0_way_21 rfl 3 rfl ?_
        refine hv_iconst (v := 0) hX icx_0 dX0_way_22 ?_
        refine hv_iconst (v := 5) hX icx_5 dX0_way_23 ?_
        refine hx_callSi hX dX0_way_24 (ct_X0_in a3 0 5 s rd J I _ hf) (lw_S q649 q650 q106 q651) np_X0_in rfl rfl ⟨Nat.le_of_ble_eq_true rfl, Nat.le_of_ble_eq_true rfl⟩ ⟨Nat.le_of_ble_eq_true rfl, Nat.le_of_ble_eq_true rfl⟩ (Nat.le_of_ble_eq_true rfl) ?_
        intro r6 S9 R9 J9 I9 hq
        clear hf
        obtain ⟨rfl, rfl, rfl, rfl, hf⟩ := hq
        refine hv_if_ne (tgt := 32) hX dX0_way_27 (by decide) (fun c7 => ?_) (fun c7 => ?_)
        · replace hf := hf.2 c7
          refine hv_aload_n hX dX0_way_32 rfl 0 rfl ?_
          refine hx_getR (v := 1) hX dX0_way_33 fl0_10_0 (xo_c (by decide) rfl) (xR_c rfl) ?_
          refine hx_getR (v := 7) hX dX0_way_36 fl0_144_1 (xo_c (by decide) rfl) (xR_c rfl) ?_
          refine hv_iconst (v := 4) hX icx_4 dX0_way_39 ?_
          refine hv_iload_n hX dX0_way_40 rfl 1 rfl ?_
          refine hv_imul hX dX0_way_41 ?_
          refine hv_iload_n hX dX0_way_42 rfl 2 rfl ?_
          refine hv_iadd hX dX0_way_43 ?_
          obtain ⟨g, hf⟩ := hf
          refine hx_iald (v := (I 7 ((4 * a1) + a2).toNatClampNeg)) hX dX0_way_44 (xo_c (by decide) rfl) (xlen_c (by decide) rfl) g rfl ?_
          refine hv_topi (fun v8 ev8 => ?_)
          replace hf := hf v8 ev8
          refine hv_istore (loc2 := [(4, .int v8), (0, .ref 0), (1, .int a1), (2, .int a2), (3, .int a3)]) hX dX0_way_45 hN (Nat.le_of_ble_eq_true rfl) rfl ?_
          refine hv_aload_n hX dX0_way_47 rfl 1 rfl ?_
          refine hx_getR (v := 1) hX dX0_way_48 fl0_10_0 (xo_c (by decide) rfl) (xR_c rfl) ?_
          refine hx_getR (v := 7) hX dX0_way_51 fl0_144_1 (xo_c (by decide) rfl) (xR_c rfl) ?_
          refine hv_iconst (v := 4) hX icx_4 dX0_way_54 ?_
          refine hv_iload_n hX dX0_way_55 rfl 2 rfl ?_
          refine hv_imul hX dX0_way_56 ?_
          refine hv_iload_n hX dX0_way_57 rfl 3 rfl ?_
          refine hv_iadd hX dX0_way_58 ?_
          refine hv_iload_n hX dX0_way_59 rfl 4 rfl ?_
          obtain ⟨g, hf⟩ := hf
          refine hx_iast hX dX0_way_60 (xo_c (by decide) rfl) (xlen_c (by decide) rfl) g ?_
          refine hv_aload_n hX dX0_way_61 rfl 1 rfl ?_
          refine hx_getR (v := 1) hX dX0_way_62 fl0_10_0 (xo_c (by decide) rfl) (xR_c rfl) ?_
          refine hx_getR (v := 7) hX dX0_way_65 fl0_144_1 (xo_c (by decide) rfl) (xR_c rfl) ?_
          refine hv_iconst (v := 4) hX icx_4 dX0_way_68 ?_
          refine hv_iload_n hX dX0_way_69 rfl 3 rfl ?_
          refine hv_imul hX dX0_way_70 ?_
          refine hv_iload_n hX dX0_way_71 rfl 2 rfl ?_
          refine hv_iadd hX dX0_way_72 ?_
          refine hv_iload_n hX dX0_way_73 rfl 4 rfl ?_
          obtain ⟨g, hf⟩ := hf
          refine hx_iast hX dX0_way_74 (xo_c (by decide) rfl) (xlen_c (by decide) rfl) g ?_
          refine hv_iload hX dX0_way_75 0 rfl ?_
          exact hx_iret hX hE dX0_way_77 ⟨rfl, rfl, rfl, hf⟩
        · replace hf := hf.1 c7
          refine hv_iconst (v := (-1)) hX icx_m1 dX0_way_30 ?_
          exact hx_iret hX hE dX0_way_31 ⟨rfl, rfl, rfl, hf⟩
/-! HungryHedge.dusk(I)I -/
def x_X0_dusk (a1 : Int32) (s : xS) (rd : xRd) (J : mJ) (I : mI) (Q : Int32 → mI → Prop) : Prop :=
  x_X0_in a1 1 20 s rd J I (fun r1 => (r1 = 0 →
    Q (-1) I) ∧ (¬ r1 = 0 →
    ((I 10 1) ≤ a1 →
      Q (I 1 3) (u2 I 1 3 a1)) ∧ (¬ (I 10 1) ≤ a1 →
      Q (-4) I)))
theorem ct_X0_dusk  (a1 : Int32) (s : xS) (rd : xRd) (J : mJ) (I : mI) (Q : Int32 → mI → Prop) (hf : x_X0_dusk a1 s rd J I Q) : hh_Ct yX0_dusk cX0_dusk 3 (some .int) 1 22 [.ref 0, .int a1] (hx s rd J I) (xQi (fun r9 S9 R9 J9 I9 => s = S9 ∧ rd = R9 ∧ J = J9 ∧ Q r9 I9)) 0 0 := by
  refine hh_Ct.of (own := RX0) rfl (by decide +kernel) (Nat.le_of_ble_eq_true rfl) ?_
  intro X hX hN hE
  show hh_V X 0 [(0, .ref 0), (1, .int a1)] [] 0 0 (hx s rd J I)
  unfold x_X0_dusk at hf
  refine hv_iload_n hX dX0_dusk_0 rfl 1 rfl ?_
  refine hv_iconst (v := 1) hX icx_1 dX0_dusk_1 ?_
  refine hv_bipush (v := 20) hX bix_20 dX0_dusk_2 ?_
  refine hx_callSi hX dX0_dusk_4 (ct_X0_in a1 1 20 s rd J I _ hf) (lw_S q649 q650 q106 q651) np_X0_in rfl rfl ⟨Nat.le_of_ble_eq_true rfl, Nat.le_of_ble_eq_true rfl⟩ ⟨Nat.le_of_ble_eq_true rfl, Nat.le_of_ble_eq_true rfl⟩ (Nat.le_of_ble_eq_true rfl) ?_
  intro r1 S9 R9 J9 I9 hq
  clear hf
  obtain ⟨rfl, rfl, rfl, rfl, hf⟩ := hq
  refine hv_if_ne (tgt := 12) hX dX0_dusk_7 (by decide) (fun c2 => ?_) (fun c2 => ?_)
  · replace hf := hf.2 c2
    refine hv_aload_n hX dX0_dusk_12 rfl 0 rfl ?_
    refine hx_getR (v := 1) hX dX0_dusk_13 fl0_10_0 (xo_c (by decide) rfl) (xR_c rfl) ?_
    refine hx_getR (v := 10) hX dX0_dusk_16 fl0_127_1 (xo_c (by decide) rfl) (xR_c rfl) ?_
    refine hx_getI (v := (I 10 1)) hX dX0_dusk_19 fl0_147_2 (.inl rfl) (xo_c (by decide) rfl) rfl ?_
    refine hv_iload_n hX dX0_dusk_22 rfl 1 rfl ?_
    refine hv_icmp_le (tgt := 29) hX dX0_dusk_23 (by decide) (fun c3 => ?_) (fun c3 => ?_)
    · replace hf := hf.1 c3
      refine hv_aload_n hX dX0_dusk_29 rfl 0 rfl ?_
      refine hx_getR (v := 1) hX dX0_dusk_30 fl0_10_0 (xo_c (by decide) rfl) (xR_c rfl) ?_
      refine hx_getI (v := (I 1 3)) hX dX0_dusk_33 fl0_150_1 (.inl rfl) (xo_c (by decide) rfl) rfl ?_
      refine hv_istore_n (loc2 := [(2, .int (I 1 3)), (0, .ref 0), (1, .int a1)]) hX dX0_dusk_36 rfl hN (Nat.le_of_ble_eq_true rfl) rfl ?_
      refine hv_aload_n hX dX0_dusk_37 rfl 1 rfl ?_
      refine hx_getR (v := 1) hX dX0_dusk_38 fl0_10_0 (xo_c (by decide) rfl) (xR_c rfl) ?_
      refine hv_iload_n hX dX0_dusk_41 rfl 2 rfl ?_
      refine hx_putI hX dX0_dusk_42 fl0_150_1 (xo_c (by decide) rfl) ?_
      refine hv_iload_n hX dX0_dusk_45 rfl 0 rfl ?_
      exact hx_iret hX hE dX0_dusk_46 ⟨rfl, rfl, rfl, hf⟩
    · replace hf := hf.2 c3
      refine hv_bipush (v := (-4)) hX bix_m4 dX0_dusk_26 ?_
      exact hx_iret hX hE dX0_dusk_28 ⟨rfl, rfl, rfl, hf⟩
  · replace hf := hf.1 c2
    refine hv_iconst (v := (-1)) hX icx_m1 dX0_dusk_10 ?_
    exact hx_iret hX hE dX0_dusk_11 ⟨rfl, rfl, rfl, hf⟩
/-! HungryHedge.perch(I)I -/
def x_X0_perch (a1 : Int32) (s : xS) (rd : xRd) (J : mJ) (I : mI) (Q : Int32 → mI → Prop) : Prop :=
  x_X0_isPatch a1 s rd J I (fun r1 => (r1 = 0 →
    Q (-1) I) ∧ (¬ r1 = 0 →
    Q (I 10 0) (u2 I 10 0 a1)))
theorem ct_X0_perch  (a1 : Int32) (s : xS) (rd : xRd) (J : mJ) (I : mI) (Q : Int32 → mI → Prop) (hf : x_X0_perch a1 s rd J I Q) : hh_Ct yX0_perch cX0_perch 3 (some .int) 2 43 [.ref 0, .int a1] (hx s rd J I) (xQi (fun r9 S9 R9 J9 I9 => s = S9 ∧ rd = R9 ∧ J = J9 ∧ Q r9 I9)) 0 0 := by
  refine hh_Ct.of (own := RX0) rfl (by decide +kernel) (Nat.le_of_ble_eq_true rfl) ?_
  intro X hX hN hE
  show hh_V X 0 [(0, .ref 0), (1, .int a1)] [] 0 0 (hx s rd J I)
  unfold x_X0_perch at hf
  refine hv_aload_n hX dX0_perch_0 rfl 0 rfl ?_
  refine hv_iload_n hX dX0_perch_1 rfl 1 rfl ?_
  refine hx_callVi (ci := 0) (q := (RX0, TX0, 19)) hX dX0_perch_2 (ct_X0_isPatch a1 s rd J I _ hf) (lw_V q656 q658 qs1 q106 q659) rfl (by decide) ⟨rfl, np_X0_isPatch⟩ rfl (xo_c (by decide) rfl) rfl ⟨Nat.le_of_ble_eq_true rfl, Nat.le_of_ble_eq_true rfl⟩ ⟨Nat.le_of_ble_eq_true rfl, Nat.le_of_ble_eq_true rfl⟩ (Nat.le_of_ble_eq_true rfl) ?_
  intro r1 S9 R9 J9 I9 hq
  clear hf
  obtain ⟨rfl, rfl, rfl, rfl, hf⟩ := hq
  refine hv_if_ne (tgt := 10) hX dX0_perch_5 (by decide) (fun c2 => ?_) (fun c2 => ?_)
  · replace hf := hf.2 c2
    refine hv_aload_n hX dX0_perch_10 rfl 0 rfl ?_
    refine hx_getR (v := 1) hX dX0_perch_11 fl0_10_0 (xo_c (by decide) rfl) (xR_c rfl) ?_
    refine hx_getR (v := 10) hX dX0_perch_14 fl0_127_1 (xo_c (by decide) rfl) (xR_c rfl) ?_
    refine hx_getI (v := (I 10 0)) hX dX0_perch_17 fl0_153_2 (.inl rfl) (xo_c (by decide) rfl) rfl ?_
    refine hv_istore_n (loc2 := [(2, .int (I 10 0)), (0, .ref 0), (1, .int a1)]) hX dX0_perch_20 rfl hN (Nat.le_of_ble_eq_true rfl) rfl ?_
    refine hv_aload_n hX dX0_perch_21 rfl 1 rfl ?_
    refine hx_getR (v := 1) hX dX0_perch_22 fl0_10_0 (xo_c (by decide) rfl) (xR_c rfl) ?_
    refine hx_getR (v := 10) hX dX0_perch_25 fl0_127_1 (xo_c (by decide) rfl) (xR_c rfl) ?_
    refine hv_iload_n hX dX0_perch_28 rfl 2 rfl ?_
    refine hx_putI hX dX0_perch_29 fl0_153_2 (xo_c (by decide) rfl) ?_
    refine hv_iload_n hX dX0_perch_32 rfl 0 rfl ?_
    exact hx_iret hX hE dX0_perch_33 ⟨rfl, rfl, rfl, hf⟩
  · replace hf := hf.1 c2
    refine hv_iconst (v := (-1)) hX icx_m1 dX0_perch_8 ?_
    exact hx_iret hX hE dX0_perch_9 ⟨rfl, rfl, rfl, hf⟩
/-! HungryHedge.dawn()I -/
def x_X0_dawn  (s : xS) (rd : xRd) (J : mJ) (I : mI) (Q : Int32 → mI → Prop) : Prop :=
  (¬ (0 : Int32) < 0 ∧ ¬ (0 : Int32) < 0 ∧ ¬ (I 1 0) < 0 ∧ (0 : Int32).toNatClampNeg + (I 1 0).toNatClampNeg ≤ (xlen s 3) ∧ (0 : Int32).toNatClampNeg + (I 1 0).toNatClampNeg ≤ (xlen s 11)) ∧ (∀ I1 : mI, I1 = (ur (u2 (u2 I 10 2 0) 10 1 0) 11 (va_cpy ((u2 (u2 I 10 2 0) 10 1 0) 3) ((u2 (u2 I 10 2 0) 10 1 0) 11) (0 : Int32).toNatClampNeg (0 : Int32).toNatClampNeg (I 1 0).toNatClampNeg)) → (Q (I 10 2) I1))
theorem ct_X0_dawn   (s : xS) (rd : xRd) (J : mJ) (I : mI) (Q : Int32 → mI → Prop) (hf : x_X0_dawn  s rd J I Q) : hh_Ct yX0_dawn cX0_dawn 2 (some .int) 1 26 [.ref 0] (hx s rd J I) (xQi (fun r9 S9 R9 J9 I9 => s = S9 ∧ rd = R9 ∧ J = J9 ∧ Q r9 I9)) 0 0 := by
  refine hh_Ct.of (own := RX0) rfl (by decide +kernel) (Nat.le_of_ble_eq_true rfl) ?_
  intro X hX hN hE
  show hh_V X 0 [(0, .ref 0)] [] 0 0 (hx s rd J I)
  unfold x_X0_dawn at hf
  refine hv_aload_n hX dX0_dawn_0 rfl 0 rfl ?_
  refine hx_getR (v := 1) hX dX0_dawn_1 fl0_10_0 (xo_c (by decide) rfl) (xR_c rfl) ?_
  refine hx_getR (v := 10) hX dX0_dawn_4 fl0_127_1 (xo_c (by decide) rfl) (xR_c rfl) ?_
  refine hx_getI (v := (I 10 2)) hX dX0_dawn_7 fl0_156_2 (.inl rfl) (xo_c (by decide) rfl) rfl ?_
  refine hv_istore_n (loc2 := [(1, .int (I 10 2)), (0, .ref 0)]) hX dX0_dawn_10 rfl hN (Nat.le_of_ble_eq_true rfl) rfl ?_
  refine hv_aload_n hX dX0_dawn_11 rfl 1 rfl ?_
  refine hx_getR (v := 1) hX dX0_dawn_12 fl0_10_0 (xo_c (by decide) rfl) (xR_c rfl) ?_
  refine hx_getR (v := 10) hX dX0_dawn_15 fl0_127_1 (xo_c (by decide) rfl) (xR_c rfl) ?_
  refine hv_iconst (v := 0) hX icx_0 dX0_dawn_18 ?_
  refine hx_putI hX dX0_dawn_19 fl0_156_2 (xo_c (by decide) rfl) ?_
  refine hv_aload_n hX dX0_dawn_22 rfl 1 rfl ?_
  refine hx_getR (v := 1) hX dX0_dawn_23 fl0_10_0 (xo_c (by decide) rfl) (xR_c rfl) ?_
  refine hx_getR (v := 10) hX dX0_dawn_26 fl0_127_1 (xo_c (by decide) rfl) (xR_c rfl) ?_
  refine hv_iconst (v := 0) hX icx_0 dX0_dawn_29 ?_
  refine hx_putI hX dX0_dawn_30 fl0_147_2 (xo_c (by decide) rfl) ?_
  refine hv_aload_n hX dX0_dawn_33 rfl 1 rfl ?_
  refine hx_getR (v := 1) hX dX0_dawn_34 fl0_10_0 (xo_c (by decide) rfl) (xR_c rfl) ?_
  refine hx_getR (v := 3) hX dX0_dawn_37 fl0_118_1 (xo_c (by decide) rfl) (xR_c rfl) ?_
  refine hv_iconst (v := 0) hX icx_0 dX0_dawn_40 ?_
  refine hv_aload_n hX dX0_dawn_41 rfl 1 rfl ?_
  refine hx_getR (v := 1) hX dX0_dawn_42 fl0_10_0 (xo_c (by decide) rfl) (xR_c rfl) ?_
  refine hx_getR (v := 10) hX dX0_dawn_45 fl0_127_1 (xo_c (by decide) rfl) (xR_c rfl) ?_
  refine hx_getR (v := 11) hX dX0_dawn_48 fl0_130_2 (xo_c (by decide) rfl) (xR_c rfl) ?_
  refine hv_iconst (v := 0) hX icx_0 dX0_dawn_51 ?_
  refine hv_aload_n hX dX0_dawn_52 rfl 1 rfl ?_
  refine hx_getR (v := 1) hX dX0_dawn_53 fl0_10_0 (xo_c (by decide) rfl) (xR_c rfl) ?_
  refine hx_getI (v := (I 1 0)) hX dX0_dawn_56 fl0_107_1 (.inl rfl) (xo_c (by decide) rfl) ((u2_ne _ _ (.inl (by decide))) |>.trans (u2_ne _ _ (.inl (by decide)))) ?_
  obtain ⟨g, hf⟩ := hf
  refine hx_copyI hX dX0_dawn_59 q688 q690 q689 q126 (xo_c (by decide) rfl) (xo_c (by decide) rfl) g ⟨Nat.le_of_ble_eq_true rfl, Nat.le_of_ble_eq_true rfl⟩ ?_
  refine hx_nmI (fun I1 eI1 => ?_)
  replace hf := hf I1 eI1
  refine hv_iload_n hX dX0_dawn_62 rfl 0 rfl ?_
  exact hx_iret hX hE dX0_dawn_63 ⟨rfl, rfl, rfl, hf⟩
/-! HungryHedge.isAct(I)Z -/
def x_X0_isAct (a0 : Int32) (s : xS) (rd : xRd) (J : mJ) (I : mI) (Q : Int32 → Prop) : Prop :=
  x_X0_in a0 (-1) 3 s rd J I (fun r1 => (r1 = 0 ∨ r1 = 1) ∧ (Q r1 ))
theorem ct_X0_isAct  (a0 : Int32) (s : xS) (rd : xRd) (J : mJ) (I : mI) (Q : Int32 → Prop) (hf : x_X0_isAct a0 s rd J I Q) : hh_Ct yX0_isAct cX0_isAct 1 (some .boolean) 1 22 [.int a0] (hx s rd J I) (xQi (fun r9 S9 R9 J9 I9 => s = S9 ∧ rd = R9 ∧ J = J9 ∧ I = I9 ∧ Q r9)) 0 0 := by
  refine hh_Ct.of (own := RX0) rfl (by decide +kernel) (Nat.le_of_ble_eq_true rfl) ?_
  intro X hX hN hE
  show hh_V X 0 [(0, .int a0)] [] 0 0 (hx s rd J I)
  unfold x_X0_isAct at hf
  refine hv_iload_n hX dX0_isAct_0 rfl 0 rfl ?_
  refine hv_iconst (v := (-1)) hX icx_m1 dX0_isAct_1 ?_
  refine hv_iconst (v := 3) hX icx_3 dX0_isAct_2 ?_
  refine hx_callSi hX dX0_isAct_3 (ct_X0_in a0 (-1) 3 s rd J I _ hf) (lw_S q649 q650 q106 q651) np_X0_in rfl rfl ⟨Nat.le_of_ble_eq_true rfl, Nat.le_of_ble_eq_true rfl⟩ ⟨Nat.le_of_ble_eq_true rfl, Nat.le_of_ble_eq_true rfl⟩ (Nat.le_of_ble_eq_true rfl) ?_
  intro r1 S9 R9 J9 I9 hq
  clear hf
  obtain ⟨rfl, rfl, rfl, rfl, hf⟩ := hq
  obtain ⟨g, hf⟩ := hf
  exact hx_zret hX hE dX0_isAct_6 g ⟨rfl, rfl, rfl, rfl, hf⟩
/-! HungryHedge.does(I)I -/
def x_X0_does (a1 : Int32) (s : xS) (rd : xRd) (J : mJ) (I : mI) (Q : Int32 → mI → Prop) : Prop :=
  x_X0_isAct a1 s rd J I (fun r1 => (r1 = 0 →
    Q (-1) I) ∧ (¬ r1 = 0 →
    x_X1_takes 10 a1 s rd J I (fun r3 => (r3 = 0 →
      Q (-4) I) ∧ (¬ r3 = 0 →
      x_X1_does 10 a1 s rd J I (fun I5 => Q (I5 10 2) I5)))))
theorem ct_X0_does  (a1 : Int32) (s : xS) (rd : xRd) (J : mJ) (I : mI) (Q : Int32 → mI → Prop) (hf : x_X0_does a1 s rd J I Q) : hh_Ct yX0_does cX0_does 2 (some .int) 3 68 [.ref 0, .int a1] (hx s rd J I) (xQi (fun r9 S9 R9 J9 I9 => s = S9 ∧ rd = R9 ∧ J = J9 ∧ Q r9 I9)) 0 0 := by
  refine hh_Ct.of (own := RX0) rfl (by decide +kernel) (Nat.le_of_ble_eq_true rfl) ?_
  intro X hX hN hE
  show hh_V X 0 [(0, .ref 0), (1, .int a1)] [] 0 0 (hx s rd J I)
  unfold x_X0_does at hf
  refine hv_iload_n hX dX0_does_0 rfl 1 rfl ?_
  refine hx_callSi hX dX0_does_1 (ct_X0_isAct a1 s rd J I _ hf) (lw_S q695 q696 q106 q697) np_X0_isAct rfl rfl ⟨Nat.le_of_ble_eq_true rfl, Nat.le_of_ble_eq_true rfl⟩ ⟨Nat.le_of_ble_eq_true rfl, Nat.le_of_ble_eq_true rfl⟩ (Nat.le_of_ble_eq_true rfl) ?_
  intro r1 S9 R9 J9 I9 hq
  clear hf
  obtain ⟨rfl, rfl, rfl, rfl, hf⟩ := hq
  refine hv_if_ne (tgt := 9) hX dX0_does_4 (by decide) (fun c2 => ?_) (fun c2 => ?_)
  · replace hf := hf.2 c2
    refine hv_aload_n hX dX0_does_9 rfl 0 rfl ?_
    refine hx_getR (v := 1) hX dX0_does_10 fl0_10_0 (xo_c (by decide) rfl) (xR_c rfl) ?_
    refine hv_aload_n hX dX0_does_13 rfl 0 rfl ?_
    refine hx_getR (v := 1) hX dX0_does_14 fl0_10_0 (xo_c (by decide) rfl) (xR_c rfl) ?_
    refine hx_getR (v := 10) hX dX0_does_17 fl0_127_1 (xo_c (by decide) rfl) (xR_c rfl) ?_
    refine hv_iload_n hX dX0_does_20 rfl 1 rfl ?_
    refine hx_callVi (ci := 1) (q := (RX1, TX1, 17)) hX dX0_does_21 (ct_X1_takes 10 a1 s rd J I _ hf) (lw_V q698 q699 q700 q107 q701) rfl (by decide) ⟨rfl, np_X1_takes⟩ rfl (xo_c (by decide) rfl) rfl ⟨Nat.le_of_ble_eq_true rfl, Nat.le_of_ble_eq_true rfl⟩ ⟨Nat.le_of_ble_eq_true rfl, Nat.le_of_ble_eq_true rfl⟩ (Nat.le_of_ble_eq_true rfl) ?_
    intro r3 S9 R9 J9 I9 hq
    clear hf
    obtain ⟨rfl, rfl, rfl, rfl, hf⟩ := hq
    refine hv_if_ne (tgt := 30) hX dX0_does_24 (by decide) (fun c4 => ?_) (fun c4 => ?_)
    · replace hf := hf.2 c4
      refine hv_aload_n hX dX0_does_30 rfl 0 rfl ?_
      refine hx_getR (v := 1) hX dX0_does_31 fl0_10_0 (xo_c (by decide) rfl) (xR_c rfl) ?_
      refine hv_aload_n hX dX0_does_34 rfl 0 rfl ?_
      refine hx_getR (v := 1) hX dX0_does_35 fl0_10_0 (xo_c (by decide) rfl) (xR_c rfl) ?_
      refine hx_getR (v := 10) hX dX0_does_38 fl0_127_1 (xo_c (by decide) rfl) (xR_c rfl) ?_
      refine hv_iload_n hX dX0_does_41 rfl 1 rfl ?_
      refine hx_callVv (ci := 1) (q := (RX1, TX1, 17)) hX dX0_does_42 (ct_X1_does 10 a1 s rd J I _ hf) (lw_V q702 q703 q704 q107 q705) rfl (by decide) ⟨rfl, np_X1_does⟩ rfl (xo_c (by decide) rfl) rfl ⟨Nat.le_of_ble_eq_true rfl, Nat.le_of_ble_eq_true rfl⟩ ⟨Nat.le_of_ble_eq_true rfl, Nat.le_of_ble_eq_true rfl⟩ (Nat.le_of_ble_eq_true rfl) ?_
      intro  S9 R9 J9 I5 hq
      clear hf
      obtain ⟨rfl, rfl, rfl, hf⟩ := hq
      refine hv_aload_n hX dX0_does_45 rfl 0 rfl ?_
      refine hx_getR (v := 1) hX dX0_does_46 fl0_10_0 (xo_c (by decide) rfl) (xR_c rfl) ?_
      refine hx_getR (v := 10) hX dX0_does_49 fl0_127_1 (xo_c (by decide) rfl) (xR_c rfl) ?_
      refine hx_getI (v := (I5 10 2)) hX dX0_does_52 fl0_156_2 (.inl rfl) (xo_c (by decide) rfl) rfl ?_
      exact hx_iret hX hE dX0_does_55 ⟨rfl, rfl, rfl, hf⟩
    · replace hf := hf.1 c4
      refine hv_bipush (v := (-4)) hX bix_m4 dX0_does_27 ?_
      exact hx_iret hX hE dX0_does_29 ⟨rfl, rfl, rfl, hf⟩
  · replace hf := hf.1 c2
    refine hv_iconst (v := (-1)) hX icx_m1 dX0_does_7 ?_
    exact hx_iret hX hE dX0_does_8 ⟨rfl, rfl, rfl, hf⟩
/-! HungryHedge$Most.begins()V -/
def x_X3_begins  (s : xS) (rd : xRd) (J : mJ) (I : mI) (Q : mI → Prop) : Prop :=
  (((I 23 2) + 1) = 2000000 →
    False) ∧ (¬ ((I 23 2) + 1) = 2000000 →
    Q (u2 I 23 2 ((I 23 2) + 1)))
theorem ct_X3_begins   (s : xS) (rd : xRd) (J : mJ) (I : mI) (Q : mI → Prop) (hf : x_X3_begins  s rd J I Q) : hh_Ct yX3_begins cX3_begins 1 none 0 0 [.ref 23] (hx s rd J I) (xQv (fun S9 R9 J9 I9 => s = S9 ∧ rd = R9 ∧ J = J9 ∧ Q I9)) 0 0 := by
  refine hh_Ct.of (own := RX3) rfl (by decide +kernel) (Nat.le_of_ble_eq_true rfl) ?_
  intro X hX hN hE
  show hh_V X 0 [(0, .ref 23)] [] 0 0 (hx s rd J I)
  unfold x_X3_begins at hf
  refine hv_aload_n hX dX3_begins_0 rfl 0 rfl ?_
  refine hv_dup hX rfl dX3_begins_1 ?_
  refine hx_getI (v := (I 23 2)) hX dX3_begins_2 fl3_41_3 (.inl rfl) (xo_c (by decide) rfl) rfl ?_
  refine hv_iconst (v := 1) hX icx_1 dX3_begins_5 ?_
  refine hv_iadd hX dX3_begins_6 ?_
  refine hx_putI hX dX3_begins_7 fl3_41_3 (xo_c (by decide) rfl) ?_
  refine hv_aload_n hX dX3_begins_10 rfl 0 rfl ?_
  refine hx_getI (v := ((I 23 2) + 1)) hX dX3_begins_11 fl3_41_3 (.inl rfl) (xo_c (by decide) rfl) (u2_self _ _ _ _) ?_
  refine hv_ldc (v := 2000000) hX dX3_begins_14 q730 ?_
  refine hv_icmp_ne (tgt := 32) hX dX3_begins_16 (by decide) (fun c1 => ?_) (fun c1 => ?_)
  · replace hf := hf.2 c1
    exact hx_vret hX hE dX3_begins_32 ⟨rfl, rfl, rfl, hf⟩
  · replace hf := hf.1 c1
    refine hv_aload_n hX dX3_begins_19 rfl 0 rfl ?_
    refine hx_getR (v := 24) hX dX3_begins_20 fl3_16_3 (xo_c (by decide) rfl) (xR_c rfl) ?_
    refine hv_iconst (v := 0) hX icx_0 dX3_begins_23 ?_
    exact hf.elim
/-! HungryHedge$Most.placeOf(LHungryHedge$Trip;)I -/
def x_X3_placeOf_l14 (Q : Int32 → Prop) : Nat → Nat → Int32 → Int32 → xS → xRd → mJ → mI → Prop
  | 0, _, _, _, _, _, _, _ => False
  | n + 1, a1, a2, a3, s, rd, J, I =>
    ((4 : Int32) ≤ a3 →
      Q a2 ) ∧ (¬ (4 : Int32) ≤ a3 →
      xo s a1 2 ∧ (∃ v5 : Nat, xR rd a1 3 = some v5 ∧ (xo s v5 100 ∧ (vp_in a3 (xlen s v5) ∧ (∀ v7 : Int32, v7 = ((7 * a2) + (I v5 a3.toNatClampNeg)) → (x_X3_placeOf_l14 Q   n a1 v7 (a3 + 1) s rd J I))))))
theorem w_X3_placeOf_l14 {X : hh_CX} {S0 : xS} {R0 : xRd} {J0 : mJ} {I0 : mI} {Q : Int32 → Prop} (hX : hh_C X cX3_placeOf RX3 (hrx 0 0 0 0)) (hN : hh_nL X = 4) (hE : hh_E X (some .int) (xQi (fun r9 S9 R9 J9 I9 => S0 = S9 ∧ R0 = R9 ∧ J0 = J9 ∧ I0 = I9 ∧ Q r9)) 0 0) : ∀ (n : Nat) (a1 : Nat) (a2 : Int32) (a3 : Int32) (s : xS) (rd : xRd) (J : mJ) (I : mI), s = S0 → rd = R0 → J = J0 → I = I0 → x_X3_placeOf_l14 Q  n a1 a2 a3 s rd J I → hh_V X 14 [(1, .ref a1), (2, .int a2), (3, .int a3)] [] 0 0 (hx s rd J I) := by
  intro n
  induction n with
  | zero => intro _ _ _ _ _ _ _ _ _ _ _ hf; exact hf.elim
  | succ n ih =>
    intro a1 a2 a3 s rd J I e0 e1 e2 e3 hf
    subst e0
    subst e1
    subst e2
    subst e3
    unfold x_X3_placeOf_l14 at hf
    refine hv_iload_n hX dX3_placeOf_14 rfl 2 rfl ?_
    refine hv_iconst (v := 4) hX icx_4 dX3_placeOf_15 ?_
    refine hv_icmp_ge (tgt := 37) hX dX3_placeOf_16 (by decide) (fun c3 => ?_) (fun c3 => ?_)
    · replace hf := hf.1 c3
      refine hv_iload_n hX dX3_placeOf_37 rfl 1 rfl ?_
      exact hx_iret hX hE dX3_placeOf_38 ⟨rfl, rfl, rfl, rfl, hf⟩
    · replace hf := hf.2 c3
      refine hv_bipush (v := 7) hX bix_7 dX3_placeOf_19 ?_
      refine hv_iload_n hX dX3_placeOf_21 rfl 1 rfl ?_
      refine hv_imul hX dX3_placeOf_22 ?_
      refine hv_aload_n hX dX3_placeOf_23 rfl 0 rfl ?_
      obtain ⟨o4, hf⟩ := hf
      obtain ⟨v5, gv5, hf⟩ := hf
      refine hx_getR (v := v5) hX dX3_placeOf_24 fl3_34_2 o4 gv5 ?_
      refine hv_iload_n hX dX3_placeOf_27 rfl 2 rfl ?_
      obtain ⟨o6, hf⟩ := hf
      obtain ⟨g, hf⟩ := hf
      refine hx_iald (v := (I v5 a3.toNatClampNeg)) hX dX3_placeOf_28 o6 rfl g rfl ?_
      refine hv_iadd hX dX3_placeOf_29 ?_
      refine hv_topi (fun v7 ev7 => ?_)
      replace hf := hf v7 ev7
      refine hv_istore_n (loc2 := [(2, .int v7), (1, .ref a1), (3, .int a3)]) hX dX3_placeOf_30 rfl hN (Nat.le_of_ble_eq_true rfl) rfl ?_
      refine hv_iinc (v := (a3 + 1)) (loc2 := [(3, .int (a3 + 1)), (2, .int v7), (1, .ref a1)]) hX dX3_placeOf_31 2 rfl (congrArg (fun y => a3 + y) icx_1) hN (Nat.le_of_ble_eq_true rfl) rfl ?_
      refine hv_goto (tgt := 14) hX dX3_placeOf_34 (by decide) ?_
      refine hv_fewer [2, 1, 0] (loc2 := [(1, .ref a1), (2, .int v7), (3, .int (a3 + 1))]) rfl ?_
      exact ih _ _ _ _ _ _ _ rfl rfl rfl rfl hf
def x_X3_placeOf (a1 : Nat) (s : xS) (rd : xRd) (J : mJ) (I : mI) (Q : Int32 → Prop) : Prop :=
  xo s a1 2 ∧ (∀ v2 : Int32, v2 = ((4 * (I a1 1)) + (I a1 0)) → (∃ n0 : Nat, x_X3_placeOf_l14 Q   n0 a1 v2 0 s rd J I))
theorem ct_X3_placeOf  (a1 : Nat) (s : xS) (rd : xRd) (J : mJ) (I : mI) (Q : Int32 → Prop) (hf : x_X3_placeOf a1 s rd J I Q) : hh_Ct yX3_placeOf cX3_placeOf 4 (some .int) 0 0 [.ref 23, .ref a1] (hx s rd J I) (xQi (fun r9 S9 R9 J9 I9 => s = S9 ∧ rd = R9 ∧ J = J9 ∧ I = I9 ∧ Q r9)) 0 0 := by
  refine hh_Ct.of (own := RX3) rfl (by decide +kernel) (Nat.le_of_ble_eq_true rfl) ?_
  intro X hX hN hE
  show hh_V X 0 [(0, .ref 23), (1, .ref a1)] [] 0 0 (hx s rd J I)
  unfold x_X3_placeOf at hf
  refine hv_iconst (v := 4) hX icx_4 dX3_placeOf_0 ?_
  refine hv_aload_n hX dX3_placeOf_1 rfl 1 rfl ?_
  obtain ⟨o1, hf⟩ := hf
  refine hx_getI (v := (I a1 1)) hX dX3_placeOf_2 fl3_27_2 (.inl rfl) o1 rfl ?_
  refine hv_imul hX dX3_placeOf_5 ?_
  refine hv_aload_n hX dX3_placeOf_6 rfl 1 rfl ?_
  refine hx_getI (v := (I a1 0)) hX dX3_placeOf_7 fl3_31_2 (.inl rfl) o1 rfl ?_
  refine hv_iadd hX dX3_placeOf_10 ?_
  refine hv_topi (fun v2 ev2 => ?_)
  replace hf := hf v2 ev2
  refine hv_istore_n (loc2 := [(2, .int v2), (0, .ref 23), (1, .ref a1)]) hX dX3_placeOf_11 rfl hN (Nat.le_of_ble_eq_true rfl) rfl ?_
  refine hv_iconst (v := 0) hX icx_0 dX3_placeOf_12 ?_
  refine hv_istore_n (loc2 := [(3, .int 0), (2, .int v2), (0, .ref 23), (1, .ref a1)]) hX dX3_placeOf_13 rfl hN (Nat.le_of_ble_eq_true rfl) rfl ?_
  refine hv_fewer [3, 1, 0] (loc2 := [(1, .ref a1), (2, .int v2), (3, .int 0)]) rfl ?_
  obtain ⟨n0, hf⟩ := hf
  exact w_X3_placeOf_l14 hX hN hE  n0 _ _ _ _ _ _ _ rfl rfl rfl rfl hf
/-! HungryHedge$Most.by(LHungryHedge$Trip;II)I -/
def x_X3_by (pf : Nat → Int32 → xS → xRd → mJ → mI → (Int32 → mI → Prop) → Prop) (a1 : Nat) (a2 : Int32) (a3 : Int32) (s : xS) (rd : xRd) (J : mJ) (I : mI) (Q : Int32 → mI → Prop) : Prop :=
  x_X1_takes a1 a2 s rd J I (fun r1 => (r1 = 0 →
    Q (-1) I) ∧ (¬ r1 = 0 →
    vp_in a3 22 ∧ (∃ v3 : Nat, xR rd 25 a3.toNatClampNeg = some v3 ∧ (xo s v3 2 ∧ (x_X2_become v3 a1 s rd J I (fun I4 => x_X1_does v3 a2 s rd J I4 (fun I6 => xo s a1 2 ∧ (pf v3 (a3 + 1) s rd J I6 (fun r9 I8 => Q (((I6 v3 2) - (I6 a1 2)) + r9) I8)))))))))
theorem ct_X3_by {pf : Nat → Int32 → xS → xRd → mJ → mI → (Int32 → mI → Prop) → Prop} {F L : Nat}  (hpf : ∀ (c1 : Nat) (c2 : Int32) (s : xS) (rd : xRd) (J : mJ) (I : mI) (Q : Int32 → mI → Prop), pf c1 c2 s rd J I Q → hh_Ct yX3_from cX3_from 6 (some .int) F L [.ref 23, .ref c1, .int c2] (hx s rd J I) (xQi (fun r9 S9 R9 J9 I9 => s = S9 ∧ rd = R9 ∧ J = J9 ∧ Q r9 I9)) 0 0) (a1 : Nat) (a2 : Int32) (a3 : Int32) (s : xS) (rd : xRd) (J : mJ) (I : mI) (Q : Int32 → mI → Prop) (hf : x_X3_by pf a1 a2 a3 s rd J I Q) : hh_Ct yX3_by cX3_by 5 (some .int) (F + 3) (L + 200) [.ref 23, .ref a1, .int a2, .int a3] (hx s rd J I) (xQi (fun r9 S9 R9 J9 I9 => s = S9 ∧ rd = R9 ∧ J = J9 ∧ Q r9 I9)) 0 0 := by
  refine hh_Ct.of (own := RX3) rfl (by decide +kernel) (Nat.le_of_ble_eq_true rfl) ?_
  intro X hX hN hE
  show hh_V X 0 [(0, .ref 23), (1, .ref a1), (2, .int a2), (3, .int a3)] [] 0 0 (hx s rd J I)
  unfold x_X3_by at hf
  refine hv_aload_n hX dX3_by_0 rfl 0 rfl ?_
  refine hx_getR (v := 0) hX dX3_by_1 fl3_3_3 (xo_c (by decide) rfl) (xR_c rfl) ?_
  refine hx_getR (v := 1) hX dX3_by_4 fl3_44_0 (xo_c (by decide) rfl) (xR_c rfl) ?_
  refine hv_aload_n hX dX3_by_7 rfl 1 rfl ?_
  refine hv_iload_n hX dX3_by_8 rfl 2 rfl ?_
  refine hx_callVi (ci := 1) (q := (RX1, TX1, 17)) hX dX3_by_9 (ct_X1_takes a1 a2 s rd J I _ hf) (lw_V q746 q699 q700 q107 q701) rfl (by decide) ⟨rfl, np_X1_takes⟩ rfl (xo_c (by decide) rfl) rfl ⟨by dsimp only [hrx]; omega, by dsimp only [hrx]; omega⟩ ⟨Nat.le_of_ble_eq_true rfl, Nat.le_of_ble_eq_true rfl⟩ (Nat.le_of_ble_eq_true rfl) ?_
  intro r1 S9 R9 J9 I9 hq
  clear hf
  obtain ⟨rfl, rfl, rfl, rfl, hf⟩ := hq
  refine hv_if_ne (tgt := 17) hX dX3_by_12 (by decide) (fun c2 => ?_) (fun c2 => ?_)
  · replace hf := hf.2 c2
    refine hv_aload_n hX dX3_by_17 rfl 0 rfl ?_
    refine hx_getR (v := 25) hX dX3_by_18 fl3_22_3 (xo_c (by decide) rfl) (xR_c rfl) ?_
    refine hv_iload_n hX dX3_by_21 rfl 3 rfl ?_
    obtain ⟨g, hf⟩ := hf
    obtain ⟨v3, gv3, hf⟩ := hf
    refine hx_aald (v := v3) (a := 20) hX 4 rfl (by decide) dX3_by_22 (xo_c (by decide) rfl) (xlen_c (by decide) rfl) g gv3 ?_
    refine hv_astore (loc2 := [(4, .ref v3), (0, .ref 23), (1, .ref a1), (2, .int a2), (3, .int a3)]) hX dX3_by_23 hN (Nat.le_of_ble_eq_true rfl) rfl ?_
    refine hv_aload hX dX3_by_25 0 rfl ?_
    refine hv_aload_n hX dX3_by_27 rfl 2 rfl ?_
    obtain ⟨o5, hf⟩ := hf
    refine hx_callVv (ci := 2) (q := (RX2, TX2, 4)) hX dX3_by_28 (ct_X2_become v3 a1 s rd J I _ hf) (lw_V q747 q748 q749 q108 q750) rfl (by decide) ⟨rfl, np_X2_become⟩ rfl o5 rfl ⟨by dsimp only [hrx]; omega, by dsimp only [hrx]; omega⟩ ⟨Nat.le_of_ble_eq_true rfl, Nat.le_of_ble_eq_true rfl⟩ (Nat.le_of_ble_eq_true rfl) ?_
    intro  S9 R9 J9 I4 hq
    clear hf
    obtain ⟨rfl, rfl, rfl, hf⟩ := hq
    refine hv_aload_n hX dX3_by_31 rfl 1 rfl ?_
    refine hx_getR (v := 0) hX dX3_by_32 fl3_3_3 (xo_c (by decide) rfl) (xR_c rfl) ?_
    refine hx_getR (v := 1) hX dX3_by_35 fl3_44_0 (xo_c (by decide) rfl) (xR_c rfl) ?_
    refine hv_aload hX dX3_by_38 0 rfl ?_
    refine hv_iload_n hX dX3_by_40 rfl 3 rfl ?_
    refine hx_callVv (ci := 1) (q := (RX1, TX1, 17)) hX dX3_by_41 (ct_X1_does v3 a2 s rd J I4 _ hf) (lw_V q752 q703 q704 q107 q705) rfl (by decide) ⟨rfl, np_X1_does⟩ rfl (xo_c (by decide) rfl) rfl ⟨by dsimp only [hrx]; omega, by dsimp only [hrx]; omega⟩ ⟨Nat.le_of_ble_eq_true rfl, Nat.le_of_ble_eq_true rfl⟩ (Nat.le_of_ble_eq_true rfl) ?_
    intro  S9 R9 J9 I6 hq
    clear hf
    obtain ⟨rfl, rfl, rfl, hf⟩ := hq
    refine hv_aload hX dX3_by_44 0 rfl ?_
    refine hx_getI (v := (I6 v3 2)) hX dX3_by_46 fl3_75_2 (.inl rfl) o5 rfl ?_
    refine hv_aload_n hX dX3_by_49 rfl 2 rfl ?_
    obtain ⟨o7, hf⟩ := hf
    refine hx_getI (v := (I6 a1 2)) hX dX3_by_50 fl3_75_2 (.inl rfl) o7 rfl ?_
    refine hv_isub hX dX3_by_53 ?_
    refine hv_aload_n hX dX3_by_54 rfl 1 rfl ?_
    refine hv_aload hX dX3_by_55 0 rfl ?_
    refine hv_iload_n hX dX3_by_57 rfl 4 rfl ?_
    refine hv_iconst (v := 1) hX icx_1 dX3_by_58 ?_
    refine hv_iadd hX dX3_by_59 ?_
    refine hx_callVi (ci := 3) (q := (RX3, TX3, 4)) hX dX3_by_60 (hpf v3 (a3 + 1) s rd J I6 _ hf) (lw_V q734 q736 qs4 q109 q737) rfl (by decide) ⟨rfl, np_X3_from⟩ rfl (xo_c (by decide) rfl) rfl ⟨by dsimp only [hrx]; omega, by dsimp only [hrx]; omega⟩ ⟨Nat.le_of_ble_eq_true rfl, Nat.le_of_ble_eq_true rfl⟩ (Nat.le_of_ble_eq_true rfl) ?_
    intro r9 S9 R9 J9 I8 hq
    clear hf
    obtain ⟨rfl, rfl, rfl, hf⟩ := hq
    refine hv_iadd hX dX3_by_63 ?_
    exact hx_iret hX hE dX3_by_64 ⟨rfl, rfl, rfl, hf⟩
  · replace hf := hf.1 c2
    refine hv_iconst (v := (-1)) hX icx_m1 dX3_by_15 ?_
    exact hx_iret hX hE dX3_by_16 ⟨rfl, rfl, rfl, hf⟩
/-! HungryHedge$Most.from(LHungryHedge$Trip;I)I -/
def x_X3_from_l39 (Q : Int32 → mI → Prop) (pf : Nat → Int32 → xS → xRd → mJ → mI → (Int32 → mI → Prop) → Prop) : Nat → Nat → Int32 → Int32 → Int32 → Int32 → xS → xRd → mJ → mI → Prop
  | 0, _, _, _, _, _, _, _, _, _ => False
  | n + 1, a1, a2, a3, a4, a5, s, rd, J, I =>
    ((I 1 0) ≤ a5 →
      vp_in a3 201684 ∧ (Q a4 (u2 I 24 a3.toNatClampNeg (((I 23 2) <<< (10 &&& 31)) ||| a4)))) ∧ (¬ (I 1 0) ≤ a5 →
      x_X3_by pf a1 a5 a2 s rd J I (fun r5 I4 => ∀ v6 : Int32, v6 = (if a4 < r5 then r5 else a4) → (x_X3_from_l39 Q pf   n a1 a2 a3 v6 (a5 + 1) s rd J I4)))
theorem w_X3_from_l39 {X : hh_CX} {pf : Nat → Int32 → xS → xRd → mJ → mI → (Int32 → mI → Prop) → Prop} {F L : Nat} {S0 : xS} {R0 : xRd} {J0 : mJ} {Q : Int32 → mI → Prop} (hX : hh_C X cX3_from RX3 (hrx (F + 4) (L + 224) 0 0)) (hN : hh_nL X = 6) (hE : hh_E X (some .int) (xQi (fun r9 S9 R9 J9 I9 => S0 = S9 ∧ R0 = R9 ∧ J0 = J9 ∧ Q r9 I9)) 0 0) (hpf : ∀ (c1 : Nat) (c2 : Int32) (s : xS) (rd : xRd) (J : mJ) (I : mI) (Q : Int32 → mI → Prop), pf c1 c2 s rd J I Q → hh_Ct yX3_from cX3_from 6 (some .int) F L [.ref 23, .ref c1, .int c2] (hx s rd J I) (xQi (fun r9 S9 R9 J9 I9 => s = S9 ∧ rd = R9 ∧ J = J9 ∧ Q r9 I9)) 0 0) : ∀ (n : Nat) (a1 : Nat) (a2 : Int32) (a3 : Int32) (a4 : Int32) (a5 : Int32) (s : xS) (rd : xRd) (J : mJ) (I : mI), s = S0 → rd = R0 → J = J0 → x_X3_from_l39 Q pf  n a1 a2 a3 a4 a5 s rd J I → hh_V X 39 [(0, .ref 23), (1, .ref a1), (2, .int a2), (3, .int a3), (4, .int a4), (5, .int a5)] [] 0 0 (hx s rd J I) := by
  intro n
  induction n with
  | zero => intro _ _ _ _ _ _ _ _ _ _ _ _ hf; exact hf.elim
  | succ n ih =>
    intro a1 a2 a3 a4 a5 s rd J I e0 e1 e2 hf
    subst e0
    subst e1
    subst e2
    unfold x_X3_from_l39 at hf
    refine hv_iload hX dX3_from_39 5 rfl ?_
    refine hv_aload_n hX dX3_from_41 rfl 0 rfl ?_
    refine hx_getR (v := 0) hX dX3_from_42 fl3_3_3 (xo_c (by decide) rfl) (xR_c rfl) ?_
    refine hx_getR (v := 1) hX dX3_from_45 fl3_44_0 (xo_c (by decide) rfl) (xR_c rfl) ?_
    refine hx_getI (v := (I 1 0)) hX dX3_from_48 fl3_48_1 (.inl rfl) (xo_c (by decide) rfl) rfl ?_
    refine hv_icmp_ge (tgt := 75) hX dX3_from_51 (by decide) (fun c3 => ?_) (fun c3 => ?_)
    · replace hf := hf.1 c3
      refine hv_aload_n hX dX3_from_75 rfl 0 rfl ?_
      refine hx_getR (v := 24) hX dX3_from_76 fl3_16_3 (xo_c (by decide) rfl) (xR_c rfl) ?_
      refine hv_iload_n hX dX3_from_79 rfl 3 rfl ?_
      refine hv_aload_n hX dX3_from_80 rfl 0 rfl ?_
      refine hx_getI (v := (I 23 2)) hX dX3_from_81 fl3_41_3 (.inl rfl) (xo_c (by decide) rfl) rfl ?_
      refine hv_bipush (v := 10) hX bix_10 dX3_from_84 ?_
      refine hv_ishl hX dX3_from_86 ?_
      refine hv_iload hX dX3_from_87 4 rfl ?_
      refine hv_ior hX dX3_from_89 ?_
      obtain ⟨g, hf⟩ := hf
      refine hx_iast hX dX3_from_90 (xo_c (by decide) rfl) (xlen_c (by decide) rfl) g ?_
      refine hv_iload hX dX3_from_91 4 rfl ?_
      exact hx_iret hX hE dX3_from_93 ⟨rfl, rfl, rfl, hf⟩
    · replace hf := hf.2 c3
      refine hv_iload hX dX3_from_54 4 rfl ?_
      refine hv_aload_n hX dX3_from_56 rfl 0 rfl ?_
      refine hv_aload_n hX dX3_from_57 rfl 1 rfl ?_
      refine hv_iload hX dX3_from_58 5 rfl ?_
      refine hv_iload_n hX dX3_from_60 rfl 2 rfl ?_
      refine hx_callVi (ci := 3) (q := (RX3, TX3, 4)) hX dX3_from_61 (ct_X3_by hpf a1 a5 a2 s rd J I _ hf) (lw_V q742 q744 qs6 q109 q745) rfl (by decide) ⟨rfl, np_X3_by⟩ rfl (xo_c (by decide) rfl) rfl ⟨by dsimp only [hrx]; omega, by dsimp only [hrx]; omega⟩ ⟨Nat.le_of_ble_eq_true rfl, Nat.le_of_ble_eq_true rfl⟩ (Nat.le_of_ble_eq_true rfl) ?_
      intro r5 S9 R9 J9 I4 hq
      clear hf
      obtain ⟨rfl, rfl, rfl, hf⟩ := hq
      refine hv_mmax hX dX3_from_64 q753 q709 q127 q710 ⟨by dsimp only [hrx]; omega, Nat.le_trans (m := 100) (Nat.le_of_ble_eq_true rfl) (by dsimp only [hrx]; omega)⟩ ⟨Nat.le_of_ble_eq_true rfl, Nat.le_of_ble_eq_true rfl⟩ ?_
      refine hv_topi (fun v6 ev6 => ?_)
      replace hf := hf v6 ev6
      refine hv_istore (loc2 := [(4, .int v6), (0, .ref 23), (1, .ref a1), (2, .int a2), (3, .int a3), (5, .int a5)]) hX dX3_from_67 hN (Nat.le_of_ble_eq_true rfl) rfl ?_
      refine hv_iinc (v := (a5 + 1)) (loc2 := [(5, .int (a5 + 1)), (4, .int v6), (0, .ref 23), (1, .ref a1), (2, .int a2), (3, .int a3)]) hX dX3_from_69 5 rfl (congrArg (fun y => a5 + y) icx_1) hN (Nat.le_of_ble_eq_true rfl) rfl ?_
      refine hv_goto (tgt := 39) hX dX3_from_72 (by decide) ?_
      refine hv_fewer [2, 3, 4, 5, 1, 0] (loc2 := [(0, .ref 23), (1, .ref a1), (2, .int a2), (3, .int a3), (4, .int v6), (5, .int (a5 + 1))]) rfl ?_
      exact ih _ _ _ _ _ _ _ _ _ rfl rfl rfl hf
def x_X3_from_b (pf : Nat → Int32 → xS → xRd → mJ → mI → (Int32 → mI → Prop) → Prop) (a1 : Nat) (a2 : Int32) (s : xS) (rd : xRd) (J : mJ) (I : mI) (Q : Int32 → mI → Prop) : Prop :=
  x_X3_placeOf a1 s rd J I (fun r1 => vp_in r1 201684 ∧ ((((I 24 r1.toNatClampNeg) >>> (10 &&& 31)) = (I 23 2) →
    vp_in r1 201684 ∧ (Q ((I 24 r1.toNatClampNeg) &&& 1023) I)) ∧ (¬ ((I 24 r1.toNatClampNeg) >>> (10 &&& 31)) = (I 23 2) →
    ∃ n0 : Nat, x_X3_from_l39 Q pf   n0 a1 a2 r1 0 (-1) s rd J I)))
theorem ct_X3_from_b {pf : Nat → Int32 → xS → xRd → mJ → mI → (Int32 → mI → Prop) → Prop} {F L : Nat}  (hpf : ∀ (c1 : Nat) (c2 : Int32) (s : xS) (rd : xRd) (J : mJ) (I : mI) (Q : Int32 → mI → Prop), pf c1 c2 s rd J I Q → hh_Ct yX3_from cX3_from 6 (some .int) F L [.ref 23, .ref c1, .int c2] (hx s rd J I) (xQi (fun r9 S9 R9 J9 I9 => s = S9 ∧ rd = R9 ∧ J = J9 ∧ Q r9 I9)) 0 0) (a1 : Nat) (a2 : Int32) (s : xS) (rd : xRd) (J : mJ) (I : mI) (Q : Int32 → mI → Prop) (hf : x_X3_from_b pf a1 a2 s rd J I Q) : hh_Ct yX3_from cX3_from 6 (some .int) (F + 4) (L + 224) [.ref 23, .ref a1, .int a2] (hx s rd J I) (xQi (fun r9 S9 R9 J9 I9 => s = S9 ∧ rd = R9 ∧ J = J9 ∧ Q r9 I9)) 0 0 := by
  refine hh_Ct.of (own := RX3) rfl (by decide +kernel) (Nat.le_of_ble_eq_true rfl) ?_
  intro X hX hN hE
  show hh_V X 0 [(0, .ref 23), (1, .ref a1), (2, .int a2)] [] 0 0 (hx s rd J I)
  unfold x_X3_from_b at hf
  refine hv_aload_n hX dX3_from_0 rfl 0 rfl ?_
  refine hv_aload_n hX dX3_from_1 rfl 1 rfl ?_
  refine hx_callVi (ci := 3) (q := (RX3, TX3, 4)) hX dX3_from_2 (ct_X3_placeOf a1 s rd J I _ hf) (lw_V q738 q740 qs5 q109 q741) rfl (by decide) ⟨rfl, np_X3_placeOf⟩ rfl (xo_c (by decide) rfl) rfl ⟨by dsimp only [hrx]; omega, by dsimp only [hrx]; omega⟩ ⟨Nat.le_of_ble_eq_true rfl, Nat.le_of_ble_eq_true rfl⟩ (Nat.le_of_ble_eq_true rfl) ?_
  intro r1 S9 R9 J9 I9 hq
  clear hf
  obtain ⟨rfl, rfl, rfl, rfl, hf⟩ := hq
  refine hv_istore_n (loc2 := [(3, .int r1), (0, .ref 23), (1, .ref a1), (2, .int a2)]) hX dX3_from_5 rfl hN (Nat.le_of_ble_eq_true rfl) rfl ?_
  refine hv_aload_n hX dX3_from_6 rfl 1 rfl ?_
  refine hx_getR (v := 24) hX dX3_from_7 fl3_16_3 (xo_c (by decide) rfl) (xR_c rfl) ?_
  refine hv_iload_n hX dX3_from_10 rfl 0 rfl ?_
  obtain ⟨g, hf⟩ := hf
  refine hx_iald (v := (I 24 r1.toNatClampNeg)) hX dX3_from_11 (xo_c (by decide) rfl) (xlen_c (by decide) rfl) g rfl ?_
  refine hv_bipush (v := 10) hX bix_10 dX3_from_12 ?_
  refine hv_ishr hX dX3_from_14 ?_
  refine hv_aload_n hX dX3_from_15 rfl 1 rfl ?_
  refine hx_getI (v := (I 23 2)) hX dX3_from_16 fl3_41_3 (.inl rfl) (xo_c (by decide) rfl) rfl ?_
  refine hv_icmp_ne (tgt := 33) hX dX3_from_19 (by decide) (fun c2 => ?_) (fun c2 => ?_)
  · replace hf := hf.2 c2
    refine hv_iconst (v := 0) hX icx_0 dX3_from_33 ?_
    refine hv_istore (loc2 := [(4, .int 0), (3, .int r1), (0, .ref 23), (1, .ref a1), (2, .int a2)]) hX dX3_from_34 hN (Nat.le_of_ble_eq_true rfl) rfl ?_
    refine hv_iconst (v := (-1)) hX icx_m1 dX3_from_36 ?_
    refine hv_istore (loc2 := [(5, .int (-1)), (4, .int 0), (3, .int r1), (0, .ref 23), (1, .ref a1), (2, .int a2)]) hX dX3_from_37 hN (Nat.le_of_ble_eq_true rfl) rfl ?_
    refine hv_fewer [3, 4, 5, 2, 1, 0] (loc2 := [(0, .ref 23), (1, .ref a1), (2, .int a2), (3, .int r1), (4, .int 0), (5, .int (-1))]) rfl ?_
    obtain ⟨n0, hf⟩ := hf
    exact w_X3_from_l39 hX hN hE hpf  n0 _ _ _ _ _ _ _ _ _ rfl rfl rfl hf
  · replace hf := hf.1 c2
    refine hv_aload_n hX dX3_from_22 rfl 1 rfl ?_
    refine hx_getR (v := 24) hX dX3_from_23 fl3_16_3 (xo_c (by decide) rfl) (xR_c rfl) ?_
    refine hv_iload_n hX dX3_from_26 rfl 0 rfl ?_
    obtain ⟨g, hf⟩ := hf
    refine hx_iald (v := (I 24 r1.toNatClampNeg)) hX dX3_from_27 (xo_c (by decide) rfl) (xlen_c (by decide) rfl) g rfl ?_
    refine hv_sipush (v := 1023) hX six_1023 dX3_from_28 ?_
    refine hv_iand hX dX3_from_31 ?_
    exact hx_iret hX hE dX3_from_32 ⟨rfl, rfl, rfl, hf⟩
def x_X3_from : Nat → Nat → Int32 → xS → xRd → mJ → mI → (Int32 → mI → Prop) → Prop
  | 0, _, _, _, _, _, _, _ => False
  | n + 1, a1, a2, s, rd, J, I, Q => x_X3_from_b (fun a1 a2 s rd J I Q => x_X3_from n a1 a2 s rd J I Q) a1 a2 s rd J I Q
theorem ct_X3_from : ∀ (n : Nat) (a1 : Nat) (a2 : Int32) (s : xS) (rd : xRd) (J : mJ) (I : mI) (Q : Int32 → mI → Prop), x_X3_from n a1 a2 s rd J I Q → hh_Ct yX3_from cX3_from 6 (some .int) (4 * n) (224 * n) [.ref 23, .ref a1, .int a2] (hx s rd J I) (xQi (fun r9 S9 R9 J9 I9 => s = S9 ∧ rd = R9 ∧ J = J9 ∧ Q r9 I9)) 0 0 := by
  intro n
  induction n with
  | zero => intro _ _ _ _ _ _ _ hf; exact hf.elim
  | succ n ih =>
    intro a1 a2 s rd J I Q hf
    exact ct_X3_from_b (F := 4 * n) (L := 224 * n) ih a1 a2 s rd J I Q hf
/-! HungryHedge$Most.all(LHungryHedge$Trip;)I -/
def x_X3_all (a1 : Nat) (s : xS) (rd : xRd) (J : mJ) (I : mI) (Q : Int32 → mI → Prop) : Prop :=
  x_X3_begins s rd J I (fun I1 => x_X3_from 24 a1 0 s rd J I1 (fun r3 I2 => Q r3 I2))
theorem ct_X3_all  (a1 : Nat) (s : xS) (rd : xRd) (J : mJ) (I : mI) (Q : Int32 → mI → Prop) (hf : x_X3_all a1 s rd J I Q) : hh_Ct yX3_all cX3_all 2 (some .int) 97 5401 [.ref 23, .ref a1] (hx s rd J I) (xQi (fun r9 S9 R9 J9 I9 => s = S9 ∧ rd = R9 ∧ J = J9 ∧ Q r9 I9)) 0 0 := by
  refine hh_Ct.of (own := RX3) rfl (by decide +kernel) (Nat.le_of_ble_eq_true rfl) ?_
  intro X hX hN hE
  show hh_V X 0 [(0, .ref 23), (1, .ref a1)] [] 0 0 (hx s rd J I)
  unfold x_X3_all at hf
  refine hv_aload_n hX dX3_all_0 rfl 0 rfl ?_
  refine hx_callVv (ci := 3) (q := (RX3, TX3, 4)) hX dX3_all_1 (ct_X3_begins s rd J I _ hf) (lw_V q726 q728 qs3 q109 q729) rfl (by decide) ⟨rfl, np_X3_begins⟩ rfl (xo_c (by decide) rfl) rfl ⟨Nat.le_of_ble_eq_true rfl, Nat.le_of_ble_eq_true rfl⟩ ⟨Nat.le_of_ble_eq_true rfl, Nat.le_of_ble_eq_true rfl⟩ (Nat.le_of_ble_eq_true rfl) ?_
  intro  S9 R9 J9 I1 hq
  clear hf
  obtain ⟨rfl, rfl, rfl, hf⟩ := hq
  refine hv_aload_n hX dX3_all_4 rfl 0 rfl ?_
  refine hv_aload_n hX dX3_all_5 rfl 1 rfl ?_
  refine hv_iconst (v := 0) hX icx_0 dX3_all_6 ?_
  refine hx_callVi (ci := 3) (q := (RX3, TX3, 4)) hX dX3_all_7 (ct_X3_from 24 a1 0 s rd J I1 _ hf) (lw_V q734 q736 qs4 q109 q737) rfl (by decide) ⟨rfl, np_X3_from⟩ rfl (xo_c (by decide) rfl) rfl ⟨Nat.le_of_ble_eq_true rfl, Nat.le_of_ble_eq_true rfl⟩ ⟨Nat.le_of_ble_eq_true rfl, Nat.le_of_ble_eq_true rfl⟩ (Nat.le_of_ble_eq_true rfl) ?_
  intro r3 S9 R9 J9 I2 hq
  clear hf
  obtain ⟨rfl, rfl, rfl, hf⟩ := hq
  exact hx_iret hX hE dX3_all_10 ⟨rfl, rfl, rfl, hf⟩
/-! HungryHedge.best()I -/
def x_X0_best  (s : xS) (rd : xRd) (J : mJ) (I : mI) (Q : Int32 → mI → Prop) : Prop :=
  x_X3_all 10 s rd J I (fun r2 I1 => Q r2 I1)
theorem ct_X0_best   (s : xS) (rd : xRd) (J : mJ) (I : mI) (Q : Int32 → mI → Prop) (hf : x_X0_best  s rd J I Q) : hh_Ct yX0_best cX0_best 1 (some .int) 98 5422 [.ref 0] (hx s rd J I) (xQi (fun r9 S9 R9 J9 I9 => s = S9 ∧ rd = R9 ∧ J = J9 ∧ Q r9 I9)) 0 0 := by
  refine hh_Ct.of (own := RX0) rfl (by decide +kernel) (Nat.le_of_ble_eq_true rfl) ?_
  intro X hX hN hE
  show hh_V X 0 [(0, .ref 0)] [] 0 0 (hx s rd J I)
  unfold x_X0_best at hf
  refine hv_aload_n hX dX0_best_0 rfl 0 rfl ?_
  refine hx_getR (v := 23) hX dX0_best_1 fl0_24_0 (xo_c (by decide) rfl) (xR_c rfl) ?_
  refine hv_aload_n hX dX0_best_4 rfl 0 rfl ?_
  refine hx_getR (v := 1) hX dX0_best_5 fl0_10_0 (xo_c (by decide) rfl) (xR_c rfl) ?_
  refine hx_getR (v := 10) hX dX0_best_8 fl0_127_1 (xo_c (by decide) rfl) (xR_c rfl) ?_
  refine hx_callVi (ci := 3) (q := (RX3, TX3, 4)) hX dX0_best_11 (ct_X3_all 10 s rd J I _ hf) (lw_V q722 q723 q724 q109 q725) rfl (by decide) ⟨rfl, np_X3_all⟩ rfl (xo_c (by decide) rfl) rfl ⟨Nat.le_of_ble_eq_true rfl, Nat.le_of_ble_eq_true rfl⟩ ⟨Nat.le_of_ble_eq_true rfl, Nat.le_of_ble_eq_true rfl⟩ (Nat.le_of_ble_eq_true rfl) ?_
  intro r2 S9 R9 J9 I1 hq
  clear hf
  obtain ⟨rfl, rfl, rfl, hf⟩ := hq
  exact hx_iret hX hE dX0_best_14 ⟨rfl, rfl, rfl, hf⟩
/-! HungryHedge$Most.first(LHungryHedge$Trip;)I -/
def x_X3_first_l8 (Q : Int32 → mI → Prop) : Nat → Nat → Int32 → Int32 → xS → xRd → mJ → mI → Prop
  | 0, _, _, _, _, _, _, _ => False
  | n + 1, a1, a2, a3, s, rd, J, I =>
    ((I 1 0) ≤ a3 →
      Q (-9) I) ∧ (¬ (I 1 0) ≤ a3 →
      x_X3_by (x_X3_from 24) a1 a3 0 s rd J I (fun r5 I4 => (r5 = a2 →
        Q a3 I4) ∧ (¬ r5 = a2 →
        x_X3_first_l8 Q   n a1 a2 (a3 + 1) s rd J I4)))
theorem w_X3_first_l8 {X : hh_CX} {S0 : xS} {R0 : xRd} {J0 : mJ} {Q : Int32 → mI → Prop} (hX : hh_C X cX3_first RX3 (hrx 100 5600 0 0)) (hN : hh_nL X = 4) (hE : hh_E X (some .int) (xQi (fun r9 S9 R9 J9 I9 => S0 = S9 ∧ R0 = R9 ∧ J0 = J9 ∧ Q r9 I9)) 0 0) : ∀ (n : Nat) (a1 : Nat) (a2 : Int32) (a3 : Int32) (s : xS) (rd : xRd) (J : mJ) (I : mI), s = S0 → rd = R0 → J = J0 → x_X3_first_l8 Q  n a1 a2 a3 s rd J I → hh_V X 8 [(0, .ref 23), (1, .ref a1), (2, .int a2), (3, .int a3)] [] 0 0 (hx s rd J I) := by
  intro n
  induction n with
  | zero => intro _ _ _ _ _ _ _ _ _ _ hf; exact hf.elim
  | succ n ih =>
    intro a1 a2 a3 s rd J I e0 e1 e2 hf
    subst e0
    subst e1
    subst e2
    unfold x_X3_first_l8 at hf
    refine hv_iload_n hX dX3_first_8 rfl 3 rfl ?_
    refine hv_aload_n hX dX3_first_9 rfl 0 rfl ?_
    refine hx_getR (v := 0) hX dX3_first_10 fl3_3_3 (xo_c (by decide) rfl) (xR_c rfl) ?_
    refine hx_getR (v := 1) hX dX3_first_13 fl3_44_0 (xo_c (by decide) rfl) (xR_c rfl) ?_
    refine hx_getI (v := (I 1 0)) hX dX3_first_16 fl3_48_1 (.inl rfl) (xo_c (by decide) rfl) rfl ?_
    refine hv_icmp_ge (tgt := 41) hX dX3_first_19 (by decide) (fun c3 => ?_) (fun c3 => ?_)
    · replace hf := hf.1 c3
      refine hv_bipush (v := (-9)) hX bix_m9 dX3_first_41 ?_
      exact hx_iret hX hE dX3_first_43 ⟨rfl, rfl, rfl, hf⟩
    · replace hf := hf.2 c3
      refine hv_aload_n hX dX3_first_22 rfl 0 rfl ?_
      refine hv_aload_n hX dX3_first_23 rfl 1 rfl ?_
      refine hv_iload_n hX dX3_first_24 rfl 3 rfl ?_
      refine hv_iconst (v := 0) hX icx_0 dX3_first_25 ?_
      refine hx_callVi (ci := 3) (q := (RX3, TX3, 4)) hX dX3_first_26 (ct_X3_by (ct_X3_from 24) a1 a3 0 s rd J I _ hf) (lw_V q742 q744 qs6 q109 q745) rfl (by decide) ⟨rfl, np_X3_by⟩ rfl (xo_c (by decide) rfl) rfl ⟨Nat.le_of_ble_eq_true rfl, Nat.le_of_ble_eq_true rfl⟩ ⟨Nat.le_of_ble_eq_true rfl, Nat.le_of_ble_eq_true rfl⟩ (Nat.le_of_ble_eq_true rfl) ?_
      intro r5 S9 R9 J9 I4 hq
      clear hf
      obtain ⟨rfl, rfl, rfl, hf⟩ := hq
      refine hv_iload_n hX dX3_first_29 rfl 2 rfl ?_
      refine hv_icmp_ne (tgt := 35) hX dX3_first_30 (by decide) (fun c6 => ?_) (fun c6 => ?_)
      · replace hf := hf.2 c6
        refine hv_iinc (v := (a3 + 1)) (loc2 := [(3, .int (a3 + 1)), (0, .ref 23), (1, .ref a1), (2, .int a2)]) hX dX3_first_35 3 rfl (congrArg (fun y => a3 + y) icx_1) hN (Nat.le_of_ble_eq_true rfl) rfl ?_
        refine hv_goto (tgt := 8) hX dX3_first_38 (by decide) ?_
        refine hv_fewer [1, 2, 3, 0] (loc2 := [(0, .ref 23), (1, .ref a1), (2, .int a2), (3, .int (a3 + 1))]) rfl ?_
        exact ih _ _ _ _ _ _ _ rfl rfl rfl hf
      · replace hf := hf.1 c6
        refine hv_iload_n hX dX3_first_33 rfl 3 rfl ?_
        exact hx_iret hX hE dX3_first_34 ⟨rfl, rfl, rfl, hf⟩
def x_X3_first (a1 : Nat) (s : xS) (rd : xRd) (J : mJ) (I : mI) (Q : Int32 → mI → Prop) : Prop :=
  x_X3_all a1 s rd J I (fun r2 I1 => ∃ n0 : Nat, x_X3_first_l8 Q   n0 a1 r2 (-1) s rd J I1)
theorem ct_X3_first  (a1 : Nat) (s : xS) (rd : xRd) (J : mJ) (I : mI) (Q : Int32 → mI → Prop) (hf : x_X3_first a1 s rd J I Q) : hh_Ct yX3_first cX3_first 4 (some .int) 100 5600 [.ref 23, .ref a1] (hx s rd J I) (xQi (fun r9 S9 R9 J9 I9 => s = S9 ∧ rd = R9 ∧ J = J9 ∧ Q r9 I9)) 0 0 := by
  refine hh_Ct.of (own := RX3) rfl (by decide +kernel) (Nat.le_of_ble_eq_true rfl) ?_
  intro X hX hN hE
  show hh_V X 0 [(0, .ref 23), (1, .ref a1)] [] 0 0 (hx s rd J I)
  unfold x_X3_first at hf
  refine hv_aload_n hX dX3_first_0 rfl 0 rfl ?_
  refine hv_aload_n hX dX3_first_1 rfl 1 rfl ?_
  refine hx_callVi (ci := 3) (q := (RX3, TX3, 4)) hX dX3_first_2 (ct_X3_all a1 s rd J I _ hf) (lw_V q762 q723 q724 q109 q725) rfl (by decide) ⟨rfl, np_X3_all⟩ rfl (xo_c (by decide) rfl) rfl ⟨Nat.le_of_ble_eq_true rfl, Nat.le_of_ble_eq_true rfl⟩ ⟨Nat.le_of_ble_eq_true rfl, Nat.le_of_ble_eq_true rfl⟩ (Nat.le_of_ble_eq_true rfl) ?_
  intro r2 S9 R9 J9 I1 hq
  clear hf
  obtain ⟨rfl, rfl, rfl, hf⟩ := hq
  refine hv_istore_n (loc2 := [(2, .int r2), (0, .ref 23), (1, .ref a1)]) hX dX3_first_5 rfl hN (Nat.le_of_ble_eq_true rfl) rfl ?_
  refine hv_iconst (v := (-1)) hX icx_m1 dX3_first_6 ?_
  refine hv_istore_n (loc2 := [(3, .int (-1)), (2, .int r2), (0, .ref 23), (1, .ref a1)]) hX dX3_first_7 rfl hN (Nat.le_of_ble_eq_true rfl) rfl ?_
  refine hv_fewer [2, 3, 1, 0] (loc2 := [(0, .ref 23), (1, .ref a1), (2, .int r2), (3, .int (-1))]) rfl ?_
  obtain ⟨n0, hf⟩ := hf
  exact w_X3_first_l8 hX hN hE  n0 _ _ _ _ _ _ _ rfl rfl rfl hf
/-! HungryHedge.first()I -/
def x_X0_first  (s : xS) (rd : xRd) (J : mJ) (I : mI) (Q : Int32 → mI → Prop) : Prop :=
  x_X3_first 10 s rd J I (fun r2 I1 => Q r2 I1)
theorem ct_X0_first   (s : xS) (rd : xRd) (J : mJ) (I : mI) (Q : Int32 → mI → Prop) (hf : x_X0_first  s rd J I Q) : hh_Ct yX0_first cX0_first 1 (some .int) 101 5623 [.ref 0] (hx s rd J I) (xQi (fun r9 S9 R9 J9 I9 => s = S9 ∧ rd = R9 ∧ J = J9 ∧ Q r9 I9)) 0 0 := by
  refine hh_Ct.of (own := RX0) rfl (by decide +kernel) (Nat.le_of_ble_eq_true rfl) ?_
  intro X hX hN hE
  show hh_V X 0 [(0, .ref 0)] [] 0 0 (hx s rd J I)
  unfold x_X0_first at hf
  refine hv_aload_n hX dX0_first_0 rfl 0 rfl ?_
  refine hx_getR (v := 23) hX dX0_first_1 fl0_24_0 (xo_c (by decide) rfl) (xR_c rfl) ?_
  refine hv_aload_n hX dX0_first_4 rfl 0 rfl ?_
  refine hx_getR (v := 1) hX dX0_first_5 fl0_10_0 (xo_c (by decide) rfl) (xR_c rfl) ?_
  refine hx_getR (v := 10) hX dX0_first_8 fl0_127_1 (xo_c (by decide) rfl) (xR_c rfl) ?_
  refine hx_callVi (ci := 3) (q := (RX3, TX3, 4)) hX dX0_first_11 (ct_X3_first 10 s rd J I _ hf) (lw_V q758 q759 q760 q109 q761) rfl (by decide) ⟨rfl, np_X3_first⟩ rfl (xo_c (by decide) rfl) rfl ⟨Nat.le_of_ble_eq_true rfl, Nat.le_of_ble_eq_true rfl⟩ ⟨Nat.le_of_ble_eq_true rfl, Nat.le_of_ble_eq_true rfl⟩ (Nat.le_of_ble_eq_true rfl) ?_
  intro r2 S9 R9 J9 I1 hq
  clear hf
  obtain ⟨rfl, rfl, rfl, hf⟩ := hq
  exact hx_iret hX hE dX0_first_14 ⟨rfl, rfl, rfl, hf⟩
/-! HungryHedge$Most.with(LHungryHedge$Trip;I)I -/
def x_X3_with (a1 : Nat) (a2 : Int32) (s : xS) (rd : xRd) (J : mJ) (I : mI) (Q : Int32 → mI → Prop) : Prop :=
  x_X3_begins s rd J I (fun I1 => x_X3_by (x_X3_from 24) a1 a2 0 s rd J I1 (fun r3 I2 => Q r3 I2))
theorem ct_X3_with  (a1 : Nat) (a2 : Int32) (s : xS) (rd : xRd) (J : mJ) (I : mI) (Q : Int32 → mI → Prop) (hf : x_X3_with a1 a2 s rd J I Q) : hh_Ct yX3_with cX3_with 3 (some .int) 100 5600 [.ref 23, .ref a1, .int a2] (hx s rd J I) (xQi (fun r9 S9 R9 J9 I9 => s = S9 ∧ rd = R9 ∧ J = J9 ∧ Q r9 I9)) 0 0 := by
  refine hh_Ct.of (own := RX3) rfl (by decide +kernel) (Nat.le_of_ble_eq_true rfl) ?_
  intro X hX hN hE
  show hh_V X 0 [(0, .ref 23), (1, .ref a1), (2, .int a2)] [] 0 0 (hx s rd J I)
  unfold x_X3_with at hf
  refine hv_aload_n hX dX3_with_0 rfl 0 rfl ?_
  refine hx_callVv (ci := 3) (q := (RX3, TX3, 4)) hX dX3_with_1 (ct_X3_begins s rd J I _ hf) (lw_V q726 q728 qs3 q109 q729) rfl (by decide) ⟨rfl, np_X3_begins⟩ rfl (xo_c (by decide) rfl) rfl ⟨Nat.le_of_ble_eq_true rfl, Nat.le_of_ble_eq_true rfl⟩ ⟨Nat.le_of_ble_eq_true rfl, Nat.le_of_ble_eq_true rfl⟩ (Nat.le_of_ble_eq_true rfl) ?_
  intro  S9 R9 J9 I1 hq
  clear hf
  obtain ⟨rfl, rfl, rfl, hf⟩ := hq
  refine hv_aload_n hX dX3_with_4 rfl 0 rfl ?_
  refine hv_aload_n hX dX3_with_5 rfl 1 rfl ?_
  refine hv_iload_n hX dX3_with_6 rfl 2 rfl ?_
  refine hv_iconst (v := 0) hX icx_0 dX3_with_7 ?_
  refine hx_callVi (ci := 3) (q := (RX3, TX3, 4)) hX dX3_with_8 (ct_X3_by (ct_X3_from 24) a1 a2 0 s rd J I1 _ hf) (lw_V q742 q744 qs6 q109 q745) rfl (by decide) ⟨rfl, np_X3_by⟩ rfl (xo_c (by decide) rfl) rfl ⟨Nat.le_of_ble_eq_true rfl, Nat.le_of_ble_eq_true rfl⟩ ⟨Nat.le_of_ble_eq_true rfl, Nat.le_of_ble_eq_true rfl⟩ (Nat.le_of_ble_eq_true rfl) ?_
  intro r3 S9 R9 J9 I2 hq
  clear hf
  obtain ⟨rfl, rfl, rfl, hf⟩ := hq
  exact hx_iret hX hE dX3_with_11 ⟨rfl, rfl, rfl, hf⟩
/-! HungryHedge.with(I)I -/
def x_X0_with (a1 : Int32) (s : xS) (rd : xRd) (J : mJ) (I : mI) (Q : Int32 → mI → Prop) : Prop :=
  x_X0_isAct a1 s rd J I (fun r1 => (r1 = 0 →
    Q (-1) I) ∧ (¬ r1 = 0 →
    x_X3_with 10 a1 s rd J I (fun r4 I3 => ((0 : Int32) ≤ r4 →
      Q r4 I3) ∧ (¬ (0 : Int32) ≤ r4 →
      Q (-4) I3))))
theorem ct_X0_with  (a1 : Int32) (s : xS) (rd : xRd) (J : mJ) (I : mI) (Q : Int32 → mI → Prop) (hf : x_X0_with a1 s rd J I Q) : hh_Ct yX0_with cX0_with 3 (some .int) 101 5622 [.ref 0, .int a1] (hx s rd J I) (xQi (fun r9 S9 R9 J9 I9 => s = S9 ∧ rd = R9 ∧ J = J9 ∧ Q r9 I9)) 0 0 := by
  refine hh_Ct.of (own := RX0) rfl (by decide +kernel) (Nat.le_of_ble_eq_true rfl) ?_
  intro X hX hN hE
  show hh_V X 0 [(0, .ref 0), (1, .int a1)] [] 0 0 (hx s rd J I)
  unfold x_X0_with at hf
  refine hv_iload_n hX dX0_with_0 rfl 1 rfl ?_
  refine hx_callSi hX dX0_with_1 (ct_X0_isAct a1 s rd J I _ hf) (lw_S q695 q696 q106 q697) np_X0_isAct rfl rfl ⟨Nat.le_of_ble_eq_true rfl, Nat.le_of_ble_eq_true rfl⟩ ⟨Nat.le_of_ble_eq_true rfl, Nat.le_of_ble_eq_true rfl⟩ (Nat.le_of_ble_eq_true rfl) ?_
  intro r1 S9 R9 J9 I9 hq
  clear hf
  obtain ⟨rfl, rfl, rfl, rfl, hf⟩ := hq
  refine hv_if_ne (tgt := 9) hX dX0_with_4 (by decide) (fun c2 => ?_) (fun c2 => ?_)
  · replace hf := hf.2 c2
    refine hv_aload_n hX dX0_with_9 rfl 0 rfl ?_
    refine hx_getR (v := 23) hX dX0_with_10 fl0_24_0 (xo_c (by decide) rfl) (xR_c rfl) ?_
    refine hv_aload_n hX dX0_with_13 rfl 0 rfl ?_
    refine hx_getR (v := 1) hX dX0_with_14 fl0_10_0 (xo_c (by decide) rfl) (xR_c rfl) ?_
    refine hx_getR (v := 10) hX dX0_with_17 fl0_127_1 (xo_c (by decide) rfl) (xR_c rfl) ?_
    refine hv_iload_n hX dX0_with_20 rfl 1 rfl ?_
    refine hx_callVi (ci := 3) (q := (RX3, TX3, 4)) hX dX0_with_21 (ct_X3_with 10 a1 s rd J I _ hf) (lw_V q767 q768 q769 q109 q770) rfl (by decide) ⟨rfl, np_X3_with⟩ rfl (xo_c (by decide) rfl) rfl ⟨Nat.le_of_ble_eq_true rfl, Nat.le_of_ble_eq_true rfl⟩ ⟨Nat.le_of_ble_eq_true rfl, Nat.le_of_ble_eq_true rfl⟩ (Nat.le_of_ble_eq_true rfl) ?_
    intro r4 S9 R9 J9 I3 hq
    clear hf
    obtain ⟨rfl, rfl, rfl, hf⟩ := hq
    refine hv_istore_n (loc2 := [(2, .int r4), (0, .ref 0), (1, .int a1)]) hX dX0_with_24 rfl hN (Nat.le_of_ble_eq_true rfl) rfl ?_
    refine hv_iload_n hX dX0_with_25 rfl 0 rfl ?_
    refine hv_if_ge (tgt := 34) hX dX0_with_26 (by decide) (fun c5 => ?_) (fun c5 => ?_)
    · replace hf := hf.1 c5
      refine hv_iload_n hX dX0_with_34 rfl 0 rfl ?_
      exact hx_iret hX hE dX0_with_35 ⟨rfl, rfl, rfl, hf⟩
    · replace hf := hf.2 c5
      refine hv_bipush (v := (-4)) hX bix_m4 dX0_with_29 ?_
      refine hv_goto (tgt := 35) hX dX0_with_31 (by decide) ?_
      exact hx_iret hX hE dX0_with_35 ⟨rfl, rfl, rfl, hf⟩
  · replace hf := hf.1 c2
    refine hv_iconst (v := (-1)) hX icx_m1 dX0_with_7 ?_
    exact hx_iret hX hE dX0_with_8 ⟨rfl, rfl, rfl, hf⟩
/-! HungryHedge.journey(I)I -/
def x_X0_journey (a1 : Int32) (s : xS) (rd : xRd) (J : mJ) (I : mI) (Q : Int32 → mI → Prop) : Prop :=
  x_X0_in a1 1 60 s rd J I (fun r1 => (r1 = 0 →
    Q (-1) I) ∧ (¬ r1 = 0 →
    Q (I 1 4) (u2 I 1 4 a1)))
theorem ct_X0_journey  (a1 : Int32) (s : xS) (rd : xRd) (J : mJ) (I : mI) (Q : Int32 → mI → Prop) (hf : x_X0_journey a1 s rd J I Q) : hh_Ct yX0_journey cX0_journey 3 (some .int) 1 22 [.ref 0, .int a1] (hx s rd J I) (xQi (fun r9 S9 R9 J9 I9 => s = S9 ∧ rd = R9 ∧ J = J9 ∧ Q r9 I9)) 0 0 := by
  refine hh_Ct.of (own := RX0) rfl (by decide +kernel) (Nat.le_of_ble_eq_true rfl) ?_
  intro X hX hN hE
  show hh_V X 0 [(0, .ref 0), (1, .int a1)] [] 0 0 (hx s rd J I)
  unfold x_X0_journey at hf
  refine hv_iload_n hX dX0_journey_0 rfl 1 rfl ?_
  refine hv_iconst (v := 1) hX icx_1 dX0_journey_1 ?_
  refine hv_bipush (v := 60) hX bix_60 dX0_journey_2 ?_
  refine hx_callSi hX dX0_journey_4 (ct_X0_in a1 1 60 s rd J I _ hf) (lw_S q649 q650 q106 q651) np_X0_in rfl rfl ⟨Nat.le_of_ble_eq_true rfl, Nat.le_of_ble_eq_true rfl⟩ ⟨Nat.le_of_ble_eq_true rfl, Nat.le_of_ble_eq_true rfl⟩ (Nat.le_of_ble_eq_true rfl) ?_
  intro r1 S9 R9 J9 I9 hq
  clear hf
  obtain ⟨rfl, rfl, rfl, rfl, hf⟩ := hq
  refine hv_if_ne (tgt := 12) hX dX0_journey_7 (by decide) (fun c2 => ?_) (fun c2 => ?_)
  · replace hf := hf.2 c2
    refine hv_aload_n hX dX0_journey_12 rfl 0 rfl ?_
    refine hx_getR (v := 1) hX dX0_journey_13 fl0_10_0 (xo_c (by decide) rfl) (xR_c rfl) ?_
    refine hx_getI (v := (I 1 4)) hX dX0_journey_16 fl0_186_1 (.inl rfl) (xo_c (by decide) rfl) rfl ?_
    refine hv_istore_n (loc2 := [(2, .int (I 1 4)), (0, .ref 0), (1, .int a1)]) hX dX0_journey_19 rfl hN (Nat.le_of_ble_eq_true rfl) rfl ?_
    refine hv_aload_n hX dX0_journey_20 rfl 1 rfl ?_
    refine hx_getR (v := 1) hX dX0_journey_21 fl0_10_0 (xo_c (by decide) rfl) (xR_c rfl) ?_
    refine hv_iload_n hX dX0_journey_24 rfl 2 rfl ?_
    refine hx_putI hX dX0_journey_25 fl0_186_1 (xo_c (by decide) rfl) ?_
    refine hv_iload_n hX dX0_journey_28 rfl 0 rfl ?_
    exact hx_iret hX hE dX0_journey_29 ⟨rfl, rfl, rfl, hf⟩
  · replace hf := hf.1 c2
    refine hv_iconst (v := (-1)) hX icx_m1 dX0_journey_10 ?_
    exact hx_iret hX hE dX0_journey_11 ⟨rfl, rfl, rfl, hf⟩
/-! HungryHedge.broughtIn(II)I -/
def x_X0_broughtIn_l5 (Q : Int32 → Prop) : Nat → Int32 → Int32 → Int32 → Int32 → xS → xRd → mJ → mI → Prop
  | 0, _, _, _, _, _, _, _, _ => False
  | n + 1, a1, a2, a3, a4, s, rd, J, I =>
    (a2 ≤ a4 →
      Q a3 ) ∧ (¬ a2 ≤ a4 →
      vp_in a1 4 ∧ (x_X1_brings a1 ((I 3 a1.toNatClampNeg) - a4) s rd J I (fun r2 => x_X0_broughtIn_l5 Q   n a1 a2 (a3 + r2) (a4 + 1) s rd J I)))
theorem w_X0_broughtIn_l5 {X : hh_CX} {S0 : xS} {R0 : xRd} {J0 : mJ} {I0 : mI} {Q : Int32 → Prop} (hX : hh_C X cX0_broughtIn RX0 (hrx 1 22 0 0)) (hN : hh_nL X = 5) (hE : hh_E X (some .int) (xQi (fun r9 S9 R9 J9 I9 => S0 = S9 ∧ R0 = R9 ∧ J0 = J9 ∧ I0 = I9 ∧ Q r9)) 0 0) : ∀ (n : Nat) (a1 : Int32) (a2 : Int32) (a3 : Int32) (a4 : Int32) (s : xS) (rd : xRd) (J : mJ) (I : mI), s = S0 → rd = R0 → J = J0 → I = I0 → x_X0_broughtIn_l5 Q  n a1 a2 a3 a4 s rd J I → hh_V X 5 [(0, .ref 0), (1, .int a1), (2, .int a2), (3, .int a3), (4, .int a4)] [] 0 0 (hx s rd J I) := by
  intro n
  induction n with
  | zero => intro _ _ _ _ _ _ _ _ _ _ _ _ hf; exact hf.elim
  | succ n ih =>
    intro a1 a2 a3 a4 s rd J I e0 e1 e2 e3 hf
    subst e0
    subst e1
    subst e2
    subst e3
    unfold x_X0_broughtIn_l5 at hf
    refine hv_iload hX dX0_broughtIn_5 4 rfl ?_
    refine hv_iload_n hX dX0_broughtIn_7 rfl 2 rfl ?_
    refine hv_icmp_ge (tgt := 40) hX dX0_broughtIn_8 (by decide) (fun c1 => ?_) (fun c1 => ?_)
    · replace hf := hf.1 c1
      refine hv_iload_n hX dX0_broughtIn_40 rfl 3 rfl ?_
      exact hx_iret hX hE dX0_broughtIn_41 ⟨rfl, rfl, rfl, rfl, hf⟩
    · replace hf := hf.2 c1
      refine hv_iload_n hX dX0_broughtIn_11 rfl 3 rfl ?_
      refine hv_aload_n hX dX0_broughtIn_12 rfl 0 rfl ?_
      refine hx_getR (v := 1) hX dX0_broughtIn_13 fl0_10_0 (xo_c (by decide) rfl) (xR_c rfl) ?_
      refine hv_iload_n hX dX0_broughtIn_16 rfl 1 rfl ?_
      refine hv_aload_n hX dX0_broughtIn_17 rfl 0 rfl ?_
      refine hx_getR (v := 1) hX dX0_broughtIn_18 fl0_10_0 (xo_c (by decide) rfl) (xR_c rfl) ?_
      refine hx_getR (v := 3) hX dX0_broughtIn_21 fl0_118_1 (xo_c (by decide) rfl) (xR_c rfl) ?_
      refine hv_iload_n hX dX0_broughtIn_24 rfl 1 rfl ?_
      obtain ⟨g, hf⟩ := hf
      refine hx_iald (v := (I 3 a1.toNatClampNeg)) hX dX0_broughtIn_25 (xo_c (by decide) rfl) (xlen_c (by decide) rfl) g rfl ?_
      refine hv_iload hX dX0_broughtIn_26 4 rfl ?_
      refine hv_isub hX dX0_broughtIn_28 ?_
      refine hx_callVi (ci := 1) (q := (RX1, TX1, 17)) hX dX0_broughtIn_29 (ct_X1_brings a1 ((I 3 a1.toNatClampNeg) - a4) s rd J I _ hf) (lw_V q664 q665 q666 q107 q667) rfl (by decide) ⟨rfl, np_X1_brings⟩ rfl (xo_c (by decide) rfl) rfl ⟨Nat.le_of_ble_eq_true rfl, Nat.le_of_ble_eq_true rfl⟩ ⟨Nat.le_of_ble_eq_true rfl, Nat.le_of_ble_eq_true rfl⟩ (Nat.le_of_ble_eq_true rfl) ?_
      intro r2 S9 R9 J9 I9 hq
      clear hf
      obtain ⟨rfl, rfl, rfl, rfl, hf⟩ := hq
      refine hv_iadd hX dX0_broughtIn_32 ?_
      refine hv_istore_n (loc2 := [(3, .int (a3 + r2)), (0, .ref 0), (1, .int a1), (2, .int a2), (4, .int a4)]) hX dX0_broughtIn_33 rfl hN (Nat.le_of_ble_eq_true rfl) rfl ?_
      refine hv_iinc (v := (a4 + 1)) (loc2 := [(4, .int (a4 + 1)), (3, .int (a3 + r2)), (0, .ref 0), (1, .int a1), (2, .int a2)]) hX dX0_broughtIn_34 4 rfl (congrArg (fun y => a4 + y) icx_1) hN (Nat.le_of_ble_eq_true rfl) rfl ?_
      refine hv_goto (tgt := 5) hX dX0_broughtIn_37 (by decide) ?_
      refine hv_fewer [2, 3, 4, 1, 0] (loc2 := [(0, .ref 0), (1, .int a1), (2, .int a2), (3, .int (a3 + r2)), (4, .int (a4 + 1))]) rfl ?_
      exact ih _ _ _ _ _ _ _ _ rfl rfl rfl rfl hf
def x_X0_broughtIn (a1 : Int32) (a2 : Int32) (s : xS) (rd : xRd) (J : mJ) (I : mI) (Q : Int32 → Prop) : Prop :=
  ∃ n0 : Nat, x_X0_broughtIn_l5 Q   n0 a1 a2 0 0 s rd J I
theorem ct_X0_broughtIn  (a1 : Int32) (a2 : Int32) (s : xS) (rd : xRd) (J : mJ) (I : mI) (Q : Int32 → Prop) (hf : x_X0_broughtIn a1 a2 s rd J I Q) : hh_Ct yX0_broughtIn cX0_broughtIn 5 (some .int) 1 22 [.ref 0, .int a1, .int a2] (hx s rd J I) (xQi (fun r9 S9 R9 J9 I9 => s = S9 ∧ rd = R9 ∧ J = J9 ∧ I = I9 ∧ Q r9)) 0 0 := by
  refine hh_Ct.of (own := RX0) rfl (by decide +kernel) (Nat.le_of_ble_eq_true rfl) ?_
  intro X hX hN hE
  show hh_V X 0 [(0, .ref 0), (1, .int a1), (2, .int a2)] [] 0 0 (hx s rd J I)
  unfold x_X0_broughtIn at hf
  refine hv_iconst (v := 0) hX icx_0 dX0_broughtIn_0 ?_
  refine hv_istore_n (loc2 := [(3, .int 0), (0, .ref 0), (1, .int a1), (2, .int a2)]) hX dX0_broughtIn_1 rfl hN (Nat.le_of_ble_eq_true rfl) rfl ?_
  refine hv_iconst (v := 0) hX icx_0 dX0_broughtIn_2 ?_
  refine hv_istore (loc2 := [(4, .int 0), (3, .int 0), (0, .ref 0), (1, .int a1), (2, .int a2)]) hX dX0_broughtIn_3 hN (Nat.le_of_ble_eq_true rfl) rfl ?_
  refine hv_fewer [2, 3, 4, 1, 0] (loc2 := [(0, .ref 0), (1, .int a1), (2, .int a2), (3, .int 0), (4, .int 0)]) rfl ?_
  obtain ⟨n0, hf⟩ := hf
  exact w_X0_broughtIn_l5 hX hN hE  n0 _ _ _ _ _ _ _ _ rfl rfl rfl rfl hf
/-! HungryHedge$Round.tries(III)V -/
def x_X4_tries_j99 (Q : mI → Prop) (pf : Int32 → Int32 → Int32 → xS → xRd → mJ → mI → (mI → Prop) → Prop) (a2 : Int32) (a3 : Int32) (s : xS) (rd : xRd) (J : mJ) (I : mI) : Prop :=
  (¬ (0 : Int32) < 0 ∧ ¬ (0 : Int32) < 0 ∧ ¬ (4 : Int32) < 0 ∧ (0 : Int32).toNatClampNeg + (4 : Int32).toNatClampNeg ≤ (xlen s 71) ∧ (0 : Int32).toNatClampNeg + (4 : Int32).toNatClampNeg ≤ (xlen s 72)) ∧ (∀ I3 : mI, I3 = (ur (u2 (u2 I 70 2 a2) 70 3 a3) 72 (va_cpy ((u2 (u2 I 70 2 a2) 70 3 a3) 71) ((u2 (u2 I 70 2 a2) 70 3 a3) 72) (0 : Int32).toNatClampNeg (0 : Int32).toNatClampNeg (4 : Int32).toNatClampNeg)) → (Q I3))
theorem w_X4_tries_j99 {X : hh_CX} {pf : Int32 → Int32 → Int32 → xS → xRd → mJ → mI → (mI → Prop) → Prop} {F L : Nat} {S0 : xS} {R0 : xRd} {J0 : mJ} {Q : mI → Prop} (hX : hh_C X cX4_tries RX4 (hrx (F + 2) (L + 200) 0 0)) (hN : hh_nL X = 5) (hE : hh_E X none (xQv (fun S9 R9 J9 I9 => S0 = S9 ∧ R0 = R9 ∧ J0 = J9 ∧ Q I9)) 0 0) (hpf : ∀ (c1 : Int32) (c2 : Int32) (c3 : Int32) (s : xS) (rd : xRd) (J : mJ) (I : mI) (Q : mI → Prop), pf c1 c2 c3 s rd J I Q → hh_Ct yX4_tries cX4_tries 5 none F L [.ref 70, .int c1, .int c2, .int c3] (hx s rd J I) (xQv (fun S9 R9 J9 I9 => s = S9 ∧ rd = R9 ∧ J = J9 ∧ Q I9)) 0 0) : ∀ (a2 : Int32) (a3 : Int32) (s : xS) (rd : xRd) (J : mJ) (I : mI), s = S0 → rd = R0 → J = J0 → x_X4_tries_j99 Q pf  a2 a3 s rd J I → hh_V X 99 [(0, .ref 70), (2, .int a2), (3, .int a3)] [] 0 0 (hx s rd J I) := by
  intro a2 a3 s rd J I e0 e1 e2 hf
  subst e0
  subst e1
  subst e2
  unfold x_X4_tries_j99 at hf
  refine hv_aload_n hX dX4_tries_99 rfl 0 rfl ?_
  refine hv_iload_n hX dX4_tries_100 rfl 1 rfl ?_
  refine hx_putI hX dX4_tries_101 fl4_46_4 (xo_c (by decide) rfl) ?_
  refine hv_aload_n hX dX4_tries_104 rfl 0 rfl ?_
  refine hv_iload_n hX dX4_tries_105 rfl 2 rfl ?_
  refine hx_putI hX dX4_tries_106 fl4_43_4 (xo_c (by decide) rfl) ?_
  refine hv_aload_n hX dX4_tries_109 rfl 0 rfl ?_
  refine hx_getR (v := 71) hX dX4_tries_110 fl4_15_4 (xo_c (by decide) rfl) (xR_c rfl) ?_
  refine hv_iconst (v := 0) hX icx_0 dX4_tries_113 ?_
  refine hv_aload_n hX dX4_tries_114 rfl 0 rfl ?_
  refine hx_getR (v := 72) hX dX4_tries_115 fl4_19_4 (xo_c (by decide) rfl) (xR_c rfl) ?_
  refine hv_iconst (v := 0) hX icx_0 dX4_tries_118 ?_
  refine hv_iconst (v := 4) hX icx_4 dX4_tries_119 ?_
  obtain ⟨g, hf⟩ := hf
  refine hx_copyI hX dX4_tries_120 q791 q690 q689 q126 (xo_c (by decide) rfl) (xo_c (by decide) rfl) g ⟨by dsimp only [hrx]; omega, Nat.le_trans (m := 100) (Nat.le_of_ble_eq_true rfl) (by dsimp only [hrx]; omega)⟩ ?_
  refine hx_nmI (fun I3 eI3 => ?_)
  replace hf := hf I3 eI3
  exact hx_vret hX hE dX4_tries_123 ⟨rfl, rfl, rfl, hf⟩
def x_X4_tries_l17 (Q : mI → Prop) (pf : Int32 → Int32 → Int32 → xS → xRd → mJ → mI → (mI → Prop) → Prop) : Nat → Int32 → Int32 → Int32 → Int32 → xS → xRd → mJ → mI → Prop
  | 0, _, _, _, _, _, _, _, _ => False
  | n + 1, a1, a2, a3, a4, s, rd, J, I =>
    vp_in a1 4 ∧ (((I 3 a1.toNatClampNeg) < a4 →
      Q I) ∧ (¬ (I 3 a1.toNatClampNeg) < a4 →
      vp_in a1 4 ∧ (x_X0_broughtIn a1 a4 s rd J (u2 I 71 a1.toNatClampNeg a4) (fun r6 => pf (a1 + 1) (a2 + r6) (a3 + a4) s rd J (u2 I 71 a1.toNatClampNeg a4) (fun I7 => x_X4_tries_l17 Q pf   n a1 a2 a3 (a4 + 1) s rd J I7)))))
theorem w_X4_tries_l17 {X : hh_CX} {pf : Int32 → Int32 → Int32 → xS → xRd → mJ → mI → (mI → Prop) → Prop} {F L : Nat} {S0 : xS} {R0 : xRd} {J0 : mJ} {Q : mI → Prop} (hX : hh_C X cX4_tries RX4 (hrx (F + 2) (L + 200) 0 0)) (hN : hh_nL X = 5) (hE : hh_E X none (xQv (fun S9 R9 J9 I9 => S0 = S9 ∧ R0 = R9 ∧ J0 = J9 ∧ Q I9)) 0 0) (hpf : ∀ (c1 : Int32) (c2 : Int32) (c3 : Int32) (s : xS) (rd : xRd) (J : mJ) (I : mI) (Q : mI → Prop), pf c1 c2 c3 s rd J I Q → hh_Ct yX4_tries cX4_tries 5 none F L [.ref 70, .int c1, .int c2, .int c3] (hx s rd J I) (xQv (fun S9 R9 J9 I9 => s = S9 ∧ rd = R9 ∧ J = J9 ∧ Q I9)) 0 0) : ∀ (n : Nat) (a1 : Int32) (a2 : Int32) (a3 : Int32) (a4 : Int32) (s : xS) (rd : xRd) (J : mJ) (I : mI), s = S0 → rd = R0 → J = J0 → x_X4_tries_l17 Q pf  n a1 a2 a3 a4 s rd J I → hh_V X 17 [(0, .ref 70), (1, .int a1), (2, .int a2), (3, .int a3), (4, .int a4)] [] 0 0 (hx s rd J I) := by
  intro n
  induction n with
  | zero => intro _ _ _ _ _ _ _ _ _ _ _ hf; exact hf.elim
  | succ n ih =>
    intro a1 a2 a3 a4 s rd J I e0 e1 e2 hf
    subst e0
    subst e1
    subst e2
    unfold x_X4_tries_l17 at hf
    refine hv_iload hX dX4_tries_17 4 rfl ?_
    refine hv_aload_n hX dX4_tries_19 rfl 0 rfl ?_
    refine hx_getR (v := 0) hX dX4_tries_20 fl4_3_4 (xo_c (by decide) rfl) (xR_c rfl) ?_
    refine hx_getR (v := 1) hX dX4_tries_23 fl4_22_0 (xo_c (by decide) rfl) (xR_c rfl) ?_
    refine hx_getR (v := 3) hX dX4_tries_26 fl4_32_1 (xo_c (by decide) rfl) (xR_c rfl) ?_
    refine hv_iload_n hX dX4_tries_29 rfl 1 rfl ?_
    obtain ⟨g, hf⟩ := hf
    refine hx_iald (v := (I 3 a1.toNatClampNeg)) hX dX4_tries_30 (xo_c (by decide) rfl) (xlen_c (by decide) rfl) g rfl ?_
    refine hv_icmp_gt (tgt := 71) hX dX4_tries_31 (by decide) (fun c5 => ?_) (fun c5 => ?_)
    · replace hf := hf.1 c5
      exact hx_vret hX hE dX4_tries_71 ⟨rfl, rfl, rfl, hf⟩
    · replace hf := hf.2 c5
      refine hv_aload_n hX dX4_tries_34 rfl 0 rfl ?_
      refine hx_getR (v := 71) hX dX4_tries_35 fl4_15_4 (xo_c (by decide) rfl) (xR_c rfl) ?_
      refine hv_iload_n hX dX4_tries_38 rfl 1 rfl ?_
      refine hv_iload hX dX4_tries_39 4 rfl ?_
      obtain ⟨g, hf⟩ := hf
      refine hx_iast hX dX4_tries_41 (xo_c (by decide) rfl) (xlen_c (by decide) rfl) g ?_
      refine hv_aload_n hX dX4_tries_42 rfl 0 rfl ?_
      refine hv_iload_n hX dX4_tries_43 rfl 1 rfl ?_
      refine hv_iconst (v := 1) hX icx_1 dX4_tries_44 ?_
      refine hv_iadd hX dX4_tries_45 ?_
      refine hv_iload_n hX dX4_tries_46 rfl 2 rfl ?_
      refine hv_aload_n hX dX4_tries_47 rfl 0 rfl ?_
      refine hx_getR (v := 0) hX dX4_tries_48 fl4_3_4 (xo_c (by decide) rfl) (xR_c rfl) ?_
      refine hv_iload_n hX dX4_tries_51 rfl 1 rfl ?_
      refine hv_iload hX dX4_tries_52 4 rfl ?_
      refine hx_callVNi (ci := 0) (q := (RX0, TX0, 19)) hX dX4_tries_54 (ct_X0_broughtIn a1 a4 s rd J (u2 I 71 a1.toNatClampNeg a4) _ hf) (hh_nwm q787 rfl) q790 q106 q789 qs8 rfl (by decide) np_X0_broughtIn rfl (xo_c (by decide) rfl) rfl ⟨by dsimp only [hrx]; omega, by dsimp only [hrx]; omega⟩ ⟨Nat.le_of_ble_eq_true rfl, Nat.le_of_ble_eq_true rfl⟩ (Nat.le_of_ble_eq_true rfl) ?_
      intro r6 S9 R9 J9 I9 hq
      clear hf
      obtain ⟨rfl, rfl, rfl, rfl, hf⟩ := hq
      refine hv_iadd hX dX4_tries_57 ?_
      refine hv_iload_n hX dX4_tries_58 rfl 3 rfl ?_
      refine hv_iload hX dX4_tries_59 4 rfl ?_
      refine hv_iadd hX dX4_tries_61 ?_
      refine hx_callVv (ci := 4) (q := (RX4, TX4, 5)) hX dX4_tries_62 (hpf (a1 + 1) (a2 + r6) (a3 + a4) s rd J (u2 I 71 a1.toNatClampNeg a4) _ hf) (lw_V q783 q785 qs7 q110 q786) rfl (by decide) ⟨rfl, np_X4_tries⟩ rfl (xo_c (by decide) rfl) rfl ⟨by dsimp only [hrx]; omega, by dsimp only [hrx]; omega⟩ ⟨Nat.le_of_ble_eq_true rfl, Nat.le_of_ble_eq_true rfl⟩ (Nat.le_of_ble_eq_true rfl) ?_
      intro  S9 R9 J9 I7 hq
      clear hf
      obtain ⟨rfl, rfl, rfl, hf⟩ := hq
      refine hv_iinc (v := (a4 + 1)) (loc2 := [(4, .int (a4 + 1)), (0, .ref 70), (1, .int a1), (2, .int a2), (3, .int a3)]) hX dX4_tries_65 4 rfl (congrArg (fun y => a4 + y) icx_1) hN (Nat.le_of_ble_eq_true rfl) rfl ?_
      refine hv_goto (tgt := 17) hX dX4_tries_68 (by decide) ?_
      refine hv_fewer [1, 2, 3, 4, 0] (loc2 := [(0, .ref 70), (1, .int a1), (2, .int a2), (3, .int a3), (4, .int (a4 + 1))]) rfl ?_
      exact ih _ _ _ _ _ _ _ _ rfl rfl rfl hf
def x_X4_tries_b (pf : Int32 → Int32 → Int32 → xS → xRd → mJ → mI → (mI → Prop) → Prop) (a1 : Int32) (a2 : Int32) (a3 : Int32) (s : xS) (rd : xRd) (J : mJ) (I : mI) (Q : mI → Prop) : Prop :=
  ((I 1 0) ≤ a1 →
    ((I 70 3) = 0 →
      x_X4_tries_j99 Q pf   a2 a3 s rd J I) ∧ (¬ (I 70 3) = 0 →
      ((lg_cmp ((a2.toInt64) * ((I 70 3).toInt64)) (((I 70 2).toInt64) * (a3.toInt64))) ≤ 0 →
        Q I) ∧ (¬ (lg_cmp ((a2.toInt64) * ((I 70 3).toInt64)) (((I 70 2).toInt64) * (a3.toInt64))) ≤ 0 →
        x_X4_tries_j99 Q pf   a2 a3 s rd J I))) ∧ (¬ (I 1 0) ≤ a1 →
    ∃ n0 : Nat, x_X4_tries_l17 Q pf   n0 a1 a2 a3 0 s rd J I)
theorem ct_X4_tries_b {pf : Int32 → Int32 → Int32 → xS → xRd → mJ → mI → (mI → Prop) → Prop} {F L : Nat}  (hpf : ∀ (c1 : Int32) (c2 : Int32) (c3 : Int32) (s : xS) (rd : xRd) (J : mJ) (I : mI) (Q : mI → Prop), pf c1 c2 c3 s rd J I Q → hh_Ct yX4_tries cX4_tries 5 none F L [.ref 70, .int c1, .int c2, .int c3] (hx s rd J I) (xQv (fun S9 R9 J9 I9 => s = S9 ∧ rd = R9 ∧ J = J9 ∧ Q I9)) 0 0) (a1 : Int32) (a2 : Int32) (a3 : Int32) (s : xS) (rd : xRd) (J : mJ) (I : mI) (Q : mI → Prop) (hf : x_X4_tries_b pf a1 a2 a3 s rd J I Q) : hh_Ct yX4_tries cX4_tries 5 none (F + 2) (L + 200) [.ref 70, .int a1, .int a2, .int a3] (hx s rd J I) (xQv (fun S9 R9 J9 I9 => s = S9 ∧ rd = R9 ∧ J = J9 ∧ Q I9)) 0 0 := by
  refine hh_Ct.of (own := RX4) rfl (by decide +kernel) (Nat.le_of_ble_eq_true rfl) ?_
  intro X hX hN hE
  show hh_V X 0 [(0, .ref 70), (1, .int a1), (2, .int a2), (3, .int a3)] [] 0 0 (hx s rd J I)
  unfold x_X4_tries_b at hf
  refine hv_iload_n hX dX4_tries_0 rfl 1 rfl ?_
  refine hv_aload_n hX dX4_tries_1 rfl 0 rfl ?_
  refine hx_getR (v := 0) hX dX4_tries_2 fl4_3_4 (xo_c (by decide) rfl) (xR_c rfl) ?_
  refine hx_getR (v := 1) hX dX4_tries_5 fl4_22_0 (xo_c (by decide) rfl) (xR_c rfl) ?_
  refine hx_getI (v := (I 1 0)) hX dX4_tries_8 fl4_26_1 (.inl rfl) (xo_c (by decide) rfl) rfl ?_
  refine hv_icmp_ge (tgt := 72) hX dX4_tries_11 (by decide) (fun c1 => ?_) (fun c1 => ?_)
  · replace hf := hf.1 c1
    refine hv_aload_n hX dX4_tries_72 rfl 0 rfl ?_
    refine hx_getI (v := (I 70 3)) hX dX4_tries_73 fl4_43_4 (.inl rfl) (xo_c (by decide) rfl) rfl ?_
    refine hv_if_eq (tgt := 99) hX dX4_tries_76 (by decide) (fun c2 => ?_) (fun c2 => ?_)
    · replace hf := hf.1 c2
      refine hv_fewer [0, 2, 3] (loc2 := [(0, .ref 70), (2, .int a2), (3, .int a3)]) rfl ?_
      exact w_X4_tries_j99 hX hN hE hpf  _ _ _ _ _ _ rfl rfl rfl hf
    · replace hf := hf.2 c2
      refine hv_iload_n hX dX4_tries_79 rfl 2 rfl ?_
      refine hv_i2l hX dX4_tries_80 ?_
      refine hv_aload_n hX dX4_tries_81 rfl 0 rfl ?_
      refine hx_getI (v := (I 70 3)) hX dX4_tries_82 fl4_43_4 (.inl rfl) (xo_c (by decide) rfl) rfl ?_
      refine hv_i2l hX dX4_tries_85 ?_
      refine hv_lmul hX dX4_tries_86 ?_
      refine hv_aload_n hX dX4_tries_87 rfl 0 rfl ?_
      refine hx_getI (v := (I 70 2)) hX dX4_tries_88 fl4_46_4 (.inl rfl) (xo_c (by decide) rfl) rfl ?_
      refine hv_i2l hX dX4_tries_91 ?_
      refine hv_iload_n hX dX4_tries_92 rfl 3 rfl ?_
      refine hv_i2l hX dX4_tries_93 ?_
      refine hv_lmul hX dX4_tries_94 ?_
      refine hv_lcmp hX dX4_tries_95 ?_
      refine hv_if_le (tgt := 123) hX dX4_tries_96 (by decide) (fun c4 => ?_) (fun c4 => ?_)
      · replace hf := hf.1 c4
        exact hx_vret hX hE dX4_tries_123 ⟨rfl, rfl, rfl, hf⟩
      · replace hf := hf.2 c4
        refine hv_fewer [0, 2, 3] (loc2 := [(0, .ref 70), (2, .int a2), (3, .int a3)]) rfl ?_
        exact w_X4_tries_j99 hX hN hE hpf  _ _ _ _ _ _ rfl rfl rfl hf
  · replace hf := hf.2 c1
    refine hv_iconst (v := 0) hX icx_0 dX4_tries_14 ?_
    refine hv_istore (loc2 := [(4, .int 0), (0, .ref 70), (1, .int a1), (2, .int a2), (3, .int a3)]) hX dX4_tries_15 hN (Nat.le_of_ble_eq_true rfl) rfl ?_
    refine hv_fewer [1, 2, 3, 4, 0] (loc2 := [(0, .ref 70), (1, .int a1), (2, .int a2), (3, .int a3), (4, .int 0)]) rfl ?_
    obtain ⟨n0, hf⟩ := hf
    exact w_X4_tries_l17 hX hN hE hpf  n0 _ _ _ _ _ _ _ _ rfl rfl rfl hf
def x_X4_tries : Nat → Int32 → Int32 → Int32 → xS → xRd → mJ → mI → (mI → Prop) → Prop
  | 0, _, _, _, _, _, _, _, _ => False
  | n + 1, a1, a2, a3, s, rd, J, I, Q => x_X4_tries_b (fun a1 a2 a3 s rd J I Q => x_X4_tries n a1 a2 a3 s rd J I Q) a1 a2 a3 s rd J I Q
theorem ct_X4_tries : ∀ (n : Nat) (a1 : Int32) (a2 : Int32) (a3 : Int32) (s : xS) (rd : xRd) (J : mJ) (I : mI) (Q : mI → Prop), x_X4_tries n a1 a2 a3 s rd J I Q → hh_Ct yX4_tries cX4_tries 5 none (2 * n) (200 * n) [.ref 70, .int a1, .int a2, .int a3] (hx s rd J I) (xQv (fun S9 R9 J9 I9 => s = S9 ∧ rd = R9 ∧ J = J9 ∧ Q I9)) 0 0 := by
  intro n
  induction n with
  | zero => intro _ _ _ _ _ _ _ _ hf; exact hf.elim
  | succ n ih =>
    intro a1 a2 a3 s rd J I Q hf
    exact ct_X4_tries_b (F := 2 * n) (L := 200 * n) ih a1 a2 a3 s rd J I Q hf
/-! HungryHedge$Round.finds()V -/
def x_X4_finds  (s : xS) (rd : xRd) (J : mJ) (I : mI) (Q : mI → Prop) : Prop :=
  x_X4_tries 6 0 0 (I 1 4) s rd J (u2 I 70 3 0) (fun I1 => Q I1)
theorem ct_X4_finds   (s : xS) (rd : xRd) (J : mJ) (I : mI) (Q : mI → Prop) (hf : x_X4_finds  s rd J I Q) : hh_Ct yX4_finds cX4_finds 1 none 13 1224 [.ref 70] (hx s rd J I) (xQv (fun S9 R9 J9 I9 => s = S9 ∧ rd = R9 ∧ J = J9 ∧ Q I9)) 0 0 := by
  refine hh_Ct.of (own := RX4) rfl (by decide +kernel) (Nat.le_of_ble_eq_true rfl) ?_
  intro X hX hN hE
  show hh_V X 0 [(0, .ref 70)] [] 0 0 (hx s rd J I)
  unfold x_X4_finds at hf
  refine hv_aload_n hX dX4_finds_0 rfl 0 rfl ?_
  refine hv_iconst (v := 0) hX icx_0 dX4_finds_1 ?_
  refine hx_putI hX dX4_finds_2 fl4_43_4 (xo_c (by decide) rfl) ?_
  refine hv_aload_n hX dX4_finds_5 rfl 0 rfl ?_
  refine hv_iconst (v := 0) hX icx_0 dX4_finds_6 ?_
  refine hv_iconst (v := 0) hX icx_0 dX4_finds_7 ?_
  refine hv_aload_n hX dX4_finds_8 rfl 0 rfl ?_
  refine hx_getR (v := 0) hX dX4_finds_9 fl4_3_4 (xo_c (by decide) rfl) (xR_c rfl) ?_
  refine hx_getR (v := 1) hX dX4_finds_12 fl4_22_0 (xo_c (by decide) rfl) (xR_c rfl) ?_
  refine hx_getI (v := (I 1 4)) hX dX4_finds_15 fl4_55_1 (.inl rfl) (xo_c (by decide) rfl) ((u2_ne _ _ (.inl (by decide)))) ?_
  refine hx_callVv (ci := 4) (q := (RX4, TX4, 5)) hX dX4_finds_18 (ct_X4_tries 6 0 0 (I 1 4) s rd J (u2 I 70 3 0) _ hf) (lw_V q783 q785 qs7 q110 q786) rfl (by decide) ⟨rfl, np_X4_tries⟩ rfl (xo_c (by decide) rfl) rfl ⟨Nat.le_of_ble_eq_true rfl, Nat.le_of_ble_eq_true rfl⟩ ⟨Nat.le_of_ble_eq_true rfl, Nat.le_of_ble_eq_true rfl⟩ (Nat.le_of_ble_eq_true rfl) ?_
  intro  S9 R9 J9 I1 hq
  clear hf
  obtain ⟨rfl, rfl, rfl, hf⟩ := hq
  exact hx_vret hX hE dX4_finds_21 ⟨rfl, rfl, rfl, hf⟩
/-! HungryHedge.divisor(JJ)J -/
def x_X0_divisor_l6 (Q : Int64 → Prop) : Nat → Int64 → Int64 → xS → xRd → mJ → mI → Prop
  | 0, _, _, _, _, _, _ => False
  | n + 1, a4, a6, s, rd, J, I =>
    ((lg_cmp a6 0) = 0 →
      Q a4 ) ∧ (¬ (lg_cmp a6 0) = 0 →
      ¬ a6 = 0 ∧ (x_X0_divisor_l6 Q   n a6 (a4 - a4 / a6 * a6) s rd J I))
theorem w_X0_divisor_l6 {X : hh_CX} {S0 : xS} {R0 : xRd} {J0 : mJ} {I0 : mI} {Q : Int64 → Prop} (hX : hh_C X cX0_divisor RX0 (hrx 0 0 0 0)) (hN : hh_nL X = 10) (hE : hh_E X (some .long) (xQl (fun r9 S9 R9 J9 I9 => S0 = S9 ∧ R0 = R9 ∧ J0 = J9 ∧ I0 = I9 ∧ Q r9)) 0 0) : ∀ (n : Nat) (a4 : Int64) (a6 : Int64) (s : xS) (rd : xRd) (J : mJ) (I : mI), s = S0 → rd = R0 → J = J0 → I = I0 → x_X0_divisor_l6 Q  n a4 a6 s rd J I → hh_V X 6 [(4, .long a4), (6, .long a6)] [] 0 0 (hx s rd J I) := by
  intro n
  induction n with
  | zero => intro _ _ _ _ _ _ _ _ _ _ hf; exact hf.elim
  | succ n ih =>
    intro a4 a6 s rd J I e0 e1 e2 e3 hf
    subst e0
    subst e1
    subst e2
    subst e3
    unfold x_X0_divisor_l6 at hf
    refine hv_lload hX dX0_divisor_6 1 rfl ?_
    refine hv_lconst (v := 0) hX rfl dX0_divisor_8 ?_
    refine hv_lcmp hX dX0_divisor_9 ?_
    refine hv_if_eq (tgt := 31) hX dX0_divisor_10 (by decide) (fun c1 => ?_) (fun c1 => ?_)
    · replace hf := hf.1 c1
      refine hv_lload hX dX0_divisor_31 0 rfl ?_
      exact hx_lret hX hE dX0_divisor_33 ⟨rfl, rfl, rfl, rfl, hf⟩
    · replace hf := hf.2 c1
      refine hv_lload hX dX0_divisor_13 0 rfl ?_
      refine hv_lload hX dX0_divisor_15 1 rfl ?_
      obtain ⟨g, hf⟩ := hf
      refine hv_lrem hX g dX0_divisor_17 ?_
      refine hv_lstore (loc2 := [(8, .long (a4 - a4 / a6 * a6)), (4, .long a4), (6, .long a6)]) hX dX0_divisor_18 hN (Nat.le_of_ble_eq_true rfl) rfl ?_
      refine hv_lload hX dX0_divisor_20 2 rfl ?_
      refine hv_lstore (loc2 := [(4, .long a6), (8, .long (a4 - a4 / a6 * a6)), (6, .long a6)]) hX dX0_divisor_22 hN (Nat.le_of_ble_eq_true rfl) rfl ?_
      refine hv_lload hX dX0_divisor_24 1 rfl ?_
      refine hv_lstore (loc2 := [(6, .long (a4 - a4 / a6 * a6)), (4, .long a6), (8, .long (a4 - a4 / a6 * a6))]) hX dX0_divisor_26 hN (Nat.le_of_ble_eq_true rfl) rfl ?_
      refine hv_goto (tgt := 6) hX dX0_divisor_28 (by decide) ?_
      refine hv_fewer [1, 0] (loc2 := [(4, .long a6), (6, .long (a4 - a4 / a6 * a6))]) rfl ?_
      exact ih _ _ _ _ _ _ rfl rfl rfl rfl hf
def x_X0_divisor (a0 : Int64) (a2 : Int64) (s : xS) (rd : xRd) (J : mJ) (I : mI) (Q : Int64 → Prop) : Prop :=
  ∃ n0 : Nat, x_X0_divisor_l6 Q   n0 a0 a2 s rd J I
theorem ct_X0_divisor  (a0 : Int64) (a2 : Int64) (s : xS) (rd : xRd) (J : mJ) (I : mI) (Q : Int64 → Prop) (hf : x_X0_divisor a0 a2 s rd J I Q) : hh_Ct yX0_divisor cX0_divisor 10 (some .long) 0 0 [.long a0, .long a2] (hx s rd J I) (xQl (fun r9 S9 R9 J9 I9 => s = S9 ∧ rd = R9 ∧ J = J9 ∧ I = I9 ∧ Q r9)) 0 0 := by
  refine hh_Ct.of (own := RX0) rfl (by decide +kernel) (Nat.le_of_ble_eq_true rfl) ?_
  intro X hX hN hE
  show hh_V X 0 [(0, .long a0), (2, .long a2)] [] 0 0 (hx s rd J I)
  unfold x_X0_divisor at hf
  refine hv_lload_n hX dX0_divisor_0 rfl 0 rfl ?_
  refine hv_lstore (loc2 := [(4, .long a0), (0, .long a0), (2, .long a2)]) hX dX0_divisor_1 hN (Nat.le_of_ble_eq_true rfl) rfl ?_
  refine hv_lload_n hX dX0_divisor_3 rfl 2 rfl ?_
  refine hv_lstore (loc2 := [(6, .long a2), (4, .long a0), (0, .long a0), (2, .long a2)]) hX dX0_divisor_4 hN (Nat.le_of_ble_eq_true rfl) rfl ?_
  refine hv_fewer [1, 0] (loc2 := [(4, .long a0), (6, .long a2)]) rfl ?_
  obtain ⟨n0, hf⟩ := hf
  exact w_X0_divisor_l6 hX hN hE  n0 _ _ _ _ _ _ rfl rfl rfl rfl hf
/-! HungryHedge.rate(I)I -/
def x_X0_rate (a1 : Int32) (s : xS) (rd : xRd) (J : mJ) (I : mI) (Q : Int32 → mI → Prop) : Prop :=
  x_X0_in a1 0 1 s rd J I (fun r1 => (r1 = 0 →
    Q (-1) I) ∧ (¬ r1 = 0 →
    ((I 1 0) = 0 →
      Q (-3) I) ∧ (¬ (I 1 0) = 0 →
      x_X4_finds s rd J I (fun I4 => x_X0_divisor ((I4 70 2).toInt64) ((I4 70 3).toInt64) s rd J I4 (fun r5 => (a1 = 0 →
        ¬ (r5.toInt32) = 0 ∧ (Q ((I4 70 2) / (r5.toInt32)) I4)) ∧ (¬ a1 = 0 →
        ¬ (r5.toInt32) = 0 ∧ (Q ((I4 70 3) / (r5.toInt32)) I4)))))))
theorem ct_X0_rate  (a1 : Int32) (s : xS) (rd : xRd) (J : mJ) (I : mI) (Q : Int32 → mI → Prop) (hf : x_X0_rate a1 s rd J I Q) : hh_Ct yX0_rate cX0_rate 3 (some .int) 14 1244 [.ref 0, .int a1] (hx s rd J I) (xQi (fun r9 S9 R9 J9 I9 => s = S9 ∧ rd = R9 ∧ J = J9 ∧ Q r9 I9)) 0 0 := by
  refine hh_Ct.of (own := RX0) rfl (by decide +kernel) (Nat.le_of_ble_eq_true rfl) ?_
  intro X hX hN hE
  show hh_V X 0 [(0, .ref 0), (1, .int a1)] [] 0 0 (hx s rd J I)
  unfold x_X0_rate at hf
  refine hv_iload_n hX dX0_rate_0 rfl 1 rfl ?_
  refine hv_iconst (v := 0) hX icx_0 dX0_rate_1 ?_
  refine hv_iconst (v := 1) hX icx_1 dX0_rate_2 ?_
  refine hx_callSi hX dX0_rate_3 (ct_X0_in a1 0 1 s rd J I _ hf) (lw_S q649 q650 q106 q651) np_X0_in rfl rfl ⟨Nat.le_of_ble_eq_true rfl, Nat.le_of_ble_eq_true rfl⟩ ⟨Nat.le_of_ble_eq_true rfl, Nat.le_of_ble_eq_true rfl⟩ (Nat.le_of_ble_eq_true rfl) ?_
  intro r1 S9 R9 J9 I9 hq
  clear hf
  obtain ⟨rfl, rfl, rfl, rfl, hf⟩ := hq
  refine hv_if_ne (tgt := 11) hX dX0_rate_6 (by decide) (fun c2 => ?_) (fun c2 => ?_)
  · replace hf := hf.2 c2
    refine hv_aload_n hX dX0_rate_11 rfl 0 rfl ?_
    refine hx_getR (v := 1) hX dX0_rate_12 fl0_10_0 (xo_c (by decide) rfl) (xR_c rfl) ?_
    refine hx_getI (v := (I 1 0)) hX dX0_rate_15 fl0_107_1 (.inl rfl) (xo_c (by decide) rfl) rfl ?_
    refine hv_if_ne (tgt := 24) hX dX0_rate_18 (by decide) (fun c3 => ?_) (fun c3 => ?_)
    · replace hf := hf.2 c3
      refine hv_aload_n hX dX0_rate_24 rfl 0 rfl ?_
      refine hx_getR (v := 70) hX dX0_rate_25 fl0_31_0 (xo_c (by decide) rfl) (xR_c rfl) ?_
      refine hx_callVv (ci := 4) (q := (RX4, TX4, 5)) hX dX0_rate_28 (ct_X4_finds s rd J I _ hf) (lw_V q779 q780 q781 q110 q782) rfl (by decide) ⟨rfl, np_X4_finds⟩ rfl (xo_c (by decide) rfl) rfl ⟨Nat.le_of_ble_eq_true rfl, Nat.le_of_ble_eq_true rfl⟩ ⟨Nat.le_of_ble_eq_true rfl, Nat.le_of_ble_eq_true rfl⟩ (Nat.le_of_ble_eq_true rfl) ?_
      intro  S9 R9 J9 I4 hq
      clear hf
      obtain ⟨rfl, rfl, rfl, hf⟩ := hq
      refine hv_aload_n hX dX0_rate_31 rfl 0 rfl ?_
      refine hx_getR (v := 70) hX dX0_rate_32 fl0_31_0 (xo_c (by decide) rfl) (xR_c rfl) ?_
      refine hx_getI (v := (I4 70 2)) hX dX0_rate_35 fl0_192_4 (.inl rfl) (xo_c (by decide) rfl) rfl ?_
      refine hv_i2l hX dX0_rate_38 ?_
      refine hv_aload_n hX dX0_rate_39 rfl 0 rfl ?_
      refine hx_getR (v := 70) hX dX0_rate_40 fl0_31_0 (xo_c (by decide) rfl) (xR_c rfl) ?_
      refine hx_getI (v := (I4 70 3)) hX dX0_rate_43 fl0_195_4 (.inl rfl) (xo_c (by decide) rfl) rfl ?_
      refine hv_i2l hX dX0_rate_46 ?_
      refine hx_callSl hX dX0_rate_47 (ct_X0_divisor ((I4 70 2).toInt64) ((I4 70 3).toInt64) s rd J I4 _ hf) (lw_S q792 q793 q106 q794) np_X0_divisor rfl rfl ⟨Nat.le_of_ble_eq_true rfl, Nat.le_of_ble_eq_true rfl⟩ ⟨Nat.le_of_ble_eq_true rfl, Nat.le_of_ble_eq_true rfl⟩ (Nat.le_of_ble_eq_true rfl) ?_
      intro r5 S9 R9 J9 I9 hq
      clear hf
      obtain ⟨rfl, rfl, rfl, rfl, hf⟩ := hq
      refine hv_l2i hX dX0_rate_50 ?_
      refine hv_istore_n (loc2 := [(2, .int (r5.toInt32)), (0, .ref 0), (1, .int a1)]) hX dX0_rate_51 rfl hN (Nat.le_of_ble_eq_true rfl) rfl ?_
      refine hv_iload_n hX dX0_rate_52 rfl 2 rfl ?_
      refine hv_if_ne (tgt := 68) hX dX0_rate_53 (by decide) (fun c6 => ?_) (fun c6 => ?_)
      · replace hf := hf.2 c6
        refine hv_aload_n hX dX0_rate_68 rfl 1 rfl ?_
        refine hx_getR (v := 70) hX dX0_rate_69 fl0_31_0 (xo_c (by decide) rfl) (xR_c rfl) ?_
        refine hx_getI (v := (I4 70 3)) hX dX0_rate_72 fl0_195_4 (.inl rfl) (xo_c (by decide) rfl) rfl ?_
        refine hv_iload_n hX dX0_rate_75 rfl 0 rfl ?_
        obtain ⟨g, hf⟩ := hf
        refine hv_idiv hX g dX0_rate_76 ?_
        exact hx_iret hX hE dX0_rate_77 ⟨rfl, rfl, rfl, hf⟩
      · replace hf := hf.1 c6
        refine hv_aload_n hX dX0_rate_56 rfl 1 rfl ?_
        refine hx_getR (v := 70) hX dX0_rate_57 fl0_31_0 (xo_c (by decide) rfl) (xR_c rfl) ?_
        refine hx_getI (v := (I4 70 2)) hX dX0_rate_60 fl0_192_4 (.inl rfl) (xo_c (by decide) rfl) rfl ?_
        refine hv_iload_n hX dX0_rate_63 rfl 0 rfl ?_
        obtain ⟨g, hf⟩ := hf
        refine hv_idiv hX g dX0_rate_64 ?_
        refine hv_goto (tgt := 77) hX dX0_rate_65 (by decide) ?_
        exact hx_iret hX hE dX0_rate_77 ⟨rfl, rfl, rfl, hf⟩
    · replace hf := hf.1 c3
      refine hv_bipush (v := (-3)) hX bix_m3 dX0_rate_21 ?_
      exact hx_iret hX hE dX0_rate_23 ⟨rfl, rfl, rfl, hf⟩
  · replace hf := hf.1 c2
    refine hv_iconst (v := (-1)) hX icx_m1 dX0_rate_9 ?_
    exact hx_iret hX hE dX0_rate_10 ⟨rfl, rfl, rfl, hf⟩
/-! HungryHedge.stay(I)I -/
def x_X0_stay (a1 : Int32) (s : xS) (rd : xRd) (J : mJ) (I : mI) (Q : Int32 → mI → Prop) : Prop :=
  x_X0_isPatch a1 s rd J I (fun r1 => (r1 = 0 →
    Q (-1) I) ∧ (¬ r1 = 0 →
    x_X4_finds s rd J I (fun I3 => vp_in a1 4 ∧ (Q (I3 72 a1.toNatClampNeg) I3))))
theorem ct_X0_stay  (a1 : Int32) (s : xS) (rd : xRd) (J : mJ) (I : mI) (Q : Int32 → mI → Prop) (hf : x_X0_stay a1 s rd J I Q) : hh_Ct yX0_stay cX0_stay 2 (some .int) 14 1244 [.ref 0, .int a1] (hx s rd J I) (xQi (fun r9 S9 R9 J9 I9 => s = S9 ∧ rd = R9 ∧ J = J9 ∧ Q r9 I9)) 0 0 := by
  refine hh_Ct.of (own := RX0) rfl (by decide +kernel) (Nat.le_of_ble_eq_true rfl) ?_
  intro X hX hN hE
  show hh_V X 0 [(0, .ref 0), (1, .int a1)] [] 0 0 (hx s rd J I)
  unfold x_X0_stay at hf
  refine hv_aload_n hX dX0_stay_0 rfl 0 rfl ?_
  refine hv_iload_n hX dX0_stay_1 rfl 1 rfl ?_
  refine hx_callVi (ci := 0) (q := (RX0, TX0, 19)) hX dX0_stay_2 (ct_X0_isPatch a1 s rd J I _ hf) (lw_V q656 q658 qs1 q106 q659) rfl (by decide) ⟨rfl, np_X0_isPatch⟩ rfl (xo_c (by decide) rfl) rfl ⟨Nat.le_of_ble_eq_true rfl, Nat.le_of_ble_eq_true rfl⟩ ⟨Nat.le_of_ble_eq_true rfl, Nat.le_of_ble_eq_true rfl⟩ (Nat.le_of_ble_eq_true rfl) ?_
  intro r1 S9 R9 J9 I9 hq
  clear hf
  obtain ⟨rfl, rfl, rfl, rfl, hf⟩ := hq
  refine hv_if_ne (tgt := 10) hX dX0_stay_5 (by decide) (fun c2 => ?_) (fun c2 => ?_)
  · replace hf := hf.2 c2
    refine hv_aload_n hX dX0_stay_10 rfl 0 rfl ?_
    refine hx_getR (v := 70) hX dX0_stay_11 fl0_31_0 (xo_c (by decide) rfl) (xR_c rfl) ?_
    refine hx_callVv (ci := 4) (q := (RX4, TX4, 5)) hX dX0_stay_14 (ct_X4_finds s rd J I _ hf) (lw_V q779 q780 q781 q110 q782) rfl (by decide) ⟨rfl, np_X4_finds⟩ rfl (xo_c (by decide) rfl) rfl ⟨Nat.le_of_ble_eq_true rfl, Nat.le_of_ble_eq_true rfl⟩ ⟨Nat.le_of_ble_eq_true rfl, Nat.le_of_ble_eq_true rfl⟩ (Nat.le_of_ble_eq_true rfl) ?_
    intro  S9 R9 J9 I3 hq
    clear hf
    obtain ⟨rfl, rfl, rfl, hf⟩ := hq
    refine hv_aload_n hX dX0_stay_17 rfl 0 rfl ?_
    refine hx_getR (v := 70) hX dX0_stay_18 fl0_31_0 (xo_c (by decide) rfl) (xR_c rfl) ?_
    refine hx_getR (v := 72) hX dX0_stay_21 fl0_202_4 (xo_c (by decide) rfl) (xR_c rfl) ?_
    refine hv_iload_n hX dX0_stay_24 rfl 1 rfl ?_
    obtain ⟨g, hf⟩ := hf
    refine hx_iald (v := (I3 72 a1.toNatClampNeg)) hX dX0_stay_25 (xo_c (by decide) rfl) (xlen_c (by decide) rfl) g rfl ?_
    exact hx_iret hX hE dX0_stay_26 ⟨rfl, rfl, rfl, hf⟩
  · replace hf := hf.1 c2
    refine hv_iconst (v := (-1)) hX icx_m1 dX0_stay_8 ?_
    exact hx_iret hX hE dX0_stay_9 ⟨rfl, rfl, rfl, hf⟩
/-! HungryHedge.load(III)I -/
def x_X0_load_j87 (Q : Int32 → Prop) (k35 : Int32 → Int32 → Int32 → Int32 → Int32 → xS → xRd → mJ → mI → Prop) (a1 : Int32) (a2 : Int32) (a3 : Int32) (a5 : Int32) (p0 : Int32) (s : xS) (rd : xRd) (J : mJ) (I : mI) : Prop :=
  k35 a1 a2 a3 p0 (a5 + 1) s rd J I
theorem w_X0_load_j87 {X : hh_CX} {S0 : xS} {R0 : xRd} {J0 : mJ} {I0 : mI} {Q : Int32 → Prop} (hX : hh_C X cX0_load RX0 (hrx 2 46 0 0)) (hN : hh_nL X = 8) (hE : hh_E X (some .int) (xQi (fun r9 S9 R9 J9 I9 => S0 = S9 ∧ R0 = R9 ∧ J0 = J9 ∧ I0 = I9 ∧ Q r9)) 0 0) {k35 : Int32 → Int32 → Int32 → Int32 → Int32 → xS → xRd → mJ → mI → Prop} (hk35 : ∀ (b0 : Int32) (b1 : Int32) (b2 : Int32) (b3 : Int32) (b4 : Int32) (s : xS) (rd : xRd) (J : mJ) (I : mI), s = S0 → rd = R0 → J = J0 → I = I0 → k35 b0 b1 b2 b3 b4 s rd J I → hh_V X 35 [(0, .ref 0), (1, .int b0), (2, .int b1), (3, .int b2), (4, .int b3), (5, .int b4)] [] 0 0 (hx s rd J I)) : ∀ (a1 : Int32) (a2 : Int32) (a3 : Int32) (a5 : Int32) (p0 : Int32) (s : xS) (rd : xRd) (J : mJ) (I : mI), s = S0 → rd = R0 → J = J0 → I = I0 → x_X0_load_j87 Q k35 a1 a2 a3 a5 p0 s rd J I → hh_V X 87 [(0, .ref 0), (1, .int a1), (2, .int a2), (3, .int a3), (5, .int a5)] [.int p0] 0 0 (hx s rd J I) := by
  intro a1 a2 a3 a5 p0 s rd J I e0 e1 e2 e3 hf
  subst e0
  subst e1
  subst e2
  subst e3
  unfold x_X0_load_j87 at hf
  refine hv_istore (loc2 := [(4, .int p0), (0, .ref 0), (1, .int a1), (2, .int a2), (3, .int a3), (5, .int a5)]) hX dX0_load_87 hN (Nat.le_of_ble_eq_true rfl) rfl ?_
  refine hv_iinc (v := (a5 + 1)) (loc2 := [(5, .int (a5 + 1)), (4, .int p0), (0, .ref 0), (1, .int a1), (2, .int a2), (3, .int a3)]) hX dX0_load_89 5 rfl (congrArg (fun y => a5 + y) icx_1) hN (Nat.le_of_ble_eq_true rfl) rfl ?_
  refine hv_goto (tgt := 35) hX dX0_load_92 (by decide) ?_
  refine hv_fewer [2, 3, 4, 5, 1, 0] (loc2 := [(0, .ref 0), (1, .int a1), (2, .int a2), (3, .int a3), (4, .int p0), (5, .int (a5 + 1))]) rfl ?_
  exact hk35 _ _ _ _ _ _ _ _ _ rfl rfl rfl rfl hf
def x_X0_load_l35 (Q : Int32 → Prop) : Nat → Int32 → Int32 → Int32 → Int32 → Int32 → xS → xRd → mJ → mI → Prop
  | 0, _, _, _, _, _, _, _, _, _ => False
  | n + 1, a1, a2, a3, a4, a5, s, rd, J, I =>
    vp_in a1 4 ∧ (((I 3 a1.toNatClampNeg) < a5 →
      x_X0_broughtIn a1 a4 s rd J I (fun r8 => x_X0_divisor (r8.toInt64) ((a4 + (2 * a2)).toInt64) s rd J I (fun r9 => (a3 = 0 →
        Q a4 ) ∧ (¬ a3 = 0 →
        (a3 = 1 →
          ¬ (r9.toInt32) = 0 ∧ (Q (r8 / (r9.toInt32)) )) ∧ (¬ a3 = 1 →
          ¬ (r9.toInt32) = 0 ∧ (Q ((a4 + (2 * a2)) / (r9.toInt32)) )))))) ∧ (¬ (I 3 a1.toNatClampNeg) < a5 →
      x_X0_broughtIn a1 a5 s rd J I (fun r12 => x_X0_broughtIn a1 a4 s rd J I (fun r13 => ((r12 * (a4 + (2 * a2))) ≤ (r13 * (a5 + (2 * a2))) →
        x_X0_load_j87 Q  (fun b0 b1 b2 b3 b4 s rd J I => x_X0_load_l35 Q   n b0 b1 b2 b3 b4 s rd J I) a1 a2 a3 a5 a4 s rd J I) ∧ (¬ (r12 * (a4 + (2 * a2))) ≤ (r13 * (a5 + (2 * a2))) →
        x_X0_load_j87 Q  (fun b0 b1 b2 b3 b4 s rd J I => x_X0_load_l35 Q   n b0 b1 b2 b3 b4 s rd J I) a1 a2 a3 a5 a5 s rd J I)))))
theorem w_X0_load_l35 {X : hh_CX} {S0 : xS} {R0 : xRd} {J0 : mJ} {I0 : mI} {Q : Int32 → Prop} (hX : hh_C X cX0_load RX0 (hrx 2 46 0 0)) (hN : hh_nL X = 8) (hE : hh_E X (some .int) (xQi (fun r9 S9 R9 J9 I9 => S0 = S9 ∧ R0 = R9 ∧ J0 = J9 ∧ I0 = I9 ∧ Q r9)) 0 0) : ∀ (n : Nat) (a1 : Int32) (a2 : Int32) (a3 : Int32) (a4 : Int32) (a5 : Int32) (s : xS) (rd : xRd) (J : mJ) (I : mI), s = S0 → rd = R0 → J = J0 → I = I0 → x_X0_load_l35 Q  n a1 a2 a3 a4 a5 s rd J I → hh_V X 35 [(0, .ref 0), (1, .int a1), (2, .int a2), (3, .int a3), (4, .int a4), (5, .int a5)] [] 0 0 (hx s rd J I) := by
  intro n
  induction n with
  | zero => intro _ _ _ _ _ _ _ _ _ _ _ _ _ hf; exact hf.elim
  | succ n ih =>
    intro a1 a2 a3 a4 a5 s rd J I e0 e1 e2 e3 hf
    subst e0
    subst e1
    subst e2
    subst e3
    unfold x_X0_load_l35 at hf
    refine hv_iload hX dX0_load_35 5 rfl ?_
    refine hv_aload_n hX dX0_load_37 rfl 0 rfl ?_
    refine hx_getR (v := 1) hX dX0_load_38 fl0_10_0 (xo_c (by decide) rfl) (xR_c rfl) ?_
    refine hx_getR (v := 3) hX dX0_load_41 fl0_118_1 (xo_c (by decide) rfl) (xR_c rfl) ?_
    refine hv_iload_n hX dX0_load_44 rfl 1 rfl ?_
    obtain ⟨g, hf⟩ := hf
    refine hx_iald (v := (I 3 a1.toNatClampNeg)) hX dX0_load_45 (xo_c (by decide) rfl) (xlen_c (by decide) rfl) g rfl ?_
    refine hv_icmp_gt (tgt := 95) hX dX0_load_46 (by decide) (fun c7 => ?_) (fun c7 => ?_)
    · replace hf := hf.1 c7
      refine hv_aload_n hX dX0_load_95 rfl 0 rfl ?_
      refine hv_iload_n hX dX0_load_96 rfl 1 rfl ?_
      refine hv_iload hX dX0_load_97 4 rfl ?_
      refine hx_callVi (ci := 0) (q := (RX0, TX0, 19)) hX dX0_load_99 (ct_X0_broughtIn a1 a4 s rd J I _ hf) (lw_V q803 q789 qs8 q106 q790) rfl (by decide) ⟨rfl, np_X0_broughtIn⟩ rfl (xo_c (by decide) rfl) rfl ⟨Nat.le_of_ble_eq_true rfl, Nat.le_of_ble_eq_true rfl⟩ ⟨Nat.le_of_ble_eq_true rfl, Nat.le_of_ble_eq_true rfl⟩ (Nat.le_of_ble_eq_true rfl) ?_
      intro r8 S9 R9 J9 I9 hq
      clear hf
      obtain ⟨rfl, rfl, rfl, rfl, hf⟩ := hq
      refine hv_istore (loc2 := [(5, .int r8), (0, .ref 0), (1, .int a1), (2, .int a2), (3, .int a3), (4, .int a4)]) hX dX0_load_102 hN (Nat.le_of_ble_eq_true rfl) rfl ?_
      refine hv_iload hX dX0_load_104 5 rfl ?_
      refine hv_iconst (v := 2) hX icx_2 dX0_load_106 ?_
      refine hv_iload_n hX dX0_load_107 rfl 3 rfl ?_
      refine hv_imul hX dX0_load_108 ?_
      refine hv_iadd hX dX0_load_109 ?_
      refine hv_istore (loc2 := [(6, .int (a4 + (2 * a2))), (5, .int r8), (0, .ref 0), (1, .int a1), (2, .int a2), (3, .int a3), (4, .int a4)]) hX dX0_load_110 hN (Nat.le_of_ble_eq_true rfl) rfl ?_
      refine hv_iload hX dX0_load_112 1 rfl ?_
      refine hv_i2l hX dX0_load_114 ?_
      refine hv_iload hX dX0_load_115 0 rfl ?_
      refine hv_i2l hX dX0_load_117 ?_
      refine hx_callSl hX dX0_load_118 (ct_X0_divisor (r8.toInt64) ((a4 + (2 * a2)).toInt64) s rd J I _ hf) (lw_S q792 q793 q106 q794) np_X0_divisor rfl rfl ⟨Nat.le_of_ble_eq_true rfl, Nat.le_of_ble_eq_true rfl⟩ ⟨Nat.le_of_ble_eq_true rfl, Nat.le_of_ble_eq_true rfl⟩ (Nat.le_of_ble_eq_true rfl) ?_
      intro r9 S9 R9 J9 I9 hq
      clear hf
      obtain ⟨rfl, rfl, rfl, rfl, hf⟩ := hq
      refine hv_l2i hX dX0_load_121 ?_
      refine hv_istore (loc2 := [(7, .int (r9.toInt32)), (6, .int (a4 + (2 * a2))), (5, .int r8), (0, .ref 0), (1, .int a1), (2, .int a2), (3, .int a3), (4, .int a4)]) hX dX0_load_122 hN (Nat.le_of_ble_eq_true rfl) rfl ?_
      refine hv_iload_n hX dX0_load_124 rfl 6 rfl ?_
      refine hv_if_ne (tgt := 133) hX dX0_load_125 (by decide) (fun c10 => ?_) (fun c10 => ?_)
      · replace hf := hf.2 c10
        refine hv_iload_n hX dX0_load_133 rfl 6 rfl ?_
        refine hv_iconst (v := 1) hX icx_1 dX0_load_134 ?_
        refine hv_icmp_ne (tgt := 146) hX dX0_load_135 (by decide) (fun c11 => ?_) (fun c11 => ?_)
        · replace hf := hf.2 c11
          refine hv_iload hX dX0_load_146 1 rfl ?_
          refine hv_iload hX dX0_load_148 0 rfl ?_
          obtain ⟨g, hf⟩ := hf
          refine hv_idiv hX g dX0_load_150 ?_
          exact hx_iret hX hE dX0_load_151 ⟨rfl, rfl, rfl, rfl, hf⟩
        · replace hf := hf.1 c11
          refine hv_iload hX dX0_load_138 2 rfl ?_
          refine hv_iload hX dX0_load_140 0 rfl ?_
          obtain ⟨g, hf⟩ := hf
          refine hv_idiv hX g dX0_load_142 ?_
          refine hv_goto (tgt := 151) hX dX0_load_143 (by decide) ?_
          exact hx_iret hX hE dX0_load_151 ⟨rfl, rfl, rfl, rfl, hf⟩
      · replace hf := hf.1 c10
        refine hv_iload hX dX0_load_128 7 rfl ?_
        refine hv_goto (tgt := 151) hX dX0_load_130 (by decide) ?_
        exact hx_iret hX hE dX0_load_151 ⟨rfl, rfl, rfl, rfl, hf⟩
    · replace hf := hf.2 c7
      refine hv_aload_n hX dX0_load_49 rfl 0 rfl ?_
      refine hv_iload_n hX dX0_load_50 rfl 1 rfl ?_
      refine hv_iload hX dX0_load_51 5 rfl ?_
      refine hx_callVi (ci := 0) (q := (RX0, TX0, 19)) hX dX0_load_53 (ct_X0_broughtIn a1 a5 s rd J I _ hf) (lw_V q803 q789 qs8 q106 q790) rfl (by decide) ⟨rfl, np_X0_broughtIn⟩ rfl (xo_c (by decide) rfl) rfl ⟨Nat.le_of_ble_eq_true rfl, Nat.le_of_ble_eq_true rfl⟩ ⟨Nat.le_of_ble_eq_true rfl, Nat.le_of_ble_eq_true rfl⟩ (Nat.le_of_ble_eq_true rfl) ?_
      intro r12 S9 R9 J9 I9 hq
      clear hf
      obtain ⟨rfl, rfl, rfl, rfl, hf⟩ := hq
      refine hv_iload hX dX0_load_56 4 rfl ?_
      refine hv_iconst (v := 2) hX icx_2 dX0_load_58 ?_
      refine hv_iload_n hX dX0_load_59 rfl 2 rfl ?_
      refine hv_imul hX dX0_load_60 ?_
      refine hv_iadd hX dX0_load_61 ?_
      refine hv_imul hX dX0_load_62 ?_
      refine hv_aload_n hX dX0_load_63 rfl 0 rfl ?_
      refine hv_iload_n hX dX0_load_64 rfl 1 rfl ?_
      refine hv_iload hX dX0_load_65 4 rfl ?_
      refine hx_callVi (ci := 0) (q := (RX0, TX0, 19)) hX dX0_load_67 (ct_X0_broughtIn a1 a4 s rd J I _ hf) (lw_V q803 q789 qs8 q106 q790) rfl (by decide) ⟨rfl, np_X0_broughtIn⟩ rfl (xo_c (by decide) rfl) rfl ⟨Nat.le_of_ble_eq_true rfl, Nat.le_of_ble_eq_true rfl⟩ ⟨Nat.le_of_ble_eq_true rfl, Nat.le_of_ble_eq_true rfl⟩ (Nat.le_of_ble_eq_true rfl) ?_
      intro r13 S9 R9 J9 I9 hq
      clear hf
      obtain ⟨rfl, rfl, rfl, rfl, hf⟩ := hq
      refine hv_iload hX dX0_load_70 5 rfl ?_
      refine hv_iconst (v := 2) hX icx_2 dX0_load_72 ?_
      refine hv_iload_n hX dX0_load_73 rfl 2 rfl ?_
      refine hv_imul hX dX0_load_74 ?_
      refine hv_iadd hX dX0_load_75 ?_
      refine hv_imul hX dX0_load_76 ?_
      refine hv_icmp_le (tgt := 85) hX dX0_load_77 (by decide) (fun c14 => ?_) (fun c14 => ?_)
      · replace hf := hf.1 c14
        refine hv_iload hX dX0_load_85 4 rfl ?_
        refine hv_fewer [0, 1, 2, 3, 5] (loc2 := [(0, .ref 0), (1, .int a1), (2, .int a2), (3, .int a3), (5, .int a5)]) rfl ?_
        exact w_X0_load_j87 hX hN hE ih _ _ _ _ _ _ _ _ _ rfl rfl rfl rfl hf
      · replace hf := hf.2 c14
        refine hv_iload hX dX0_load_80 5 rfl ?_
        refine hv_goto (tgt := 87) hX dX0_load_82 (by decide) ?_
        refine hv_fewer [0, 1, 2, 3, 5] (loc2 := [(0, .ref 0), (1, .int a1), (2, .int a2), (3, .int a3), (5, .int a5)]) rfl ?_
        exact w_X0_load_j87 hX hN hE ih _ _ _ _ _ _ _ _ _ rfl rfl rfl rfl hf
def x_X0_load (a1 : Int32) (a2 : Int32) (a3 : Int32) (s : xS) (rd : xRd) (J : mJ) (I : mI) (Q : Int32 → Prop) : Prop :=
  x_X0_isPatch a1 s rd J I (fun r1 => (r1 = 0 →
    Q (-1) ) ∧ (¬ r1 = 0 →
    x_X0_in a2 1 30 s rd J I (fun r3 => (r3 = 0 →
      Q (-1) ) ∧ (¬ r3 = 0 →
      x_X0_in a3 0 2 s rd J I (fun r5 => (r5 = 0 →
        Q (-1) ) ∧ (¬ r5 = 0 →
        ∃ n0 : Nat, x_X0_load_l35 Q   n0 a1 a2 a3 1 2 s rd J I))))))
theorem ct_X0_load  (a1 : Int32) (a2 : Int32) (a3 : Int32) (s : xS) (rd : xRd) (J : mJ) (I : mI) (Q : Int32 → Prop) (hf : x_X0_load a1 a2 a3 s rd J I Q) : hh_Ct yX0_load cX0_load 8 (some .int) 2 46 [.ref 0, .int a1, .int a2, .int a3] (hx s rd J I) (xQi (fun r9 S9 R9 J9 I9 => s = S9 ∧ rd = R9 ∧ J = J9 ∧ I = I9 ∧ Q r9)) 0 0 := by
  refine hh_Ct.of (own := RX0) rfl (by decide +kernel) (Nat.le_of_ble_eq_true rfl) ?_
  intro X hX hN hE
  show hh_V X 0 [(0, .ref 0), (1, .int a1), (2, .int a2), (3, .int a3)] [] 0 0 (hx s rd J I)
  unfold x_X0_load at hf
  refine hv_aload_n hX dX0_load_0 rfl 0 rfl ?_
  refine hv_iload_n hX dX0_load_1 rfl 1 rfl ?_
  refine hx_callVi (ci := 0) (q := (RX0, TX0, 19)) hX dX0_load_2 (ct_X0_isPatch a1 s rd J I _ hf) (lw_V q656 q658 qs1 q106 q659) rfl (by decide) ⟨rfl, np_X0_isPatch⟩ rfl (xo_c (by decide) rfl) rfl ⟨Nat.le_of_ble_eq_true rfl, Nat.le_of_ble_eq_true rfl⟩ ⟨Nat.le_of_ble_eq_true rfl, Nat.le_of_ble_eq_true rfl⟩ (Nat.le_of_ble_eq_true rfl) ?_
  intro r1 S9 R9 J9 I9 hq
  clear hf
  obtain ⟨rfl, rfl, rfl, rfl, hf⟩ := hq
  refine hv_if_eq (tgt := 27) hX dX0_load_5 (by decide) (fun c2 => ?_) (fun c2 => ?_)
  · replace hf := hf.1 c2
    refine hv_iconst (v := (-1)) hX icx_m1 dX0_load_27 ?_
    exact hx_iret hX hE dX0_load_28 ⟨rfl, rfl, rfl, rfl, hf⟩
  · replace hf := hf.2 c2
    refine hv_iload_n hX dX0_load_8 rfl 2 rfl ?_
    refine hv_iconst (v := 1) hX icx_1 dX0_load_9 ?_
    refine hv_bipush (v := 30) hX bix_30 dX0_load_10 ?_
    refine hx_callSi hX dX0_load_12 (ct_X0_in a2 1 30 s rd J I _ hf) (lw_S q649 q650 q106 q651) np_X0_in rfl rfl ⟨Nat.le_of_ble_eq_true rfl, Nat.le_of_ble_eq_true rfl⟩ ⟨Nat.le_of_ble_eq_true rfl, Nat.le_of_ble_eq_true rfl⟩ (Nat.le_of_ble_eq_true rfl) ?_
    intro r3 S9 R9 J9 I9 hq
    clear hf
    obtain ⟨rfl, rfl, rfl, rfl, hf⟩ := hq
    refine hv_if_eq (tgt := 27) hX dX0_load_15 (by decide) (fun c4 => ?_) (fun c4 => ?_)
    · replace hf := hf.1 c4
      refine hv_iconst (v := (-1)) hX icx_m1 dX0_load_27 ?_
      exact hx_iret hX hE dX0_load_28 ⟨rfl, rfl, rfl, rfl, hf⟩
    · replace hf := hf.2 c4
      refine hv_iload_n hX dX0_load_18 rfl 3 rfl ?_
      refine hv_iconst (v := 0) hX icx_0 dX0_load_19 ?_
      refine hv_iconst (v := 2) hX icx_2 dX0_load_20 ?_
      refine hx_callSi hX dX0_load_21 (ct_X0_in a3 0 2 s rd J I _ hf) (lw_S q649 q650 q106 q651) np_X0_in rfl rfl ⟨Nat.le_of_ble_eq_true rfl, Nat.le_of_ble_eq_true rfl⟩ ⟨Nat.le_of_ble_eq_true rfl, Nat.le_of_ble_eq_true rfl⟩ (Nat.le_of_ble_eq_true rfl) ?_
      intro r5 S9 R9 J9 I9 hq
      clear hf
      obtain ⟨rfl, rfl, rfl, rfl, hf⟩ := hq
      refine hv_if_ne (tgt := 29) hX dX0_load_24 (by decide) (fun c6 => ?_) (fun c6 => ?_)
      · replace hf := hf.2 c6
        refine hv_iconst (v := 1) hX icx_1 dX0_load_29 ?_
        refine hv_istore (loc2 := [(4, .int 1), (0, .ref 0), (1, .int a1), (2, .int a2), (3, .int a3)]) hX dX0_load_30 hN (Nat.le_of_ble_eq_true rfl) rfl ?_
        refine hv_iconst (v := 2) hX icx_2 dX0_load_32 ?_
        refine hv_istore (loc2 := [(5, .int 2), (4, .int 1), (0, .ref 0), (1, .int a1), (2, .int a2), (3, .int a3)]) hX dX0_load_33 hN (Nat.le_of_ble_eq_true rfl) rfl ?_
        refine hv_fewer [2, 3, 4, 5, 1, 0] (loc2 := [(0, .ref 0), (1, .int a1), (2, .int a2), (3, .int a3), (4, .int 1), (5, .int 2)]) rfl ?_
        obtain ⟨n0, hf⟩ := hf
        exact w_X0_load_l35 hX hN hE  n0 _ _ _ _ _ _ _ _ _ rfl rfl rfl rfl hf
      · replace hf := hf.1 c6
        refine hv_iconst (v := (-1)) hX icx_m1 dX0_load_27 ?_
        exact hx_iret hX hE dX0_load_28 ⟨rfl, rfl, rfl, rfl, hf⟩
/-! HungryHedge.isDare(II)Z -/
def x_X0_isDare (a0 : Int32) (a1 : Int32) (s : xS) (rd : xRd) (J : mJ) (I : mI) (Q : Int32 → Prop) : Prop :=
  x_X0_in a0 0 240 s rd J I (fun r1 => (r1 = 0 →
    Q 0 ) ∧ (¬ r1 = 0 →
    x_X0_in a1 0 12 s rd J I (fun r3 => (r3 = 0 →
      Q 0 ) ∧ (¬ r3 = 0 →
      Q 1 ))))
theorem ct_X0_isDare  (a0 : Int32) (a1 : Int32) (s : xS) (rd : xRd) (J : mJ) (I : mI) (Q : Int32 → Prop) (hf : x_X0_isDare a0 a1 s rd J I Q) : hh_Ct yX0_isDare cX0_isDare 2 (some .boolean) 1 22 [.int a0, .int a1] (hx s rd J I) (xQi (fun r9 S9 R9 J9 I9 => s = S9 ∧ rd = R9 ∧ J = J9 ∧ I = I9 ∧ Q r9)) 0 0 := by
  refine hh_Ct.of (own := RX0) rfl (by decide +kernel) (Nat.le_of_ble_eq_true rfl) ?_
  intro X hX hN hE
  show hh_V X 0 [(0, .int a0), (1, .int a1)] [] 0 0 (hx s rd J I)
  unfold x_X0_isDare at hf
  refine hv_iload_n hX dX0_isDare_0 rfl 0 rfl ?_
  refine hv_iconst (v := 0) hX icx_0 dX0_isDare_1 ?_
  refine hv_sipush (v := 240) hX six_240 dX0_isDare_2 ?_
  refine hx_callSi hX dX0_isDare_5 (ct_X0_in a0 0 240 s rd J I _ hf) (lw_S q649 q650 q106 q651) np_X0_in rfl rfl ⟨Nat.le_of_ble_eq_true rfl, Nat.le_of_ble_eq_true rfl⟩ ⟨Nat.le_of_ble_eq_true rfl, Nat.le_of_ble_eq_true rfl⟩ (Nat.le_of_ble_eq_true rfl) ?_
  intro r1 S9 R9 J9 I9 hq
  clear hf
  obtain ⟨rfl, rfl, rfl, rfl, hf⟩ := hq
  refine hv_if_eq (tgt := 25) hX dX0_isDare_8 (by decide) (fun c2 => ?_) (fun c2 => ?_)
  · replace hf := hf.1 c2
    refine hv_iconst (v := 0) hX icx_0 dX0_isDare_25 ?_
    exact hx_zret hX hE dX0_isDare_26 (by decide) ⟨rfl, rfl, rfl, rfl, hf⟩
  · replace hf := hf.2 c2
    refine hv_iload_n hX dX0_isDare_11 rfl 1 rfl ?_
    refine hv_iconst (v := 0) hX icx_0 dX0_isDare_12 ?_
    refine hv_bipush (v := 12) hX bix_12 dX0_isDare_13 ?_
    refine hx_callSi hX dX0_isDare_15 (ct_X0_in a1 0 12 s rd J I _ hf) (lw_S q649 q650 q106 q651) np_X0_in rfl rfl ⟨Nat.le_of_ble_eq_true rfl, Nat.le_of_ble_eq_true rfl⟩ ⟨Nat.le_of_ble_eq_true rfl, Nat.le_of_ble_eq_true rfl⟩ (Nat.le_of_ble_eq_true rfl) ?_
    intro r3 S9 R9 J9 I9 hq
    clear hf
    obtain ⟨rfl, rfl, rfl, rfl, hf⟩ := hq
    refine hv_if_eq (tgt := 25) hX dX0_isDare_18 (by decide) (fun c4 => ?_) (fun c4 => ?_)
    · replace hf := hf.1 c4
      refine hv_iconst (v := 0) hX icx_0 dX0_isDare_25 ?_
      exact hx_zret hX hE dX0_isDare_26 (by decide) ⟨rfl, rfl, rfl, rfl, hf⟩
    · replace hf := hf.2 c4
      refine hv_iconst (v := 1) hX icx_1 dX0_isDare_21 ?_
      refine hv_goto (tgt := 26) hX dX0_isDare_22 (by decide) ?_
      exact hx_zret hX hE dX0_isDare_26 (by decide) ⟨rfl, rfl, rfl, rfl, hf⟩
/-! HungryHedge.dare(II)J -/
def x_X0_dare (a1 : Int32) (a2 : Int32) (s : xS) (rd : xRd) (J : mJ) (I : mI) (Q : Int64 → mJ → Prop) : Prop :=
  x_X0_isDare a1 a2 s rd J I (fun r1 => (r1 = 0 →
    Q (-1) J) ∧ (¬ r1 = 0 →
    x_X5_finds a2 (-1) s rd J I (fun J3 => vp_in a2 13 ∧ (∃ v4 : Nat, xR rd 74 a2.toNatClampNeg = some v4 ∧ (xo s v4 110 ∧ (vp_in a1 (xlen s v4) ∧ (Q (J3 v4 a1.toNatClampNeg) J3)))))))
theorem ct_X0_dare  (a1 : Int32) (a2 : Int32) (s : xS) (rd : xRd) (J : mJ) (I : mI) (Q : Int64 → mJ → Prop) (hf : x_X0_dare a1 a2 s rd J I Q) : hh_Ct yX0_dare cX0_dare 3 (some .long) 4 99 [.ref 0, .int a1, .int a2] (hx s rd J I) (xQl (fun r9 S9 R9 J9 I9 => s = S9 ∧ rd = R9 ∧ I = I9 ∧ Q r9 J9)) 0 0 := by
  refine hh_Ct.of (own := RX0) rfl (by decide +kernel) (Nat.le_of_ble_eq_true rfl) ?_
  intro X hX hN hE
  show hh_V X 0 [(0, .ref 0), (1, .int a1), (2, .int a2)] [] 0 0 (hx s rd J I)
  unfold x_X0_dare at hf
  refine hv_iload_n hX dX0_dare_0 rfl 1 rfl ?_
  refine hv_iload_n hX dX0_dare_1 rfl 2 rfl ?_
  refine hx_callSi hX dX0_dare_2 (ct_X0_isDare a1 a2 s rd J I _ hf) (lw_S q808 q809 q106 q810) np_X0_isDare rfl rfl ⟨Nat.le_of_ble_eq_true rfl, Nat.le_of_ble_eq_true rfl⟩ ⟨Nat.le_of_ble_eq_true rfl, Nat.le_of_ble_eq_true rfl⟩ (Nat.le_of_ble_eq_true rfl) ?_
  intro r1 S9 R9 J9 I9 hq
  clear hf
  obtain ⟨rfl, rfl, rfl, rfl, hf⟩ := hq
  refine hv_if_ne (tgt := 12) hX dX0_dare_5 (by decide) (fun c2 => ?_) (fun c2 => ?_)
  · replace hf := hf.2 c2
    refine hv_aload_n hX dX0_dare_12 rfl 0 rfl ?_
    refine hx_getR (v := 73) hX dX0_dare_13 fl0_38_0 (xo_c (by decide) rfl) (xR_c rfl) ?_
    refine hv_iload_n hX dX0_dare_16 rfl 2 rfl ?_
    refine hv_iconst (v := (-1)) hX icx_m1 dX0_dare_17 ?_
    refine hx_callVv (ci := 5) (q := (RX5, TX5, 2)) hX dX0_dare_18 (ct_X5_finds a2 (-1) s rd J I _ hf) (lw_V q812 q813 q814 q111 q815) rfl (by decide) ⟨rfl, np_X5_finds⟩ rfl (xo_c (by decide) rfl) rfl ⟨Nat.le_of_ble_eq_true rfl, Nat.le_of_ble_eq_true rfl⟩ ⟨Nat.le_of_ble_eq_true rfl, Nat.le_of_ble_eq_true rfl⟩ (Nat.le_of_ble_eq_true rfl) ?_
    intro  S9 R9 J3 I9 hq
    clear hf
    obtain ⟨rfl, rfl, rfl, hf⟩ := hq
    refine hv_aload_n hX dX0_dare_21 rfl 0 rfl ?_
    refine hx_getR (v := 73) hX dX0_dare_22 fl0_38_0 (xo_c (by decide) rfl) (xR_c rfl) ?_
    refine hx_getR (v := 74) hX dX0_dare_25 fl0_217_5 (xo_c (by decide) rfl) (xR_c rfl) ?_
    refine hv_iload_n hX dX0_dare_28 rfl 2 rfl ?_
    obtain ⟨g, hf⟩ := hf
    obtain ⟨v4, gv4, hf⟩ := hf
    refine hx_aald (v := v4) (a := 27) hX 11 rfl (by decide) dX0_dare_29 (xo_c (by decide) rfl) (xlen_c (by decide) rfl) g gv4 ?_
    refine hv_iload_n hX dX0_dare_30 rfl 1 rfl ?_
    obtain ⟨o5, hf⟩ := hf
    obtain ⟨g, hf⟩ := hf
    refine hx_lald (v := (J3 v4 a1.toNatClampNeg)) hX dX0_dare_31 o5 rfl g rfl ?_
    exact hx_lret hX hE dX0_dare_32 ⟨rfl, rfl, rfl, hf⟩
  · replace hf := hf.1 c2
    refine hv_ldc2 (v := (-1)) hX dX0_dare_8 q811 ?_
    exact hx_lret hX hE dX0_dare_11 ⟨rfl, rfl, rfl, hf⟩
/-! HungryHedge.bold(II)I -/
def x_X0_bold_l28 (Q : Int32 → mJ → Prop) : Nat → Int32 → Int32 → Int32 → xS → xRd → mJ → mI → Prop
  | 0, _, _, _, _, _, _, _ => False
  | n + 1, a1, a2, a3, s, rd, J, I =>
    ((I 1 1) ≤ a3 →
      Q (-3) J) ∧ (¬ (I 1 1) ≤ a3 →
      vp_in a3 4 ∧ (∃ v6 : Nat, xR rd 8 a3.toNatClampNeg = some v6 ∧ (x_X5_by v6 a2 a1 s rd J I (fun r7 => vp_in a2 13 ∧ (∃ v8 : Nat, xR rd 74 a2.toNatClampNeg = some v8 ∧ (xo s v8 110 ∧ (vp_in a1 (xlen s v8) ∧ (((lg_cmp r7 (J v8 a1.toNatClampNeg)) = 0 →
        Q a3 J) ∧ (¬ (lg_cmp r7 (J v8 a1.toNatClampNeg)) = 0 →
        x_X0_bold_l28 Q   n a1 a2 (a3 + 1) s rd J I)))))))))
theorem w_X0_bold_l28 {X : hh_CX} {S0 : xS} {R0 : xRd} {I0 : mI} {Q : Int32 → mJ → Prop} (hX : hh_C X cX0_bold RX0 (hrx 4 99 0 0)) (hN : hh_nL X = 4) (hE : hh_E X (some .int) (xQi (fun r9 S9 R9 J9 I9 => S0 = S9 ∧ R0 = R9 ∧ I0 = I9 ∧ Q r9 J9)) 0 0) : ∀ (n : Nat) (a1 : Int32) (a2 : Int32) (a3 : Int32) (s : xS) (rd : xRd) (J : mJ) (I : mI), s = S0 → rd = R0 → I = I0 → x_X0_bold_l28 Q  n a1 a2 a3 s rd J I → hh_V X 28 [(0, .ref 0), (1, .int a1), (2, .int a2), (3, .int a3)] [] 0 0 (hx s rd J I) := by
  intro n
  induction n with
  | zero => intro _ _ _ _ _ _ _ _ _ _ hf; exact hf.elim
  | succ n ih =>
    intro a1 a2 a3 s rd J I e0 e1 e2 hf
    subst e0
    subst e1
    subst e2
    unfold x_X0_bold_l28 at hf
    refine hv_iload_n hX dX0_bold_28 rfl 3 rfl ?_
    refine hv_aload_n hX dX0_bold_29 rfl 0 rfl ?_
    refine hx_getR (v := 1) hX dX0_bold_30 fl0_10_0 (xo_c (by decide) rfl) (xR_c rfl) ?_
    refine hx_getI (v := (I 1 1)) hX dX0_bold_33 fl0_221_1 (.inl rfl) (xo_c (by decide) rfl) rfl ?_
    refine hv_icmp_ge (tgt := 80) hX dX0_bold_36 (by decide) (fun c5 => ?_) (fun c5 => ?_)
    · replace hf := hf.1 c5
      refine hv_bipush (v := (-3)) hX bix_m3 dX0_bold_80 ?_
      exact hx_iret hX hE dX0_bold_82 ⟨rfl, rfl, rfl, hf⟩
    · replace hf := hf.2 c5
      refine hv_aload_n hX dX0_bold_39 rfl 0 rfl ?_
      refine hx_getR (v := 73) hX dX0_bold_40 fl0_38_0 (xo_c (by decide) rfl) (xR_c rfl) ?_
      refine hv_aload_n hX dX0_bold_43 rfl 0 rfl ?_
      refine hx_getR (v := 1) hX dX0_bold_44 fl0_10_0 (xo_c (by decide) rfl) (xR_c rfl) ?_
      refine hx_getR (v := 8) hX dX0_bold_47 fl0_224_1 (xo_c (by decide) rfl) (xR_c rfl) ?_
      refine hv_iload_n hX dX0_bold_50 rfl 3 rfl ?_
      obtain ⟨g, hf⟩ := hf
      obtain ⟨v6, gv6, hf⟩ := hf
      refine hx_aald (v := v6) (a := 21) hX 5 rfl (by decide) dX0_bold_51 (xo_c (by decide) rfl) (xlen_c (by decide) rfl) g gv6 ?_
      refine hv_iload_n hX dX0_bold_52 rfl 2 rfl ?_
      refine hv_iload_n hX dX0_bold_53 rfl 1 rfl ?_
      refine hx_callVNl (ci := 5) (q := (RX5, TX5, 2)) hX dX0_bold_54 (ct_X5_by v6 a2 a1 s rd J I _ hf) (hh_nwm q837 rfl) q824 q111 q823 qs10 rfl (by decide) np_X5_by rfl (xo_c (by decide) rfl) rfl ⟨Nat.le_of_ble_eq_true rfl, Nat.le_of_ble_eq_true rfl⟩ ⟨Nat.le_of_ble_eq_true rfl, Nat.le_of_ble_eq_true rfl⟩ (Nat.le_of_ble_eq_true rfl) ?_
      intro r7 S9 R9 J9 I9 hq
      clear hf
      obtain ⟨rfl, rfl, rfl, rfl, hf⟩ := hq
      refine hv_aload_n hX dX0_bold_57 rfl 0 rfl ?_
      refine hx_getR (v := 73) hX dX0_bold_58 fl0_38_0 (xo_c (by decide) rfl) (xR_c rfl) ?_
      refine hx_getR (v := 74) hX dX0_bold_61 fl0_217_5 (xo_c (by decide) rfl) (xR_c rfl) ?_
      refine hv_iload_n hX dX0_bold_64 rfl 2 rfl ?_
      obtain ⟨g, hf⟩ := hf
      obtain ⟨v8, gv8, hf⟩ := hf
      refine hx_aald (v := v8) (a := 27) hX 11 rfl (by decide) dX0_bold_65 (xo_c (by decide) rfl) (xlen_c (by decide) rfl) g gv8 ?_
      refine hv_iload_n hX dX0_bold_66 rfl 1 rfl ?_
      obtain ⟨o9, hf⟩ := hf
      obtain ⟨g, hf⟩ := hf
      refine hx_lald (v := (J v8 a1.toNatClampNeg)) hX dX0_bold_67 o9 rfl g rfl ?_
      refine hv_lcmp hX dX0_bold_68 ?_
      refine hv_if_ne (tgt := 74) hX dX0_bold_69 (by decide) (fun c10 => ?_) (fun c10 => ?_)
      · replace hf := hf.2 c10
        refine hv_iinc (v := (a3 + 1)) (loc2 := [(3, .int (a3 + 1)), (0, .ref 0), (1, .int a1), (2, .int a2)]) hX dX0_bold_74 3 rfl (congrArg (fun y => a3 + y) icx_1) hN (Nat.le_of_ble_eq_true rfl) rfl ?_
        refine hv_goto (tgt := 28) hX dX0_bold_77 (by decide) ?_
        refine hv_fewer [1, 2, 3, 0] (loc2 := [(0, .ref 0), (1, .int a1), (2, .int a2), (3, .int (a3 + 1))]) rfl ?_
        exact ih _ _ _ _ _ _ _ rfl rfl rfl hf
      · replace hf := hf.1 c10
        refine hv_iload_n hX dX0_bold_72 rfl 3 rfl ?_
        exact hx_iret hX hE dX0_bold_73 ⟨rfl, rfl, rfl, hf⟩
def x_X0_bold (a1 : Int32) (a2 : Int32) (s : xS) (rd : xRd) (J : mJ) (I : mI) (Q : Int32 → mJ → Prop) : Prop :=
  x_X0_isDare a1 a2 s rd J I (fun r1 => (r1 = 0 →
    Q (-1) J) ∧ (¬ r1 = 0 →
    (a2 = 0 →
      Q (-3) J) ∧ (¬ a2 = 0 →
      x_X5_finds a2 (-1) s rd J I (fun J4 => ∃ n0 : Nat, x_X0_bold_l28 Q   n0 a1 a2 0 s rd J4 I))))
theorem ct_X0_bold  (a1 : Int32) (a2 : Int32) (s : xS) (rd : xRd) (J : mJ) (I : mI) (Q : Int32 → mJ → Prop) (hf : x_X0_bold a1 a2 s rd J I Q) : hh_Ct yX0_bold cX0_bold 4 (some .int) 4 99 [.ref 0, .int a1, .int a2] (hx s rd J I) (xQi (fun r9 S9 R9 J9 I9 => s = S9 ∧ rd = R9 ∧ I = I9 ∧ Q r9 J9)) 0 0 := by
  refine hh_Ct.of (own := RX0) rfl (by decide +kernel) (Nat.le_of_ble_eq_true rfl) ?_
  intro X hX hN hE
  show hh_V X 0 [(0, .ref 0), (1, .int a1), (2, .int a2)] [] 0 0 (hx s rd J I)
  unfold x_X0_bold at hf
  refine hv_iload_n hX dX0_bold_0 rfl 1 rfl ?_
  refine hv_iload_n hX dX0_bold_1 rfl 2 rfl ?_
  refine hx_callSi hX dX0_bold_2 (ct_X0_isDare a1 a2 s rd J I _ hf) (lw_S q808 q809 q106 q810) np_X0_isDare rfl rfl ⟨Nat.le_of_ble_eq_true rfl, Nat.le_of_ble_eq_true rfl⟩ ⟨Nat.le_of_ble_eq_true rfl, Nat.le_of_ble_eq_true rfl⟩ (Nat.le_of_ble_eq_true rfl) ?_
  intro r1 S9 R9 J9 I9 hq
  clear hf
  obtain ⟨rfl, rfl, rfl, rfl, hf⟩ := hq
  refine hv_if_ne (tgt := 10) hX dX0_bold_5 (by decide) (fun c2 => ?_) (fun c2 => ?_)
  · replace hf := hf.2 c2
    refine hv_iload_n hX dX0_bold_10 rfl 2 rfl ?_
    refine hv_if_ne (tgt := 17) hX dX0_bold_11 (by decide) (fun c3 => ?_) (fun c3 => ?_)
    · replace hf := hf.2 c3
      refine hv_aload_n hX dX0_bold_17 rfl 0 rfl ?_
      refine hx_getR (v := 73) hX dX0_bold_18 fl0_38_0 (xo_c (by decide) rfl) (xR_c rfl) ?_
      refine hv_iload_n hX dX0_bold_21 rfl 2 rfl ?_
      refine hv_iconst (v := (-1)) hX icx_m1 dX0_bold_22 ?_
      refine hx_callVv (ci := 5) (q := (RX5, TX5, 2)) hX dX0_bold_23 (ct_X5_finds a2 (-1) s rd J I _ hf) (lw_V q812 q813 q814 q111 q815) rfl (by decide) ⟨rfl, np_X5_finds⟩ rfl (xo_c (by decide) rfl) rfl ⟨Nat.le_of_ble_eq_true rfl, Nat.le_of_ble_eq_true rfl⟩ ⟨Nat.le_of_ble_eq_true rfl, Nat.le_of_ble_eq_true rfl⟩ (Nat.le_of_ble_eq_true rfl) ?_
      intro  S9 R9 J4 I9 hq
      clear hf
      obtain ⟨rfl, rfl, rfl, hf⟩ := hq
      refine hv_iconst (v := 0) hX icx_0 dX0_bold_26 ?_
      refine hv_istore_n (loc2 := [(3, .int 0), (0, .ref 0), (1, .int a1), (2, .int a2)]) hX dX0_bold_27 rfl hN (Nat.le_of_ble_eq_true rfl) rfl ?_
      refine hv_fewer [1, 2, 3, 0] (loc2 := [(0, .ref 0), (1, .int a1), (2, .int a2), (3, .int 0)]) rfl ?_
      obtain ⟨n0, hf⟩ := hf
      exact w_X0_bold_l28 hX hN hE  n0 _ _ _ _ _ _ _ rfl rfl rfl hf
    · replace hf := hf.1 c3
      refine hv_bipush (v := (-3)) hX bix_m3 dX0_bold_14 ?_
      exact hx_iret hX hE dX0_bold_16 ⟨rfl, rfl, rfl, hf⟩
  · replace hf := hf.1 c2
    refine hv_iconst (v := (-1)) hX icx_m1 dX0_bold_8 ?_
    exact hx_iret hX hE dX0_bold_9 ⟨rfl, rfl, rfl, hf⟩
/-! HungryHedge.alike(III)J -/
def x_X0_alike (a1 : Int32) (a2 : Int32) (a3 : Int32) (s : xS) (rd : xRd) (J : mJ) (I : mI) (Q : Int64 → mJ → Prop) : Prop :=
  x_X0_in a1 0 ((I 1 1) - 1) s rd J I (fun r1 => (r1 = 0 →
    Q (-1) J) ∧ (¬ r1 = 0 →
    x_X0_isDare a2 a3 s rd J I (fun r3 => (r3 = 0 →
      Q (-1) J) ∧ (¬ r3 = 0 →
      x_X5_finds a3 a1 s rd J I (fun J5 => vp_in a3 13 ∧ (∃ v6 : Nat, xR rd 74 a3.toNatClampNeg = some v6 ∧ (xo s v6 110 ∧ (vp_in a2 (xlen s v6) ∧ (Q (J5 v6 a2.toNatClampNeg) J5)))))))))
theorem ct_X0_alike  (a1 : Int32) (a2 : Int32) (a3 : Int32) (s : xS) (rd : xRd) (J : mJ) (I : mI) (Q : Int64 → mJ → Prop) (hf : x_X0_alike a1 a2 a3 s rd J I Q) : hh_Ct yX0_alike cX0_alike 4 (some .long) 4 99 [.ref 0, .int a1, .int a2, .int a3] (hx s rd J I) (xQl (fun r9 S9 R9 J9 I9 => s = S9 ∧ rd = R9 ∧ I = I9 ∧ Q r9 J9)) 0 0 := by
  refine hh_Ct.of (own := RX0) rfl (by decide +kernel) (Nat.le_of_ble_eq_true rfl) ?_
  intro X hX hN hE
  show hh_V X 0 [(0, .ref 0), (1, .int a1), (2, .int a2), (3, .int a3)] [] 0 0 (hx s rd J I)
  unfold x_X0_alike at hf
  refine hv_iload_n hX dX0_alike_0 rfl 1 rfl ?_
  refine hv_iconst (v := 0) hX icx_0 dX0_alike_1 ?_
  refine hv_aload_n hX dX0_alike_2 rfl 0 rfl ?_
  refine hx_getR (v := 1) hX dX0_alike_3 fl0_10_0 (xo_c (by decide) rfl) (xR_c rfl) ?_
  refine hx_getI (v := (I 1 1)) hX dX0_alike_6 fl0_221_1 (.inl rfl) (xo_c (by decide) rfl) rfl ?_
  refine hv_iconst (v := 1) hX icx_1 dX0_alike_9 ?_
  refine hv_isub hX dX0_alike_10 ?_
  refine hx_callSi hX dX0_alike_11 (ct_X0_in a1 0 ((I 1 1) - 1) s rd J I _ hf) (lw_S q649 q650 q106 q651) np_X0_in rfl rfl ⟨Nat.le_of_ble_eq_true rfl, Nat.le_of_ble_eq_true rfl⟩ ⟨Nat.le_of_ble_eq_true rfl, Nat.le_of_ble_eq_true rfl⟩ (Nat.le_of_ble_eq_true rfl) ?_
  intro r1 S9 R9 J9 I9 hq
  clear hf
  obtain ⟨rfl, rfl, rfl, rfl, hf⟩ := hq
  refine hv_if_eq (tgt := 25) hX dX0_alike_14 (by decide) (fun c2 => ?_) (fun c2 => ?_)
  · replace hf := hf.1 c2
    refine hv_ldc2 (v := (-1)) hX dX0_alike_25 q811 ?_
    exact hx_lret hX hE dX0_alike_28 ⟨rfl, rfl, rfl, hf⟩
  · replace hf := hf.2 c2
    refine hv_iload_n hX dX0_alike_17 rfl 2 rfl ?_
    refine hv_iload_n hX dX0_alike_18 rfl 3 rfl ?_
    refine hx_callSi hX dX0_alike_19 (ct_X0_isDare a2 a3 s rd J I _ hf) (lw_S q808 q809 q106 q810) np_X0_isDare rfl rfl ⟨Nat.le_of_ble_eq_true rfl, Nat.le_of_ble_eq_true rfl⟩ ⟨Nat.le_of_ble_eq_true rfl, Nat.le_of_ble_eq_true rfl⟩ (Nat.le_of_ble_eq_true rfl) ?_
    intro r3 S9 R9 J9 I9 hq
    clear hf
    obtain ⟨rfl, rfl, rfl, rfl, hf⟩ := hq
    refine hv_if_ne (tgt := 29) hX dX0_alike_22 (by decide) (fun c4 => ?_) (fun c4 => ?_)
    · replace hf := hf.2 c4
      refine hv_aload_n hX dX0_alike_29 rfl 0 rfl ?_
      refine hx_getR (v := 73) hX dX0_alike_30 fl0_38_0 (xo_c (by decide) rfl) (xR_c rfl) ?_
      refine hv_iload_n hX dX0_alike_33 rfl 3 rfl ?_
      refine hv_iload_n hX dX0_alike_34 rfl 1 rfl ?_
      refine hx_callVv (ci := 5) (q := (RX5, TX5, 2)) hX dX0_alike_35 (ct_X5_finds a3 a1 s rd J I _ hf) (lw_V q812 q813 q814 q111 q815) rfl (by decide) ⟨rfl, np_X5_finds⟩ rfl (xo_c (by decide) rfl) rfl ⟨Nat.le_of_ble_eq_true rfl, Nat.le_of_ble_eq_true rfl⟩ ⟨Nat.le_of_ble_eq_true rfl, Nat.le_of_ble_eq_true rfl⟩ (Nat.le_of_ble_eq_true rfl) ?_
      intro  S9 R9 J5 I9 hq
      clear hf
      obtain ⟨rfl, rfl, rfl, hf⟩ := hq
      refine hv_aload_n hX dX0_alike_38 rfl 0 rfl ?_
      refine hx_getR (v := 73) hX dX0_alike_39 fl0_38_0 (xo_c (by decide) rfl) (xR_c rfl) ?_
      refine hx_getR (v := 74) hX dX0_alike_42 fl0_217_5 (xo_c (by decide) rfl) (xR_c rfl) ?_
      refine hv_iload_n hX dX0_alike_45 rfl 3 rfl ?_
      obtain ⟨g, hf⟩ := hf
      obtain ⟨v6, gv6, hf⟩ := hf
      refine hx_aald (v := v6) (a := 27) hX 11 rfl (by decide) dX0_alike_46 (xo_c (by decide) rfl) (xlen_c (by decide) rfl) g gv6 ?_
      refine hv_iload_n hX dX0_alike_47 rfl 2 rfl ?_
      obtain ⟨o7, hf⟩ := hf
      obtain ⟨g, hf⟩ := hf
      refine hx_lald (v := (J5 v6 a2.toNatClampNeg)) hX dX0_alike_48 o7 rfl g rfl ?_
      exact hx_lret hX hE dX0_alike_49 ⟨rfl, rfl, rfl, hf⟩
    · replace hf := hf.1 c4
      refine hv_ldc2 (v := (-1)) hX dX0_alike_25 q811 ?_
      exact hx_lret hX hE dX0_alike_28 ⟨rfl, rfl, rfl, hf⟩
/-! HungryHedge.isSheet(I)Z -/
def x_X0_isSheet (a0 : Int32) (s : xS) (rd : xRd) (J : mJ) (I : mI) (Q : Int32 → Prop) : Prop :=
  x_X0_in a0 0 3 s rd J I (fun r1 => (r1 = 0 ∨ r1 = 1) ∧ (Q r1 ))
theorem ct_X0_isSheet  (a0 : Int32) (s : xS) (rd : xRd) (J : mJ) (I : mI) (Q : Int32 → Prop) (hf : x_X0_isSheet a0 s rd J I Q) : hh_Ct yX0_isSheet cX0_isSheet 1 (some .boolean) 1 22 [.int a0] (hx s rd J I) (xQi (fun r9 S9 R9 J9 I9 => s = S9 ∧ rd = R9 ∧ J = J9 ∧ I = I9 ∧ Q r9)) 0 0 := by
  refine hh_Ct.of (own := RX0) rfl (by decide +kernel) (Nat.le_of_ble_eq_true rfl) ?_
  intro X hX hN hE
  show hh_V X 0 [(0, .int a0)] [] 0 0 (hx s rd J I)
  unfold x_X0_isSheet at hf
  refine hv_iload_n hX dX0_isSheet_0 rfl 0 rfl ?_
  refine hv_iconst (v := 0) hX icx_0 dX0_isSheet_1 ?_
  refine hv_iconst (v := 3) hX icx_3 dX0_isSheet_2 ?_
  refine hx_callSi hX dX0_isSheet_3 (ct_X0_in a0 0 3 s rd J I _ hf) (lw_S q649 q650 q106 q651) np_X0_in rfl rfl ⟨Nat.le_of_ble_eq_true rfl, Nat.le_of_ble_eq_true rfl⟩ ⟨Nat.le_of_ble_eq_true rfl, Nat.le_of_ble_eq_true rfl⟩ (Nat.le_of_ble_eq_true rfl) ?_
  intro r1 S9 R9 J9 I9 hq
  clear hf
  obtain ⟨rfl, rfl, rfl, rfl, hf⟩ := hq
  obtain ⟨g, hf⟩ := hf
  exact hx_zret hX hE dX0_isSheet_6 g ⟨rfl, rfl, rfl, rfl, hf⟩
/-! HungryHedge$Sheet.row()Ljava/lang/Object; -/
def x_X10_row (a0 : Nat) (s : xS) (rd : xRd) (J : mJ) (I : mI) (Q : Option Nat → Prop) : Prop :=
  xo s a0 10 ∧ (((I a0 4) = 0 →
    Q (xR rd a0 0) ) ∧ (¬ (I a0 4) = 0 →
    ((I a0 4) = 1 →
    Q (xR rd a0 1) ) ∧ (¬ (I a0 4) = 1 →
    ((I a0 4) = 2 →
    Q (xR rd a0 2) ) ∧ (¬ (I a0 4) = 2 →
    ((I a0 4) = 3 →
    Q (xR rd a0 3) ) ∧ (¬ (I a0 4) = 3 →
    Q none )))))
theorem ct_X10_row  (a0 : Nat) (s : xS) (rd : xRd) (J : mJ) (I : mI) (Q : Option Nat → Prop) (hf : x_X10_row a0 s rd J I Q) : hh_Ct yX10_row cX10_row 1 (some (.object "java/lang/Object")) 0 0 [.ref a0] (hx s rd J I) (xQo (fun r9 S9 R9 J9 I9 => s = S9 ∧ rd = R9 ∧ J = J9 ∧ I = I9 ∧ Q r9)) 0 0 := by
  refine hh_Ct.of (own := RX10) rfl (by decide +kernel) (Nat.le_of_ble_eq_true rfl) ?_
  intro X hX hN hE
  show hh_V X 0 [(0, .ref a0)] [] 0 0 (hx s rd J I)
  unfold x_X10_row at hf
  refine hv_aload_n hX dX10_row_0 rfl 0 rfl ?_
  obtain ⟨o1, hf⟩ := hf
  refine hx_getI (v := (I a0 4)) hX dX10_row_1 fl10_7_10 (.inl rfl) o1 rfl ?_
  by_cases c2 : (I a0 4) = 0
  · replace hf := hf.1 c2
    refine hv_tswA (v := 0) (tgt := 36) (off := 32) hX dX10_row_4 c2 ⟨by decide, by decide, by decide⟩ (by decide) ?_
    refine hv_aload_n hX dX10_row_36 rfl 0 rfl ?_
    refine hx_getO hX dX10_row_37 fl10_13_10 o1 ?_
    exact hx_oret (v := (xR rd a0 0)) hX hE (.inl ⟨_, rfl⟩) dX10_row_40 ⟨rfl, rfl, rfl, rfl, hf⟩
  · replace hf := hf.2 c2
    by_cases c3 : (I a0 4) = 1
    · replace hf := hf.1 c3
      refine hv_tswA (v := 1) (tgt := 41) (off := 37) hX dX10_row_4 c3 ⟨by decide, by decide, by decide⟩ (by decide) ?_
      refine hv_aload_n hX dX10_row_41 rfl 0 rfl ?_
      refine hx_getO hX dX10_row_42 fl10_17_10 o1 ?_
      exact hx_oret (v := (xR rd a0 1)) hX hE (.inl ⟨_, rfl⟩) dX10_row_45 ⟨rfl, rfl, rfl, rfl, hf⟩
    · replace hf := hf.2 c3
      by_cases c4 : (I a0 4) = 2
      · replace hf := hf.1 c4
        refine hv_tswA (v := 2) (tgt := 46) (off := 42) hX dX10_row_4 c4 ⟨by decide, by decide, by decide⟩ (by decide) ?_
        refine hv_aload_n hX dX10_row_46 rfl 0 rfl ?_
        refine hx_getO hX dX10_row_47 fl10_21_10 o1 ?_
        exact hx_oret (v := (xR rd a0 2)) hX hE (.inl ⟨_, rfl⟩) dX10_row_50 ⟨rfl, rfl, rfl, rfl, hf⟩
      · replace hf := hf.2 c4
        by_cases c5 : (I a0 4) = 3
        · replace hf := hf.1 c5
          refine hv_tswA (v := 3) (tgt := 51) (off := 47) hX dX10_row_4 c5 ⟨by decide, by decide, by decide⟩ (by decide) ?_
          refine hv_aload_n hX dX10_row_51 rfl 0 rfl ?_
          refine hx_getO hX dX10_row_52 fl10_25_10 o1 ?_
          exact hx_oret (v := (xR rd a0 3)) hX hE (.inl ⟨_, rfl⟩) dX10_row_55 ⟨rfl, rfl, rfl, rfl, hf⟩
        · replace hf := hf.2 c5
          refine hv_tswO (tgt := 56) hX dX10_row_4 (by have z0 := lv_neT c2 (a := 0) (by decide); have z1 := lv_neT c3 (a := 1) (by decide); have z2 := lv_neT c4 (a := 2) (by decide); have z3 := lv_neT c5 (a := 3) (by decide); omega) (by decide) ?_
          refine hv_null hX dX10_row_56 ?_
          exact hx_oret (v := none) hX hE (.inl ⟨_, rfl⟩) dX10_row_57 ⟨rfl, rfl, rfl, rfl, hf⟩
/-! HungryHedge.there(Ljava/lang/Object;)Ljava/lang/Object; -/
def x_X0_there (a1 : Option Nat) (s : xS) (rd : xRd) (J : mJ) (I : mI) (QX : Nat → Prop) (Q : Nat → Prop) : Prop :=
  (a1 = none → QX 1 ) ∧ (∀ v1 : Nat, a1 = some v1 → Q v1 )
theorem ct_X0_there  (a1 : Option Nat) (s : xS) (rd : xRd) (J : mJ) (I : mI) (QX : Nat → Prop) (Q : Nat → Prop) (hf : x_X0_there a1 s rd J I QX Q) : hh_CtX yX0_there cX0_there 2 (some (.object "java/lang/Object")) 0 0 [.ref 0, hh_av a1] (hx s rd J I) (xQr (fun r9 S9 R9 J9 I9 => s = S9 ∧ rd = R9 ∧ J = J9 ∧ I = I9 ∧ Q r9)) (xQX (fun c9 S9 R9 J9 I9 => s = S9 ∧ rd = R9 ∧ J = J9 ∧ I = I9 ∧ QX c9)) 0 0 := by
  refine hh_CtX.of (own := RX0) rfl (by decide +kernel) (by cases a1 <;> exact Nat.le_of_ble_eq_true rfl) ?_
  intro X hX hN hE hT
  show hh_V X 0 [(0, .ref 0), (1, hh_av a1)] [] 0 0 (hx s rd J I)
  unfold x_X0_there at hf
  rcases hx_ov a1 with ⟨he, hv⟩ | ⟨v1, he, hv⟩
  · rw [hv]
    replace hf := hf.1 he
    refine hv_aload_nN hX dX0_there_0 rfl 1 rfl ?_
    refine hv_ifnonnullN hX dX0_there_1 ?_
    refine hv_aload_n hX dX0_there_4 rfl 0 rfl ?_
    refine hx_getR (v := 126) hX dX0_there_5 fl0_92_0 (xo_c (by decide) rfl) (xR_c rfl) ?_
    refine hx_athrow (ci := 12) (c := 1) (q := (RX12, TX12, 6)) hX rfl (by decide) (xo_c (by decide) rfl) rfl dX0_there_8 ?_
    exact hx_out (c := 1) hX hE hT ⟨Nat.le_of_ble_eq_true rfl, Nat.le_of_ble_eq_true rfl⟩ ⟨rfl, rfl, rfl, rfl, hf⟩
  · rw [hv]
    replace hf := hf.2 v1 he
    refine hv_aload_n hX dX0_there_0 rfl 1 rfl ?_
    refine hv_ifnonnull (tgt := 9) hX dX0_there_1 (by decide) ?_
    refine hv_aload_n hX dX0_there_9 rfl 1 rfl ?_
    exact hv_xret hX hE (fun X hX hE => hx_aret hX hE (.inl ⟨_, rfl⟩) dX0_there_10 ⟨rfl, rfl, rfl, rfl, hf⟩)
/-! HungryHedge.tenOf([S)I -/
def x_X0_tenOf_l73 (Q : Int32 → xS → xRd → mJ → mI → Prop) : Nat → Nat → Nat → Int32 → xS → xRd → mJ → mI → Prop
  | 0, _, _, _, _, _, _, _ => False
  | n + 1, a1, a3, a4, s, rd, J, I =>
    ((10 : Int32) ≤ a4 →
      vp_in (I 1 1) 4 ∧ (xo s a3 15 ∧ (xR0 8 (I 1 1).toNatClampNeg = none ∧ (Q (((I 1 1) + 1) - 1) s (u2 rd 8 (I 1 1).toNatClampNeg (some a3)) J (u2 I 1 1 ((I 1 1) + 1)))))) ∧ (¬ (10 : Int32) ≤ a4 →
      xo s a3 15 ∧ (∃ v20 : Nat, xR rd a3 0 = some v20 ∧ (xo s a1 102 ∧ (vp_in a4 (xlen s a1) ∧ (xo s v20 100 ∧ (vp_in a4 (xlen s v20) ∧ (x_X0_tenOf_l73 Q   n a1 a3 (a4 + 1) s rd J (u2 I v20 a4.toNatClampNeg (I a1 a4.toNatClampNeg)))))))))
theorem w_X0_tenOf_l73 {X : hh_CX}  {Q : Int32 → xS → xRd → mJ → mI → Prop} (hX : hh_C X cX0_tenOf RX0 (hrx 2 40 2 11)) (hN : hh_nL X = 5) (hE : hh_E X (some .int) (xQi (fun r9 S9 R9 J9 I9 => Q r9 S9 R9 J9 I9)) 2 11) : ∀ (n : Nat) (a1 : Nat) (a3 : Nat) (a4 : Int32) (s : xS) (rd : xRd) (J : mJ) (I : mI), x_X0_tenOf_l73 Q  n a1 a3 a4 s rd J I → hh_V X 73 [(0, .ref 0), (1, .ref a1), (3, .ref a3), (4, .int a4)] [] 2 11 (hx s rd J I) := by
  intro n
  induction n with
  | zero => intro _ _ _ _ _ _ _  hf; exact hf.elim
  | succ n ih =>
    intro a1 a3 a4 s rd J I  hf
    unfold x_X0_tenOf_l73 at hf
    refine hv_iload hX dX0_tenOf_73 3 rfl ?_
    refine hv_bipush (v := 10) hX bix_10 dX0_tenOf_75 ?_
    refine hv_icmp_ge (tgt := 97) hX dX0_tenOf_77 (by decide) (fun c17 => ?_) (fun c17 => ?_)
    · replace hf := hf.1 c17
      refine hv_aload_n hX dX0_tenOf_97 rfl 0 rfl ?_
      refine hx_getR (v := 1) hX dX0_tenOf_98 fl0_10_0 (xo_c (by decide) rfl) (xR_c rfl) ?_
      refine hx_getR (v := 8) hX dX0_tenOf_101 fl0_224_1 (xo_c (by decide) rfl) (xR_c rfl) ?_
      refine hv_aload_n hX dX0_tenOf_104 rfl 0 rfl ?_
      refine hx_getR (v := 1) hX dX0_tenOf_105 fl0_10_0 (xo_c (by decide) rfl) (xR_c rfl) ?_
      refine hx_getI (v := (I 1 1)) hX dX0_tenOf_108 fl0_221_1 (.inl rfl) (xo_c (by decide) rfl) rfl ?_
      refine hv_aload_n hX dX0_tenOf_111 rfl 2 rfl ?_
      obtain ⟨g, hf⟩ := hf
      obtain ⟨o18, hf⟩ := hf
      obtain ⟨g0, hf⟩ := hf
      refine hx_aast (a := 21) hX 5 rfl (by decide) (q := (RX15, TX15, 1)) rfl (by decide) rfl dX0_tenOf_112 (xo_c (by decide) rfl) (xlen_c (by decide) rfl) g o18 g0 ?_
      refine hv_aload_n hX dX0_tenOf_113 rfl 0 rfl ?_
      refine hx_getR (v := 1) hX dX0_tenOf_114 fl0_10_0 (xo_c (by decide) rfl) (xR_c rfl) ?_
      refine hv_dup hX rfl dX0_tenOf_117 ?_
      refine hx_getI (v := (I 1 1)) hX dX0_tenOf_118 fl0_221_1 (.inl rfl) (xo_c (by decide) rfl) rfl ?_
      refine hv_iconst (v := 1) hX icx_1 dX0_tenOf_121 ?_
      refine hv_iadd hX dX0_tenOf_122 ?_
      refine hx_putI hX dX0_tenOf_123 fl0_221_1 (xo_c (by decide) rfl) ?_
      refine hv_aload_n hX dX0_tenOf_126 rfl 0 rfl ?_
      refine hx_getR (v := 1) hX dX0_tenOf_127 fl0_10_0 (xo_c (by decide) rfl) (xR_c rfl) ?_
      refine hx_getI (v := ((I 1 1) + 1)) hX dX0_tenOf_130 fl0_221_1 (.inl rfl) (xo_c (by decide) rfl) (u2_self _ _ _ _) ?_
      refine hv_iconst (v := 1) hX icx_1 dX0_tenOf_133 ?_
      refine hv_isub hX dX0_tenOf_134 ?_
      exact hx_iret hX hE dX0_tenOf_135 hf
    · replace hf := hf.2 c17
      refine hv_aload_n hX dX0_tenOf_80 rfl 2 rfl ?_
      obtain ⟨o19, hf⟩ := hf
      obtain ⟨v20, gv20, hf⟩ := hf
      refine hx_getR (v := v20) hX dX0_tenOf_81 fl0_235_15 o19 gv20 ?_
      refine hv_iload hX dX0_tenOf_84 3 rfl ?_
      refine hv_aload_n hX dX0_tenOf_86 rfl 1 rfl ?_
      refine hv_iload hX dX0_tenOf_87 3 rfl ?_
      obtain ⟨o21, hf⟩ := hf
      obtain ⟨g, hf⟩ := hf
      refine hx_sald (v := (I a1 a4.toNatClampNeg)) hX dX0_tenOf_89 o21 rfl g rfl ?_
      obtain ⟨o22, hf⟩ := hf
      obtain ⟨g, hf⟩ := hf
      refine hx_iast hX dX0_tenOf_90 o22 rfl g ?_
      refine hv_iinc (v := (a4 + 1)) (loc2 := [(4, .int (a4 + 1)), (0, .ref 0), (1, .ref a1), (3, .ref a3)]) hX dX0_tenOf_91 3 rfl (congrArg (fun y => a4 + y) icx_1) hN (Nat.le_of_ble_eq_true rfl) rfl ?_
      refine hv_goto (tgt := 73) hX dX0_tenOf_94 (by decide) ?_
      refine hv_fewer [1, 2, 3, 0] (loc2 := [(0, .ref 0), (1, .ref a1), (3, .ref a3), (4, .int (a4 + 1))]) rfl ?_
      exact ih _ _ _ _ _ _ _ hf
def x_X0_tenOf_j41 (Q : Int32 → xS → xRd → mJ → mI → Prop) (a1 : Nat) (a2 : Int32) (s : xS) (rd : xRd) (J : mJ) (I : mI) : Prop :=
  (a2 = 0 →
    Q (-4) s rd J I) ∧ (¬ a2 = 0 →
    ((I 1 1) = 4 →
      Q (-2) s rd J I) ∧ (¬ (I 1 1) = 4 →
      xnw s rd J I 15 1 (fun q7 s8 rd9 J10 I11 => x_X15_init q7 s8 rd9 J10 I11 (fun s13 rd14 J15 I16 => ∃ n0 : Nat, x_X0_tenOf_l73 Q   n0 a1 q7 0 s13 rd14 J15 I16))))
theorem w_X0_tenOf_j41 {X : hh_CX}  {Q : Int32 → xS → xRd → mJ → mI → Prop} (hX : hh_C X cX0_tenOf RX0 (hrx 2 40 2 11)) (hN : hh_nL X = 5) (hE : hh_E X (some .int) (xQi (fun r9 S9 R9 J9 I9 => Q r9 S9 R9 J9 I9)) 2 11) : ∀ (a1 : Nat) (a2 : Int32) (s : xS) (rd : xRd) (J : mJ) (I : mI), x_X0_tenOf_j41 Q  a1 a2 s rd J I → hh_V X 41 [(0, .ref 0), (1, .ref a1), (2, .int a2)] [] 0 0 (hx s rd J I) := by
  intro a1 a2 s rd J I  hf
  unfold x_X0_tenOf_j41 at hf
  refine hv_iload_n hX dX0_tenOf_41 rfl 2 rfl ?_
  refine hv_if_ne (tgt := 48) hX dX0_tenOf_42 (by decide) (fun c5 => ?_) (fun c5 => ?_)
  · replace hf := hf.2 c5
    refine hv_aload_n hX dX0_tenOf_48 rfl 0 rfl ?_
    refine hx_getR (v := 1) hX dX0_tenOf_49 fl0_10_0 (xo_c (by decide) rfl) (xR_c rfl) ?_
    refine hx_getI (v := (I 1 1)) hX dX0_tenOf_52 fl0_221_1 (.inl rfl) (xo_c (by decide) rfl) rfl ?_
    refine hv_iconst (v := 4) hX icx_4 dX0_tenOf_55 ?_
    refine hv_icmp_ne (tgt := 62) hX dX0_tenOf_56 (by decide) (fun c6 => ?_) (fun c6 => ?_)
    · replace hf := hf.2 c6
      refine hx_new hX dX0_tenOf_62 nl0_232 hf ⟨Nat.le_of_ble_eq_true rfl, Nat.le_of_ble_eq_true rfl⟩ ?_
      intro q7 s8 rd9 J10 I11 hf o12 mono
      refine hv_dup hX rfl dX0_tenOf_65 ?_
      refine hx_callINv (ci := 15) (q := (RX15, TX15, 1)) hX dX0_tenOf_66 (ct_X15_init q7 s8 rd9 J10 I11 _ hf) (hh_nwm q891 rfl) rfl q893 q129 q892 rfl (by decide) np_X15_init rfl o12 rfl ⟨Nat.le_of_ble_eq_true rfl, Nat.le_of_ble_eq_true rfl⟩ ⟨Nat.le_of_ble_eq_true rfl, Nat.le_of_ble_eq_true rfl⟩ (Nat.le_of_ble_eq_true rfl) ?_
      intro  s13 rd14 J15 I16 hq
      clear hf
      have hf := hq
      refine hv_astore_n (loc2 := [(3, .ref q7), (0, .ref 0), (1, .ref a1), (2, .int a2)]) hX dX0_tenOf_69 rfl hN (Nat.le_of_ble_eq_true rfl) rfl ?_
      refine hv_iconst (v := 0) hX icx_0 dX0_tenOf_70 ?_
      refine hv_istore (loc2 := [(4, .int 0), (3, .ref q7), (0, .ref 0), (1, .ref a1), (2, .int a2)]) hX dX0_tenOf_71 hN (Nat.le_of_ble_eq_true rfl) rfl ?_
      refine hv_fewer [2, 3, 1, 0] (loc2 := [(0, .ref 0), (1, .ref a1), (3, .ref q7), (4, .int 0)]) rfl ?_
      obtain ⟨n0, hf⟩ := hf
      exact w_X0_tenOf_l73 hX hN hE  n0 _ _ _ _ _ _ _ hf
    · replace hf := hf.1 c6
      refine hv_bipush (v := (-2)) hX bix_m2 dX0_tenOf_59 ?_
      refine hv_widen (z' := 2) (k' := 11) (Nat.le_of_ble_eq_true rfl) (Nat.le_of_ble_eq_true rfl) ?_
      exact hx_iret hX hE dX0_tenOf_61 hf
  · replace hf := hf.1 c5
    refine hv_bipush (v := (-4)) hX bix_m4 dX0_tenOf_45 ?_
    refine hv_widen (z' := 2) (k' := 11) (Nat.le_of_ble_eq_true rfl) (Nat.le_of_ble_eq_true rfl) ?_
    exact hx_iret hX hE dX0_tenOf_47 hf
def x_X0_tenOf_l15 (Q : Int32 → xS → xRd → mJ → mI → Prop) : Nat → Nat → Int32 → Int32 → xS → xRd → mJ → mI → Prop
  | 0, _, _, _, _, _, _, _ => False
  | n + 1, a1, a2, a3, s, rd, J, I =>
    xo s a1 102 ∧ (((nI (xlen s a1)) ≤ a3 →
      x_X0_tenOf_j41 Q   a1 a2 s rd J I) ∧ (¬ (nI (xlen s a1)) ≤ a3 →
      (a2 = 0 →
        x_X0_tenOf_j41 Q   a1 a2 s rd J I) ∧ (¬ a2 = 0 →
        vp_in a3 (xlen s a1) ∧ (x_X0_in (I a1 a3.toNatClampNeg) 0 20 s rd J I (fun r24 => x_X0_tenOf_l15 Q   n a1 r24 (a3 + 1) s rd J I)))))
theorem w_X0_tenOf_l15 {X : hh_CX}  {Q : Int32 → xS → xRd → mJ → mI → Prop} (hX : hh_C X cX0_tenOf RX0 (hrx 2 40 2 11)) (hN : hh_nL X = 5) (hE : hh_E X (some .int) (xQi (fun r9 S9 R9 J9 I9 => Q r9 S9 R9 J9 I9)) 2 11) : ∀ (n : Nat) (a1 : Nat) (a2 : Int32) (a3 : Int32) (s : xS) (rd : xRd) (J : mJ) (I : mI), x_X0_tenOf_l15 Q  n a1 a2 a3 s rd J I → hh_V X 15 [(0, .ref 0), (1, .ref a1), (2, .int a2), (3, .int a3)] [] 0 0 (hx s rd J I) := by
  intro n
  induction n with
  | zero => intro _ _ _ _ _ _ _  hf; exact hf.elim
  | succ n ih =>
    intro a1 a2 a3 s rd J I  hf
    unfold x_X0_tenOf_l15 at hf
    refine hv_iload_n hX dX0_tenOf_15 rfl 3 rfl ?_
    refine hv_aload_n hX dX0_tenOf_16 rfl 1 rfl ?_
    obtain ⟨o3, hf⟩ := hf
    refine hx_alen (v := nI (xlen s a1)) hX 2 rfl dX0_tenOf_17 o3 rfl ?_
    refine hv_icmp_ge (tgt := 41) hX dX0_tenOf_18 (by decide) (fun c4 => ?_) (fun c4 => ?_)
    · replace hf := hf.1 c4
      refine hv_fewer [0, 1, 2] (loc2 := [(0, .ref 0), (1, .ref a1), (2, .int a2)]) rfl ?_
      exact w_X0_tenOf_j41 hX hN hE  _ _ _ _ _ _ hf
    · replace hf := hf.2 c4
      refine hv_iload_n hX dX0_tenOf_21 rfl 2 rfl ?_
      refine hv_if_eq (tgt := 41) hX dX0_tenOf_22 (by decide) (fun c23 => ?_) (fun c23 => ?_)
      · replace hf := hf.1 c23
        refine hv_fewer [0, 1, 2] (loc2 := [(0, .ref 0), (1, .ref a1), (2, .int a2)]) rfl ?_
        exact w_X0_tenOf_j41 hX hN hE  _ _ _ _ _ _ hf
      · replace hf := hf.2 c23
        refine hv_aload_n hX dX0_tenOf_25 rfl 1 rfl ?_
        refine hv_iload_n hX dX0_tenOf_26 rfl 3 rfl ?_
        obtain ⟨g, hf⟩ := hf
        refine hx_sald (v := (I a1 a3.toNatClampNeg)) hX dX0_tenOf_27 o3 rfl g rfl ?_
        refine hv_iconst (v := 0) hX icx_0 dX0_tenOf_28 ?_
        refine hv_bipush (v := 20) hX bix_20 dX0_tenOf_29 ?_
        refine hx_callSi hX dX0_tenOf_31 (ct_X0_in (I a1 a3.toNatClampNeg) 0 20 s rd J I _ hf) (lw_S q649 q650 q106 q651) np_X0_in rfl rfl ⟨Nat.le_of_ble_eq_true rfl, Nat.le_of_ble_eq_true rfl⟩ ⟨Nat.le_of_ble_eq_true rfl, Nat.le_of_ble_eq_true rfl⟩ (Nat.le_of_ble_eq_true rfl) ?_
        intro r24 S9 R9 J9 I9 hq
        clear hf
        obtain ⟨rfl, rfl, rfl, rfl, hf⟩ := hq
        refine hv_istore_n (loc2 := [(2, .int r24), (0, .ref 0), (1, .ref a1), (3, .int a3)]) hX dX0_tenOf_34 rfl hN (Nat.le_of_ble_eq_true rfl) rfl ?_
        refine hv_iinc (v := (a3 + 1)) (loc2 := [(3, .int (a3 + 1)), (2, .int r24), (0, .ref 0), (1, .ref a1)]) hX dX0_tenOf_35 3 rfl (congrArg (fun y => a3 + y) icx_1) hN (Nat.le_of_ble_eq_true rfl) rfl ?_
        refine hv_goto (tgt := 15) hX dX0_tenOf_38 (by decide) ?_
        refine hv_fewer [2, 3, 1, 0] (loc2 := [(0, .ref 0), (1, .ref a1), (2, .int r24), (3, .int (a3 + 1))]) rfl ?_
        exact ih _ _ _ _ _ _ _ hf
def x_X0_tenOf_j12 (Q : Int32 → xS → xRd → mJ → mI → Prop) (a1 : Nat) (p0 : Int32) (s : xS) (rd : xRd) (J : mJ) (I : mI) : Prop :=
  ∃ n0 : Nat, x_X0_tenOf_l15 Q   n0 a1 p0 0 s rd J I
theorem w_X0_tenOf_j12 {X : hh_CX}  {Q : Int32 → xS → xRd → mJ → mI → Prop} (hX : hh_C X cX0_tenOf RX0 (hrx 2 40 2 11)) (hN : hh_nL X = 5) (hE : hh_E X (some .int) (xQi (fun r9 S9 R9 J9 I9 => Q r9 S9 R9 J9 I9)) 2 11) : ∀ (a1 : Nat) (p0 : Int32) (s : xS) (rd : xRd) (J : mJ) (I : mI), x_X0_tenOf_j12 Q  a1 p0 s rd J I → hh_V X 12 [(0, .ref 0), (1, .ref a1)] [.int p0] 0 0 (hx s rd J I) := by
  intro a1 p0 s rd J I  hf
  unfold x_X0_tenOf_j12 at hf
  refine hv_istore_n (loc2 := [(2, .int p0), (0, .ref 0), (1, .ref a1)]) hX dX0_tenOf_12 rfl hN (Nat.le_of_ble_eq_true rfl) rfl ?_
  refine hv_iconst (v := 0) hX icx_0 dX0_tenOf_13 ?_
  refine hv_istore_n (loc2 := [(3, .int 0), (2, .int p0), (0, .ref 0), (1, .ref a1)]) hX dX0_tenOf_14 rfl hN (Nat.le_of_ble_eq_true rfl) rfl ?_
  refine hv_fewer [2, 3, 1, 0] (loc2 := [(0, .ref 0), (1, .ref a1), (2, .int p0), (3, .int 0)]) rfl ?_
  obtain ⟨n0, hf⟩ := hf
  exact w_X0_tenOf_l15 hX hN hE  n0 _ _ _ _ _ _ _ hf
def x_X0_tenOf (a1 : Nat) (s : xS) (rd : xRd) (J : mJ) (I : mI) (Q : Int32 → xS → xRd → mJ → mI → Prop) : Prop :=
  xo s a1 102 ∧ (((nI (xlen s a1)) = 10 →
    x_X0_tenOf_j12 Q   a1 1 s rd J I) ∧ (¬ (nI (xlen s a1)) = 10 →
    x_X0_tenOf_j12 Q   a1 0 s rd J I))
theorem ct_X0_tenOf  (a1 : Nat) (s : xS) (rd : xRd) (J : mJ) (I : mI) (Q : Int32 → xS → xRd → mJ → mI → Prop) (hf : x_X0_tenOf a1 s rd J I Q) : hh_Ct yX0_tenOf cX0_tenOf 5 (some .int) 2 40 [.ref 0, .ref a1] (hx s rd J I) (xQi (fun r9 S9 R9 J9 I9 => Q r9 S9 R9 J9 I9)) 2 11 := by
  refine hh_Ct.of (own := RX0) rfl (by decide +kernel) (Nat.le_of_ble_eq_true rfl) ?_
  intro X hX hN hE
  show hh_V X 0 [(0, .ref 0), (1, .ref a1)] [] 0 0 (hx s rd J I)
  unfold x_X0_tenOf at hf
  refine hv_aload_n hX dX0_tenOf_0 rfl 1 rfl ?_
  obtain ⟨o1, hf⟩ := hf
  refine hx_alen (v := nI (xlen s a1)) hX 2 rfl dX0_tenOf_1 o1 rfl ?_
  refine hv_bipush (v := 10) hX bix_10 dX0_tenOf_2 ?_
  refine hv_icmp_ne (tgt := 11) hX dX0_tenOf_4 (by decide) (fun c2 => ?_) (fun c2 => ?_)
  · replace hf := hf.2 c2
    refine hv_iconst (v := 0) hX icx_0 dX0_tenOf_11 ?_
    exact w_X0_tenOf_j12 hX hN hE  _ _ _ _ _ _ hf
  · replace hf := hf.1 c2
    refine hv_iconst (v := 1) hX icx_1 dX0_tenOf_7 ?_
    refine hv_goto (tgt := 12) hX dX0_tenOf_8 (by decide) ?_
    exact w_X0_tenOf_j12 hX hN hE  _ _ _ _ _ _ hf
/-! HungryHedge.risk(I)I -/
def x_X0_risk (a1 : Int32) (s : xS) (rd : xRd) (J : mJ) (I : mI) (Q : Int32 → xS → xRd → mJ → mI → Prop) : Prop :=
  x_X0_isSheet a1 s rd J I (fun r1 => (r1 = 0 →
    Q (-1) s rd J I) ∧ (¬ r1 = 0 →
    vp_in a1 4 ∧ (∃ v3 : Nat, xR rd 120 a1.toNatClampNeg = some v3 ∧ (xo s v3 10 ∧ (x_X10_row v3 s rd J I (fun r4 => x_X0_there r4 s rd J I (fun c7 => (c7 = 1 ∧ (Q (-11) s rd J I))) (fun r6 => (xo s r6 100 ∧ (Q (-13) s rd J I)) ∨ (xo s r6 101 ∧ (Q (-13) s rd J I)) ∨ (xo s r6 102 ∧ (x_X0_tenOf r6 s rd J I (fun r13 s9 rd10 J11 I12 => Q r13 s9 rd10 J11 I12))) ∨ (xo s r6 110 ∧ (Q (-13) s rd J I)))))))))
theorem ct_X0_risk  (a1 : Int32) (s : xS) (rd : xRd) (J : mJ) (I : mI) (Q : Int32 → xS → xRd → mJ → mI → Prop) (hf : x_X0_risk a1 s rd J I Q) : hh_CtW yX0_risk cX0_risk 3 (some .int) [((9 : Nat), (29 : Nat), (30 : Nat), (89 : Nat)), ((9 : Nat), (29 : Nat), (34 : Nat), (254 : Nat))] 7 10319 [.ref 0, .int a1] (hx s rd J I) (xQi (fun r9 S9 R9 J9 I9 => Q r9 S9 R9 J9 I9)) 3 910 := by
  refine hh_CtW.of (own := RX0) rfl (by decide +kernel) (Nat.le_of_ble_eq_true rfl) ?_
  intro X hX hN hE hT
  show hh_V X 0 [(0, .ref 0), (1, .int a1)] [] 0 0 (hx s rd J I)
  unfold x_X0_risk at hf
  refine hv_iload_n hX dX0_risk_0 rfl 1 rfl ?_
  refine hx_callSi hX dX0_risk_1 (ct_X0_isSheet a1 s rd J I _ hf) (lw_S q873 q874 q106 q875) np_X0_isSheet rfl rfl ⟨Nat.le_of_ble_eq_true rfl, Nat.le_of_ble_eq_true rfl⟩ ⟨Nat.le_of_ble_eq_true rfl, Nat.le_of_ble_eq_true rfl⟩ (Nat.le_of_ble_eq_true rfl) ?_
  intro r1 S9 R9 J9 I9 hq
  clear hf
  obtain ⟨rfl, rfl, rfl, rfl, hf⟩ := hq
  refine hv_if_ne (tgt := 9) hX dX0_risk_4 (by decide) (fun c2 => ?_) (fun c2 => ?_)
  · replace hf := hf.2 c2
    refine hv_aload_n hX dX0_risk_9 rfl 0 rfl ?_
    refine hv_aload_n hX dX0_risk_10 rfl 0 rfl ?_
    refine hv_aload_n hX dX0_risk_11 rfl 0 rfl ?_
    refine hx_getR (v := 120) hX dX0_risk_12 fl0_78_0 (xo_c (by decide) rfl) (xR_c rfl) ?_
    refine hv_iload_n hX dX0_risk_15 rfl 1 rfl ?_
    obtain ⟨g, hf⟩ := hf
    obtain ⟨v3, gv3, hf⟩ := hf
    refine hx_aald (v := v3) (a := 24) hX 8 rfl (by decide) dX0_risk_16 (xo_c (by decide) rfl) (xlen_c (by decide) rfl) g gv3 ?_
    obtain ⟨o5, hf⟩ := hf
    refine hx_callVo (ci := 10) (q := (RX10, TX10, 5)) hX dX0_risk_17 (ct_X10_row v3 s rd J I _ hf) (lw_V q876 q877 q878 q119 q879) rfl (by decide) ⟨rfl, np_X10_row⟩ rfl o5 rfl ⟨Nat.le_of_ble_eq_true rfl, Nat.le_of_ble_eq_true rfl⟩ ⟨Nat.le_of_ble_eq_true rfl, Nat.le_of_ble_eq_true rfl⟩ (Nat.le_of_ble_eq_true rfl) ?_
    intro r4 S9 R9 J9 I9 hq
    clear hf
    obtain ⟨rfl, rfl, rfl, rfl, hf⟩ := hq
    refine hx_callVXr (ci := 0) (q := (RX0, TX0, 19)) hX dX0_risk_20 (ct_X0_there r4 s rd J I _ _ hf) (lw_V q880 q882 qs12 q106 q883) rfl (by decide) ⟨rfl, np_X0_there⟩ rfl (xo_c (by decide) rfl) rfl ⟨Nat.le_of_ble_eq_true rfl, Nat.le_of_ble_eq_true rfl⟩ ⟨Nat.le_of_ble_eq_true rfl, Nat.le_of_ble_eq_true rfl⟩ (Nat.le_of_ble_eq_true rfl) ?_ ?_
    · intro c7 S9 R9 J9 I9 hq
      clear hf
      obtain ⟨rfl, rfl, rfl, rfl, hf⟩ := hq
      rcases hf with ⟨rfl, hf⟩
      · skip
        refine ht_catch0 (i := 2) (loc2 := [(0, .ref 0), (1, .int a1)]) hX hN hT (⟨9, 29, 30, 89⟩ : ExceptionTableEntry) (ht_takes.here (by decide) (by decide) q550 (hh_nwm q552 rfl)) (.inl ⟨_, dX0_risk_30, rfl, rfl⟩) (Nat.le_of_ble_eq_true rfl) rfl ?_
        refine hv_bipush (v := (-11)) hX bix_m11 dX0_risk_31 ?_
        refine hv_widen (z' := 3) (k' := 910) (Nat.le_of_ble_eq_true rfl) (Nat.le_of_ble_eq_true rfl) ?_
        exact hx_iret hX hE dX0_risk_33 hf
    intro r6 S9 R9 J9 I9 hq
    clear hf
    obtain ⟨rfl, rfl, rfl, rfl, hf⟩ := hq
    rcases hf with ⟨o8, hf⟩ | ⟨o8, hf⟩ | ⟨o8, hf⟩ | ⟨o8, hf⟩
    · skip
      refine hx_castZ hX q884 o8 isC_100 (by decide) (by decide) (by decide) dX0_risk_23 ⟨Nat.le_of_ble_eq_true rfl, Nat.le_of_ble_eq_true rfl⟩ ⟨Nat.le_of_ble_eq_true rfl, Nat.le_of_ble_eq_true rfl⟩ ?_
      refine ht_catch0 (i := 2) (loc2 := [(0, .ref 0), (1, .int a1)]) hX hN hT (⟨9, 29, 34, 254⟩ : ExceptionTableEntry) (ht_takes.pass (by decide) q550 (by decide) (ht_takes.here (by decide) (by decide) q846 (hh_nwm q866 rfl))) (.inl ⟨_, dX0_risk_34, rfl, rfl⟩) (Nat.le_of_ble_eq_true rfl) rfl ?_
      refine hv_bipush (v := (-13)) hX bix_m13 dX0_risk_35 ?_
      exact hx_iret hX hE dX0_risk_37 hf
    · skip
      refine hx_castZ hX q884 o8 isC_101 (by decide) (by decide) (by decide) dX0_risk_23 ⟨Nat.le_of_ble_eq_true rfl, Nat.le_of_ble_eq_true rfl⟩ ⟨Nat.le_of_ble_eq_true rfl, Nat.le_of_ble_eq_true rfl⟩ ?_
      refine ht_catch0 (i := 2) (loc2 := [(0, .ref 0), (1, .int a1)]) hX hN hT (⟨9, 29, 34, 254⟩ : ExceptionTableEntry) (ht_takes.pass (by decide) q550 (by decide) (ht_takes.here (by decide) (by decide) q846 (hh_nwm q866 rfl))) (.inl ⟨_, dX0_risk_34, rfl, rfl⟩) (Nat.le_of_ble_eq_true rfl) rfl ?_
      refine hv_bipush (v := (-13)) hX bix_m13 dX0_risk_35 ?_
      exact hx_iret hX hE dX0_risk_37 hf
    · skip
      refine hx_cast hX q884 o8 isC_102 (.inl rfl) dX0_risk_23 ?_
      refine hx_callVi (ci := 0) (q := (RX0, TX0, 19)) hX dX0_risk_26 (ct_X0_tenOf r6 s rd J I _ hf) (lw_V q885 q887 qs13 q106 q888) rfl (by decide) ⟨rfl, np_X0_tenOf⟩ rfl (xo_c (by decide) rfl) rfl ⟨Nat.le_of_ble_eq_true rfl, Nat.le_of_ble_eq_true rfl⟩ ⟨Nat.le_of_ble_eq_true rfl, Nat.le_of_ble_eq_true rfl⟩ (Nat.le_of_ble_eq_true rfl) ?_
      intro r13 s9 rd10 J11 I12 hq
      clear hf
      have hf := hq
      refine hv_widen (z' := 3) (k' := 910) (Nat.le_of_ble_eq_true rfl) (Nat.le_of_ble_eq_true rfl) ?_
      exact hx_iret hX hE dX0_risk_29 hf
    · skip
      refine hx_castZ hX q884 o8 isC_110 (by decide) (by decide) (by decide) dX0_risk_23 ⟨Nat.le_of_ble_eq_true rfl, Nat.le_of_ble_eq_true rfl⟩ ⟨Nat.le_of_ble_eq_true rfl, Nat.le_of_ble_eq_true rfl⟩ ?_
      refine ht_catch0 (i := 2) (loc2 := [(0, .ref 0), (1, .int a1)]) hX hN hT (⟨9, 29, 34, 254⟩ : ExceptionTableEntry) (ht_takes.pass (by decide) q550 (by decide) (ht_takes.here (by decide) (by decide) q846 (hh_nwm q866 rfl))) (.inl ⟨_, dX0_risk_34, rfl, rfl⟩) (Nat.le_of_ble_eq_true rfl) rfl ?_
      refine hv_bipush (v := (-13)) hX bix_m13 dX0_risk_35 ?_
      exact hx_iret hX hE dX0_risk_37 hf
  · replace hf := hf.1 c2
    refine hv_iconst (v := (-1)) hX icx_m1 dX0_risk_7 ?_
    refine hv_widen (z' := 3) (k' := 910) (Nat.le_of_ble_eq_true rfl) (Nat.le_of_ble_eq_true rfl) ?_
    exact hx_iret hX hE dX0_risk_8 hf
/-! HungryHedge.yieldsBy(I[B)I -/
def x_X0_yieldsBy_l54 (Q : Int32 → mI → Prop) : Nat → Int32 → Nat → Int32 → xS → xRd → mJ → mI → Prop
  | 0, _, _, _, _, _, _, _ => False
  | n + 1, a1, a2, a4, s, rd, J, I =>
    ((7 : Int32) ≤ a4 →
      Q 1 I) ∧ (¬ (7 : Int32) ≤ a4 →
      xo s a2 101 ∧ (vp_in a4 (xlen s a2) ∧ (vp_in ((7 * a1) + a4) 28 ∧ (x_X0_yieldsBy_l54 Q   n a1 a2 (a4 + 1) s rd J (u2 I 6 ((7 * a1) + a4).toNatClampNeg (I a2 a4.toNatClampNeg))))))
theorem w_X0_yieldsBy_l54 {X : hh_CX} {S0 : xS} {R0 : xRd} {J0 : mJ} {Q : Int32 → mI → Prop} (hX : hh_C X cX0_yieldsBy RX0 (hrx 1 22 0 0)) (hN : hh_nL X = 5) (hE : hh_E X (some .int) (xQi (fun r9 S9 R9 J9 I9 => S0 = S9 ∧ R0 = R9 ∧ J0 = J9 ∧ Q r9 I9)) 0 0) : ∀ (n : Nat) (a1 : Int32) (a2 : Nat) (a4 : Int32) (s : xS) (rd : xRd) (J : mJ) (I : mI), s = S0 → rd = R0 → J = J0 → x_X0_yieldsBy_l54 Q  n a1 a2 a4 s rd J I → hh_V X 54 [(0, .ref 0), (1, .int a1), (2, .ref a2), (4, .int a4)] [] 0 0 (hx s rd J I) := by
  intro n
  induction n with
  | zero => intro _ _ _ _ _ _ _ _ _ _ hf; exact hf.elim
  | succ n ih =>
    intro a1 a2 a4 s rd J I e0 e1 e2 hf
    subst e0
    subst e1
    subst e2
    unfold x_X0_yieldsBy_l54 at hf
    refine hv_iload hX dX0_yieldsBy_54 3 rfl ?_
    refine hv_bipush (v := 7) hX bix_7 dX0_yieldsBy_56 ?_
    refine hv_icmp_ge (tgt := 86) hX dX0_yieldsBy_58 (by decide) (fun c6 => ?_) (fun c6 => ?_)
    · replace hf := hf.1 c6
      refine hv_iconst (v := 1) hX icx_1 dX0_yieldsBy_86 ?_
      exact hx_iret hX hE dX0_yieldsBy_87 ⟨rfl, rfl, rfl, hf⟩
    · replace hf := hf.2 c6
      refine hv_aload_n hX dX0_yieldsBy_61 rfl 0 rfl ?_
      refine hx_getR (v := 1) hX dX0_yieldsBy_62 fl0_10_0 (xo_c (by decide) rfl) (xR_c rfl) ?_
      refine hx_getR (v := 6) hX dX0_yieldsBy_65 fl0_133_1 (xo_c (by decide) rfl) (xR_c rfl) ?_
      refine hv_bipush (v := 7) hX bix_7 dX0_yieldsBy_68 ?_
      refine hv_iload_n hX dX0_yieldsBy_70 rfl 1 rfl ?_
      refine hv_imul hX dX0_yieldsBy_71 ?_
      refine hv_iload hX dX0_yieldsBy_72 3 rfl ?_
      refine hv_iadd hX dX0_yieldsBy_74 ?_
      refine hv_aload_n hX dX0_yieldsBy_75 rfl 2 rfl ?_
      refine hv_iload hX dX0_yieldsBy_76 3 rfl ?_
      obtain ⟨o7, hf⟩ := hf
      obtain ⟨g, hf⟩ := hf
      refine hx_bald (v := (I a2 a4.toNatClampNeg)) hX dX0_yieldsBy_78 o7 rfl g rfl ?_
      obtain ⟨g, hf⟩ := hf
      refine hx_iast hX dX0_yieldsBy_79 (xo_c (by decide) rfl) (xlen_c (by decide) rfl) g ?_
      refine hv_iinc (v := (a4 + 1)) (loc2 := [(4, .int (a4 + 1)), (0, .ref 0), (1, .int a1), (2, .ref a2)]) hX dX0_yieldsBy_80 3 rfl (congrArg (fun y => a4 + y) icx_1) hN (Nat.le_of_ble_eq_true rfl) rfl ?_
      refine hv_goto (tgt := 54) hX dX0_yieldsBy_83 (by decide) ?_
      refine hv_fewer [1, 2, 3, 0] (loc2 := [(0, .ref 0), (1, .int a1), (2, .ref a2), (4, .int (a4 + 1))]) rfl ?_
      exact ih _ _ _ _ _ _ _ rfl rfl rfl hf
def x_X0_yieldsBy_j44 (Q : Int32 → mI → Prop) (a1 : Int32) (a2 : Nat) (a3 : Int32) (s : xS) (rd : xRd) (J : mJ) (I : mI) : Prop :=
  (a3 = 0 →
    Q (-4) I) ∧ (¬ a3 = 0 →
    ∃ n0 : Nat, x_X0_yieldsBy_l54 Q   n0 a1 a2 0 s rd J I)
theorem w_X0_yieldsBy_j44 {X : hh_CX} {S0 : xS} {R0 : xRd} {J0 : mJ} {Q : Int32 → mI → Prop} (hX : hh_C X cX0_yieldsBy RX0 (hrx 1 22 0 0)) (hN : hh_nL X = 5) (hE : hh_E X (some .int) (xQi (fun r9 S9 R9 J9 I9 => S0 = S9 ∧ R0 = R9 ∧ J0 = J9 ∧ Q r9 I9)) 0 0) : ∀ (a1 : Int32) (a2 : Nat) (a3 : Int32) (s : xS) (rd : xRd) (J : mJ) (I : mI), s = S0 → rd = R0 → J = J0 → x_X0_yieldsBy_j44 Q  a1 a2 a3 s rd J I → hh_V X 44 [(0, .ref 0), (1, .int a1), (2, .ref a2), (3, .int a3)] [] 0 0 (hx s rd J I) := by
  intro a1 a2 a3 s rd J I e0 e1 e2 hf
  subst e0
  subst e1
  subst e2
  unfold x_X0_yieldsBy_j44 at hf
  refine hv_iload_n hX dX0_yieldsBy_44 rfl 3 rfl ?_
  refine hv_if_ne (tgt := 51) hX dX0_yieldsBy_45 (by decide) (fun c5 => ?_) (fun c5 => ?_)
  · replace hf := hf.2 c5
    refine hv_iconst (v := 0) hX icx_0 dX0_yieldsBy_51 ?_
    refine hv_istore (loc2 := [(4, .int 0), (0, .ref 0), (1, .int a1), (2, .ref a2), (3, .int a3)]) hX dX0_yieldsBy_52 hN (Nat.le_of_ble_eq_true rfl) rfl ?_
    refine hv_fewer [1, 2, 3, 0] (loc2 := [(0, .ref 0), (1, .int a1), (2, .ref a2), (4, .int 0)]) rfl ?_
    obtain ⟨n0, hf⟩ := hf
    exact w_X0_yieldsBy_l54 hX hN hE  n0 _ _ _ _ _ _ _ rfl rfl rfl hf
  · replace hf := hf.1 c5
    refine hv_bipush (v := (-4)) hX bix_m4 dX0_yieldsBy_48 ?_
    exact hx_iret hX hE dX0_yieldsBy_50 ⟨rfl, rfl, rfl, hf⟩
def x_X0_yieldsBy_l16 (Q : Int32 → mI → Prop) : Nat → Int32 → Nat → Int32 → Int32 → xS → xRd → mJ → mI → Prop
  | 0, _, _, _, _, _, _, _, _ => False
  | n + 1, a1, a2, a3, a4, s, rd, J, I =>
    xo s a2 101 ∧ (((nI (xlen s a2)) ≤ a4 →
      x_X0_yieldsBy_j44 Q   a1 a2 a3 s rd J I) ∧ (¬ (nI (xlen s a2)) ≤ a4 →
      (a3 = 0 →
        x_X0_yieldsBy_j44 Q   a1 a2 a3 s rd J I) ∧ (¬ a3 = 0 →
        vp_in a4 (xlen s a2) ∧ (x_X0_in (I a2 a4.toNatClampNeg) 0 30 s rd J I (fun r9 => x_X0_yieldsBy_l16 Q   n a1 a2 r9 (a4 + 1) s rd J I)))))
theorem w_X0_yieldsBy_l16 {X : hh_CX} {S0 : xS} {R0 : xRd} {J0 : mJ} {Q : Int32 → mI → Prop} (hX : hh_C X cX0_yieldsBy RX0 (hrx 1 22 0 0)) (hN : hh_nL X = 5) (hE : hh_E X (some .int) (xQi (fun r9 S9 R9 J9 I9 => S0 = S9 ∧ R0 = R9 ∧ J0 = J9 ∧ Q r9 I9)) 0 0) : ∀ (n : Nat) (a1 : Int32) (a2 : Nat) (a3 : Int32) (a4 : Int32) (s : xS) (rd : xRd) (J : mJ) (I : mI), s = S0 → rd = R0 → J = J0 → x_X0_yieldsBy_l16 Q  n a1 a2 a3 a4 s rd J I → hh_V X 16 [(0, .ref 0), (1, .int a1), (2, .ref a2), (3, .int a3), (4, .int a4)] [] 0 0 (hx s rd J I) := by
  intro n
  induction n with
  | zero => intro _ _ _ _ _ _ _ _ _ _ _ hf; exact hf.elim
  | succ n ih =>
    intro a1 a2 a3 a4 s rd J I e0 e1 e2 hf
    subst e0
    subst e1
    subst e2
    unfold x_X0_yieldsBy_l16 at hf
    refine hv_iload hX dX0_yieldsBy_16 4 rfl ?_
    refine hv_aload_n hX dX0_yieldsBy_18 rfl 2 rfl ?_
    obtain ⟨o3, hf⟩ := hf
    refine hx_alen (v := nI (xlen s a2)) hX 1 rfl dX0_yieldsBy_19 o3 rfl ?_
    refine hv_icmp_ge (tgt := 44) hX dX0_yieldsBy_20 (by decide) (fun c4 => ?_) (fun c4 => ?_)
    · replace hf := hf.1 c4
      refine hv_fewer [0, 1, 2, 3] (loc2 := [(0, .ref 0), (1, .int a1), (2, .ref a2), (3, .int a3)]) rfl ?_
      exact w_X0_yieldsBy_j44 hX hN hE  _ _ _ _ _ _ _ rfl rfl rfl hf
    · replace hf := hf.2 c4
      refine hv_iload_n hX dX0_yieldsBy_23 rfl 3 rfl ?_
      refine hv_if_eq (tgt := 44) hX dX0_yieldsBy_24 (by decide) (fun c8 => ?_) (fun c8 => ?_)
      · replace hf := hf.1 c8
        refine hv_fewer [0, 1, 2, 3] (loc2 := [(0, .ref 0), (1, .int a1), (2, .ref a2), (3, .int a3)]) rfl ?_
        exact w_X0_yieldsBy_j44 hX hN hE  _ _ _ _ _ _ _ rfl rfl rfl hf
      · replace hf := hf.2 c8
        refine hv_aload_n hX dX0_yieldsBy_27 rfl 2 rfl ?_
        refine hv_iload hX dX0_yieldsBy_28 4 rfl ?_
        obtain ⟨g, hf⟩ := hf
        refine hx_bald (v := (I a2 a4.toNatClampNeg)) hX dX0_yieldsBy_30 o3 rfl g rfl ?_
        refine hv_iconst (v := 0) hX icx_0 dX0_yieldsBy_31 ?_
        refine hv_bipush (v := 30) hX bix_30 dX0_yieldsBy_32 ?_
        refine hx_callSi hX dX0_yieldsBy_34 (ct_X0_in (I a2 a4.toNatClampNeg) 0 30 s rd J I _ hf) (lw_S q649 q650 q106 q651) np_X0_in rfl rfl ⟨Nat.le_of_ble_eq_true rfl, Nat.le_of_ble_eq_true rfl⟩ ⟨Nat.le_of_ble_eq_true rfl, Nat.le_of_ble_eq_true rfl⟩ (Nat.le_of_ble_eq_true rfl) ?_
        intro r9 S9 R9 J9 I9 hq
        clear hf
        obtain ⟨rfl, rfl, rfl, rfl, hf⟩ := hq
        refine hv_istore_n (loc2 := [(3, .int r9), (0, .ref 0), (1, .int a1), (2, .ref a2), (4, .int a4)]) hX dX0_yieldsBy_37 rfl hN (Nat.le_of_ble_eq_true rfl) rfl ?_
        refine hv_iinc (v := (a4 + 1)) (loc2 := [(4, .int (a4 + 1)), (3, .int r9), (0, .ref 0), (1, .int a1), (2, .ref a2)]) hX dX0_yieldsBy_38 4 rfl (congrArg (fun y => a4 + y) icx_1) hN (Nat.le_of_ble_eq_true rfl) rfl ?_
        refine hv_goto (tgt := 16) hX dX0_yieldsBy_41 (by decide) ?_
        refine hv_fewer [2, 3, 4, 1, 0] (loc2 := [(0, .ref 0), (1, .int a1), (2, .ref a2), (3, .int r9), (4, .int (a4 + 1))]) rfl ?_
        exact ih _ _ _ _ _ _ _ _ rfl rfl rfl hf
def x_X0_yieldsBy_j12 (Q : Int32 → mI → Prop) (a1 : Int32) (a2 : Nat) (p0 : Int32) (s : xS) (rd : xRd) (J : mJ) (I : mI) : Prop :=
  ∃ n0 : Nat, x_X0_yieldsBy_l16 Q   n0 a1 a2 p0 0 s rd J I
theorem w_X0_yieldsBy_j12 {X : hh_CX} {S0 : xS} {R0 : xRd} {J0 : mJ} {Q : Int32 → mI → Prop} (hX : hh_C X cX0_yieldsBy RX0 (hrx 1 22 0 0)) (hN : hh_nL X = 5) (hE : hh_E X (some .int) (xQi (fun r9 S9 R9 J9 I9 => S0 = S9 ∧ R0 = R9 ∧ J0 = J9 ∧ Q r9 I9)) 0 0) : ∀ (a1 : Int32) (a2 : Nat) (p0 : Int32) (s : xS) (rd : xRd) (J : mJ) (I : mI), s = S0 → rd = R0 → J = J0 → x_X0_yieldsBy_j12 Q  a1 a2 p0 s rd J I → hh_V X 12 [(0, .ref 0), (1, .int a1), (2, .ref a2)] [.int p0] 0 0 (hx s rd J I) := by
  intro a1 a2 p0 s rd J I e0 e1 e2 hf
  subst e0
  subst e1
  subst e2
  unfold x_X0_yieldsBy_j12 at hf
  refine hv_istore_n (loc2 := [(3, .int p0), (0, .ref 0), (1, .int a1), (2, .ref a2)]) hX dX0_yieldsBy_12 rfl hN (Nat.le_of_ble_eq_true rfl) rfl ?_
  refine hv_iconst (v := 0) hX icx_0 dX0_yieldsBy_13 ?_
  refine hv_istore (loc2 := [(4, .int 0), (3, .int p0), (0, .ref 0), (1, .int a1), (2, .ref a2)]) hX dX0_yieldsBy_14 hN (Nat.le_of_ble_eq_true rfl) rfl ?_
  refine hv_fewer [2, 3, 4, 1, 0] (loc2 := [(0, .ref 0), (1, .int a1), (2, .ref a2), (3, .int p0), (4, .int 0)]) rfl ?_
  obtain ⟨n0, hf⟩ := hf
  exact w_X0_yieldsBy_l16 hX hN hE  n0 _ _ _ _ _ _ _ _ rfl rfl rfl hf
def x_X0_yieldsBy (a1 : Int32) (a2 : Nat) (s : xS) (rd : xRd) (J : mJ) (I : mI) (Q : Int32 → mI → Prop) : Prop :=
  xo s a2 101 ∧ (((nI (xlen s a2)) = 7 →
    x_X0_yieldsBy_j12 Q   a1 a2 1 s rd J I) ∧ (¬ (nI (xlen s a2)) = 7 →
    x_X0_yieldsBy_j12 Q   a1 a2 0 s rd J I))
theorem ct_X0_yieldsBy  (a1 : Int32) (a2 : Nat) (s : xS) (rd : xRd) (J : mJ) (I : mI) (Q : Int32 → mI → Prop) (hf : x_X0_yieldsBy a1 a2 s rd J I Q) : hh_Ct yX0_yieldsBy cX0_yieldsBy 5 (some .int) 1 22 [.ref 0, .int a1, .ref a2] (hx s rd J I) (xQi (fun r9 S9 R9 J9 I9 => s = S9 ∧ rd = R9 ∧ J = J9 ∧ Q r9 I9)) 0 0 := by
  refine hh_Ct.of (own := RX0) rfl (by decide +kernel) (Nat.le_of_ble_eq_true rfl) ?_
  intro X hX hN hE
  show hh_V X 0 [(0, .ref 0), (1, .int a1), (2, .ref a2)] [] 0 0 (hx s rd J I)
  unfold x_X0_yieldsBy at hf
  refine hv_aload_n hX dX0_yieldsBy_0 rfl 2 rfl ?_
  obtain ⟨o1, hf⟩ := hf
  refine hx_alen (v := nI (xlen s a2)) hX 1 rfl dX0_yieldsBy_1 o1 rfl ?_
  refine hv_bipush (v := 7) hX bix_7 dX0_yieldsBy_2 ?_
  refine hv_icmp_ne (tgt := 11) hX dX0_yieldsBy_4 (by decide) (fun c2 => ?_) (fun c2 => ?_)
  · replace hf := hf.2 c2
    refine hv_iconst (v := 0) hX icx_0 dX0_yieldsBy_11 ?_
    exact w_X0_yieldsBy_j12 hX hN hE  _ _ _ _ _ _ _ rfl rfl rfl hf
  · replace hf := hf.1 c2
    refine hv_iconst (v := 1) hX icx_1 dX0_yieldsBy_7 ?_
    refine hv_goto (tgt := 12) hX dX0_yieldsBy_8 (by decide) ?_
    exact w_X0_yieldsBy_j12 hX hN hE  _ _ _ _ _ _ _ rfl rfl rfl hf
/-! HungryHedge.yields(II)I -/
def x_X0_yields (a1 : Int32) (a2 : Int32) (s : xS) (rd : xRd) (J : mJ) (I : mI) (Q : Int32 → mI → Prop) : Prop :=
  x_X0_isPatch a1 s rd J I (fun r1 => (r1 = 0 →
    Q (-1) I) ∧ (¬ r1 = 0 →
    x_X0_isSheet a2 s rd J I (fun r3 => (r3 = 0 →
      Q (-1) I) ∧ (¬ r3 = 0 →
      vp_in a2 4 ∧ (∃ v5 : Nat, xR rd 120 a2.toNatClampNeg = some v5 ∧ (xo s v5 10 ∧ (x_X10_row v5 s rd J I (fun r6 => x_X0_there r6 s rd J I (fun c9 => (c9 = 1 ∧ (Q (-11) I))) (fun r8 => (xo s r8 100 ∧ (Q (-13) I)) ∨ (xo s r8 101 ∧ (x_X0_yieldsBy a1 r8 s rd J I (fun r12 I11 => Q r12 I11))) ∨ (xo s r8 102 ∧ (Q (-13) I)) ∨ (xo s r8 110 ∧ (Q (-13) I)))))))))))
theorem ct_X0_yields  (a1 : Int32) (a2 : Int32) (s : xS) (rd : xRd) (J : mJ) (I : mI) (Q : Int32 → mI → Prop) (hf : x_X0_yields a1 a2 s rd J I Q) : hh_CtW yX0_yields cX0_yields 4 (some .int) [((17 : Nat), (38 : Nat), (39 : Nat), (89 : Nat)), ((17 : Nat), (38 : Nat), (43 : Nat), (254 : Nat))] 7 10319 [.ref 0, .int a1, .int a2] (hx s rd J I) (xQi (fun r9 S9 R9 J9 I9 => s = S9 ∧ rd = R9 ∧ J = J9 ∧ Q r9 I9)) 3 910 := by
  refine hh_CtW.of (own := RX0) rfl (by decide +kernel) (Nat.le_of_ble_eq_true rfl) ?_
  intro X hX hN hE hT
  show hh_V X 0 [(0, .ref 0), (1, .int a1), (2, .int a2)] [] 0 0 (hx s rd J I)
  unfold x_X0_yields at hf
  refine hv_aload_n hX dX0_yields_0 rfl 0 rfl ?_
  refine hv_iload_n hX dX0_yields_1 rfl 1 rfl ?_
  refine hx_callVi (ci := 0) (q := (RX0, TX0, 19)) hX dX0_yields_2 (ct_X0_isPatch a1 s rd J I _ hf) (lw_V q656 q658 qs1 q106 q659) rfl (by decide) ⟨rfl, np_X0_isPatch⟩ rfl (xo_c (by decide) rfl) rfl ⟨Nat.le_of_ble_eq_true rfl, Nat.le_of_ble_eq_true rfl⟩ ⟨Nat.le_of_ble_eq_true rfl, Nat.le_of_ble_eq_true rfl⟩ (Nat.le_of_ble_eq_true rfl) ?_
  intro r1 S9 R9 J9 I9 hq
  clear hf
  obtain ⟨rfl, rfl, rfl, rfl, hf⟩ := hq
  refine hv_if_eq (tgt := 15) hX dX0_yields_5 (by decide) (fun c2 => ?_) (fun c2 => ?_)
  · replace hf := hf.1 c2
    refine hv_iconst (v := (-1)) hX icx_m1 dX0_yields_15 ?_
    refine hv_widen (z' := 3) (k' := 910) (Nat.le_of_ble_eq_true rfl) (Nat.le_of_ble_eq_true rfl) ?_
    exact hx_iret hX hE dX0_yields_16 ⟨rfl, rfl, rfl, hf⟩
  · replace hf := hf.2 c2
    refine hv_iload_n hX dX0_yields_8 rfl 2 rfl ?_
    refine hx_callSi hX dX0_yields_9 (ct_X0_isSheet a2 s rd J I _ hf) (lw_S q873 q874 q106 q875) np_X0_isSheet rfl rfl ⟨Nat.le_of_ble_eq_true rfl, Nat.le_of_ble_eq_true rfl⟩ ⟨Nat.le_of_ble_eq_true rfl, Nat.le_of_ble_eq_true rfl⟩ (Nat.le_of_ble_eq_true rfl) ?_
    intro r3 S9 R9 J9 I9 hq
    clear hf
    obtain ⟨rfl, rfl, rfl, rfl, hf⟩ := hq
    refine hv_if_ne (tgt := 17) hX dX0_yields_12 (by decide) (fun c4 => ?_) (fun c4 => ?_)
    · replace hf := hf.2 c4
      refine hv_aload_n hX dX0_yields_17 rfl 0 rfl ?_
      refine hv_iload_n hX dX0_yields_18 rfl 1 rfl ?_
      refine hv_aload_n hX dX0_yields_19 rfl 0 rfl ?_
      refine hv_aload_n hX dX0_yields_20 rfl 0 rfl ?_
      refine hx_getR (v := 120) hX dX0_yields_21 fl0_78_0 (xo_c (by decide) rfl) (xR_c rfl) ?_
      refine hv_iload_n hX dX0_yields_24 rfl 2 rfl ?_
      obtain ⟨g, hf⟩ := hf
      obtain ⟨v5, gv5, hf⟩ := hf
      refine hx_aald (v := v5) (a := 24) hX 8 rfl (by decide) dX0_yields_25 (xo_c (by decide) rfl) (xlen_c (by decide) rfl) g gv5 ?_
      obtain ⟨o7, hf⟩ := hf
      refine hx_callVo (ci := 10) (q := (RX10, TX10, 5)) hX dX0_yields_26 (ct_X10_row v5 s rd J I _ hf) (lw_V q876 q877 q878 q119 q879) rfl (by decide) ⟨rfl, np_X10_row⟩ rfl o7 rfl ⟨Nat.le_of_ble_eq_true rfl, Nat.le_of_ble_eq_true rfl⟩ ⟨Nat.le_of_ble_eq_true rfl, Nat.le_of_ble_eq_true rfl⟩ (Nat.le_of_ble_eq_true rfl) ?_
      intro r6 S9 R9 J9 I9 hq
      clear hf
      obtain ⟨rfl, rfl, rfl, rfl, hf⟩ := hq
      refine hx_callVXr (ci := 0) (q := (RX0, TX0, 19)) hX dX0_yields_29 (ct_X0_there r6 s rd J I _ _ hf) (lw_V q880 q882 qs12 q106 q883) rfl (by decide) ⟨rfl, np_X0_there⟩ rfl (xo_c (by decide) rfl) rfl ⟨Nat.le_of_ble_eq_true rfl, Nat.le_of_ble_eq_true rfl⟩ ⟨Nat.le_of_ble_eq_true rfl, Nat.le_of_ble_eq_true rfl⟩ (Nat.le_of_ble_eq_true rfl) ?_ ?_
      · intro c9 S9 R9 J9 I9 hq
        clear hf
        obtain ⟨rfl, rfl, rfl, rfl, hf⟩ := hq
        rcases hf with ⟨rfl, hf⟩
        · skip
          refine ht_catch0 (i := 3) (loc2 := [(0, .ref 0), (1, .int a1), (2, .int a2)]) hX hN hT (⟨17, 38, 39, 89⟩ : ExceptionTableEntry) (ht_takes.here (by decide) (by decide) q550 (hh_nwm q552 rfl)) (.inl ⟨_, dX0_yields_39, rfl, rfl⟩) (Nat.le_of_ble_eq_true rfl) rfl ?_
          refine hv_bipush (v := (-11)) hX bix_m11 dX0_yields_40 ?_
          refine hv_widen (z' := 3) (k' := 910) (Nat.le_of_ble_eq_true rfl) (Nat.le_of_ble_eq_true rfl) ?_
          exact hx_iret hX hE dX0_yields_42 ⟨rfl, rfl, rfl, hf⟩
      intro r8 S9 R9 J9 I9 hq
      clear hf
      obtain ⟨rfl, rfl, rfl, rfl, hf⟩ := hq
      rcases hf with ⟨o10, hf⟩ | ⟨o10, hf⟩ | ⟨o10, hf⟩ | ⟨o10, hf⟩
      · skip
        refine hx_castZ hX q905 o10 isC_100 (by decide) (by decide) (by decide) dX0_yields_32 ⟨Nat.le_of_ble_eq_true rfl, Nat.le_of_ble_eq_true rfl⟩ ⟨Nat.le_of_ble_eq_true rfl, Nat.le_of_ble_eq_true rfl⟩ ?_
        refine ht_catch0 (i := 3) (loc2 := [(0, .ref 0), (1, .int a1), (2, .int a2)]) hX hN hT (⟨17, 38, 43, 254⟩ : ExceptionTableEntry) (ht_takes.pass (by decide) q550 (by decide) (ht_takes.here (by decide) (by decide) q846 (hh_nwm q866 rfl))) (.inl ⟨_, dX0_yields_43, rfl, rfl⟩) (Nat.le_of_ble_eq_true rfl) rfl ?_
        refine hv_bipush (v := (-13)) hX bix_m13 dX0_yields_44 ?_
        exact hx_iret hX hE dX0_yields_46 ⟨rfl, rfl, rfl, hf⟩
      · skip
        refine hx_cast hX q905 o10 isC_101 (.inl rfl) dX0_yields_32 ?_
        refine hx_callVi (ci := 0) (q := (RX0, TX0, 19)) hX dX0_yields_35 (ct_X0_yieldsBy a1 r8 s rd J I _ hf) (lw_V q906 q908 qs14 q106 q909) rfl (by decide) ⟨rfl, np_X0_yieldsBy⟩ rfl (xo_c (by decide) rfl) rfl ⟨Nat.le_of_ble_eq_true rfl, Nat.le_of_ble_eq_true rfl⟩ ⟨Nat.le_of_ble_eq_true rfl, Nat.le_of_ble_eq_true rfl⟩ (Nat.le_of_ble_eq_true rfl) ?_
        intro r12 S9 R9 J9 I11 hq
        clear hf
        obtain ⟨rfl, rfl, rfl, hf⟩ := hq
        refine hv_widen (z' := 3) (k' := 910) (Nat.le_of_ble_eq_true rfl) (Nat.le_of_ble_eq_true rfl) ?_
        exact hx_iret hX hE dX0_yields_38 ⟨rfl, rfl, rfl, hf⟩
      · skip
        refine hx_castZ hX q905 o10 isC_102 (by decide) (by decide) (by decide) dX0_yields_32 ⟨Nat.le_of_ble_eq_true rfl, Nat.le_of_ble_eq_true rfl⟩ ⟨Nat.le_of_ble_eq_true rfl, Nat.le_of_ble_eq_true rfl⟩ ?_
        refine ht_catch0 (i := 3) (loc2 := [(0, .ref 0), (1, .int a1), (2, .int a2)]) hX hN hT (⟨17, 38, 43, 254⟩ : ExceptionTableEntry) (ht_takes.pass (by decide) q550 (by decide) (ht_takes.here (by decide) (by decide) q846 (hh_nwm q866 rfl))) (.inl ⟨_, dX0_yields_43, rfl, rfl⟩) (Nat.le_of_ble_eq_true rfl) rfl ?_
        refine hv_bipush (v := (-13)) hX bix_m13 dX0_yields_44 ?_
        exact hx_iret hX hE dX0_yields_46 ⟨rfl, rfl, rfl, hf⟩
      · skip
        refine hx_castZ hX q905 o10 isC_110 (by decide) (by decide) (by decide) dX0_yields_32 ⟨Nat.le_of_ble_eq_true rfl, Nat.le_of_ble_eq_true rfl⟩ ⟨Nat.le_of_ble_eq_true rfl, Nat.le_of_ble_eq_true rfl⟩ ?_
        refine ht_catch0 (i := 3) (loc2 := [(0, .ref 0), (1, .int a1), (2, .int a2)]) hX hN hT (⟨17, 38, 43, 254⟩ : ExceptionTableEntry) (ht_takes.pass (by decide) q550 (by decide) (ht_takes.here (by decide) (by decide) q846 (hh_nwm q866 rfl))) (.inl ⟨_, dX0_yields_43, rfl, rfl⟩) (Nat.le_of_ble_eq_true rfl) rfl ?_
        refine hv_bipush (v := (-13)) hX bix_m13 dX0_yields_44 ?_
        exact hx_iret hX hE dX0_yields_46 ⟨rfl, rfl, rfl, hf⟩
    · replace hf := hf.1 c4
      refine hv_iconst (v := (-1)) hX icx_m1 dX0_yields_15 ?_
      refine hv_widen (z' := 3) (k' := 910) (Nat.le_of_ble_eq_true rfl) (Nat.le_of_ble_eq_true rfl) ?_
      exact hx_iret hX hE dX0_yields_16 ⟨rfl, rfl, rfl, hf⟩
/-! HungryHedge.flock(II)I -/
def x_X0_flock_j117 (Q : Int32 → mI → Prop) (a1 : Int32) (a2 : Int32) (a3 : Int32) (p1 : Int32) (s : xS) (rd : xRd) (J : mJ) (I : mI) : Prop :=
  (a1 = 2 →
    Q a3 (u2 (u2 I 1 6 p1) 1 7 a2)) ∧ (¬ a1 = 2 →
    Q a3 (u2 (u2 I 1 6 p1) 1 7 (I 1 7)))
theorem w_X0_flock_j117 {X : hh_CX} {S0 : xS} {R0 : xRd} {J0 : mJ} {Q : Int32 → mI → Prop} (hX : hh_C X cX0_flock RX0 (hrx 1 22 0 0)) (hN : hh_nL X = 4) (hE : hh_E X (some .int) (xQi (fun r9 S9 R9 J9 I9 => S0 = S9 ∧ R0 = R9 ∧ J0 = J9 ∧ Q r9 I9)) 0 0) : ∀ (a1 : Int32) (a2 : Int32) (a3 : Int32) (p1 : Int32) (s : xS) (rd : xRd) (J : mJ) (I : mI), s = S0 → rd = R0 → J = J0 → x_X0_flock_j117 Q  a1 a2 a3 p1 s rd J I → hh_V X 117 [(0, .ref 0), (1, .int a1), (2, .int a2), (3, .int a3)] [.int p1, .ref 1] 0 0 (hx s rd J I) := by
  intro a1 a2 a3 p1 s rd J I e0 e1 e2 hf
  subst e0
  subst e1
  subst e2
  unfold x_X0_flock_j117 at hf
  refine hx_putI hX dX0_flock_117 fl0_264_1 (xo_c (by decide) rfl) ?_
  refine hv_aload_n hX dX0_flock_120 rfl 0 rfl ?_
  refine hx_getR (v := 1) hX dX0_flock_121 fl0_10_0 (xo_c (by decide) rfl) (xR_c rfl) ?_
  refine hv_iload_n hX dX0_flock_124 rfl 1 rfl ?_
  refine hv_iconst (v := 2) hX icx_2 dX0_flock_125 ?_
  refine hv_icmp_ne (tgt := 133) hX dX0_flock_126 (by decide) (fun c10 => ?_) (fun c10 => ?_)
  · replace hf := hf.2 c10
    refine hv_aload_n hX dX0_flock_133 rfl 0 rfl ?_
    refine hx_getR (v := 1) hX dX0_flock_134 fl0_10_0 (xo_c (by decide) rfl) (xR_c rfl) ?_
    refine hx_getI (v := (I 1 7)) hX dX0_flock_137 fl0_267_1 (.inl rfl) (xo_c (by decide) rfl) ((u2_ne _ _ (.inr (by decide)))) ?_
    refine hx_putI hX dX0_flock_140 fl0_267_1 (xo_c (by decide) rfl) ?_
    refine hv_iload_n hX dX0_flock_143 rfl 3 rfl ?_
    exact hx_iret hX hE dX0_flock_144 ⟨rfl, rfl, rfl, hf⟩
  · replace hf := hf.1 c10
    refine hv_iload_n hX dX0_flock_129 rfl 2 rfl ?_
    refine hv_goto (tgt := 140) hX dX0_flock_130 (by decide) ?_
    refine hx_putI hX dX0_flock_140 fl0_267_1 (xo_c (by decide) rfl) ?_
    refine hv_iload_n hX dX0_flock_143 rfl 3 rfl ?_
    exact hx_iret hX hE dX0_flock_144 ⟨rfl, rfl, rfl, hf⟩
def x_X0_flock_j94 (Q : Int32 → mI → Prop) (a1 : Int32) (a2 : Int32) (a3 : Int32) (p1 : Int32) (s : xS) (rd : xRd) (J : mJ) (I : mI) : Prop :=
  (a1 = 1 →
    x_X0_flock_j117 Q   a1 a2 a3 a2 s rd J (u2 I 1 5 p1)) ∧ (¬ a1 = 1 →
    x_X0_flock_j117 Q   a1 a2 a3 (I 1 6) s rd J (u2 I 1 5 p1))
theorem w_X0_flock_j94 {X : hh_CX} {S0 : xS} {R0 : xRd} {J0 : mJ} {Q : Int32 → mI → Prop} (hX : hh_C X cX0_flock RX0 (hrx 1 22 0 0)) (hN : hh_nL X = 4) (hE : hh_E X (some .int) (xQi (fun r9 S9 R9 J9 I9 => S0 = S9 ∧ R0 = R9 ∧ J0 = J9 ∧ Q r9 I9)) 0 0) : ∀ (a1 : Int32) (a2 : Int32) (a3 : Int32) (p1 : Int32) (s : xS) (rd : xRd) (J : mJ) (I : mI), s = S0 → rd = R0 → J = J0 → x_X0_flock_j94 Q  a1 a2 a3 p1 s rd J I → hh_V X 94 [(0, .ref 0), (1, .int a1), (2, .int a2), (3, .int a3)] [.int p1, .ref 1] 0 0 (hx s rd J I) := by
  intro a1 a2 a3 p1 s rd J I e0 e1 e2 hf
  subst e0
  subst e1
  subst e2
  unfold x_X0_flock_j94 at hf
  refine hx_putI hX dX0_flock_94 fl0_261_1 (xo_c (by decide) rfl) ?_
  refine hv_aload_n hX dX0_flock_97 rfl 0 rfl ?_
  refine hx_getR (v := 1) hX dX0_flock_98 fl0_10_0 (xo_c (by decide) rfl) (xR_c rfl) ?_
  refine hv_iload_n hX dX0_flock_101 rfl 1 rfl ?_
  refine hv_iconst (v := 1) hX icx_1 dX0_flock_102 ?_
  refine hv_icmp_ne (tgt := 110) hX dX0_flock_103 (by decide) (fun c9 => ?_) (fun c9 => ?_)
  · replace hf := hf.2 c9
    refine hv_aload_n hX dX0_flock_110 rfl 0 rfl ?_
    refine hx_getR (v := 1) hX dX0_flock_111 fl0_10_0 (xo_c (by decide) rfl) (xR_c rfl) ?_
    refine hx_getI (v := (I 1 6)) hX dX0_flock_114 fl0_264_1 (.inl rfl) (xo_c (by decide) rfl) ((u2_ne _ _ (.inr (by decide)))) ?_
    exact w_X0_flock_j117 hX hN hE  _ _ _ _ _ _ _ _ rfl rfl rfl hf
  · replace hf := hf.1 c9
    refine hv_iload_n hX dX0_flock_106 rfl 2 rfl ?_
    refine hv_goto (tgt := 117) hX dX0_flock_107 (by decide) ?_
    exact w_X0_flock_j117 hX hN hE  _ _ _ _ _ _ _ _ rfl rfl rfl hf
def x_X0_flock_j74 (Q : Int32 → mI → Prop) (a1 : Int32) (a2 : Int32) (p0 : Int32) (s : xS) (rd : xRd) (J : mJ) (I : mI) : Prop :=
  (a1 = 0 →
    x_X0_flock_j94 Q   a1 a2 p0 a2 s rd J I) ∧ (¬ a1 = 0 →
    x_X0_flock_j94 Q   a1 a2 p0 (I 1 5) s rd J I)
theorem w_X0_flock_j74 {X : hh_CX} {S0 : xS} {R0 : xRd} {J0 : mJ} {Q : Int32 → mI → Prop} (hX : hh_C X cX0_flock RX0 (hrx 1 22 0 0)) (hN : hh_nL X = 4) (hE : hh_E X (some .int) (xQi (fun r9 S9 R9 J9 I9 => S0 = S9 ∧ R0 = R9 ∧ J0 = J9 ∧ Q r9 I9)) 0 0) : ∀ (a1 : Int32) (a2 : Int32) (p0 : Int32) (s : xS) (rd : xRd) (J : mJ) (I : mI), s = S0 → rd = R0 → J = J0 → x_X0_flock_j74 Q  a1 a2 p0 s rd J I → hh_V X 74 [(0, .ref 0), (1, .int a1), (2, .int a2)] [.int p0] 0 0 (hx s rd J I) := by
  intro a1 a2 p0 s rd J I e0 e1 e2 hf
  subst e0
  subst e1
  subst e2
  unfold x_X0_flock_j74 at hf
  refine hv_istore_n (loc2 := [(3, .int p0), (0, .ref 0), (1, .int a1), (2, .int a2)]) hX dX0_flock_74 rfl hN (Nat.le_of_ble_eq_true rfl) rfl ?_
  refine hv_aload_n hX dX0_flock_75 rfl 1 rfl ?_
  refine hx_getR (v := 1) hX dX0_flock_76 fl0_10_0 (xo_c (by decide) rfl) (xR_c rfl) ?_
  refine hv_iload_n hX dX0_flock_79 rfl 2 rfl ?_
  refine hv_if_ne (tgt := 87) hX dX0_flock_80 (by decide) (fun c8 => ?_) (fun c8 => ?_)
  · replace hf := hf.2 c8
    refine hv_aload_n hX dX0_flock_87 rfl 1 rfl ?_
    refine hx_getR (v := 1) hX dX0_flock_88 fl0_10_0 (xo_c (by decide) rfl) (xR_c rfl) ?_
    refine hx_getI (v := (I 1 5)) hX dX0_flock_91 fl0_261_1 (.inl rfl) (xo_c (by decide) rfl) rfl ?_
    refine hv_fewer [1, 2, 3, 0] (loc2 := [(0, .ref 0), (1, .int a1), (2, .int a2), (3, .int p0)]) rfl ?_
    exact w_X0_flock_j94 hX hN hE  _ _ _ _ _ _ _ _ rfl rfl rfl hf
  · replace hf := hf.1 c8
    refine hv_iload_n hX dX0_flock_83 rfl 3 rfl ?_
    refine hv_goto (tgt := 94) hX dX0_flock_84 (by decide) ?_
    refine hv_fewer [1, 2, 3, 0] (loc2 := [(0, .ref 0), (1, .int a1), (2, .int a2), (3, .int p0)]) rfl ?_
    exact w_X0_flock_j94 hX hN hE  _ _ _ _ _ _ _ _ rfl rfl rfl hf
def x_X0_flock_j38 (Q : Int32 → mI → Prop) (a1 : Int32) (a2 : Int32) (s : xS) (rd : xRd) (J : mJ) (I : mI) : Prop :=
  (a1 = 0 →
    x_X0_flock_j74 Q   a1 a2 (I 1 5) s rd J I) ∧ (¬ a1 = 0 →
    (a1 = 1 →
      x_X0_flock_j74 Q   a1 a2 (I 1 6) s rd J I) ∧ (¬ a1 = 1 →
      x_X0_flock_j74 Q   a1 a2 (I 1 7) s rd J I))
theorem w_X0_flock_j38 {X : hh_CX} {S0 : xS} {R0 : xRd} {J0 : mJ} {Q : Int32 → mI → Prop} (hX : hh_C X cX0_flock RX0 (hrx 1 22 0 0)) (hN : hh_nL X = 4) (hE : hh_E X (some .int) (xQi (fun r9 S9 R9 J9 I9 => S0 = S9 ∧ R0 = R9 ∧ J0 = J9 ∧ Q r9 I9)) 0 0) : ∀ (a1 : Int32) (a2 : Int32) (s : xS) (rd : xRd) (J : mJ) (I : mI), s = S0 → rd = R0 → J = J0 → x_X0_flock_j38 Q  a1 a2 s rd J I → hh_V X 38 [(0, .ref 0), (1, .int a1), (2, .int a2)] [] 0 0 (hx s rd J I) := by
  intro a1 a2 s rd J I e0 e1 e2 hf
  subst e0
  subst e1
  subst e2
  unfold x_X0_flock_j38 at hf
  refine hv_iload_n hX dX0_flock_38 rfl 1 rfl ?_
  refine hv_if_ne (tgt := 52) hX dX0_flock_39 (by decide) (fun c6 => ?_) (fun c6 => ?_)
  · replace hf := hf.2 c6
    refine hv_iload_n hX dX0_flock_52 rfl 1 rfl ?_
    refine hv_iconst (v := 1) hX icx_1 dX0_flock_53 ?_
    refine hv_icmp_ne (tgt := 67) hX dX0_flock_54 (by decide) (fun c7 => ?_) (fun c7 => ?_)
    · replace hf := hf.2 c7
      refine hv_aload_n hX dX0_flock_67 rfl 0 rfl ?_
      refine hx_getR (v := 1) hX dX0_flock_68 fl0_10_0 (xo_c (by decide) rfl) (xR_c rfl) ?_
      refine hx_getI (v := (I 1 7)) hX dX0_flock_71 fl0_267_1 (.inl rfl) (xo_c (by decide) rfl) rfl ?_
      exact w_X0_flock_j74 hX hN hE  _ _ _ _ _ _ _ rfl rfl rfl hf
    · replace hf := hf.1 c7
      refine hv_aload_n hX dX0_flock_57 rfl 0 rfl ?_
      refine hx_getR (v := 1) hX dX0_flock_58 fl0_10_0 (xo_c (by decide) rfl) (xR_c rfl) ?_
      refine hx_getI (v := (I 1 6)) hX dX0_flock_61 fl0_264_1 (.inl rfl) (xo_c (by decide) rfl) rfl ?_
      refine hv_goto (tgt := 74) hX dX0_flock_64 (by decide) ?_
      exact w_X0_flock_j74 hX hN hE  _ _ _ _ _ _ _ rfl rfl rfl hf
  · replace hf := hf.1 c6
    refine hv_aload_n hX dX0_flock_42 rfl 0 rfl ?_
    refine hx_getR (v := 1) hX dX0_flock_43 fl0_10_0 (xo_c (by decide) rfl) (xR_c rfl) ?_
    refine hx_getI (v := (I 1 5)) hX dX0_flock_46 fl0_261_1 (.inl rfl) (xo_c (by decide) rfl) rfl ?_
    refine hv_goto (tgt := 74) hX dX0_flock_49 (by decide) ?_
    exact w_X0_flock_j74 hX hN hE  _ _ _ _ _ _ _ rfl rfl rfl hf
def x_X0_flock (a1 : Int32) (a2 : Int32) (s : xS) (rd : xRd) (J : mJ) (I : mI) (Q : Int32 → mI → Prop) : Prop :=
  x_X0_in a1 0 2 s rd J I (fun r1 => (r1 = 0 →
    Q (-1) I) ∧ (¬ r1 = 0 →
    (a1 = 2 →
      x_X0_in a2 1 5 s rd J I (fun r11 => (r11 = 0 →
        Q (-1) I) ∧ (¬ r11 = 0 →
        x_X0_flock_j38 Q   a1 a2 s rd J I))) ∧ (¬ a1 = 2 →
      x_X0_in a2 0 6 s rd J I (fun r4 => (r4 = 0 →
        Q (-1) I) ∧ (¬ r4 = 0 →
        x_X0_flock_j38 Q   a1 a2 s rd J I)))))
theorem ct_X0_flock  (a1 : Int32) (a2 : Int32) (s : xS) (rd : xRd) (J : mJ) (I : mI) (Q : Int32 → mI → Prop) (hf : x_X0_flock a1 a2 s rd J I Q) : hh_Ct yX0_flock cX0_flock 4 (some .int) 1 22 [.ref 0, .int a1, .int a2] (hx s rd J I) (xQi (fun r9 S9 R9 J9 I9 => s = S9 ∧ rd = R9 ∧ J = J9 ∧ Q r9 I9)) 0 0 := by
  refine hh_Ct.of (own := RX0) rfl (by decide +kernel) (Nat.le_of_ble_eq_true rfl) ?_
  intro X hX hN hE
  show hh_V X 0 [(0, .ref 0), (1, .int a1), (2, .int a2)] [] 0 0 (hx s rd J I)
  unfold x_X0_flock at hf
  refine hv_iload_n hX dX0_flock_0 rfl 1 rfl ?_
  refine hv_iconst (v := 0) hX icx_0 dX0_flock_1 ?_
  refine hv_iconst (v := 2) hX icx_2 dX0_flock_2 ?_
  refine hx_callSi hX dX0_flock_3 (ct_X0_in a1 0 2 s rd J I _ hf) (lw_S q649 q650 q106 q651) np_X0_in rfl rfl ⟨Nat.le_of_ble_eq_true rfl, Nat.le_of_ble_eq_true rfl⟩ ⟨Nat.le_of_ble_eq_true rfl, Nat.le_of_ble_eq_true rfl⟩ (Nat.le_of_ble_eq_true rfl) ?_
  intro r1 S9 R9 J9 I9 hq
  clear hf
  obtain ⟨rfl, rfl, rfl, rfl, hf⟩ := hq
  refine hv_if_eq (tgt := 36) hX dX0_flock_6 (by decide) (fun c2 => ?_) (fun c2 => ?_)
  · replace hf := hf.1 c2
    refine hv_iconst (v := (-1)) hX icx_m1 dX0_flock_36 ?_
    exact hx_iret hX hE dX0_flock_37 ⟨rfl, rfl, rfl, hf⟩
  · replace hf := hf.2 c2
    refine hv_iload_n hX dX0_flock_9 rfl 1 rfl ?_
    refine hv_iconst (v := 2) hX icx_2 dX0_flock_10 ?_
    refine hv_icmp_ne (tgt := 26) hX dX0_flock_11 (by decide) (fun c3 => ?_) (fun c3 => ?_)
    · replace hf := hf.2 c3
      refine hv_iload_n hX dX0_flock_26 rfl 2 rfl ?_
      refine hv_iconst (v := 0) hX icx_0 dX0_flock_27 ?_
      refine hv_bipush (v := 6) hX bix_6 dX0_flock_28 ?_
      refine hx_callSi hX dX0_flock_30 (ct_X0_in a2 0 6 s rd J I _ hf) (lw_S q649 q650 q106 q651) np_X0_in rfl rfl ⟨Nat.le_of_ble_eq_true rfl, Nat.le_of_ble_eq_true rfl⟩ ⟨Nat.le_of_ble_eq_true rfl, Nat.le_of_ble_eq_true rfl⟩ (Nat.le_of_ble_eq_true rfl) ?_
      intro r4 S9 R9 J9 I9 hq
      clear hf
      obtain ⟨rfl, rfl, rfl, rfl, hf⟩ := hq
      refine hv_if_ne (tgt := 38) hX dX0_flock_33 (by decide) (fun c5 => ?_) (fun c5 => ?_)
      · replace hf := hf.2 c5
        exact w_X0_flock_j38 hX hN hE  _ _ _ _ _ _ rfl rfl rfl hf
      · replace hf := hf.1 c5
        refine hv_iconst (v := (-1)) hX icx_m1 dX0_flock_36 ?_
        exact hx_iret hX hE dX0_flock_37 ⟨rfl, rfl, rfl, hf⟩
    · replace hf := hf.1 c3
      refine hv_iload_n hX dX0_flock_14 rfl 2 rfl ?_
      refine hv_iconst (v := 1) hX icx_1 dX0_flock_15 ?_
      refine hv_iconst (v := 5) hX icx_5 dX0_flock_16 ?_
      refine hx_callSi hX dX0_flock_17 (ct_X0_in a2 1 5 s rd J I _ hf) (lw_S q649 q650 q106 q651) np_X0_in rfl rfl ⟨Nat.le_of_ble_eq_true rfl, Nat.le_of_ble_eq_true rfl⟩ ⟨Nat.le_of_ble_eq_true rfl, Nat.le_of_ble_eq_true rfl⟩ (Nat.le_of_ble_eq_true rfl) ?_
      intro r11 S9 R9 J9 I9 hq
      clear hf
      obtain ⟨rfl, rfl, rfl, rfl, hf⟩ := hq
      refine hv_if_ne (tgt := 38) hX dX0_flock_20 (by decide) (fun c12 => ?_) (fun c12 => ?_)
      · replace hf := hf.2 c12
        exact w_X0_flock_j38 hX hN hE  _ _ _ _ _ _ rfl rfl rfl hf
      · replace hf := hf.1 c12
        refine hv_goto (tgt := 36) hX dX0_flock_23 (by decide) ?_
        refine hv_iconst (v := (-1)) hX icx_m1 dX0_flock_36 ?_
        exact hx_iret hX hE dX0_flock_37 ⟨rfl, rfl, rfl, hf⟩
/-! HungryHedge$Spread.stays(II)Z -/
def x_X6_stays_j80 (Q : Int32 → Prop) (k5 : Int32 → Int32 → Int32 → Int32 → xS → xRd → mJ → mI → Prop) (a1 : Int32) (a2 : Int32) (a4 : Int32) (p0 : Int32) (s : xS) (rd : xRd) (J : mJ) (I : mI) : Prop :=
  k5 a1 a2 p0 (a4 + 1) s rd J I
theorem w_X6_stays_j80 {X : hh_CX} {S0 : xS} {R0 : xRd} {J0 : mJ} {I0 : mI} {Q : Int32 → Prop} (hX : hh_C X cX6_stays RX6 (hrx 0 0 0 0)) (hN : hh_nL X = 5) (hE : hh_E X (some .boolean) (xQi (fun r9 S9 R9 J9 I9 => S0 = S9 ∧ R0 = R9 ∧ J0 = J9 ∧ I0 = I9 ∧ Q r9)) 0 0) {k5 : Int32 → Int32 → Int32 → Int32 → xS → xRd → mJ → mI → Prop} (hk5 : ∀ (b0 : Int32) (b1 : Int32) (b2 : Int32) (b3 : Int32) (s : xS) (rd : xRd) (J : mJ) (I : mI), s = S0 → rd = R0 → J = J0 → I = I0 → k5 b0 b1 b2 b3 s rd J I → hh_V X 5 [(0, .ref 88), (1, .int b0), (2, .int b1), (3, .int b2), (4, .int b3)] [] 0 0 (hx s rd J I)) : ∀ (a1 : Int32) (a2 : Int32) (a4 : Int32) (p0 : Int32) (s : xS) (rd : xRd) (J : mJ) (I : mI), s = S0 → rd = R0 → J = J0 → I = I0 → x_X6_stays_j80 Q k5 a1 a2 a4 p0 s rd J I → hh_V X 80 [(0, .ref 88), (1, .int a1), (2, .int a2), (4, .int a4)] [.int p0] 0 0 (hx s rd J I) := by
  intro a1 a2 a4 p0 s rd J I e0 e1 e2 e3 hf
  subst e0
  subst e1
  subst e2
  subst e3
  unfold x_X6_stays_j80 at hf
  refine hv_istore_n (loc2 := [(3, .int p0), (0, .ref 88), (1, .int a1), (2, .int a2), (4, .int a4)]) hX dX6_stays_80 rfl hN (Nat.le_of_ble_eq_true rfl) rfl ?_
  refine hv_iinc (v := (a4 + 1)) (loc2 := [(4, .int (a4 + 1)), (3, .int p0), (0, .ref 88), (1, .int a1), (2, .int a2)]) hX dX6_stays_81 4 rfl (congrArg (fun y => a4 + y) icx_1) hN (Nat.le_of_ble_eq_true rfl) rfl ?_
  refine hv_goto (tgt := 5) hX dX6_stays_84 (by decide) ?_
  refine hv_fewer [2, 3, 4, 1, 0] (loc2 := [(0, .ref 88), (1, .int a1), (2, .int a2), (3, .int p0), (4, .int (a4 + 1))]) rfl ?_
  exact hk5 _ _ _ _ _ _ _ _ rfl rfl rfl rfl hf
def x_X6_stays_j79 (Q : Int32 → Prop) (k5 : Int32 → Int32 → Int32 → Int32 → xS → xRd → mJ → mI → Prop) (a1 : Int32) (a2 : Int32) (a4 : Int32) (s : xS) (rd : xRd) (J : mJ) (I : mI) : Prop :=
  x_X6_stays_j80 Q  k5 a1 a2 a4 0 s rd J I
theorem w_X6_stays_j79 {X : hh_CX} {S0 : xS} {R0 : xRd} {J0 : mJ} {I0 : mI} {Q : Int32 → Prop} (hX : hh_C X cX6_stays RX6 (hrx 0 0 0 0)) (hN : hh_nL X = 5) (hE : hh_E X (some .boolean) (xQi (fun r9 S9 R9 J9 I9 => S0 = S9 ∧ R0 = R9 ∧ J0 = J9 ∧ I0 = I9 ∧ Q r9)) 0 0) {k5 : Int32 → Int32 → Int32 → Int32 → xS → xRd → mJ → mI → Prop} (hk5 : ∀ (b0 : Int32) (b1 : Int32) (b2 : Int32) (b3 : Int32) (s : xS) (rd : xRd) (J : mJ) (I : mI), s = S0 → rd = R0 → J = J0 → I = I0 → k5 b0 b1 b2 b3 s rd J I → hh_V X 5 [(0, .ref 88), (1, .int b0), (2, .int b1), (3, .int b2), (4, .int b3)] [] 0 0 (hx s rd J I)) : ∀ (a1 : Int32) (a2 : Int32) (a4 : Int32) (s : xS) (rd : xRd) (J : mJ) (I : mI), s = S0 → rd = R0 → J = J0 → I = I0 → x_X6_stays_j79 Q k5 a1 a2 a4 s rd J I → hh_V X 79 [(0, .ref 88), (1, .int a1), (2, .int a2), (4, .int a4)] [] 0 0 (hx s rd J I) := by
  intro a1 a2 a4 s rd J I e0 e1 e2 e3 hf
  subst e0
  subst e1
  subst e2
  subst e3
  unfold x_X6_stays_j79 at hf
  refine hv_iconst (v := 0) hX icx_0 dX6_stays_79 ?_
  exact w_X6_stays_j80 hX hN hE hk5 _ _ _ _ _ _ _ _ rfl rfl rfl rfl hf
def x_X6_stays_j75 (Q : Int32 → Prop) (k5 : Int32 → Int32 → Int32 → Int32 → xS → xRd → mJ → mI → Prop) (a1 : Int32) (a2 : Int32) (a4 : Int32) (s : xS) (rd : xRd) (J : mJ) (I : mI) : Prop :=
  x_X6_stays_j80 Q  k5 a1 a2 a4 1 s rd J I
theorem w_X6_stays_j75 {X : hh_CX} {S0 : xS} {R0 : xRd} {J0 : mJ} {I0 : mI} {Q : Int32 → Prop} (hX : hh_C X cX6_stays RX6 (hrx 0 0 0 0)) (hN : hh_nL X = 5) (hE : hh_E X (some .boolean) (xQi (fun r9 S9 R9 J9 I9 => S0 = S9 ∧ R0 = R9 ∧ J0 = J9 ∧ I0 = I9 ∧ Q r9)) 0 0) {k5 : Int32 → Int32 → Int32 → Int32 → xS → xRd → mJ → mI → Prop} (hk5 : ∀ (b0 : Int32) (b1 : Int32) (b2 : Int32) (b3 : Int32) (s : xS) (rd : xRd) (J : mJ) (I : mI), s = S0 → rd = R0 → J = J0 → I = I0 → k5 b0 b1 b2 b3 s rd J I → hh_V X 5 [(0, .ref 88), (1, .int b0), (2, .int b1), (3, .int b2), (4, .int b3)] [] 0 0 (hx s rd J I)) : ∀ (a1 : Int32) (a2 : Int32) (a4 : Int32) (s : xS) (rd : xRd) (J : mJ) (I : mI), s = S0 → rd = R0 → J = J0 → I = I0 → x_X6_stays_j75 Q k5 a1 a2 a4 s rd J I → hh_V X 75 [(0, .ref 88), (1, .int a1), (2, .int a2), (4, .int a4)] [] 0 0 (hx s rd J I) := by
  intro a1 a2 a4 s rd J I e0 e1 e2 e3 hf
  subst e0
  subst e1
  subst e2
  subst e3
  unfold x_X6_stays_j75 at hf
  refine hv_iconst (v := 1) hX icx_1 dX6_stays_75 ?_
  refine hv_goto (tgt := 80) hX dX6_stays_76 (by decide) ?_
  exact w_X6_stays_j80 hX hN hE hk5 _ _ _ _ _ _ _ _ rfl rfl rfl rfl hf
def x_X6_stays_l5 (Q : Int32 → Prop) : Nat → Int32 → Int32 → Int32 → Int32 → xS → xRd → mJ → mI → Prop
  | 0, _, _, _, _, _, _, _, _ => False
  | n + 1, a1, a2, a3, a4, s, rd, J, I =>
    ((I 1 0) ≤ a4 →
      (a3 = 0 ∨ a3 = 1) ∧ (Q a3 )) ∧ (¬ (I 1 0) ≤ a4 →
      (a3 = 0 →
        x_X6_stays_j79 Q  (fun b0 b1 b2 b3 s rd J I => x_X6_stays_l5 Q   n b0 b1 b2 b3 s rd J I) a1 a2 a4 s rd J I) ∧ (¬ a3 = 0 →
        (a4 = a1 →
          x_X6_stays_j75 Q  (fun b0 b1 b2 b3 s rd J I => x_X6_stays_l5 Q   n b0 b1 b2 b3 s rd J I) a1 a2 a4 s rd J I) ∧ (¬ a4 = a1 →
          vp_in a4 4 ∧ (vp_in a1 4 ∧ (vp_in a1 4 ∧ (vp_in a4 4 ∧ ((((I 5 a1.toNatClampNeg) * ((I 91 a4.toNatClampNeg) + a2)) < ((I 5 a4.toNatClampNeg) * (I 91 a1.toNatClampNeg)) →
            x_X6_stays_j79 Q  (fun b0 b1 b2 b3 s rd J I => x_X6_stays_l5 Q   n b0 b1 b2 b3 s rd J I) a1 a2 a4 s rd J I) ∧ (¬ ((I 5 a1.toNatClampNeg) * ((I 91 a4.toNatClampNeg) + a2)) < ((I 5 a4.toNatClampNeg) * (I 91 a1.toNatClampNeg)) →
            x_X6_stays_j75 Q  (fun b0 b1 b2 b3 s rd J I => x_X6_stays_l5 Q   n b0 b1 b2 b3 s rd J I) a1 a2 a4 s rd J I))))))))
theorem w_X6_stays_l5 {X : hh_CX} {S0 : xS} {R0 : xRd} {J0 : mJ} {I0 : mI} {Q : Int32 → Prop} (hX : hh_C X cX6_stays RX6 (hrx 0 0 0 0)) (hN : hh_nL X = 5) (hE : hh_E X (some .boolean) (xQi (fun r9 S9 R9 J9 I9 => S0 = S9 ∧ R0 = R9 ∧ J0 = J9 ∧ I0 = I9 ∧ Q r9)) 0 0) : ∀ (n : Nat) (a1 : Int32) (a2 : Int32) (a3 : Int32) (a4 : Int32) (s : xS) (rd : xRd) (J : mJ) (I : mI), s = S0 → rd = R0 → J = J0 → I = I0 → x_X6_stays_l5 Q  n a1 a2 a3 a4 s rd J I → hh_V X 5 [(0, .ref 88), (1, .int a1), (2, .int a2), (3, .int a3), (4, .int a4)] [] 0 0 (hx s rd J I) := by
  intro n
  induction n with
  | zero => intro _ _ _ _ _ _ _ _ _ _ _ _ hf; exact hf.elim
  | succ n ih =>
    intro a1 a2 a3 a4 s rd J I e0 e1 e2 e3 hf
    subst e0
    subst e1
    subst e2
    subst e3
    unfold x_X6_stays_l5 at hf
    refine hv_iload hX dX6_stays_5 4 rfl ?_
    refine hv_aload_n hX dX6_stays_7 rfl 0 rfl ?_
    refine hx_getR (v := 0) hX dX6_stays_8 fl6_3_6 (xo_c (by decide) rfl) (xR_c rfl) ?_
    refine hx_getR (v := 1) hX dX6_stays_11 fl6_25_0 (xo_c (by decide) rfl) (xR_c rfl) ?_
    refine hx_getI (v := (I 1 0)) hX dX6_stays_14 fl6_29_1 (.inl rfl) (xo_c (by decide) rfl) rfl ?_
    refine hv_icmp_ge (tgt := 87) hX dX6_stays_17 (by decide) (fun c1 => ?_) (fun c1 => ?_)
    · replace hf := hf.1 c1
      refine hv_iload_n hX dX6_stays_87 rfl 3 rfl ?_
      obtain ⟨g, hf⟩ := hf
      exact hx_zret hX hE dX6_stays_88 g ⟨rfl, rfl, rfl, rfl, hf⟩
    · replace hf := hf.2 c1
      refine hv_iload_n hX dX6_stays_20 rfl 3 rfl ?_
      refine hv_if_eq (tgt := 79) hX dX6_stays_21 (by decide) (fun c2 => ?_) (fun c2 => ?_)
      · replace hf := hf.1 c2
        refine hv_fewer [0, 1, 2, 4] (loc2 := [(0, .ref 88), (1, .int a1), (2, .int a2), (4, .int a4)]) rfl ?_
        exact w_X6_stays_j79 hX hN hE ih _ _ _ _ _ _ _ rfl rfl rfl rfl hf
      · replace hf := hf.2 c2
        refine hv_iload hX dX6_stays_24 4 rfl ?_
        refine hv_iload_n hX dX6_stays_26 rfl 1 rfl ?_
        refine hv_icmp_eq (tgt := 75) hX dX6_stays_27 (by decide) (fun c3 => ?_) (fun c3 => ?_)
        · replace hf := hf.1 c3
          refine hv_fewer [0, 1, 2, 4] (loc2 := [(0, .ref 88), (1, .int a1), (2, .int a2), (4, .int a4)]) rfl ?_
          exact w_X6_stays_j75 hX hN hE ih _ _ _ _ _ _ _ rfl rfl rfl rfl hf
        · replace hf := hf.2 c3
          refine hv_aload_n hX dX6_stays_30 rfl 0 rfl ?_
          refine hx_getR (v := 0) hX dX6_stays_31 fl6_3_6 (xo_c (by decide) rfl) (xR_c rfl) ?_
          refine hx_getR (v := 1) hX dX6_stays_34 fl6_25_0 (xo_c (by decide) rfl) (xR_c rfl) ?_
          refine hx_getR (v := 5) hX dX6_stays_37 fl6_35_1 (xo_c (by decide) rfl) (xR_c rfl) ?_
          refine hv_iload hX dX6_stays_40 4 rfl ?_
          obtain ⟨g, hf⟩ := hf
          refine hx_iald (v := (I 5 a4.toNatClampNeg)) hX dX6_stays_42 (xo_c (by decide) rfl) (xlen_c (by decide) rfl) g rfl ?_
          refine hv_aload_n hX dX6_stays_43 rfl 0 rfl ?_
          refine hx_getR (v := 91) hX dX6_stays_44 fl6_22_6 (xo_c (by decide) rfl) (xR_c rfl) ?_
          refine hv_iload_n hX dX6_stays_47 rfl 1 rfl ?_
          obtain ⟨g, hf⟩ := hf
          refine hx_iald (v := (I 91 a1.toNatClampNeg)) hX dX6_stays_48 (xo_c (by decide) rfl) (xlen_c (by decide) rfl) g rfl ?_
          refine hv_imul hX dX6_stays_49 ?_
          refine hv_aload_n hX dX6_stays_50 rfl 0 rfl ?_
          refine hx_getR (v := 0) hX dX6_stays_51 fl6_3_6 (xo_c (by decide) rfl) (xR_c rfl) ?_
          refine hx_getR (v := 1) hX dX6_stays_54 fl6_25_0 (xo_c (by decide) rfl) (xR_c rfl) ?_
          refine hx_getR (v := 5) hX dX6_stays_57 fl6_35_1 (xo_c (by decide) rfl) (xR_c rfl) ?_
          refine hv_iload_n hX dX6_stays_60 rfl 1 rfl ?_
          obtain ⟨g, hf⟩ := hf
          refine hx_iald (v := (I 5 a1.toNatClampNeg)) hX dX6_stays_61 (xo_c (by decide) rfl) (xlen_c (by decide) rfl) g rfl ?_
          refine hv_aload_n hX dX6_stays_62 rfl 0 rfl ?_
          refine hx_getR (v := 91) hX dX6_stays_63 fl6_22_6 (xo_c (by decide) rfl) (xR_c rfl) ?_
          refine hv_iload hX dX6_stays_66 4 rfl ?_
          obtain ⟨g, hf⟩ := hf
          refine hx_iald (v := (I 91 a4.toNatClampNeg)) hX dX6_stays_68 (xo_c (by decide) rfl) (xlen_c (by decide) rfl) g rfl ?_
          refine hv_iload_n hX dX6_stays_69 rfl 2 rfl ?_
          refine hv_iadd hX dX6_stays_70 ?_
          refine hv_imul hX dX6_stays_71 ?_
          refine hv_icmp_gt (tgt := 79) hX dX6_stays_72 (by decide) (fun c4 => ?_) (fun c4 => ?_)
          · replace hf := hf.1 c4
            refine hv_fewer [0, 1, 2, 4] (loc2 := [(0, .ref 88), (1, .int a1), (2, .int a2), (4, .int a4)]) rfl ?_
            exact w_X6_stays_j79 hX hN hE ih _ _ _ _ _ _ _ rfl rfl rfl rfl hf
          · replace hf := hf.2 c4
            refine hv_fewer [0, 1, 2, 4] (loc2 := [(0, .ref 88), (1, .int a1), (2, .int a2), (4, .int a4)]) rfl ?_
            exact w_X6_stays_j75 hX hN hE ih _ _ _ _ _ _ _ rfl rfl rfl rfl hf
def x_X6_stays (a1 : Int32) (a2 : Int32) (s : xS) (rd : xRd) (J : mJ) (I : mI) (Q : Int32 → Prop) : Prop :=
  ∃ n0 : Nat, x_X6_stays_l5 Q   n0 a1 a2 1 0 s rd J I
theorem ct_X6_stays  (a1 : Int32) (a2 : Int32) (s : xS) (rd : xRd) (J : mJ) (I : mI) (Q : Int32 → Prop) (hf : x_X6_stays a1 a2 s rd J I Q) : hh_Ct yX6_stays cX6_stays 5 (some .boolean) 0 0 [.ref 88, .int a1, .int a2] (hx s rd J I) (xQi (fun r9 S9 R9 J9 I9 => s = S9 ∧ rd = R9 ∧ J = J9 ∧ I = I9 ∧ Q r9)) 0 0 := by
  refine hh_Ct.of (own := RX6) rfl (by decide +kernel) (Nat.le_of_ble_eq_true rfl) ?_
  intro X hX hN hE
  show hh_V X 0 [(0, .ref 88), (1, .int a1), (2, .int a2)] [] 0 0 (hx s rd J I)
  unfold x_X6_stays at hf
  refine hv_iconst (v := 1) hX icx_1 dX6_stays_0 ?_
  refine hv_istore_n (loc2 := [(3, .int 1), (0, .ref 88), (1, .int a1), (2, .int a2)]) hX dX6_stays_1 rfl hN (Nat.le_of_ble_eq_true rfl) rfl ?_
  refine hv_iconst (v := 0) hX icx_0 dX6_stays_2 ?_
  refine hv_istore (loc2 := [(4, .int 0), (3, .int 1), (0, .ref 88), (1, .int a1), (2, .int a2)]) hX dX6_stays_3 hN (Nat.le_of_ble_eq_true rfl) rfl ?_
  refine hv_fewer [2, 3, 4, 1, 0] (loc2 := [(0, .ref 88), (1, .int a1), (2, .int a2), (3, .int 1), (4, .int 0)]) rfl ?_
  obtain ⟨n0, hf⟩ := hf
  exact w_X6_stays_l5 hX hN hE  n0 _ _ _ _ _ _ _ _ rfl rfl rfl rfl hf
/-! HungryHedge$Spread.rests()Z -/
def x_X6_rests_j128 (Q : Int32 → mI → Prop) (k58 : Int32 → Int32 → xS → xRd → mJ → mI → Prop) (a2 : Int32) (p0 : Int32) (s : xS) (rd : xRd) (J : mJ) (I : mI) : Prop :=
  k58 p0 (a2 + 1) s rd J I
theorem w_X6_rests_j128 {X : hh_CX} {S0 : xS} {R0 : xRd} {J0 : mJ} {Q : Int32 → mI → Prop} (hX : hh_C X cX6_rests RX6 (hrx 1 24 0 0)) (hN : hh_nL X = 3) (hE : hh_E X (some .boolean) (xQi (fun r9 S9 R9 J9 I9 => S0 = S9 ∧ R0 = R9 ∧ J0 = J9 ∧ Q r9 I9)) 0 0) {k58 : Int32 → Int32 → xS → xRd → mJ → mI → Prop} (hk58 : ∀ (b0 : Int32) (b1 : Int32) (s : xS) (rd : xRd) (J : mJ) (I : mI), s = S0 → rd = R0 → J = J0 → k58 b0 b1 s rd J I → hh_V X 58 [(0, .ref 88), (1, .int b0), (2, .int b1)] [] 0 0 (hx s rd J I)) : ∀ (a2 : Int32) (p0 : Int32) (s : xS) (rd : xRd) (J : mJ) (I : mI), s = S0 → rd = R0 → J = J0 → x_X6_rests_j128 Q k58 a2 p0 s rd J I → hh_V X 128 [(0, .ref 88), (2, .int a2)] [.int p0] 0 0 (hx s rd J I) := by
  intro a2 p0 s rd J I e0 e1 e2 hf
  subst e0
  subst e1
  subst e2
  unfold x_X6_rests_j128 at hf
  refine hv_istore_n (loc2 := [(1, .int p0), (0, .ref 88), (2, .int a2)]) hX dX6_rests_128 rfl hN (Nat.le_of_ble_eq_true rfl) rfl ?_
  refine hv_iinc (v := (a2 + 1)) (loc2 := [(2, .int (a2 + 1)), (1, .int p0), (0, .ref 88)]) hX dX6_rests_129 2 rfl (congrArg (fun y => a2 + y) icx_1) hN (Nat.le_of_ble_eq_true rfl) rfl ?_
  refine hv_goto (tgt := 58) hX dX6_rests_132 (by decide) ?_
  refine hv_fewer [2, 1, 0] (loc2 := [(0, .ref 88), (1, .int p0), (2, .int (a2 + 1))]) rfl ?_
  exact hk58 _ _ _ _ _ _ rfl rfl rfl hf
def x_X6_rests_j123 (Q : Int32 → mI → Prop) (k58 : Int32 → Int32 → xS → xRd → mJ → mI → Prop) (a2 : Int32) (s : xS) (rd : xRd) (J : mJ) (I : mI) : Prop :=
  x_X6_rests_j128 Q  k58 a2 1 s rd J I
theorem w_X6_rests_j123 {X : hh_CX} {S0 : xS} {R0 : xRd} {J0 : mJ} {Q : Int32 → mI → Prop} (hX : hh_C X cX6_rests RX6 (hrx 1 24 0 0)) (hN : hh_nL X = 3) (hE : hh_E X (some .boolean) (xQi (fun r9 S9 R9 J9 I9 => S0 = S9 ∧ R0 = R9 ∧ J0 = J9 ∧ Q r9 I9)) 0 0) {k58 : Int32 → Int32 → xS → xRd → mJ → mI → Prop} (hk58 : ∀ (b0 : Int32) (b1 : Int32) (s : xS) (rd : xRd) (J : mJ) (I : mI), s = S0 → rd = R0 → J = J0 → k58 b0 b1 s rd J I → hh_V X 58 [(0, .ref 88), (1, .int b0), (2, .int b1)] [] 0 0 (hx s rd J I)) : ∀ (a2 : Int32) (s : xS) (rd : xRd) (J : mJ) (I : mI), s = S0 → rd = R0 → J = J0 → x_X6_rests_j123 Q k58 a2 s rd J I → hh_V X 123 [(0, .ref 88), (2, .int a2)] [] 0 0 (hx s rd J I) := by
  intro a2 s rd J I e0 e1 e2 hf
  subst e0
  subst e1
  subst e2
  unfold x_X6_rests_j123 at hf
  refine hv_iconst (v := 1) hX icx_1 dX6_rests_123 ?_
  refine hv_goto (tgt := 128) hX dX6_rests_124 (by decide) ?_
  exact w_X6_rests_j128 hX hN hE hk58 _ _ _ _ _ _ rfl rfl rfl hf
def x_X6_rests_j127 (Q : Int32 → mI → Prop) (k58 : Int32 → Int32 → xS → xRd → mJ → mI → Prop) (a2 : Int32) (s : xS) (rd : xRd) (J : mJ) (I : mI) : Prop :=
  x_X6_rests_j128 Q  k58 a2 0 s rd J I
theorem w_X6_rests_j127 {X : hh_CX} {S0 : xS} {R0 : xRd} {J0 : mJ} {Q : Int32 → mI → Prop} (hX : hh_C X cX6_rests RX6 (hrx 1 24 0 0)) (hN : hh_nL X = 3) (hE : hh_E X (some .boolean) (xQi (fun r9 S9 R9 J9 I9 => S0 = S9 ∧ R0 = R9 ∧ J0 = J9 ∧ Q r9 I9)) 0 0) {k58 : Int32 → Int32 → xS → xRd → mJ → mI → Prop} (hk58 : ∀ (b0 : Int32) (b1 : Int32) (s : xS) (rd : xRd) (J : mJ) (I : mI), s = S0 → rd = R0 → J = J0 → k58 b0 b1 s rd J I → hh_V X 58 [(0, .ref 88), (1, .int b0), (2, .int b1)] [] 0 0 (hx s rd J I)) : ∀ (a2 : Int32) (s : xS) (rd : xRd) (J : mJ) (I : mI), s = S0 → rd = R0 → J = J0 → x_X6_rests_j127 Q k58 a2 s rd J I → hh_V X 127 [(0, .ref 88), (2, .int a2)] [] 0 0 (hx s rd J I) := by
  intro a2 s rd J I e0 e1 e2 hf
  subst e0
  subst e1
  subst e2
  unfold x_X6_rests_j127 at hf
  refine hv_iconst (v := 0) hX icx_0 dX6_rests_127 ?_
  exact w_X6_rests_j128 hX hN hE hk58 _ _ _ _ _ _ rfl rfl rfl hf
def x_X6_rests_j103 (Q : Int32 → mI → Prop) (k58 : Int32 → Int32 → xS → xRd → mJ → mI → Prop) (a2 : Int32) (s : xS) (rd : xRd) (J : mJ) (I : mI) : Prop :=
  vp_in (4 + a2) 8 ∧ (((I 89 (4 + a2).toNatClampNeg) = 0 →
    x_X6_rests_j123 Q  k58 a2 s rd J I) ∧ (¬ (I 89 (4 + a2).toNatClampNeg) = 0 →
    x_X6_stays a2 1 s rd J I (fun r6 => (r6 = 0 →
      x_X6_rests_j127 Q  k58 a2 s rd J I) ∧ (¬ r6 = 0 →
      x_X6_rests_j123 Q  k58 a2 s rd J I))))
theorem w_X6_rests_j103 {X : hh_CX} {S0 : xS} {R0 : xRd} {J0 : mJ} {Q : Int32 → mI → Prop} (hX : hh_C X cX6_rests RX6 (hrx 1 24 0 0)) (hN : hh_nL X = 3) (hE : hh_E X (some .boolean) (xQi (fun r9 S9 R9 J9 I9 => S0 = S9 ∧ R0 = R9 ∧ J0 = J9 ∧ Q r9 I9)) 0 0) {k58 : Int32 → Int32 → xS → xRd → mJ → mI → Prop} (hk58 : ∀ (b0 : Int32) (b1 : Int32) (s : xS) (rd : xRd) (J : mJ) (I : mI), s = S0 → rd = R0 → J = J0 → k58 b0 b1 s rd J I → hh_V X 58 [(0, .ref 88), (1, .int b0), (2, .int b1)] [] 0 0 (hx s rd J I)) : ∀ (a2 : Int32) (s : xS) (rd : xRd) (J : mJ) (I : mI), s = S0 → rd = R0 → J = J0 → x_X6_rests_j103 Q k58 a2 s rd J I → hh_V X 103 [(0, .ref 88), (2, .int a2)] [] 0 0 (hx s rd J I) := by
  intro a2 s rd J I e0 e1 e2 hf
  subst e0
  subst e1
  subst e2
  unfold x_X6_rests_j103 at hf
  refine hv_aload_n hX dX6_rests_103 rfl 0 rfl ?_
  refine hx_getR (v := 89) hX dX6_rests_104 fl6_15_6 (xo_c (by decide) rfl) (xR_c rfl) ?_
  refine hv_iconst (v := 4) hX icx_4 dX6_rests_107 ?_
  refine hv_iload_n hX dX6_rests_108 rfl 1 rfl ?_
  refine hv_iadd hX dX6_rests_109 ?_
  obtain ⟨g, hf⟩ := hf
  refine hx_iald (v := (I 89 (4 + a2).toNatClampNeg)) hX dX6_rests_110 (xo_c (by decide) rfl) (xlen_c (by decide) rfl) g rfl ?_
  refine hv_if_eq (tgt := 123) hX dX6_rests_111 (by decide) (fun c5 => ?_) (fun c5 => ?_)
  · replace hf := hf.1 c5
    exact w_X6_rests_j123 hX hN hE hk58 _ _ _ _ _ rfl rfl rfl hf
  · replace hf := hf.2 c5
    refine hv_aload_n hX dX6_rests_114 rfl 0 rfl ?_
    refine hv_iload_n hX dX6_rests_115 rfl 1 rfl ?_
    refine hv_iconst (v := 1) hX icx_1 dX6_rests_116 ?_
    refine hx_callVi (ci := 6) (q := (RX6, TX6, 6)) hX dX6_rests_117 (ct_X6_stays a2 1 s rd J I _ hf) (lw_V q930 q932 qs17 q112 q933) rfl (by decide) ⟨rfl, np_X6_stays⟩ rfl (xo_c (by decide) rfl) rfl ⟨Nat.le_of_ble_eq_true rfl, Nat.le_of_ble_eq_true rfl⟩ ⟨Nat.le_of_ble_eq_true rfl, Nat.le_of_ble_eq_true rfl⟩ (Nat.le_of_ble_eq_true rfl) ?_
    intro r6 S9 R9 J9 I9 hq
    clear hf
    obtain ⟨rfl, rfl, rfl, rfl, hf⟩ := hq
    refine hv_if_eq (tgt := 127) hX dX6_rests_120 (by decide) (fun c7 => ?_) (fun c7 => ?_)
    · replace hf := hf.1 c7
      exact w_X6_rests_j127 hX hN hE hk58 _ _ _ _ _ rfl rfl rfl hf
    · replace hf := hf.2 c7
      exact w_X6_rests_j123 hX hN hE hk58 _ _ _ _ _ rfl rfl rfl hf
def x_X6_rests_l58 (Q : Int32 → mI → Prop) : Nat → Int32 → Int32 → xS → xRd → mJ → mI → Prop
  | 0, _, _, _, _, _, _ => False
  | n + 1, a1, a2, s, rd, J, I =>
    ((I 1 0) ≤ a2 →
      (a1 = 0 ∨ a1 = 1) ∧ (Q a1 I)) ∧ (¬ (I 1 0) ≤ a2 →
      (a1 = 0 →
        (a1 = 0 ∨ a1 = 1) ∧ (Q a1 I)) ∧ (¬ a1 = 0 →
        vp_in a2 8 ∧ (((I 89 a2.toNatClampNeg) = 0 →
          x_X6_rests_j103 Q  (fun b0 b1 s rd J I => x_X6_rests_l58 Q   n b0 b1 s rd J I) a2 s rd J I) ∧ (¬ (I 89 a2.toNatClampNeg) = 0 →
          x_X6_stays a2 (I 1 7) s rd J I (fun r8 => (r8 = 0 →
            x_X6_rests_j127 Q  (fun b0 b1 s rd J I => x_X6_rests_l58 Q   n b0 b1 s rd J I) a2 s rd J I) ∧ (¬ r8 = 0 →
            x_X6_rests_j103 Q  (fun b0 b1 s rd J I => x_X6_rests_l58 Q   n b0 b1 s rd J I) a2 s rd J I))))))
theorem w_X6_rests_l58 {X : hh_CX} {S0 : xS} {R0 : xRd} {J0 : mJ} {Q : Int32 → mI → Prop} (hX : hh_C X cX6_rests RX6 (hrx 1 24 0 0)) (hN : hh_nL X = 3) (hE : hh_E X (some .boolean) (xQi (fun r9 S9 R9 J9 I9 => S0 = S9 ∧ R0 = R9 ∧ J0 = J9 ∧ Q r9 I9)) 0 0) : ∀ (n : Nat) (a1 : Int32) (a2 : Int32) (s : xS) (rd : xRd) (J : mJ) (I : mI), s = S0 → rd = R0 → J = J0 → x_X6_rests_l58 Q  n a1 a2 s rd J I → hh_V X 58 [(0, .ref 88), (1, .int a1), (2, .int a2)] [] 0 0 (hx s rd J I) := by
  intro n
  induction n with
  | zero => intro _ _ _ _ _ _ _ _ _ hf; exact hf.elim
  | succ n ih =>
    intro a1 a2 s rd J I e0 e1 e2 hf
    subst e0
    subst e1
    subst e2
    unfold x_X6_rests_l58 at hf
    refine hv_iload_n hX dX6_rests_58 rfl 2 rfl ?_
    refine hv_aload_n hX dX6_rests_59 rfl 0 rfl ?_
    refine hx_getR (v := 0) hX dX6_rests_60 fl6_3_6 (xo_c (by decide) rfl) (xR_c rfl) ?_
    refine hx_getR (v := 1) hX dX6_rests_63 fl6_25_0 (xo_c (by decide) rfl) (xR_c rfl) ?_
    refine hx_getI (v := (I 1 0)) hX dX6_rests_66 fl6_29_1 (.inl rfl) (xo_c (by decide) rfl) rfl ?_
    refine hv_icmp_ge (tgt := 135) hX dX6_rests_69 (by decide) (fun c2 => ?_) (fun c2 => ?_)
    · replace hf := hf.1 c2
      refine hv_iload_n hX dX6_rests_135 rfl 1 rfl ?_
      obtain ⟨g, hf⟩ := hf
      exact hx_zret hX hE dX6_rests_136 g ⟨rfl, rfl, rfl, hf⟩
    · replace hf := hf.2 c2
      refine hv_iload_n hX dX6_rests_72 rfl 1 rfl ?_
      refine hv_if_eq (tgt := 135) hX dX6_rests_73 (by decide) (fun c3 => ?_) (fun c3 => ?_)
      · replace hf := hf.1 c3
        refine hv_iload_n hX dX6_rests_135 rfl 1 rfl ?_
        obtain ⟨g, hf⟩ := hf
        exact hx_zret hX hE dX6_rests_136 g ⟨rfl, rfl, rfl, hf⟩
      · replace hf := hf.2 c3
        refine hv_aload_n hX dX6_rests_76 rfl 0 rfl ?_
        refine hx_getR (v := 89) hX dX6_rests_77 fl6_15_6 (xo_c (by decide) rfl) (xR_c rfl) ?_
        refine hv_iload_n hX dX6_rests_80 rfl 2 rfl ?_
        obtain ⟨g, hf⟩ := hf
        refine hx_iald (v := (I 89 a2.toNatClampNeg)) hX dX6_rests_81 (xo_c (by decide) rfl) (xlen_c (by decide) rfl) g rfl ?_
        refine hv_if_eq (tgt := 103) hX dX6_rests_82 (by decide) (fun c4 => ?_) (fun c4 => ?_)
        · replace hf := hf.1 c4
          refine hv_fewer [0, 2] (loc2 := [(0, .ref 88), (2, .int a2)]) rfl ?_
          exact w_X6_rests_j103 hX hN hE ih _ _ _ _ _ rfl rfl rfl hf
        · replace hf := hf.2 c4
          refine hv_aload_n hX dX6_rests_85 rfl 0 rfl ?_
          refine hv_iload_n hX dX6_rests_86 rfl 2 rfl ?_
          refine hv_aload_n hX dX6_rests_87 rfl 0 rfl ?_
          refine hx_getR (v := 0) hX dX6_rests_88 fl6_3_6 (xo_c (by decide) rfl) (xR_c rfl) ?_
          refine hx_getR (v := 1) hX dX6_rests_91 fl6_25_0 (xo_c (by decide) rfl) (xR_c rfl) ?_
          refine hx_getI (v := (I 1 7)) hX dX6_rests_94 fl6_38_1 (.inl rfl) (xo_c (by decide) rfl) rfl ?_
          refine hx_callVi (ci := 6) (q := (RX6, TX6, 6)) hX dX6_rests_97 (ct_X6_stays a2 (I 1 7) s rd J I _ hf) (lw_V q930 q932 qs17 q112 q933) rfl (by decide) ⟨rfl, np_X6_stays⟩ rfl (xo_c (by decide) rfl) rfl ⟨Nat.le_of_ble_eq_true rfl, Nat.le_of_ble_eq_true rfl⟩ ⟨Nat.le_of_ble_eq_true rfl, Nat.le_of_ble_eq_true rfl⟩ (Nat.le_of_ble_eq_true rfl) ?_
          intro r8 S9 R9 J9 I9 hq
          clear hf
          obtain ⟨rfl, rfl, rfl, rfl, hf⟩ := hq
          refine hv_if_eq (tgt := 127) hX dX6_rests_100 (by decide) (fun c9 => ?_) (fun c9 => ?_)
          · replace hf := hf.1 c9
            refine hv_fewer [0, 2] (loc2 := [(0, .ref 88), (2, .int a2)]) rfl ?_
            exact w_X6_rests_j127 hX hN hE ih _ _ _ _ _ rfl rfl rfl hf
          · replace hf := hf.2 c9
            refine hv_fewer [0, 2] (loc2 := [(0, .ref 88), (2, .int a2)]) rfl ?_
            exact w_X6_rests_j103 hX hN hE ih _ _ _ _ _ rfl rfl rfl hf
def x_X6_rests_l2 (Q : Int32 → mI → Prop) : Nat → Int32 → xS → xRd → mJ → mI → Prop
  | 0, _, _, _, _, _ => False
  | n + 1, a1, s, rd, J, I =>
    ((I 1 0) ≤ a1 →
      ∃ n0 : Nat, x_X6_rests_l58 Q   n0 1 0 s rd J I) ∧ (¬ (I 1 0) ≤ a1 →
      vp_in a1 8 ∧ (vp_in (4 + a1) 8 ∧ (vp_in a1 4 ∧ (x_X6_rests_l2 Q   n (a1 + 1) s rd J (u2 I 91 a1.toNatClampNeg (((I 1 7) * (I 89 a1.toNatClampNeg)) + (I 89 (4 + a1).toNatClampNeg)))))))
theorem w_X6_rests_l2 {X : hh_CX} {S0 : xS} {R0 : xRd} {J0 : mJ} {Q : Int32 → mI → Prop} (hX : hh_C X cX6_rests RX6 (hrx 1 24 0 0)) (hN : hh_nL X = 3) (hE : hh_E X (some .boolean) (xQi (fun r9 S9 R9 J9 I9 => S0 = S9 ∧ R0 = R9 ∧ J0 = J9 ∧ Q r9 I9)) 0 0) : ∀ (n : Nat) (a1 : Int32) (s : xS) (rd : xRd) (J : mJ) (I : mI), s = S0 → rd = R0 → J = J0 → x_X6_rests_l2 Q  n a1 s rd J I → hh_V X 2 [(0, .ref 88), (1, .int a1)] [] 0 0 (hx s rd J I) := by
  intro n
  induction n with
  | zero => intro _ _ _ _ _ _ _ _ hf; exact hf.elim
  | succ n ih =>
    intro a1 s rd J I e0 e1 e2 hf
    subst e0
    subst e1
    subst e2
    unfold x_X6_rests_l2 at hf
    refine hv_iload_n hX dX6_rests_2 rfl 1 rfl ?_
    refine hv_aload_n hX dX6_rests_3 rfl 0 rfl ?_
    refine hx_getR (v := 0) hX dX6_rests_4 fl6_3_6 (xo_c (by decide) rfl) (xR_c rfl) ?_
    refine hx_getR (v := 1) hX dX6_rests_7 fl6_25_0 (xo_c (by decide) rfl) (xR_c rfl) ?_
    refine hx_getI (v := (I 1 0)) hX dX6_rests_10 fl6_29_1 (.inl rfl) (xo_c (by decide) rfl) rfl ?_
    refine hv_icmp_ge (tgt := 54) hX dX6_rests_13 (by decide) (fun c1 => ?_) (fun c1 => ?_)
    · replace hf := hf.1 c1
      refine hv_iconst (v := 1) hX icx_1 dX6_rests_54 ?_
      refine hv_istore_n (loc2 := [(1, .int 1), (0, .ref 88)]) hX dX6_rests_55 rfl hN (Nat.le_of_ble_eq_true rfl) rfl ?_
      refine hv_iconst (v := 0) hX icx_0 dX6_rests_56 ?_
      refine hv_istore_n (loc2 := [(2, .int 0), (1, .int 1), (0, .ref 88)]) hX dX6_rests_57 rfl hN (Nat.le_of_ble_eq_true rfl) rfl ?_
      refine hv_fewer [2, 1, 0] (loc2 := [(0, .ref 88), (1, .int 1), (2, .int 0)]) rfl ?_
      obtain ⟨n0, hf⟩ := hf
      exact w_X6_rests_l58 hX hN hE  n0 _ _ _ _ _ _ rfl rfl rfl hf
    · replace hf := hf.2 c1
      refine hv_aload_n hX dX6_rests_16 rfl 0 rfl ?_
      refine hx_getR (v := 91) hX dX6_rests_17 fl6_22_6 (xo_c (by decide) rfl) (xR_c rfl) ?_
      refine hv_iload_n hX dX6_rests_20 rfl 1 rfl ?_
      refine hv_aload_n hX dX6_rests_21 rfl 0 rfl ?_
      refine hx_getR (v := 0) hX dX6_rests_22 fl6_3_6 (xo_c (by decide) rfl) (xR_c rfl) ?_
      refine hx_getR (v := 1) hX dX6_rests_25 fl6_25_0 (xo_c (by decide) rfl) (xR_c rfl) ?_
      refine hx_getI (v := (I 1 7)) hX dX6_rests_28 fl6_38_1 (.inl rfl) (xo_c (by decide) rfl) rfl ?_
      refine hv_aload_n hX dX6_rests_31 rfl 0 rfl ?_
      refine hx_getR (v := 89) hX dX6_rests_32 fl6_15_6 (xo_c (by decide) rfl) (xR_c rfl) ?_
      refine hv_iload_n hX dX6_rests_35 rfl 1 rfl ?_
      obtain ⟨g, hf⟩ := hf
      refine hx_iald (v := (I 89 a1.toNatClampNeg)) hX dX6_rests_36 (xo_c (by decide) rfl) (xlen_c (by decide) rfl) g rfl ?_
      refine hv_imul hX dX6_rests_37 ?_
      refine hv_aload_n hX dX6_rests_38 rfl 0 rfl ?_
      refine hx_getR (v := 89) hX dX6_rests_39 fl6_15_6 (xo_c (by decide) rfl) (xR_c rfl) ?_
      refine hv_iconst (v := 4) hX icx_4 dX6_rests_42 ?_
      refine hv_iload_n hX dX6_rests_43 rfl 1 rfl ?_
      refine hv_iadd hX dX6_rests_44 ?_
      obtain ⟨g, hf⟩ := hf
      refine hx_iald (v := (I 89 (4 + a1).toNatClampNeg)) hX dX6_rests_45 (xo_c (by decide) rfl) (xlen_c (by decide) rfl) g rfl ?_
      refine hv_iadd hX dX6_rests_46 ?_
      obtain ⟨g, hf⟩ := hf
      refine hx_iast hX dX6_rests_47 (xo_c (by decide) rfl) (xlen_c (by decide) rfl) g ?_
      refine hv_iinc (v := (a1 + 1)) (loc2 := [(1, .int (a1 + 1)), (0, .ref 88)]) hX dX6_rests_48 1 rfl (congrArg (fun y => a1 + y) icx_1) hN (Nat.le_of_ble_eq_true rfl) rfl ?_
      refine hv_goto (tgt := 2) hX dX6_rests_51 (by decide) ?_
      refine hv_fewer [1, 0] (loc2 := [(0, .ref 88), (1, .int (a1 + 1))]) rfl ?_
      exact ih _ _ _ _ _ rfl rfl rfl hf
def x_X6_rests  (s : xS) (rd : xRd) (J : mJ) (I : mI) (Q : Int32 → mI → Prop) : Prop :=
  ∃ n0 : Nat, x_X6_rests_l2 Q   n0 0 s rd J I
theorem ct_X6_rests   (s : xS) (rd : xRd) (J : mJ) (I : mI) (Q : Int32 → mI → Prop) (hf : x_X6_rests  s rd J I Q) : hh_Ct yX6_rests cX6_rests 3 (some .boolean) 1 24 [.ref 88] (hx s rd J I) (xQi (fun r9 S9 R9 J9 I9 => s = S9 ∧ rd = R9 ∧ J = J9 ∧ Q r9 I9)) 0 0 := by
  refine hh_Ct.of (own := RX6) rfl (by decide +kernel) (Nat.le_of_ble_eq_true rfl) ?_
  intro X hX hN hE
  show hh_V X 0 [(0, .ref 88)] [] 0 0 (hx s rd J I)
  unfold x_X6_rests at hf
  refine hv_iconst (v := 0) hX icx_0 dX6_rests_0 ?_
  refine hv_istore_n (loc2 := [(1, .int 0), (0, .ref 88)]) hX dX6_rests_1 rfl hN (Nat.le_of_ble_eq_true rfl) rfl ?_
  refine hv_fewer [1, 0] (loc2 := [(0, .ref 88), (1, .int 0)]) rfl ?_
  obtain ⟨n0, hf⟩ := hf
  exact w_X6_rests_l2 hX hN hE  n0 _ _ _ _ _ rfl rfl rfl hf
/-! HungryHedge$Spread.goes(III)V -/
def x_X6_goes_j124 (Q : mI → Prop) (pf : Int32 → Int32 → Int32 → xS → xRd → mJ → mI → (mI → Prop) → Prop)  (s : xS) (rd : xRd) (J : mJ) (I : mI) : Prop :=
  Q (u2 I 88 3 ((I 88 3) + 1))
theorem w_X6_goes_j124 {X : hh_CX} {pf : Int32 → Int32 → Int32 → xS → xRd → mJ → mI → (mI → Prop) → Prop} {F L : Nat} {S0 : xS} {R0 : xRd} {J0 : mJ} {Q : mI → Prop} (hX : hh_C X cX6_goes RX6 (hrx (F + 2) (L + 200) 0 0)) (hN : hh_nL X = 6) (hE : hh_E X none (xQv (fun S9 R9 J9 I9 => S0 = S9 ∧ R0 = R9 ∧ J0 = J9 ∧ Q I9)) 0 0) (hpf : ∀ (c1 : Int32) (c2 : Int32) (c3 : Int32) (s : xS) (rd : xRd) (J : mJ) (I : mI) (Q : mI → Prop), pf c1 c2 c3 s rd J I Q → hh_Ct yX6_goes cX6_goes 6 none F L [.ref 88, .int c1, .int c2, .int c3] (hx s rd J I) (xQv (fun S9 R9 J9 I9 => s = S9 ∧ rd = R9 ∧ J = J9 ∧ Q I9)) 0 0) : ∀  (s : xS) (rd : xRd) (J : mJ) (I : mI), s = S0 → rd = R0 → J = J0 → x_X6_goes_j124 Q pf   s rd J I → hh_V X 124 [(0, .ref 88)] [] 0 0 (hx s rd J I) := by
  intro  s rd J I e0 e1 e2 hf
  subst e0
  subst e1
  subst e2
  unfold x_X6_goes_j124 at hf
  refine hv_aload_n hX dX6_goes_124 rfl 0 rfl ?_
  refine hv_dup hX rfl dX6_goes_125 ?_
  refine hx_getI (v := (I 88 3)) hX dX6_goes_126 fl6_56_6 (.inl rfl) (xo_c (by decide) rfl) rfl ?_
  refine hv_iconst (v := 1) hX icx_1 dX6_goes_129 ?_
  refine hv_iadd hX dX6_goes_130 ?_
  refine hx_putI hX dX6_goes_131 fl6_56_6 (xo_c (by decide) rfl) ?_
  exact hx_vret hX hE dX6_goes_134 ⟨rfl, rfl, rfl, hf⟩
def x_X6_goes_l26 (Q : mI → Prop) (pf : Int32 → Int32 → Int32 → xS → xRd → mJ → mI → (mI → Prop) → Prop) : Nat → Int32 → Int32 → Int32 → Int32 → Int32 → xS → xRd → mJ → mI → Prop
  | 0, _, _, _, _, _, _, _, _, _ => False
  | n + 1, a1, a2, a3, a4, a5, s, rd, J, I =>
    (a3 < a5 →
      Q I) ∧ (¬ a3 < a5 →
      vp_in a4 8 ∧ (pf a1 (a2 + 1) (a3 - a5) s rd J (u2 I 89 a4.toNatClampNeg a5) (fun I9 => x_X6_goes_l26 Q pf   n a1 a2 a3 a4 (a5 + 1) s rd J I9)))
theorem w_X6_goes_l26 {X : hh_CX} {pf : Int32 → Int32 → Int32 → xS → xRd → mJ → mI → (mI → Prop) → Prop} {F L : Nat} {S0 : xS} {R0 : xRd} {J0 : mJ} {Q : mI → Prop} (hX : hh_C X cX6_goes RX6 (hrx (F + 2) (L + 200) 0 0)) (hN : hh_nL X = 6) (hE : hh_E X none (xQv (fun S9 R9 J9 I9 => S0 = S9 ∧ R0 = R9 ∧ J0 = J9 ∧ Q I9)) 0 0) (hpf : ∀ (c1 : Int32) (c2 : Int32) (c3 : Int32) (s : xS) (rd : xRd) (J : mJ) (I : mI) (Q : mI → Prop), pf c1 c2 c3 s rd J I Q → hh_Ct yX6_goes cX6_goes 6 none F L [.ref 88, .int c1, .int c2, .int c3] (hx s rd J I) (xQv (fun S9 R9 J9 I9 => s = S9 ∧ rd = R9 ∧ J = J9 ∧ Q I9)) 0 0) : ∀ (n : Nat) (a1 : Int32) (a2 : Int32) (a3 : Int32) (a4 : Int32) (a5 : Int32) (s : xS) (rd : xRd) (J : mJ) (I : mI), s = S0 → rd = R0 → J = J0 → x_X6_goes_l26 Q pf  n a1 a2 a3 a4 a5 s rd J I → hh_V X 26 [(0, .ref 88), (1, .int a1), (2, .int a2), (3, .int a3), (4, .int a4), (5, .int a5)] [] 0 0 (hx s rd J I) := by
  intro n
  induction n with
  | zero => intro _ _ _ _ _ _ _ _ _ _ _ _ hf; exact hf.elim
  | succ n ih =>
    intro a1 a2 a3 a4 a5 s rd J I e0 e1 e2 hf
    subst e0
    subst e1
    subst e2
    unfold x_X6_goes_l26 at hf
    refine hv_iload hX dX6_goes_26 5 rfl ?_
    refine hv_iload_n hX dX6_goes_28 rfl 3 rfl ?_
    refine hv_icmp_gt (tgt := 59) hX dX6_goes_29 (by decide) (fun c8 => ?_) (fun c8 => ?_)
    · replace hf := hf.1 c8
      exact hx_vret hX hE dX6_goes_59 ⟨rfl, rfl, rfl, hf⟩
    · replace hf := hf.2 c8
      refine hv_aload_n hX dX6_goes_32 rfl 0 rfl ?_
      refine hx_getR (v := 89) hX dX6_goes_33 fl6_15_6 (xo_c (by decide) rfl) (xR_c rfl) ?_
      refine hv_iload hX dX6_goes_36 4 rfl ?_
      refine hv_iload hX dX6_goes_38 5 rfl ?_
      obtain ⟨g, hf⟩ := hf
      refine hx_iast hX dX6_goes_40 (xo_c (by decide) rfl) (xlen_c (by decide) rfl) g ?_
      refine hv_aload_n hX dX6_goes_41 rfl 0 rfl ?_
      refine hv_iload_n hX dX6_goes_42 rfl 1 rfl ?_
      refine hv_iload_n hX dX6_goes_43 rfl 2 rfl ?_
      refine hv_iconst (v := 1) hX icx_1 dX6_goes_44 ?_
      refine hv_iadd hX dX6_goes_45 ?_
      refine hv_iload_n hX dX6_goes_46 rfl 3 rfl ?_
      refine hv_iload hX dX6_goes_47 5 rfl ?_
      refine hv_isub hX dX6_goes_49 ?_
      refine hx_callVv (ci := 6) (q := (RX6, TX6, 6)) hX dX6_goes_50 (hpf a1 (a2 + 1) (a3 - a5) s rd J (u2 I 89 a4.toNatClampNeg a5) _ hf) (lw_V q922 q924 qs15 q112 q925) rfl (by decide) ⟨rfl, np_X6_goes⟩ rfl (xo_c (by decide) rfl) rfl ⟨by dsimp only [hrx]; omega, by dsimp only [hrx]; omega⟩ ⟨Nat.le_of_ble_eq_true rfl, Nat.le_of_ble_eq_true rfl⟩ (Nat.le_of_ble_eq_true rfl) ?_
      intro  S9 R9 J9 I9 hq
      clear hf
      obtain ⟨rfl, rfl, rfl, hf⟩ := hq
      refine hv_iinc (v := (a5 + 1)) (loc2 := [(5, .int (a5 + 1)), (0, .ref 88), (1, .int a1), (2, .int a2), (3, .int a3), (4, .int a4)]) hX dX6_goes_53 5 rfl (congrArg (fun y => a5 + y) icx_1) hN (Nat.le_of_ble_eq_true rfl) rfl ?_
      refine hv_goto (tgt := 26) hX dX6_goes_56 (by decide) ?_
      refine hv_fewer [1, 2, 3, 4, 5, 0] (loc2 := [(0, .ref 88), (1, .int a1), (2, .int a2), (3, .int a3), (4, .int a4), (5, .int (a5 + 1))]) rfl ?_
      exact ih _ _ _ _ _ _ _ _ _ rfl rfl rfl hf
def x_X6_goes_b (pf : Int32 → Int32 → Int32 → xS → xRd → mJ → mI → (mI → Prop) → Prop) (a1 : Int32) (a2 : Int32) (a3 : Int32) (s : xS) (rd : xRd) (J : mJ) (I : mI) (Q : mI → Prop) : Prop :=
  (((I 1 0) - 1) ≤ a2 →
    vp_in ((4 * a1) + a2) 8 ∧ ((a1 = 0 →
      pf 1 0 (I 1 6) s rd J (u2 I 89 ((4 * a1) + a2).toNatClampNeg a3) (fun I7 => Q I7)) ∧ (¬ a1 = 0 →
      x_X6_rests s rd J (u2 I 89 ((4 * a1) + a2).toNatClampNeg a3) (fun r4 I3 => (r4 = 0 →
        Q I3) ∧ (¬ r4 = 0 →
        ((I3 88 3) = (I3 88 4) →
          (¬ (0 : Int32) < 0 ∧ ¬ (0 : Int32) < 0 ∧ ¬ (8 : Int32) < 0 ∧ (0 : Int32).toNatClampNeg + (8 : Int32).toNatClampNeg ≤ (xlen s 89) ∧ (0 : Int32).toNatClampNeg + (8 : Int32).toNatClampNeg ≤ (xlen s 90)) ∧ (x_X6_goes_j124 Q pf    s rd J (ur I3 90 (va_cpy (I3 89) (I3 90) (0 : Int32).toNatClampNeg (0 : Int32).toNatClampNeg (8 : Int32).toNatClampNeg)))) ∧ (¬ (I3 88 3) = (I3 88 4) →
          x_X6_goes_j124 Q pf    s rd J I3)))))) ∧ (¬ ((I 1 0) - 1) ≤ a2 →
    ∃ n0 : Nat, x_X6_goes_l26 Q pf   n0 a1 a2 a3 ((4 * a1) + a2) 0 s rd J I)
theorem ct_X6_goes_b {pf : Int32 → Int32 → Int32 → xS → xRd → mJ → mI → (mI → Prop) → Prop} {F L : Nat}  (hpf : ∀ (c1 : Int32) (c2 : Int32) (c3 : Int32) (s : xS) (rd : xRd) (J : mJ) (I : mI) (Q : mI → Prop), pf c1 c2 c3 s rd J I Q → hh_Ct yX6_goes cX6_goes 6 none F L [.ref 88, .int c1, .int c2, .int c3] (hx s rd J I) (xQv (fun S9 R9 J9 I9 => s = S9 ∧ rd = R9 ∧ J = J9 ∧ Q I9)) 0 0) (a1 : Int32) (a2 : Int32) (a3 : Int32) (s : xS) (rd : xRd) (J : mJ) (I : mI) (Q : mI → Prop) (hf : x_X6_goes_b pf a1 a2 a3 s rd J I Q) : hh_Ct yX6_goes cX6_goes 6 none (F + 2) (L + 200) [.ref 88, .int a1, .int a2, .int a3] (hx s rd J I) (xQv (fun S9 R9 J9 I9 => s = S9 ∧ rd = R9 ∧ J = J9 ∧ Q I9)) 0 0 := by
  refine hh_Ct.of (own := RX6) rfl (by decide +kernel) (Nat.le_of_ble_eq_true rfl) ?_
  intro X hX hN hE
  show hh_V X 0 [(0, .ref 88), (1, .int a1), (2, .int a2), (3, .int a3)] [] 0 0 (hx s rd J I)
  unfold x_X6_goes_b at hf
  refine hv_iconst (v := 4) hX icx_4 dX6_goes_0 ?_
  refine hv_iload_n hX dX6_goes_1 rfl 1 rfl ?_
  refine hv_imul hX dX6_goes_2 ?_
  refine hv_iload_n hX dX6_goes_3 rfl 2 rfl ?_
  refine hv_iadd hX dX6_goes_4 ?_
  refine hv_istore (loc2 := [(4, .int ((4 * a1) + a2)), (0, .ref 88), (1, .int a1), (2, .int a2), (3, .int a3)]) hX dX6_goes_5 hN (Nat.le_of_ble_eq_true rfl) rfl ?_
  refine hv_iload_n hX dX6_goes_7 rfl 3 rfl ?_
  refine hv_aload_n hX dX6_goes_8 rfl 1 rfl ?_
  refine hx_getR (v := 0) hX dX6_goes_9 fl6_3_6 (xo_c (by decide) rfl) (xR_c rfl) ?_
  refine hx_getR (v := 1) hX dX6_goes_12 fl6_25_0 (xo_c (by decide) rfl) (xR_c rfl) ?_
  refine hx_getI (v := (I 1 0)) hX dX6_goes_15 fl6_29_1 (.inl rfl) (xo_c (by decide) rfl) rfl ?_
  refine hv_iconst (v := 1) hX icx_1 dX6_goes_18 ?_
  refine hv_isub hX dX6_goes_19 ?_
  refine hv_icmp_ge (tgt := 60) hX dX6_goes_20 (by decide) (fun c1 => ?_) (fun c1 => ?_)
  · replace hf := hf.1 c1
    refine hv_aload_n hX dX6_goes_60 rfl 1 rfl ?_
    refine hx_getR (v := 89) hX dX6_goes_61 fl6_15_6 (xo_c (by decide) rfl) (xR_c rfl) ?_
    refine hv_iload hX dX6_goes_64 0 rfl ?_
    refine hv_iload_n hX dX6_goes_66 rfl 4 rfl ?_
    obtain ⟨g, hf⟩ := hf
    refine hx_iast hX dX6_goes_67 (xo_c (by decide) rfl) (xlen_c (by decide) rfl) g ?_
    refine hv_iload_n hX dX6_goes_68 rfl 2 rfl ?_
    refine hv_if_ne (tgt := 91) hX dX6_goes_69 (by decide) (fun c2 => ?_) (fun c2 => ?_)
    · replace hf := hf.2 c2
      refine hv_aload_n hX dX6_goes_91 rfl 1 rfl ?_
      refine hx_callVi (ci := 6) (q := (RX6, TX6, 6)) hX dX6_goes_92 (ct_X6_rests s rd J (u2 I 89 ((4 * a1) + a2).toNatClampNeg a3) _ hf) (lw_V q926 q928 qs16 q112 q929) rfl (by decide) ⟨rfl, np_X6_rests⟩ rfl (xo_c (by decide) rfl) rfl ⟨by dsimp only [hrx]; omega, by dsimp only [hrx]; omega⟩ ⟨Nat.le_of_ble_eq_true rfl, Nat.le_of_ble_eq_true rfl⟩ (Nat.le_of_ble_eq_true rfl) ?_
      intro r4 S9 R9 J9 I3 hq
      clear hf
      obtain ⟨rfl, rfl, rfl, hf⟩ := hq
      refine hv_if_eq (tgt := 134) hX dX6_goes_95 (by decide) (fun c5 => ?_) (fun c5 => ?_)
      · replace hf := hf.1 c5
        exact hx_vret hX hE dX6_goes_134 ⟨rfl, rfl, rfl, hf⟩
      · replace hf := hf.2 c5
        refine hv_aload_n hX dX6_goes_98 rfl 1 rfl ?_
        refine hx_getI (v := (I3 88 3)) hX dX6_goes_99 fl6_56_6 (.inl rfl) (xo_c (by decide) rfl) rfl ?_
        refine hv_aload_n hX dX6_goes_102 rfl 1 rfl ?_
        refine hx_getI (v := (I3 88 4)) hX dX6_goes_103 fl6_59_6 (.inl rfl) (xo_c (by decide) rfl) rfl ?_
        refine hv_icmp_ne (tgt := 124) hX dX6_goes_106 (by decide) (fun c6 => ?_) (fun c6 => ?_)
        · replace hf := hf.2 c6
          refine hv_fewer [1] (loc2 := [(0, .ref 88)]) rfl ?_
          exact w_X6_goes_j124 hX hN hE hpf   _ _ _ _ rfl rfl rfl hf
        · replace hf := hf.1 c6
          refine hv_aload_n hX dX6_goes_109 rfl 1 rfl ?_
          refine hx_getR (v := 89) hX dX6_goes_110 fl6_15_6 (xo_c (by decide) rfl) (xR_c rfl) ?_
          refine hv_iconst (v := 0) hX icx_0 dX6_goes_113 ?_
          refine hv_aload_n hX dX6_goes_114 rfl 1 rfl ?_
          refine hx_getR (v := 90) hX dX6_goes_115 fl6_19_6 (xo_c (by decide) rfl) (xR_c rfl) ?_
          refine hv_iconst (v := 0) hX icx_0 dX6_goes_118 ?_
          refine hv_bipush (v := 8) hX bix_8 dX6_goes_119 ?_
          obtain ⟨g, hf⟩ := hf
          refine hx_copyI hX dX6_goes_121 q934 q690 q689 q126 (xo_c (by decide) rfl) (xo_c (by decide) rfl) g ⟨by dsimp only [hrx]; omega, Nat.le_trans (m := 100) (Nat.le_of_ble_eq_true rfl) (by dsimp only [hrx]; omega)⟩ ?_
          refine hv_fewer [1] (loc2 := [(0, .ref 88)]) rfl ?_
          exact w_X6_goes_j124 hX hN hE hpf   _ _ _ _ rfl rfl rfl hf
    · replace hf := hf.1 c2
      refine hv_aload_n hX dX6_goes_72 rfl 1 rfl ?_
      refine hv_iconst (v := 1) hX icx_1 dX6_goes_73 ?_
      refine hv_iconst (v := 0) hX icx_0 dX6_goes_74 ?_
      refine hv_aload_n hX dX6_goes_75 rfl 1 rfl ?_
      refine hx_getR (v := 0) hX dX6_goes_76 fl6_3_6 (xo_c (by decide) rfl) (xR_c rfl) ?_
      refine hx_getR (v := 1) hX dX6_goes_79 fl6_25_0 (xo_c (by decide) rfl) (xR_c rfl) ?_
      refine hx_getI (v := (I 1 6)) hX dX6_goes_82 fl6_49_1 (.inl rfl) (xo_c (by decide) rfl) ((u2_ne _ _ (.inl (by decide)))) ?_
      refine hx_callVv (ci := 6) (q := (RX6, TX6, 6)) hX dX6_goes_85 (hpf 1 0 (I 1 6) s rd J (u2 I 89 ((4 * a1) + a2).toNatClampNeg a3) _ hf) (lw_V q922 q924 qs15 q112 q925) rfl (by decide) ⟨rfl, np_X6_goes⟩ rfl (xo_c (by decide) rfl) rfl ⟨by dsimp only [hrx]; omega, by dsimp only [hrx]; omega⟩ ⟨Nat.le_of_ble_eq_true rfl, Nat.le_of_ble_eq_true rfl⟩ (Nat.le_of_ble_eq_true rfl) ?_
      intro  S9 R9 J9 I7 hq
      clear hf
      obtain ⟨rfl, rfl, rfl, hf⟩ := hq
      refine hv_goto (tgt := 134) hX dX6_goes_88 (by decide) ?_
      exact hx_vret hX hE dX6_goes_134 ⟨rfl, rfl, rfl, hf⟩
  · replace hf := hf.2 c1
    refine hv_iconst (v := 0) hX icx_0 dX6_goes_23 ?_
    refine hv_istore (loc2 := [(5, .int 0), (4, .int ((4 * a1) + a2)), (0, .ref 88), (1, .int a1), (2, .int a2), (3, .int a3)]) hX dX6_goes_24 hN (Nat.le_of_ble_eq_true rfl) rfl ?_
    refine hv_fewer [2, 3, 4, 5, 1, 0] (loc2 := [(0, .ref 88), (1, .int a1), (2, .int a2), (3, .int a3), (4, .int ((4 * a1) + a2)), (5, .int 0)]) rfl ?_
    obtain ⟨n0, hf⟩ := hf
    exact w_X6_goes_l26 hX hN hE hpf  n0 _ _ _ _ _ _ _ _ _ rfl rfl rfl hf
def x_X6_goes : Nat → Int32 → Int32 → Int32 → xS → xRd → mJ → mI → (mI → Prop) → Prop
  | 0, _, _, _, _, _, _, _, _ => False
  | n + 1, a1, a2, a3, s, rd, J, I, Q => x_X6_goes_b (fun a1 a2 a3 s rd J I Q => x_X6_goes n a1 a2 a3 s rd J I Q) a1 a2 a3 s rd J I Q
theorem ct_X6_goes : ∀ (n : Nat) (a1 : Int32) (a2 : Int32) (a3 : Int32) (s : xS) (rd : xRd) (J : mJ) (I : mI) (Q : mI → Prop), x_X6_goes n a1 a2 a3 s rd J I Q → hh_Ct yX6_goes cX6_goes 6 none (2 * n) (200 * n) [.ref 88, .int a1, .int a2, .int a3] (hx s rd J I) (xQv (fun S9 R9 J9 I9 => s = S9 ∧ rd = R9 ∧ J = J9 ∧ Q I9)) 0 0 := by
  intro n
  induction n with
  | zero => intro _ _ _ _ _ _ _ _ hf; exact hf.elim
  | succ n ih =>
    intro a1 a2 a3 s rd J I Q hf
    exact ct_X6_goes_b (F := 2 * n) (L := 200 * n) ih a1 a2 a3 s rd J I Q hf
/-! HungryHedge$Spread.finds(I)I -/
def x_X6_finds (a1 : Int32) (s : xS) (rd : xRd) (J : mJ) (I : mI) (Q : Int32 → mI → Prop) : Prop :=
  ((I 1 0) ≤ 0 →
    Q 0 (u2 (u2 I 88 3 0) 88 4 a1)) ∧ (¬ (I 1 0) ≤ 0 →
    x_X6_goes 10 0 0 (I 1 5) s rd J (u2 (u2 I 88 3 0) 88 4 a1) (fun I2 => Q (I2 88 3) I2))
theorem ct_X6_finds  (a1 : Int32) (s : xS) (rd : xRd) (J : mJ) (I : mI) (Q : Int32 → mI → Prop) (hf : x_X6_finds a1 s rd J I Q) : hh_Ct yX6_finds cX6_finds 2 (some .int) 21 2025 [.ref 88, .int a1] (hx s rd J I) (xQi (fun r9 S9 R9 J9 I9 => s = S9 ∧ rd = R9 ∧ J = J9 ∧ Q r9 I9)) 0 0 := by
  refine hh_Ct.of (own := RX6) rfl (by decide +kernel) (Nat.le_of_ble_eq_true rfl) ?_
  intro X hX hN hE
  show hh_V X 0 [(0, .ref 88), (1, .int a1)] [] 0 0 (hx s rd J I)
  unfold x_X6_finds at hf
  refine hv_aload_n hX dX6_finds_0 rfl 0 rfl ?_
  refine hv_iconst (v := 0) hX icx_0 dX6_finds_1 ?_
  refine hx_putI hX dX6_finds_2 fl6_56_6 (xo_c (by decide) rfl) ?_
  refine hv_aload_n hX dX6_finds_5 rfl 0 rfl ?_
  refine hv_iload_n hX dX6_finds_6 rfl 1 rfl ?_
  refine hx_putI hX dX6_finds_7 fl6_59_6 (xo_c (by decide) rfl) ?_
  refine hv_aload_n hX dX6_finds_10 rfl 0 rfl ?_
  refine hx_getR (v := 0) hX dX6_finds_11 fl6_3_6 (xo_c (by decide) rfl) (xR_c rfl) ?_
  refine hx_getR (v := 1) hX dX6_finds_14 fl6_25_0 (xo_c (by decide) rfl) (xR_c rfl) ?_
  refine hx_getI (v := (I 1 0)) hX dX6_finds_17 fl6_29_1 (.inl rfl) (xo_c (by decide) rfl) ((u2_ne _ _ (.inl (by decide))) |>.trans (u2_ne _ _ (.inl (by decide)))) ?_
  refine hv_if_le (tgt := 39) hX dX6_finds_20 (by decide) (fun c1 => ?_) (fun c1 => ?_)
  · replace hf := hf.1 c1
    refine hv_aload_n hX dX6_finds_39 rfl 0 rfl ?_
    refine hx_getI (v := 0) hX dX6_finds_40 fl6_56_6 (.inl rfl) (xo_c (by decide) rfl) ((u2_ne _ _ (.inr (by decide))) |>.trans (u2_self _ _ _ _)) ?_
    exact hx_iret hX hE dX6_finds_43 ⟨rfl, rfl, rfl, hf⟩
  · replace hf := hf.2 c1
    refine hv_aload_n hX dX6_finds_23 rfl 0 rfl ?_
    refine hv_iconst (v := 0) hX icx_0 dX6_finds_24 ?_
    refine hv_iconst (v := 0) hX icx_0 dX6_finds_25 ?_
    refine hv_aload_n hX dX6_finds_26 rfl 0 rfl ?_
    refine hx_getR (v := 0) hX dX6_finds_27 fl6_3_6 (xo_c (by decide) rfl) (xR_c rfl) ?_
    refine hx_getR (v := 1) hX dX6_finds_30 fl6_25_0 (xo_c (by decide) rfl) (xR_c rfl) ?_
    refine hx_getI (v := (I 1 5)) hX dX6_finds_33 fl6_68_1 (.inl rfl) (xo_c (by decide) rfl) ((u2_ne _ _ (.inl (by decide))) |>.trans (u2_ne _ _ (.inl (by decide)))) ?_
    refine hx_callVv (ci := 6) (q := (RX6, TX6, 6)) hX dX6_finds_36 (ct_X6_goes 10 0 0 (I 1 5) s rd J (u2 (u2 I 88 3 0) 88 4 a1) _ hf) (lw_V q922 q924 qs15 q112 q925) rfl (by decide) ⟨rfl, np_X6_goes⟩ rfl (xo_c (by decide) rfl) rfl ⟨Nat.le_of_ble_eq_true rfl, Nat.le_of_ble_eq_true rfl⟩ ⟨Nat.le_of_ble_eq_true rfl, Nat.le_of_ble_eq_true rfl⟩ (Nat.le_of_ble_eq_true rfl) ?_
    intro  S9 R9 J9 I2 hq
    clear hf
    obtain ⟨rfl, rfl, rfl, hf⟩ := hq
    refine hv_aload_n hX dX6_finds_39 rfl 0 rfl ?_
    refine hx_getI (v := (I2 88 3)) hX dX6_finds_40 fl6_56_6 (.inl rfl) (xo_c (by decide) rfl) rfl ?_
    exact hx_iret hX hE dX6_finds_43 ⟨rfl, rfl, rfl, hf⟩
/-! HungryHedge.rests()I -/
def x_X0_rests  (s : xS) (rd : xRd) (J : mJ) (I : mI) (Q : Int32 → mI → Prop) : Prop :=
  x_X6_finds (-1) s rd J I (fun r2 I1 => Q r2 I1)
theorem ct_X0_rests   (s : xS) (rd : xRd) (J : mJ) (I : mI) (Q : Int32 → mI → Prop) (hf : x_X0_rests  s rd J I Q) : hh_Ct yX0_rests cX0_rests 1 (some .int) 22 2046 [.ref 0] (hx s rd J I) (xQi (fun r9 S9 R9 J9 I9 => s = S9 ∧ rd = R9 ∧ J = J9 ∧ Q r9 I9)) 0 0 := by
  refine hh_Ct.of (own := RX0) rfl (by decide +kernel) (Nat.le_of_ble_eq_true rfl) ?_
  intro X hX hN hE
  show hh_V X 0 [(0, .ref 0)] [] 0 0 (hx s rd J I)
  unfold x_X0_rests at hf
  refine hv_aload_n hX dX0_rests_0 rfl 0 rfl ?_
  refine hx_getR (v := 88) hX dX0_rests_1 fl0_45_0 (xo_c (by decide) rfl) (xR_c rfl) ?_
  refine hv_iconst (v := (-1)) hX icx_m1 dX0_rests_4 ?_
  refine hx_callVi (ci := 6) (q := (RX6, TX6, 6)) hX dX0_rests_5 (ct_X6_finds (-1) s rd J I _ hf) (lw_V q918 q919 q920 q112 q921) rfl (by decide) ⟨rfl, np_X6_finds⟩ rfl (xo_c (by decide) rfl) rfl ⟨Nat.le_of_ble_eq_true rfl, Nat.le_of_ble_eq_true rfl⟩ ⟨Nat.le_of_ble_eq_true rfl, Nat.le_of_ble_eq_true rfl⟩ (Nat.le_of_ble_eq_true rfl) ?_
  intro r2 S9 R9 J9 I1 hq
  clear hf
  obtain ⟨rfl, rfl, rfl, hf⟩ := hq
  exact hx_iret hX hE dX0_rests_8 ⟨rfl, rfl, rfl, hf⟩
/-! HungryHedge.restOf(II)I -/
def x_X0_restOf (a1 : Int32) (a2 : Int32) (s : xS) (rd : xRd) (J : mJ) (I : mI) (Q : Int32 → mI → Prop) : Prop :=
  x_X0_in a2 0 7 s rd J I (fun r1 => (r1 = 0 →
    Q (-1) I) ∧ (¬ r1 = 0 →
    x_X0_isPatch (a2 - a2 / 4 * 4) s rd J I (fun r3 => (r3 = 0 →
      Q (-1) I) ∧ (¬ r3 = 0 →
      (a1 < 0 →
        Q (-3) I) ∧ (¬ a1 < 0 →
        x_X6_finds a1 s rd J I (fun r7 I6 => (r7 ≤ a1 →
          Q (-3) I6) ∧ (¬ r7 ≤ a1 →
          vp_in a2 8 ∧ (Q (I6 90 a2.toNatClampNeg) I6))))))))
theorem ct_X0_restOf  (a1 : Int32) (a2 : Int32) (s : xS) (rd : xRd) (J : mJ) (I : mI) (Q : Int32 → mI → Prop) (hf : x_X0_restOf a1 a2 s rd J I Q) : hh_Ct yX0_restOf cX0_restOf 3 (some .int) 22 2046 [.ref 0, .int a1, .int a2] (hx s rd J I) (xQi (fun r9 S9 R9 J9 I9 => s = S9 ∧ rd = R9 ∧ J = J9 ∧ Q r9 I9)) 0 0 := by
  refine hh_Ct.of (own := RX0) rfl (by decide +kernel) (Nat.le_of_ble_eq_true rfl) ?_
  intro X hX hN hE
  show hh_V X 0 [(0, .ref 0), (1, .int a1), (2, .int a2)] [] 0 0 (hx s rd J I)
  unfold x_X0_restOf at hf
  refine hv_iload_n hX dX0_restOf_0 rfl 2 rfl ?_
  refine hv_iconst (v := 0) hX icx_0 dX0_restOf_1 ?_
  refine hv_bipush (v := 7) hX bix_7 dX0_restOf_2 ?_
  refine hx_callSi hX dX0_restOf_4 (ct_X0_in a2 0 7 s rd J I _ hf) (lw_S q649 q650 q106 q651) np_X0_in rfl rfl ⟨Nat.le_of_ble_eq_true rfl, Nat.le_of_ble_eq_true rfl⟩ ⟨Nat.le_of_ble_eq_true rfl, Nat.le_of_ble_eq_true rfl⟩ (Nat.le_of_ble_eq_true rfl) ?_
  intro r1 S9 R9 J9 I9 hq
  clear hf
  obtain ⟨rfl, rfl, rfl, rfl, hf⟩ := hq
  refine hv_if_eq (tgt := 20) hX dX0_restOf_7 (by decide) (fun c2 => ?_) (fun c2 => ?_)
  · replace hf := hf.1 c2
    refine hv_iconst (v := (-1)) hX icx_m1 dX0_restOf_20 ?_
    exact hx_iret hX hE dX0_restOf_21 ⟨rfl, rfl, rfl, hf⟩
  · replace hf := hf.2 c2
    refine hv_aload_n hX dX0_restOf_10 rfl 0 rfl ?_
    refine hv_iload_n hX dX0_restOf_11 rfl 2 rfl ?_
    refine hv_iconst (v := 4) hX icx_4 dX0_restOf_12 ?_
    refine hv_irem hX (by decide) dX0_restOf_13 ?_
    refine hx_callVi (ci := 0) (q := (RX0, TX0, 19)) hX dX0_restOf_14 (ct_X0_isPatch (a2 - a2 / 4 * 4) s rd J I _ hf) (lw_V q656 q658 qs1 q106 q659) rfl (by decide) ⟨rfl, np_X0_isPatch⟩ rfl (xo_c (by decide) rfl) rfl ⟨Nat.le_of_ble_eq_true rfl, Nat.le_of_ble_eq_true rfl⟩ ⟨Nat.le_of_ble_eq_true rfl, Nat.le_of_ble_eq_true rfl⟩ (Nat.le_of_ble_eq_true rfl) ?_
    intro r3 S9 R9 J9 I9 hq
    clear hf
    obtain ⟨rfl, rfl, rfl, rfl, hf⟩ := hq
    refine hv_if_ne (tgt := 22) hX dX0_restOf_17 (by decide) (fun c4 => ?_) (fun c4 => ?_)
    · replace hf := hf.2 c4
      refine hv_iload_n hX dX0_restOf_22 rfl 1 rfl ?_
      refine hv_if_lt (tgt := 50) hX dX0_restOf_23 (by decide) (fun c5 => ?_) (fun c5 => ?_)
      · replace hf := hf.1 c5
        refine hv_bipush (v := (-3)) hX bix_m3 dX0_restOf_50 ?_
        exact hx_iret hX hE dX0_restOf_52 ⟨rfl, rfl, rfl, hf⟩
      · replace hf := hf.2 c5
        refine hv_iload_n hX dX0_restOf_26 rfl 1 rfl ?_
        refine hv_aload_n hX dX0_restOf_27 rfl 0 rfl ?_
        refine hx_getR (v := 88) hX dX0_restOf_28 fl0_45_0 (xo_c (by decide) rfl) (xR_c rfl) ?_
        refine hv_iload_n hX dX0_restOf_31 rfl 1 rfl ?_
        refine hx_callVi (ci := 6) (q := (RX6, TX6, 6)) hX dX0_restOf_32 (ct_X6_finds a1 s rd J I _ hf) (lw_V q918 q919 q920 q112 q921) rfl (by decide) ⟨rfl, np_X6_finds⟩ rfl (xo_c (by decide) rfl) rfl ⟨Nat.le_of_ble_eq_true rfl, Nat.le_of_ble_eq_true rfl⟩ ⟨Nat.le_of_ble_eq_true rfl, Nat.le_of_ble_eq_true rfl⟩ (Nat.le_of_ble_eq_true rfl) ?_
        intro r7 S9 R9 J9 I6 hq
        clear hf
        obtain ⟨rfl, rfl, rfl, hf⟩ := hq
        refine hv_icmp_ge (tgt := 50) hX dX0_restOf_35 (by decide) (fun c8 => ?_) (fun c8 => ?_)
        · replace hf := hf.1 c8
          refine hv_bipush (v := (-3)) hX bix_m3 dX0_restOf_50 ?_
          exact hx_iret hX hE dX0_restOf_52 ⟨rfl, rfl, rfl, hf⟩
        · replace hf := hf.2 c8
          refine hv_aload_n hX dX0_restOf_38 rfl 0 rfl ?_
          refine hx_getR (v := 88) hX dX0_restOf_39 fl0_45_0 (xo_c (by decide) rfl) (xR_c rfl) ?_
          refine hx_getR (v := 90) hX dX0_restOf_42 fl0_273_6 (xo_c (by decide) rfl) (xR_c rfl) ?_
          refine hv_iload_n hX dX0_restOf_45 rfl 2 rfl ?_
          obtain ⟨g, hf⟩ := hf
          refine hx_iald (v := (I6 90 a2.toNatClampNeg)) hX dX0_restOf_46 (xo_c (by decide) rfl) (xlen_c (by decide) rfl) g rfl ?_
          refine hv_goto (tgt := 52) hX dX0_restOf_47 (by decide) ?_
          exact hx_iret hX hE dX0_restOf_52 ⟨rfl, rfl, rfl, hf⟩
    · replace hf := hf.1 c4
      refine hv_iconst (v := (-1)) hX icx_m1 dX0_restOf_20 ?_
      exact hx_iret hX hE dX0_restOf_21 ⟨rfl, rfl, rfl, hf⟩
/-! HungryHedge.finders(III)I -/
def x_X0_finders_j150 (Q : Int32 → Prop) (k42 : Int32 → Int32 → Int32 → Int32 → Int32 → xS → xRd → mJ → mI → Prop) (a1 : Int32) (a3 : Int32) (a4 : Int32) (a6 : Int32) (p0 : Int32) (p1 : Int32) (s : xS) (rd : xRd) (J : mJ) (I : mI) : Prop :=
  k42 a1 a3 a4 (p0 ||| p1) (a6 + 1) s rd J I
theorem w_X0_finders_j150 {X : hh_CX} {S0 : xS} {R0 : xRd} {J0 : mJ} {I0 : mI} {Q : Int32 → Prop} (hX : hh_C X cX0_finders RX0 (hrx 1 22 0 0)) (hN : hh_nL X = 10) (hE : hh_E X (some .int) (xQi (fun r9 S9 R9 J9 I9 => S0 = S9 ∧ R0 = R9 ∧ J0 = J9 ∧ I0 = I9 ∧ Q r9)) 0 0) {k42 : Int32 → Int32 → Int32 → Int32 → Int32 → xS → xRd → mJ → mI → Prop} (hk42 : ∀ (b0 : Int32) (b1 : Int32) (b2 : Int32) (b3 : Int32) (b4 : Int32) (s : xS) (rd : xRd) (J : mJ) (I : mI), s = S0 → rd = R0 → J = J0 → I = I0 → k42 b0 b1 b2 b3 b4 s rd J I → hh_V X 42 [(1, .int b0), (3, .int b1), (4, .int b2), (5, .int b3), (6, .int b4)] [] 0 0 (hx s rd J I)) : ∀ (a1 : Int32) (a3 : Int32) (a4 : Int32) (a6 : Int32) (p0 : Int32) (p1 : Int32) (s : xS) (rd : xRd) (J : mJ) (I : mI), s = S0 → rd = R0 → J = J0 → I = I0 → x_X0_finders_j150 Q k42 a1 a3 a4 a6 p0 p1 s rd J I → hh_V X 150 [(1, .int a1), (3, .int a3), (4, .int a4), (6, .int a6)] [.int p1, .int p0] 0 0 (hx s rd J I) := by
  intro a1 a3 a4 a6 p0 p1 s rd J I e0 e1 e2 e3 hf
  subst e0
  subst e1
  subst e2
  subst e3
  unfold x_X0_finders_j150 at hf
  refine hv_ior hX dX0_finders_150 ?_
  refine hv_istore (loc2 := [(5, .int (p0 ||| p1)), (1, .int a1), (3, .int a3), (4, .int a4), (6, .int a6)]) hX dX0_finders_151 hN (Nat.le_of_ble_eq_true rfl) rfl ?_
  refine hv_iinc (v := (a6 + 1)) (loc2 := [(6, .int (a6 + 1)), (5, .int (p0 ||| p1)), (1, .int a1), (3, .int a3), (4, .int a4)]) hX dX0_finders_153 4 rfl (congrArg (fun y => a6 + y) icx_1) hN (Nat.le_of_ble_eq_true rfl) rfl ?_
  refine hv_goto (tgt := 42) hX dX0_finders_156 (by decide) ?_
  refine hv_fewer [2, 3, 4, 1, 0] (loc2 := [(1, .int a1), (3, .int a3), (4, .int a4), (5, .int (p0 ||| p1)), (6, .int (a6 + 1))]) rfl ?_
  exact hk42 _ _ _ _ _ _ _ _ _ rfl rfl rfl rfl hf
def x_X0_finders_j142 (Q : Int32 → Prop) (k42 : Int32 → Int32 → Int32 → Int32 → Int32 → xS → xRd → mJ → mI → Prop) (a1 : Int32) (a3 : Int32) (a4 : Int32) (a6 : Int32) (p0 : Int32) (s : xS) (rd : xRd) (J : mJ) (I : mI) : Prop :=
  x_X0_finders_j150 Q  k42 a1 a3 a4 a6 p0 0 s rd J I
theorem w_X0_finders_j142 {X : hh_CX} {S0 : xS} {R0 : xRd} {J0 : mJ} {I0 : mI} {Q : Int32 → Prop} (hX : hh_C X cX0_finders RX0 (hrx 1 22 0 0)) (hN : hh_nL X = 10) (hE : hh_E X (some .int) (xQi (fun r9 S9 R9 J9 I9 => S0 = S9 ∧ R0 = R9 ∧ J0 = J9 ∧ I0 = I9 ∧ Q r9)) 0 0) {k42 : Int32 → Int32 → Int32 → Int32 → Int32 → xS → xRd → mJ → mI → Prop} (hk42 : ∀ (b0 : Int32) (b1 : Int32) (b2 : Int32) (b3 : Int32) (b4 : Int32) (s : xS) (rd : xRd) (J : mJ) (I : mI), s = S0 → rd = R0 → J = J0 → I = I0 → k42 b0 b1 b2 b3 b4 s rd J I → hh_V X 42 [(1, .int b0), (3, .int b1), (4, .int b2), (5, .int b3), (6, .int b4)] [] 0 0 (hx s rd J I)) : ∀ (a1 : Int32) (a3 : Int32) (a4 : Int32) (a6 : Int32) (p0 : Int32) (s : xS) (rd : xRd) (J : mJ) (I : mI), s = S0 → rd = R0 → J = J0 → I = I0 → x_X0_finders_j142 Q k42 a1 a3 a4 a6 p0 s rd J I → hh_V X 142 [(1, .int a1), (3, .int a3), (4, .int a4), (6, .int a6)] [.int p0] 0 0 (hx s rd J I) := by
  intro a1 a3 a4 a6 p0 s rd J I e0 e1 e2 e3 hf
  subst e0
  subst e1
  subst e2
  subst e3
  unfold x_X0_finders_j142 at hf
  refine hv_iconst (v := 0) hX icx_0 dX0_finders_142 ?_
  refine hv_goto (tgt := 150) hX dX0_finders_143 (by decide) ?_
  exact w_X0_finders_j150 hX hN hE hk42 _ _ _ _ _ _ _ _ _ _ rfl rfl rfl rfl hf
def x_X0_finders_j128 (Q : Int32 → Prop) (k42 : Int32 → Int32 → Int32 → Int32 → Int32 → xS → xRd → mJ → mI → Prop) (a1 : Int32) (a3 : Int32) (a4 : Int32) (a5 : Int32) (a6 : Int32) (a8 : Int32) (p0 : Int32) (s : xS) (rd : xRd) (J : mJ) (I : mI) : Prop :=
  (a8 = 0 →
    (p0 = 0 →
      x_X0_finders_j150 Q  k42 a1 a3 a4 a6 a5 ((1 : Int32) <<< (a6 &&& 31)) s rd J I) ∧ (¬ p0 = 0 →
      x_X0_finders_j142 Q  k42 a1 a3 a4 a6 a5 s rd J I)) ∧ (¬ a8 = 0 →
    x_X0_finders_j142 Q  k42 a1 a3 a4 a6 a5 s rd J I)
theorem w_X0_finders_j128 {X : hh_CX} {S0 : xS} {R0 : xRd} {J0 : mJ} {I0 : mI} {Q : Int32 → Prop} (hX : hh_C X cX0_finders RX0 (hrx 1 22 0 0)) (hN : hh_nL X = 10) (hE : hh_E X (some .int) (xQi (fun r9 S9 R9 J9 I9 => S0 = S9 ∧ R0 = R9 ∧ J0 = J9 ∧ I0 = I9 ∧ Q r9)) 0 0) {k42 : Int32 → Int32 → Int32 → Int32 → Int32 → xS → xRd → mJ → mI → Prop} (hk42 : ∀ (b0 : Int32) (b1 : Int32) (b2 : Int32) (b3 : Int32) (b4 : Int32) (s : xS) (rd : xRd) (J : mJ) (I : mI), s = S0 → rd = R0 → J = J0 → I = I0 → k42 b0 b1 b2 b3 b4 s rd J I → hh_V X 42 [(1, .int b0), (3, .int b1), (4, .int b2), (5, .int b3), (6, .int b4)] [] 0 0 (hx s rd J I)) : ∀ (a1 : Int32) (a3 : Int32) (a4 : Int32) (a5 : Int32) (a6 : Int32) (a8 : Int32) (p0 : Int32) (s : xS) (rd : xRd) (J : mJ) (I : mI), s = S0 → rd = R0 → J = J0 → I = I0 → x_X0_finders_j128 Q k42 a1 a3 a4 a5 a6 a8 p0 s rd J I → hh_V X 128 [(1, .int a1), (3, .int a3), (4, .int a4), (5, .int a5), (6, .int a6), (8, .int a8)] [.int p0] 0 0 (hx s rd J I) := by
  intro a1 a3 a4 a5 a6 a8 p0 s rd J I e0 e1 e2 e3 hf
  subst e0
  subst e1
  subst e2
  subst e3
  unfold x_X0_finders_j128 at hf
  refine hv_istore (loc2 := [(9, .int p0), (1, .int a1), (3, .int a3), (4, .int a4), (5, .int a5), (6, .int a6), (8, .int a8)]) hX dX0_finders_128 hN (Nat.le_of_ble_eq_true rfl) rfl ?_
  refine hv_iload hX dX0_finders_130 4 rfl ?_
  refine hv_iload hX dX0_finders_132 6 rfl ?_
  refine hv_if_ne (tgt := 142) hX dX0_finders_134 (by decide) (fun c10 => ?_) (fun c10 => ?_)
  · replace hf := hf.2 c10
    refine hv_fewer [1, 2, 3, 5] (loc2 := [(1, .int a1), (3, .int a3), (4, .int a4), (6, .int a6)]) rfl ?_
    exact w_X0_finders_j142 hX hN hE hk42 _ _ _ _ _ _ _ _ _ rfl rfl rfl rfl hf
  · replace hf := hf.1 c10
    refine hv_iload hX dX0_finders_137 0 rfl ?_
    refine hv_if_eq (tgt := 146) hX dX0_finders_139 (by decide) (fun c11 => ?_) (fun c11 => ?_)
    · replace hf := hf.1 c11
      refine hv_iconst (v := 1) hX icx_1 dX0_finders_146 ?_
      refine hv_iload hX dX0_finders_147 5 rfl ?_
      refine hv_ishl hX dX0_finders_149 ?_
      refine hv_fewer [1, 2, 3, 5] (loc2 := [(1, .int a1), (3, .int a3), (4, .int a4), (6, .int a6)]) rfl ?_
      exact w_X0_finders_j150 hX hN hE hk42 _ _ _ _ _ _ _ _ _ _ rfl rfl rfl rfl hf
    · replace hf := hf.2 c11
      refine hv_fewer [1, 2, 3, 5] (loc2 := [(1, .int a1), (3, .int a3), (4, .int a4), (6, .int a6)]) rfl ?_
      exact w_X0_finders_j142 hX hN hE hk42 _ _ _ _ _ _ _ _ _ rfl rfl rfl rfl hf
def x_X0_finders_j127 (Q : Int32 → Prop) (k42 : Int32 → Int32 → Int32 → Int32 → Int32 → xS → xRd → mJ → mI → Prop) (a1 : Int32) (a3 : Int32) (a4 : Int32) (a5 : Int32) (a6 : Int32) (a8 : Int32) (s : xS) (rd : xRd) (J : mJ) (I : mI) : Prop :=
  x_X0_finders_j128 Q  k42 a1 a3 a4 a5 a6 a8 0 s rd J I
theorem w_X0_finders_j127 {X : hh_CX} {S0 : xS} {R0 : xRd} {J0 : mJ} {I0 : mI} {Q : Int32 → Prop} (hX : hh_C X cX0_finders RX0 (hrx 1 22 0 0)) (hN : hh_nL X = 10) (hE : hh_E X (some .int) (xQi (fun r9 S9 R9 J9 I9 => S0 = S9 ∧ R0 = R9 ∧ J0 = J9 ∧ I0 = I9 ∧ Q r9)) 0 0) {k42 : Int32 → Int32 → Int32 → Int32 → Int32 → xS → xRd → mJ → mI → Prop} (hk42 : ∀ (b0 : Int32) (b1 : Int32) (b2 : Int32) (b3 : Int32) (b4 : Int32) (s : xS) (rd : xRd) (J : mJ) (I : mI), s = S0 → rd = R0 → J = J0 → I = I0 → k42 b0 b1 b2 b3 b4 s rd J I → hh_V X 42 [(1, .int b0), (3, .int b1), (4, .int b2), (5, .int b3), (6, .int b4)] [] 0 0 (hx s rd J I)) : ∀ (a1 : Int32) (a3 : Int32) (a4 : Int32) (a5 : Int32) (a6 : Int32) (a8 : Int32) (s : xS) (rd : xRd) (J : mJ) (I : mI), s = S0 → rd = R0 → J = J0 → I = I0 → x_X0_finders_j127 Q k42 a1 a3 a4 a5 a6 a8 s rd J I → hh_V X 127 [(1, .int a1), (3, .int a3), (4, .int a4), (5, .int a5), (6, .int a6), (8, .int a8)] [] 0 0 (hx s rd J I) := by
  intro a1 a3 a4 a5 a6 a8 s rd J I e0 e1 e2 e3 hf
  subst e0
  subst e1
  subst e2
  subst e3
  unfold x_X0_finders_j127 at hf
  refine hv_iconst (v := 0) hX icx_0 dX0_finders_127 ?_
  exact w_X0_finders_j128 hX hN hE hk42 _ _ _ _ _ _ _ _ _ _ _ rfl rfl rfl rfl hf
def x_X0_finders_j93 (Q : Int32 → Prop) (k42 : Int32 → Int32 → Int32 → Int32 → Int32 → xS → xRd → mJ → mI → Prop) (a1 : Int32) (a3 : Int32) (a4 : Int32) (a5 : Int32) (a6 : Int32) (a7 : Int32) (p0 : Int32) (s : xS) (rd : xRd) (J : mJ) (I : mI) : Prop :=
  (a7 ≤ 0 →
    x_X0_finders_j127 Q  k42 a1 a3 a4 a5 a6 p0 s rd J I) ∧ (¬ a7 ≤ 0 →
    ((((a3 * a7) + a4) * (a7 + 1)) ≤ ((a6 * a4) * a7) →
      x_X0_finders_j127 Q  k42 a1 a3 a4 a5 a6 p0 s rd J I) ∧ (¬ (((a3 * a7) + a4) * (a7 + 1)) ≤ ((a6 * a4) * a7) →
      x_X0_finders_j128 Q  k42 a1 a3 a4 a5 a6 p0 1 s rd J I))
theorem w_X0_finders_j93 {X : hh_CX} {S0 : xS} {R0 : xRd} {J0 : mJ} {I0 : mI} {Q : Int32 → Prop} (hX : hh_C X cX0_finders RX0 (hrx 1 22 0 0)) (hN : hh_nL X = 10) (hE : hh_E X (some .int) (xQi (fun r9 S9 R9 J9 I9 => S0 = S9 ∧ R0 = R9 ∧ J0 = J9 ∧ I0 = I9 ∧ Q r9)) 0 0) {k42 : Int32 → Int32 → Int32 → Int32 → Int32 → xS → xRd → mJ → mI → Prop} (hk42 : ∀ (b0 : Int32) (b1 : Int32) (b2 : Int32) (b3 : Int32) (b4 : Int32) (s : xS) (rd : xRd) (J : mJ) (I : mI), s = S0 → rd = R0 → J = J0 → I = I0 → k42 b0 b1 b2 b3 b4 s rd J I → hh_V X 42 [(1, .int b0), (3, .int b1), (4, .int b2), (5, .int b3), (6, .int b4)] [] 0 0 (hx s rd J I)) : ∀ (a1 : Int32) (a3 : Int32) (a4 : Int32) (a5 : Int32) (a6 : Int32) (a7 : Int32) (p0 : Int32) (s : xS) (rd : xRd) (J : mJ) (I : mI), s = S0 → rd = R0 → J = J0 → I = I0 → x_X0_finders_j93 Q k42 a1 a3 a4 a5 a6 a7 p0 s rd J I → hh_V X 93 [(1, .int a1), (3, .int a3), (4, .int a4), (5, .int a5), (6, .int a6), (7, .int a7)] [.int p0] 0 0 (hx s rd J I) := by
  intro a1 a3 a4 a5 a6 a7 p0 s rd J I e0 e1 e2 e3 hf
  subst e0
  subst e1
  subst e2
  subst e3
  unfold x_X0_finders_j93 at hf
  refine hv_istore (loc2 := [(8, .int p0), (1, .int a1), (3, .int a3), (4, .int a4), (5, .int a5), (6, .int a6), (7, .int a7)]) hX dX0_finders_93 hN (Nat.le_of_ble_eq_true rfl) rfl ?_
  refine hv_iload hX dX0_finders_95 6 rfl ?_
  refine hv_if_le (tgt := 127) hX dX0_finders_97 (by decide) (fun c9 => ?_) (fun c9 => ?_)
  · replace hf := hf.1 c9
    refine hv_fewer [1, 2, 3, 4, 5, 0] (loc2 := [(1, .int a1), (3, .int a3), (4, .int a4), (5, .int a5), (6, .int a6), (8, .int p0)]) rfl ?_
    exact w_X0_finders_j127 hX hN hE hk42 _ _ _ _ _ _ _ _ _ _ rfl rfl rfl rfl hf
  · replace hf := hf.2 c9
    refine hv_iload_n hX dX0_finders_100 rfl 2 rfl ?_
    refine hv_iload hX dX0_finders_101 6 rfl ?_
    refine hv_imul hX dX0_finders_103 ?_
    refine hv_iload hX dX0_finders_104 3 rfl ?_
    refine hv_iadd hX dX0_finders_106 ?_
    refine hv_iload hX dX0_finders_107 6 rfl ?_
    refine hv_iconst (v := 1) hX icx_1 dX0_finders_109 ?_
    refine hv_iadd hX dX0_finders_110 ?_
    refine hv_imul hX dX0_finders_111 ?_
    refine hv_iload hX dX0_finders_112 5 rfl ?_
    refine hv_iload hX dX0_finders_114 3 rfl ?_
    refine hv_imul hX dX0_finders_116 ?_
    refine hv_iload hX dX0_finders_117 6 rfl ?_
    refine hv_imul hX dX0_finders_119 ?_
    refine hv_icmp_le (tgt := 127) hX dX0_finders_120 (by decide) (fun c12 => ?_) (fun c12 => ?_)
    · replace hf := hf.1 c12
      refine hv_fewer [1, 2, 3, 4, 5, 0] (loc2 := [(1, .int a1), (3, .int a3), (4, .int a4), (5, .int a5), (6, .int a6), (8, .int p0)]) rfl ?_
      exact w_X0_finders_j127 hX hN hE hk42 _ _ _ _ _ _ _ _ _ _ rfl rfl rfl rfl hf
    · replace hf := hf.2 c12
      refine hv_iconst (v := 1) hX icx_1 dX0_finders_123 ?_
      refine hv_goto (tgt := 128) hX dX0_finders_124 (by decide) ?_
      refine hv_fewer [1, 2, 3, 4, 5, 0] (loc2 := [(1, .int a1), (3, .int a3), (4, .int a4), (5, .int a5), (6, .int a6), (8, .int p0)]) rfl ?_
      exact w_X0_finders_j128 hX hN hE hk42 _ _ _ _ _ _ _ _ _ _ _ rfl rfl rfl rfl hf
def x_X0_finders_j92 (Q : Int32 → Prop) (k42 : Int32 → Int32 → Int32 → Int32 → Int32 → xS → xRd → mJ → mI → Prop) (a1 : Int32) (a3 : Int32) (a4 : Int32) (a5 : Int32) (a6 : Int32) (a7 : Int32) (s : xS) (rd : xRd) (J : mJ) (I : mI) : Prop :=
  x_X0_finders_j93 Q  k42 a1 a3 a4 a5 a6 a7 0 s rd J I
theorem w_X0_finders_j92 {X : hh_CX} {S0 : xS} {R0 : xRd} {J0 : mJ} {I0 : mI} {Q : Int32 → Prop} (hX : hh_C X cX0_finders RX0 (hrx 1 22 0 0)) (hN : hh_nL X = 10) (hE : hh_E X (some .int) (xQi (fun r9 S9 R9 J9 I9 => S0 = S9 ∧ R0 = R9 ∧ J0 = J9 ∧ I0 = I9 ∧ Q r9)) 0 0) {k42 : Int32 → Int32 → Int32 → Int32 → Int32 → xS → xRd → mJ → mI → Prop} (hk42 : ∀ (b0 : Int32) (b1 : Int32) (b2 : Int32) (b3 : Int32) (b4 : Int32) (s : xS) (rd : xRd) (J : mJ) (I : mI), s = S0 → rd = R0 → J = J0 → I = I0 → k42 b0 b1 b2 b3 b4 s rd J I → hh_V X 42 [(1, .int b0), (3, .int b1), (4, .int b2), (5, .int b3), (6, .int b4)] [] 0 0 (hx s rd J I)) : ∀ (a1 : Int32) (a3 : Int32) (a4 : Int32) (a5 : Int32) (a6 : Int32) (a7 : Int32) (s : xS) (rd : xRd) (J : mJ) (I : mI), s = S0 → rd = R0 → J = J0 → I = I0 → x_X0_finders_j92 Q k42 a1 a3 a4 a5 a6 a7 s rd J I → hh_V X 92 [(1, .int a1), (3, .int a3), (4, .int a4), (5, .int a5), (6, .int a6), (7, .int a7)] [] 0 0 (hx s rd J I) := by
  intro a1 a3 a4 a5 a6 a7 s rd J I e0 e1 e2 e3 hf
  subst e0
  subst e1
  subst e2
  subst e3
  unfold x_X0_finders_j92 at hf
  refine hv_iconst (v := 0) hX icx_0 dX0_finders_92 ?_
  exact w_X0_finders_j93 hX hN hE hk42 _ _ _ _ _ _ _ _ _ _ _ rfl rfl rfl rfl hf
def x_X0_finders_l42 (Q : Int32 → Prop) : Nat → Int32 → Int32 → Int32 → Int32 → Int32 → xS → xRd → mJ → mI → Prop
  | 0, _, _, _, _, _, _, _, _, _ => False
  | n + 1, a1, a3, a4, a5, a6, s, rd, J, I =>
    (a1 < a6 →
      Q a5 ) ∧ (¬ a1 < a6 →
      (a6 ≤ 0 →
        x_X0_finders_j92 Q  (fun b0 b1 b2 b3 b4 s rd J I => x_X0_finders_l42 Q   n b0 b1 b2 b3 b4 s rd J I) a1 a3 a4 a5 a6 (a1 - a6) s rd J I) ∧ (¬ a6 ≤ 0 →
        ((((a6 - 1) * a4) * ((a1 - a6) + 1)) ≤ (((a3 * ((a1 - a6) + 1)) + a4) * ((a1 - a6) + 2)) →
          x_X0_finders_j92 Q  (fun b0 b1 b2 b3 b4 s rd J I => x_X0_finders_l42 Q   n b0 b1 b2 b3 b4 s rd J I) a1 a3 a4 a5 a6 (a1 - a6) s rd J I) ∧ (¬ (((a6 - 1) * a4) * ((a1 - a6) + 1)) ≤ (((a3 * ((a1 - a6) + 1)) + a4) * ((a1 - a6) + 2)) →
          x_X0_finders_j93 Q  (fun b0 b1 b2 b3 b4 s rd J I => x_X0_finders_l42 Q   n b0 b1 b2 b3 b4 s rd J I) a1 a3 a4 a5 a6 (a1 - a6) 1 s rd J I)))
theorem w_X0_finders_l42 {X : hh_CX} {S0 : xS} {R0 : xRd} {J0 : mJ} {I0 : mI} {Q : Int32 → Prop} (hX : hh_C X cX0_finders RX0 (hrx 1 22 0 0)) (hN : hh_nL X = 10) (hE : hh_E X (some .int) (xQi (fun r9 S9 R9 J9 I9 => S0 = S9 ∧ R0 = R9 ∧ J0 = J9 ∧ I0 = I9 ∧ Q r9)) 0 0) : ∀ (n : Nat) (a1 : Int32) (a3 : Int32) (a4 : Int32) (a5 : Int32) (a6 : Int32) (s : xS) (rd : xRd) (J : mJ) (I : mI), s = S0 → rd = R0 → J = J0 → I = I0 → x_X0_finders_l42 Q  n a1 a3 a4 a5 a6 s rd J I → hh_V X 42 [(1, .int a1), (3, .int a3), (4, .int a4), (5, .int a5), (6, .int a6)] [] 0 0 (hx s rd J I) := by
  intro n
  induction n with
  | zero => intro _ _ _ _ _ _ _ _ _ _ _ _ _ hf; exact hf.elim
  | succ n ih =>
    intro a1 a3 a4 a5 a6 s rd J I e0 e1 e2 e3 hf
    subst e0
    subst e1
    subst e2
    subst e3
    unfold x_X0_finders_l42 at hf
    refine hv_iload hX dX0_finders_42 4 rfl ?_
    refine hv_iload_n hX dX0_finders_44 rfl 0 rfl ?_
    refine hv_icmp_gt (tgt := 159) hX dX0_finders_45 (by decide) (fun c7 => ?_) (fun c7 => ?_)
    · replace hf := hf.1 c7
      refine hv_iload hX dX0_finders_159 3 rfl ?_
      exact hx_iret hX hE dX0_finders_161 ⟨rfl, rfl, rfl, rfl, hf⟩
    · replace hf := hf.2 c7
      refine hv_iload_n hX dX0_finders_48 rfl 0 rfl ?_
      refine hv_iload hX dX0_finders_49 4 rfl ?_
      refine hv_isub hX dX0_finders_51 ?_
      refine hv_istore (loc2 := [(7, .int (a1 - a6)), (1, .int a1), (3, .int a3), (4, .int a4), (5, .int a5), (6, .int a6)]) hX dX0_finders_52 hN (Nat.le_of_ble_eq_true rfl) rfl ?_
      refine hv_iload hX dX0_finders_54 5 rfl ?_
      refine hv_if_le (tgt := 92) hX dX0_finders_56 (by decide) (fun c8 => ?_) (fun c8 => ?_)
      · replace hf := hf.1 c8
        refine hv_fewer [1, 2, 3, 4, 5, 0] (loc2 := [(1, .int a1), (3, .int a3), (4, .int a4), (5, .int a5), (6, .int a6), (7, .int (a1 - a6))]) rfl ?_
        exact w_X0_finders_j92 hX hN hE ih _ _ _ _ _ _ _ _ _ _ rfl rfl rfl rfl hf
      · replace hf := hf.2 c8
        refine hv_iload hX dX0_finders_59 5 rfl ?_
        refine hv_iconst (v := 1) hX icx_1 dX0_finders_61 ?_
        refine hv_isub hX dX0_finders_62 ?_
        refine hv_iload hX dX0_finders_63 3 rfl ?_
        refine hv_imul hX dX0_finders_65 ?_
        refine hv_iload hX dX0_finders_66 0 rfl ?_
        refine hv_iconst (v := 1) hX icx_1 dX0_finders_68 ?_
        refine hv_iadd hX dX0_finders_69 ?_
        refine hv_imul hX dX0_finders_70 ?_
        refine hv_iload_n hX dX0_finders_71 rfl 2 rfl ?_
        refine hv_iload hX dX0_finders_72 0 rfl ?_
        refine hv_iconst (v := 1) hX icx_1 dX0_finders_74 ?_
        refine hv_iadd hX dX0_finders_75 ?_
        refine hv_imul hX dX0_finders_76 ?_
        refine hv_iload hX dX0_finders_77 3 rfl ?_
        refine hv_iadd hX dX0_finders_79 ?_
        refine hv_iload hX dX0_finders_80 0 rfl ?_
        refine hv_iconst (v := 2) hX icx_2 dX0_finders_82 ?_
        refine hv_iadd hX dX0_finders_83 ?_
        refine hv_imul hX dX0_finders_84 ?_
        refine hv_icmp_le (tgt := 92) hX dX0_finders_85 (by decide) (fun c13 => ?_) (fun c13 => ?_)
        · replace hf := hf.1 c13
          refine hv_fewer [1, 2, 3, 4, 5, 0] (loc2 := [(1, .int a1), (3, .int a3), (4, .int a4), (5, .int a5), (6, .int a6), (7, .int (a1 - a6))]) rfl ?_
          exact w_X0_finders_j92 hX hN hE ih _ _ _ _ _ _ _ _ _ _ rfl rfl rfl rfl hf
        · replace hf := hf.2 c13
          refine hv_iconst (v := 1) hX icx_1 dX0_finders_88 ?_
          refine hv_goto (tgt := 93) hX dX0_finders_89 (by decide) ?_
          refine hv_fewer [1, 2, 3, 4, 5, 0] (loc2 := [(1, .int a1), (3, .int a3), (4, .int a4), (5, .int a5), (6, .int a6), (7, .int (a1 - a6))]) rfl ?_
          exact w_X0_finders_j93 hX hN hE ih _ _ _ _ _ _ _ _ _ _ _ rfl rfl rfl rfl hf
def x_X0_finders (a1 : Int32) (a2 : Int32) (a3 : Int32) (s : xS) (rd : xRd) (J : mJ) (I : mI) (Q : Int32 → Prop) : Prop :=
  x_X0_in a1 2 20 s rd J I (fun r1 => (r1 = 0 →
    Q (-1) ) ∧ (¬ r1 = 0 →
    x_X0_in a2 1 60 s rd J I (fun r3 => (r3 = 0 →
      Q (-1) ) ∧ (¬ r3 = 0 →
      x_X0_in a3 0 a2 s rd J I (fun r5 => (r5 = 0 →
        Q (-1) ) ∧ (¬ r5 = 0 →
        ∃ n0 : Nat, x_X0_finders_l42 Q   n0 a1 a3 (a2 - a3) 0 0 s rd J I))))))
theorem ct_X0_finders  (a1 : Int32) (a2 : Int32) (a3 : Int32) (s : xS) (rd : xRd) (J : mJ) (I : mI) (Q : Int32 → Prop) (hf : x_X0_finders a1 a2 a3 s rd J I Q) : hh_Ct yX0_finders cX0_finders 10 (some .int) 1 22 [.ref 0, .int a1, .int a2, .int a3] (hx s rd J I) (xQi (fun r9 S9 R9 J9 I9 => s = S9 ∧ rd = R9 ∧ J = J9 ∧ I = I9 ∧ Q r9)) 0 0 := by
  refine hh_Ct.of (own := RX0) rfl (by decide +kernel) (Nat.le_of_ble_eq_true rfl) ?_
  intro X hX hN hE
  show hh_V X 0 [(0, .ref 0), (1, .int a1), (2, .int a2), (3, .int a3)] [] 0 0 (hx s rd J I)
  unfold x_X0_finders at hf
  refine hv_iload_n hX dX0_finders_0 rfl 1 rfl ?_
  refine hv_iconst (v := 2) hX icx_2 dX0_finders_1 ?_
  refine hv_bipush (v := 20) hX bix_20 dX0_finders_2 ?_
  refine hx_callSi hX dX0_finders_4 (ct_X0_in a1 2 20 s rd J I _ hf) (lw_S q649 q650 q106 q651) np_X0_in rfl rfl ⟨Nat.le_of_ble_eq_true rfl, Nat.le_of_ble_eq_true rfl⟩ ⟨Nat.le_of_ble_eq_true rfl, Nat.le_of_ble_eq_true rfl⟩ (Nat.le_of_ble_eq_true rfl) ?_
  intro r1 S9 R9 J9 I9 hq
  clear hf
  obtain ⟨rfl, rfl, rfl, rfl, hf⟩ := hq
  refine hv_if_eq (tgt := 29) hX dX0_finders_7 (by decide) (fun c2 => ?_) (fun c2 => ?_)
  · replace hf := hf.1 c2
    refine hv_iconst (v := (-1)) hX icx_m1 dX0_finders_29 ?_
    exact hx_iret hX hE dX0_finders_30 ⟨rfl, rfl, rfl, rfl, hf⟩
  · replace hf := hf.2 c2
    refine hv_iload_n hX dX0_finders_10 rfl 2 rfl ?_
    refine hv_iconst (v := 1) hX icx_1 dX0_finders_11 ?_
    refine hv_bipush (v := 60) hX bix_60 dX0_finders_12 ?_
    refine hx_callSi hX dX0_finders_14 (ct_X0_in a2 1 60 s rd J I _ hf) (lw_S q649 q650 q106 q651) np_X0_in rfl rfl ⟨Nat.le_of_ble_eq_true rfl, Nat.le_of_ble_eq_true rfl⟩ ⟨Nat.le_of_ble_eq_true rfl, Nat.le_of_ble_eq_true rfl⟩ (Nat.le_of_ble_eq_true rfl) ?_
    intro r3 S9 R9 J9 I9 hq
    clear hf
    obtain ⟨rfl, rfl, rfl, rfl, hf⟩ := hq
    refine hv_if_eq (tgt := 29) hX dX0_finders_17 (by decide) (fun c4 => ?_) (fun c4 => ?_)
    · replace hf := hf.1 c4
      refine hv_iconst (v := (-1)) hX icx_m1 dX0_finders_29 ?_
      exact hx_iret hX hE dX0_finders_30 ⟨rfl, rfl, rfl, rfl, hf⟩
    · replace hf := hf.2 c4
      refine hv_iload_n hX dX0_finders_20 rfl 3 rfl ?_
      refine hv_iconst (v := 0) hX icx_0 dX0_finders_21 ?_
      refine hv_iload_n hX dX0_finders_22 rfl 2 rfl ?_
      refine hx_callSi hX dX0_finders_23 (ct_X0_in a3 0 a2 s rd J I _ hf) (lw_S q649 q650 q106 q651) np_X0_in rfl rfl ⟨Nat.le_of_ble_eq_true rfl, Nat.le_of_ble_eq_true rfl⟩ ⟨Nat.le_of_ble_eq_true rfl, Nat.le_of_ble_eq_true rfl⟩ (Nat.le_of_ble_eq_true rfl) ?_
      intro r5 S9 R9 J9 I9 hq
      clear hf
      obtain ⟨rfl, rfl, rfl, rfl, hf⟩ := hq
      refine hv_if_ne (tgt := 31) hX dX0_finders_26 (by decide) (fun c6 => ?_) (fun c6 => ?_)
      · replace hf := hf.2 c6
        refine hv_iload_n hX dX0_finders_31 rfl 2 rfl ?_
        refine hv_iload_n hX dX0_finders_32 rfl 3 rfl ?_
        refine hv_isub hX dX0_finders_33 ?_
        refine hv_istore (loc2 := [(4, .int (a2 - a3)), (0, .ref 0), (1, .int a1), (2, .int a2), (3, .int a3)]) hX dX0_finders_34 hN (Nat.le_of_ble_eq_true rfl) rfl ?_
        refine hv_iconst (v := 0) hX icx_0 dX0_finders_36 ?_
        refine hv_istore (loc2 := [(5, .int 0), (4, .int (a2 - a3)), (0, .ref 0), (1, .int a1), (2, .int a2), (3, .int a3)]) hX dX0_finders_37 hN (Nat.le_of_ble_eq_true rfl) rfl ?_
        refine hv_iconst (v := 0) hX icx_0 dX0_finders_39 ?_
        refine hv_istore (loc2 := [(6, .int 0), (5, .int 0), (4, .int (a2 - a3)), (0, .ref 0), (1, .int a1), (2, .int a2), (3, .int a3)]) hX dX0_finders_40 hN (Nat.le_of_ble_eq_true rfl) rfl ?_
        refine hv_fewer [4, 6, 2, 1, 0] (loc2 := [(1, .int a1), (3, .int a3), (4, .int (a2 - a3)), (5, .int 0), (6, .int 0)]) rfl ?_
        obtain ⟨n0, hf⟩ := hf
        exact w_X0_finders_l42 hX hN hE  n0 _ _ _ _ _ _ _ _ _ rfl rfl rfl rfl hf
      · replace hf := hf.1 c6
        refine hv_iconst (v := (-1)) hX icx_m1 dX0_finders_29 ?_
        exact hx_iret hX hE dX0_finders_30 ⟨rfl, rfl, rfl, rfl, hf⟩
/-! HungryHedge.feed(JI)I -/
def x_X0_feed_l30 (Q : Int32 → mI → Prop) : Nat → Int64 → Int32 → Int32 → xS → xRd → mJ → mI → Prop
  | 0, _, _, _, _, _, _, _ => False
  | n + 1, a1, a3, a4, s, rd, J, I =>
    (a3 ≤ a4 →
      Q (I 0 8) I) ∧ (¬ a3 ≤ a4 →
      vp_in (I 0 8) 200 ∧ (x_X0_feed_l30 Q   n a1 a3 (a4 + 1) s rd J (u2 (u2 I 92 (I 0 8).toNatClampNeg (vp_nar .byte (((a1 >>> ((8 * a4).toInt64 &&& 63)).toInt32).toInt8.toInt32))) 0 8 ((I 0 8) + 1))))
theorem w_X0_feed_l30 {X : hh_CX} {S0 : xS} {R0 : xRd} {J0 : mJ} {Q : Int32 → mI → Prop} (hX : hh_C X cX0_feed RX0 (hrx 1 22 0 0)) (hN : hh_nL X = 5) (hE : hh_E X (some .int) (xQi (fun r9 S9 R9 J9 I9 => S0 = S9 ∧ R0 = R9 ∧ J0 = J9 ∧ Q r9 I9)) 0 0) : ∀ (n : Nat) (a1 : Int64) (a3 : Int32) (a4 : Int32) (s : xS) (rd : xRd) (J : mJ) (I : mI), s = S0 → rd = R0 → J = J0 → x_X0_feed_l30 Q  n a1 a3 a4 s rd J I → hh_V X 30 [(0, .ref 0), (1, .long a1), (3, .int a3), (4, .int a4)] [] 0 0 (hx s rd J I) := by
  intro n
  induction n with
  | zero => intro _ _ _ _ _ _ _ _ _ _ hf; exact hf.elim
  | succ n ih =>
    intro a1 a3 a4 s rd J I e0 e1 e2 hf
    subst e0
    subst e1
    subst e2
    unfold x_X0_feed_l30 at hf
    refine hv_iload hX dX0_feed_30 3 rfl ?_
    refine hv_iload_n hX dX0_feed_32 rfl 2 rfl ?_
    refine hv_icmp_ge (tgt := 70) hX dX0_feed_33 (by decide) (fun c4 => ?_) (fun c4 => ?_)
    · replace hf := hf.1 c4
      refine hv_aload_n hX dX0_feed_70 rfl 0 rfl ?_
      refine hx_getI (v := (I 0 8)) hX dX0_feed_71 fl0_281_0 (.inl rfl) (xo_c (by decide) rfl) rfl ?_
      exact hx_iret hX hE dX0_feed_74 ⟨rfl, rfl, rfl, hf⟩
    · replace hf := hf.2 c4
      refine hv_aload_n hX dX0_feed_36 rfl 0 rfl ?_
      refine hx_getR (v := 92) hX dX0_feed_37 fl0_49_0 (xo_c (by decide) rfl) (xR_c rfl) ?_
      refine hv_aload_n hX dX0_feed_40 rfl 0 rfl ?_
      refine hx_getI (v := (I 0 8)) hX dX0_feed_41 fl0_281_0 (.inl rfl) (xo_c (by decide) rfl) rfl ?_
      refine hv_lload_n hX dX0_feed_44 rfl 1 rfl ?_
      refine hv_bipush (v := 8) hX bix_8 dX0_feed_45 ?_
      refine hv_iload hX dX0_feed_47 3 rfl ?_
      refine hv_imul hX dX0_feed_49 ?_
      refine hv_lshr hX dX0_feed_50 ?_
      refine hv_l2i hX dX0_feed_51 ?_
      refine hv_i2b hX dX0_feed_52 ?_
      obtain ⟨g, hf⟩ := hf
      refine hx_bast hX dX0_feed_53 (xo_c (by decide) rfl) (xlen_c (by decide) rfl) g ?_
      refine hv_aload_n hX dX0_feed_54 rfl 0 rfl ?_
      refine hv_dup hX rfl dX0_feed_55 ?_
      refine hx_getI (v := (I 0 8)) hX dX0_feed_56 fl0_281_0 (.inl rfl) (xo_c (by decide) rfl) ((u2_ne _ _ (.inl (by decide)))) ?_
      refine hv_iconst (v := 1) hX icx_1 dX0_feed_59 ?_
      refine hv_iadd hX dX0_feed_60 ?_
      refine hx_putI hX dX0_feed_61 fl0_281_0 (xo_c (by decide) rfl) ?_
      refine hv_iinc (v := (a4 + 1)) (loc2 := [(4, .int (a4 + 1)), (0, .ref 0), (1, .long a1), (3, .int a3)]) hX dX0_feed_64 3 rfl (congrArg (fun y => a4 + y) icx_1) hN (Nat.le_of_ble_eq_true rfl) rfl ?_
      refine hv_goto (tgt := 30) hX dX0_feed_67 (by decide) ?_
      refine hv_fewer [1, 2, 3, 0] (loc2 := [(0, .ref 0), (1, .long a1), (3, .int a3), (4, .int (a4 + 1))]) rfl ?_
      exact ih _ _ _ _ _ _ _ rfl rfl rfl hf
def x_X0_feed (a1 : Int64) (a3 : Int32) (s : xS) (rd : xRd) (J : mJ) (I : mI) (Q : Int32 → mI → Prop) : Prop :=
  x_X0_in a3 1 8 s rd J I (fun r1 => (r1 = 0 →
    Q (-1) I) ∧ (¬ r1 = 0 →
    (((I 0 8) + a3) ≤ 200 →
      ∃ n0 : Nat, x_X0_feed_l30 Q   n0 a1 a3 0 s rd J I) ∧ (¬ ((I 0 8) + a3) ≤ 200 →
      Q (-2) I)))
theorem ct_X0_feed  (a1 : Int64) (a3 : Int32) (s : xS) (rd : xRd) (J : mJ) (I : mI) (Q : Int32 → mI → Prop) (hf : x_X0_feed a1 a3 s rd J I Q) : hh_Ct yX0_feed cX0_feed 5 (some .int) 1 22 [.ref 0, .long a1, .int a3] (hx s rd J I) (xQi (fun r9 S9 R9 J9 I9 => s = S9 ∧ rd = R9 ∧ J = J9 ∧ Q r9 I9)) 0 0 := by
  refine hh_Ct.of (own := RX0) rfl (by decide +kernel) (Nat.le_of_ble_eq_true rfl) ?_
  intro X hX hN hE
  show hh_V X 0 [(0, .ref 0), (1, .long a1), (3, .int a3)] [] 0 0 (hx s rd J I)
  unfold x_X0_feed at hf
  refine hv_iload_n hX dX0_feed_0 rfl 2 rfl ?_
  refine hv_iconst (v := 1) hX icx_1 dX0_feed_1 ?_
  refine hv_bipush (v := 8) hX bix_8 dX0_feed_2 ?_
  refine hx_callSi hX dX0_feed_4 (ct_X0_in a3 1 8 s rd J I _ hf) (lw_S q649 q650 q106 q651) np_X0_in rfl rfl ⟨Nat.le_of_ble_eq_true rfl, Nat.le_of_ble_eq_true rfl⟩ ⟨Nat.le_of_ble_eq_true rfl, Nat.le_of_ble_eq_true rfl⟩ (Nat.le_of_ble_eq_true rfl) ?_
  intro r1 S9 R9 J9 I9 hq
  clear hf
  obtain ⟨rfl, rfl, rfl, rfl, hf⟩ := hq
  refine hv_if_ne (tgt := 12) hX dX0_feed_7 (by decide) (fun c2 => ?_) (fun c2 => ?_)
  · replace hf := hf.2 c2
    refine hv_aload_n hX dX0_feed_12 rfl 0 rfl ?_
    refine hx_getI (v := (I 0 8)) hX dX0_feed_13 fl0_281_0 (.inl rfl) (xo_c (by decide) rfl) rfl ?_
    refine hv_iload_n hX dX0_feed_16 rfl 2 rfl ?_
    refine hv_iadd hX dX0_feed_17 ?_
    refine hv_sipush (v := 200) hX six_200 dX0_feed_18 ?_
    refine hv_icmp_le (tgt := 27) hX dX0_feed_21 (by decide) (fun c3 => ?_) (fun c3 => ?_)
    · replace hf := hf.1 c3
      refine hv_iconst (v := 0) hX icx_0 dX0_feed_27 ?_
      refine hv_istore (loc2 := [(4, .int 0), (0, .ref 0), (1, .long a1), (3, .int a3)]) hX dX0_feed_28 hN (Nat.le_of_ble_eq_true rfl) rfl ?_
      refine hv_fewer [1, 2, 3, 0] (loc2 := [(0, .ref 0), (1, .long a1), (3, .int a3), (4, .int 0)]) rfl ?_
      obtain ⟨n0, hf⟩ := hf
      exact w_X0_feed_l30 hX hN hE  n0 _ _ _ _ _ _ _ rfl rfl rfl hf
    · replace hf := hf.2 c3
      refine hv_bipush (v := (-2)) hX bix_m2 dX0_feed_24 ?_
      exact hx_iret hX hE dX0_feed_26 ⟨rfl, rfl, rfl, hf⟩
  · replace hf := hf.1 c2
    refine hv_iconst (v := (-1)) hX icx_m1 dX0_feed_10 ?_
    exact hx_iret hX hE dX0_feed_11 ⟨rfl, rfl, rfl, hf⟩
/-! HungryHedge.clauseFor(LHungryHedge$Trip;)I -/
def x_X0_clauseFor_j60 (Q : Int32 → Prop) (k2 : Nat → Int32 → xS → xRd → mJ → mI → Prop) (a1 : Nat) (a2 : Int32) (s : xS) (rd : xRd) (J : mJ) (I : mI) : Prop :=
  k2 a1 (a2 + 1) s rd J I
theorem w_X0_clauseFor_j60 {X : hh_CX} {S0 : xS} {R0 : xRd} {J0 : mJ} {I0 : mI} {Q : Int32 → Prop} (hX : hh_C X cX0_clauseFor RX0 (hrx 401 23929 0 0)) (hN : hh_nL X = 3) (hE : hh_E X (some .int) (xQi (fun r9 S9 R9 J9 I9 => S0 = S9 ∧ R0 = R9 ∧ J0 = J9 ∧ I0 = I9 ∧ Q r9)) 0 0) {k2 : Nat → Int32 → xS → xRd → mJ → mI → Prop} (hk2 : ∀ (b0 : Nat) (b1 : Int32) (s : xS) (rd : xRd) (J : mJ) (I : mI), s = S0 → rd = R0 → J = J0 → I = I0 → k2 b0 b1 s rd J I → hh_V X 2 [(0, .ref 0), (1, .ref b0), (2, .int b1)] [] 0 0 (hx s rd J I)) : ∀ (a1 : Nat) (a2 : Int32) (s : xS) (rd : xRd) (J : mJ) (I : mI), s = S0 → rd = R0 → J = J0 → I = I0 → x_X0_clauseFor_j60 Q k2 a1 a2 s rd J I → hh_V X 60 [(0, .ref 0), (1, .ref a1), (2, .int a2)] [] 0 0 (hx s rd J I) := by
  intro a1 a2 s rd J I e0 e1 e2 e3 hf
  subst e0
  subst e1
  subst e2
  subst e3
  unfold x_X0_clauseFor_j60 at hf
  refine hv_iinc (v := (a2 + 1)) (loc2 := [(2, .int (a2 + 1)), (0, .ref 0), (1, .ref a1)]) hX dX0_clauseFor_60 2 rfl (congrArg (fun y => a2 + y) icx_1) hN (Nat.le_of_ble_eq_true rfl) rfl ?_
  refine hv_goto (tgt := 2) hX dX0_clauseFor_63 (by decide) ?_
  refine hv_fewer [1, 2, 0] (loc2 := [(0, .ref 0), (1, .ref a1), (2, .int (a2 + 1))]) rfl ?_
  exact hk2 _ _ _ _ _ _ rfl rfl rfl rfl hf
def x_X0_clauseFor_l2 (Q : Int32 → Prop) : Nat → Nat → Int32 → xS → xRd → mJ → mI → Prop
  | 0, _, _, _, _, _, _ => False
  | n + 1, a1, a2, s, rd, J, I =>
    ((I 1 2) ≤ a2 →
      Q (-3) ) ∧ (¬ (I 1 2) ≤ a2 →
      vp_in a2 6 ∧ (∃ v2 : Nat, xR rd 9 a2.toNatClampNeg = some v2 ∧ (xo s v2 16 ∧ (x_X1_takes a1 (I v2 0) s rd J I (fun r4 => (r4 ≤ 0 →
        x_X0_clauseFor_j60 Q  (fun b0 b1 s rd J I => x_X0_clauseFor_l2 Q   n b0 b1 s rd J I) a1 a2 s rd J I) ∧ (¬ r4 ≤ 0 →
        vp_in a2 6 ∧ (∃ v6 : Nat, xR rd 9 a2.toNatClampNeg = some v6 ∧ (xo s v6 16 ∧ (∃ v8 : Nat, xR rd v6 1 = some v8 ∧ (x_xcond 100 v8 a1 s rd J I (fun r9 => (r9 = 0 →
          x_X0_clauseFor_j60 Q  (fun b0 b1 s rd J I => x_X0_clauseFor_l2 Q   n b0 b1 s rd J I) a1 a2 s rd J I) ∧ (¬ r9 = 0 →
          Q a2 ))))))))))))
theorem w_X0_clauseFor_l2 {X : hh_CX} {S0 : xS} {R0 : xRd} {J0 : mJ} {I0 : mI} {Q : Int32 → Prop} (hX : hh_C X cX0_clauseFor RX0 (hrx 401 23929 0 0)) (hN : hh_nL X = 3) (hE : hh_E X (some .int) (xQi (fun r9 S9 R9 J9 I9 => S0 = S9 ∧ R0 = R9 ∧ J0 = J9 ∧ I0 = I9 ∧ Q r9)) 0 0) : ∀ (n : Nat) (a1 : Nat) (a2 : Int32) (s : xS) (rd : xRd) (J : mJ) (I : mI), s = S0 → rd = R0 → J = J0 → I = I0 → x_X0_clauseFor_l2 Q  n a1 a2 s rd J I → hh_V X 2 [(0, .ref 0), (1, .ref a1), (2, .int a2)] [] 0 0 (hx s rd J I) := by
  intro n
  induction n with
  | zero => intro _ _ _ _ _ _ _ _ _ _ hf; exact hf.elim
  | succ n ih =>
    intro a1 a2 s rd J I e0 e1 e2 e3 hf
    subst e0
    subst e1
    subst e2
    subst e3
    unfold x_X0_clauseFor_l2 at hf
    refine hv_iload_n hX dX0_clauseFor_2 rfl 2 rfl ?_
    refine hv_aload_n hX dX0_clauseFor_3 rfl 0 rfl ?_
    refine hx_getR (v := 1) hX dX0_clauseFor_4 fl0_10_0 (xo_c (by decide) rfl) (xR_c rfl) ?_
    refine hx_getI (v := (I 1 2)) hX dX0_clauseFor_7 fl0_301_1 (.inl rfl) (xo_c (by decide) rfl) rfl ?_
    refine hv_icmp_ge (tgt := 66) hX dX0_clauseFor_10 (by decide) (fun c1 => ?_) (fun c1 => ?_)
    · replace hf := hf.1 c1
      refine hv_bipush (v := (-3)) hX bix_m3 dX0_clauseFor_66 ?_
      exact hx_iret hX hE dX0_clauseFor_68 ⟨rfl, rfl, rfl, rfl, hf⟩
    · replace hf := hf.2 c1
      refine hv_aload_n hX dX0_clauseFor_13 rfl 0 rfl ?_
      refine hx_getR (v := 1) hX dX0_clauseFor_14 fl0_10_0 (xo_c (by decide) rfl) (xR_c rfl) ?_
      refine hv_aload_n hX dX0_clauseFor_17 rfl 1 rfl ?_
      refine hv_aload_n hX dX0_clauseFor_18 rfl 0 rfl ?_
      refine hx_getR (v := 1) hX dX0_clauseFor_19 fl0_10_0 (xo_c (by decide) rfl) (xR_c rfl) ?_
      refine hx_getR (v := 9) hX dX0_clauseFor_22 fl0_297_1 (xo_c (by decide) rfl) (xR_c rfl) ?_
      refine hv_iload_n hX dX0_clauseFor_25 rfl 2 rfl ?_
      obtain ⟨g, hf⟩ := hf
      obtain ⟨v2, gv2, hf⟩ := hf
      refine hx_aald (v := v2) (a := 22) hX 6 rfl (by decide) dX0_clauseFor_26 (xo_c (by decide) rfl) (xlen_c (by decide) rfl) g gv2 ?_
      obtain ⟨o3, hf⟩ := hf
      refine hx_getI (v := (I v2 0)) hX dX0_clauseFor_27 fl0_302_16 (.inl rfl) o3 rfl ?_
      refine hx_callVi (ci := 1) (q := (RX1, TX1, 17)) hX dX0_clauseFor_30 (ct_X1_takes a1 (I v2 0) s rd J I _ hf) (lw_V q698 q699 q700 q107 q701) rfl (by decide) ⟨rfl, np_X1_takes⟩ rfl (xo_c (by decide) rfl) rfl ⟨Nat.le_of_ble_eq_true rfl, Nat.le_of_ble_eq_true rfl⟩ ⟨Nat.le_of_ble_eq_true rfl, Nat.le_of_ble_eq_true rfl⟩ (Nat.le_of_ble_eq_true rfl) ?_
      intro r4 S9 R9 J9 I9 hq
      clear hf
      obtain ⟨rfl, rfl, rfl, rfl, hf⟩ := hq
      refine hv_if_le (tgt := 60) hX dX0_clauseFor_33 (by decide) (fun c5 => ?_) (fun c5 => ?_)
      · replace hf := hf.1 c5
        exact w_X0_clauseFor_j60 hX hN hE ih _ _ _ _ _ _ rfl rfl rfl rfl hf
      · replace hf := hf.2 c5
        refine hv_aload_n hX dX0_clauseFor_36 rfl 0 rfl ?_
        refine hx_getR (v := 1) hX dX0_clauseFor_37 fl0_10_0 (xo_c (by decide) rfl) (xR_c rfl) ?_
        refine hx_getR (v := 9) hX dX0_clauseFor_40 fl0_297_1 (xo_c (by decide) rfl) (xR_c rfl) ?_
        refine hv_iload_n hX dX0_clauseFor_43 rfl 2 rfl ?_
        obtain ⟨g, hf⟩ := hf
        obtain ⟨v6, gv6, hf⟩ := hf
        refine hx_aald (v := v6) (a := 22) hX 6 rfl (by decide) dX0_clauseFor_44 (xo_c (by decide) rfl) (xlen_c (by decide) rfl) g gv6 ?_
        obtain ⟨o7, hf⟩ := hf
        obtain ⟨v8, gv8, hf⟩ := hf
        refine hx_getR (v := v8) hX dX0_clauseFor_45 fl0_307_16 o7 gv8 ?_
        refine hv_aload_n hX dX0_clauseFor_48 rfl 0 rfl ?_
        refine hv_aload_n hX dX0_clauseFor_49 rfl 1 rfl ?_
        refine hx_callFi hX dX0_clauseFor_50 (ct_xcond 100 v8 a1 s rd J I _ hf) q1158 np_cond rfl rfl ⟨Nat.le_of_ble_eq_true rfl, Nat.le_of_ble_eq_true rfl⟩ ⟨Nat.le_of_ble_eq_true rfl, Nat.le_of_ble_eq_true rfl⟩ (Nat.le_of_ble_eq_true rfl) ?_
        intro r9 S9 R9 J9 I9 hq
        clear hf
        obtain ⟨rfl, rfl, rfl, rfl, hf⟩ := hq
        refine hv_if_eq (tgt := 60) hX dX0_clauseFor_55 (by decide) (fun c10 => ?_) (fun c10 => ?_)
        · replace hf := hf.1 c10
          exact w_X0_clauseFor_j60 hX hN hE ih _ _ _ _ _ _ rfl rfl rfl rfl hf
        · replace hf := hf.2 c10
          refine hv_iload_n hX dX0_clauseFor_58 rfl 2 rfl ?_
          exact hx_iret hX hE dX0_clauseFor_59 ⟨rfl, rfl, rfl, rfl, hf⟩
def x_X0_clauseFor (a1 : Nat) (s : xS) (rd : xRd) (J : mJ) (I : mI) (Q : Int32 → Prop) : Prop :=
  ∃ n0 : Nat, x_X0_clauseFor_l2 Q   n0 a1 0 s rd J I
theorem ct_X0_clauseFor  (a1 : Nat) (s : xS) (rd : xRd) (J : mJ) (I : mI) (Q : Int32 → Prop) (hf : x_X0_clauseFor a1 s rd J I Q) : hh_Ct yX0_clauseFor cX0_clauseFor 3 (some .int) 401 23929 [.ref 0, .ref a1] (hx s rd J I) (xQi (fun r9 S9 R9 J9 I9 => s = S9 ∧ rd = R9 ∧ J = J9 ∧ I = I9 ∧ Q r9)) 0 0 := by
  refine hh_Ct.of (own := RX0) rfl (by decide +kernel) (Nat.le_of_ble_eq_true rfl) ?_
  intro X hX hN hE
  show hh_V X 0 [(0, .ref 0), (1, .ref a1)] [] 0 0 (hx s rd J I)
  unfold x_X0_clauseFor at hf
  refine hv_iconst (v := 0) hX icx_0 dX0_clauseFor_0 ?_
  refine hv_istore_n (loc2 := [(2, .int 0), (0, .ref 0), (1, .ref a1)]) hX dX0_clauseFor_1 rfl hN (Nat.le_of_ble_eq_true rfl) rfl ?_
  refine hv_fewer [1, 2, 0] (loc2 := [(0, .ref 0), (1, .ref a1), (2, .int 0)]) rfl ?_
  obtain ⟨n0, hf⟩ := hf
  exact w_X0_clauseFor_l2 hX hN hE  n0 _ _ _ _ _ _ rfl rfl rfl rfl hf
/-! HungryHedge.ruledFor(LHungryHedge$Trip;)I -/
def x_X0_ruledFor (a1 : Nat) (s : xS) (rd : xRd) (J : mJ) (I : mI) (Q : Int32 → Prop) : Prop :=
  x_X0_clauseFor a1 s rd J I (fun r1 => (r1 = (-3) →
    x_X1_takes a1 (-1) s rd J I (fun r3 => (r3 ≤ 0 →
      Q (-9) ) ∧ (¬ r3 ≤ 0 →
      Q (-1) ))) ∧ (¬ r1 = (-3) →
    vp_in r1 6 ∧ (∃ v5 : Nat, xR rd 9 r1.toNatClampNeg = some v5 ∧ (xo s v5 16 ∧ (Q (I v5 0) )))))
theorem ct_X0_ruledFor  (a1 : Nat) (s : xS) (rd : xRd) (J : mJ) (I : mI) (Q : Int32 → Prop) (hf : x_X0_ruledFor a1 s rd J I Q) : hh_Ct yX0_ruledFor cX0_ruledFor 3 (some .int) 402 23951 [.ref 0, .ref a1] (hx s rd J I) (xQi (fun r9 S9 R9 J9 I9 => s = S9 ∧ rd = R9 ∧ J = J9 ∧ I = I9 ∧ Q r9)) 0 0 := by
  refine hh_Ct.of (own := RX0) rfl (by decide +kernel) (Nat.le_of_ble_eq_true rfl) ?_
  intro X hX hN hE
  show hh_V X 0 [(0, .ref 0), (1, .ref a1)] [] 0 0 (hx s rd J I)
  unfold x_X0_ruledFor at hf
  refine hv_aload_n hX dX0_ruledFor_0 rfl 0 rfl ?_
  refine hv_aload_n hX dX0_ruledFor_1 rfl 1 rfl ?_
  refine hx_callVi (ci := 0) (q := (RX0, TX0, 19)) hX dX0_ruledFor_2 (ct_X0_clauseFor a1 s rd J I _ hf) (lw_V q1153 q1155 qs32 q106 q1156) rfl (by decide) ⟨rfl, np_X0_clauseFor⟩ rfl (xo_c (by decide) rfl) rfl ⟨Nat.le_of_ble_eq_true rfl, Nat.le_of_ble_eq_true rfl⟩ ⟨Nat.le_of_ble_eq_true rfl, Nat.le_of_ble_eq_true rfl⟩ (Nat.le_of_ble_eq_true rfl) ?_
  intro r1 S9 R9 J9 I9 hq
  clear hf
  obtain ⟨rfl, rfl, rfl, rfl, hf⟩ := hq
  refine hv_istore_n (loc2 := [(2, .int r1), (0, .ref 0), (1, .ref a1)]) hX dX0_ruledFor_5 rfl hN (Nat.le_of_ble_eq_true rfl) rfl ?_
  refine hv_iload_n hX dX0_ruledFor_6 rfl 0 rfl ?_
  refine hv_bipush (v := (-3)) hX bix_m3 dX0_ruledFor_7 ?_
  refine hv_icmp_eq (tgt := 25) hX dX0_ruledFor_9 (by decide) (fun c2 => ?_) (fun c2 => ?_)
  · replace hf := hf.1 c2
    refine hv_aload_n hX dX0_ruledFor_25 rfl 1 rfl ?_
    refine hx_getR (v := 1) hX dX0_ruledFor_26 fl0_10_0 (xo_c (by decide) rfl) (xR_c rfl) ?_
    refine hv_aload_n hX dX0_ruledFor_29 rfl 2 rfl ?_
    refine hv_iconst (v := (-1)) hX icx_m1 dX0_ruledFor_30 ?_
    refine hx_callVi (ci := 1) (q := (RX1, TX1, 17)) hX dX0_ruledFor_31 (ct_X1_takes a1 (-1) s rd J I _ hf) (lw_V q698 q699 q700 q107 q701) rfl (by decide) ⟨rfl, np_X1_takes⟩ rfl (xo_c (by decide) rfl) rfl ⟨Nat.le_of_ble_eq_true rfl, Nat.le_of_ble_eq_true rfl⟩ ⟨Nat.le_of_ble_eq_true rfl, Nat.le_of_ble_eq_true rfl⟩ (Nat.le_of_ble_eq_true rfl) ?_
    intro r3 S9 R9 J9 I9 hq
    clear hf
    obtain ⟨rfl, rfl, rfl, rfl, hf⟩ := hq
    refine hv_if_le (tgt := 41) hX dX0_ruledFor_34 (by decide) (fun c4 => ?_) (fun c4 => ?_)
    · replace hf := hf.1 c4
      refine hv_bipush (v := (-9)) hX bix_m9 dX0_ruledFor_41 ?_
      exact hx_iret hX hE dX0_ruledFor_43 ⟨rfl, rfl, rfl, rfl, hf⟩
    · replace hf := hf.2 c4
      refine hv_iconst (v := (-1)) hX icx_m1 dX0_ruledFor_37 ?_
      refine hv_goto (tgt := 43) hX dX0_ruledFor_38 (by decide) ?_
      exact hx_iret hX hE dX0_ruledFor_43 ⟨rfl, rfl, rfl, rfl, hf⟩
  · replace hf := hf.2 c2
    refine hv_aload_n hX dX0_ruledFor_12 rfl 1 rfl ?_
    refine hx_getR (v := 1) hX dX0_ruledFor_13 fl0_10_0 (xo_c (by decide) rfl) (xR_c rfl) ?_
    refine hx_getR (v := 9) hX dX0_ruledFor_16 fl0_297_1 (xo_c (by decide) rfl) (xR_c rfl) ?_
    refine hv_iload_n hX dX0_ruledFor_19 rfl 0 rfl ?_
    obtain ⟨g, hf⟩ := hf
    obtain ⟨v5, gv5, hf⟩ := hf
    refine hx_aald (v := v5) (a := 22) hX 6 rfl (by decide) dX0_ruledFor_20 (xo_c (by decide) rfl) (xlen_c (by decide) rfl) g gv5 ?_
    obtain ⟨o6, hf⟩ := hf
    refine hx_getI (v := (I v5 0)) hX dX0_ruledFor_21 fl0_302_16 (.inl rfl) o6 rfl ?_
    exact hx_iret hX hE dX0_ruledFor_24 ⟨rfl, rfl, rfl, rfl, hf⟩
/-! HungryHedge.ruled()I -/
def x_X0_ruled  (s : xS) (rd : xRd) (J : mJ) (I : mI) (Q : Int32 → Prop) : Prop :=
  x_X0_ruledFor 10 s rd J I (fun r1 => Q r1 )
theorem ct_X0_ruled   (s : xS) (rd : xRd) (J : mJ) (I : mI) (Q : Int32 → Prop) (hf : x_X0_ruled  s rd J I Q) : hh_Ct yX0_ruled cX0_ruled 1 (some .int) 403 23973 [.ref 0] (hx s rd J I) (xQi (fun r9 S9 R9 J9 I9 => s = S9 ∧ rd = R9 ∧ J = J9 ∧ I = I9 ∧ Q r9)) 0 0 := by
  refine hh_Ct.of (own := RX0) rfl (by decide +kernel) (Nat.le_of_ble_eq_true rfl) ?_
  intro X hX hN hE
  show hh_V X 0 [(0, .ref 0)] [] 0 0 (hx s rd J I)
  unfold x_X0_ruled at hf
  refine hv_aload_n hX dX0_ruled_0 rfl 0 rfl ?_
  refine hv_aload_n hX dX0_ruled_1 rfl 0 rfl ?_
  refine hx_getR (v := 1) hX dX0_ruled_2 fl0_10_0 (xo_c (by decide) rfl) (xR_c rfl) ?_
  refine hx_getR (v := 10) hX dX0_ruled_5 fl0_127_1 (xo_c (by decide) rfl) (xR_c rfl) ?_
  refine hx_callVi (ci := 0) (q := (RX0, TX0, 19)) hX dX0_ruled_8 (ct_X0_ruledFor 10 s rd J I _ hf) (lw_V q1149 q1151 qs31 q106 q1152) rfl (by decide) ⟨rfl, np_X0_ruledFor⟩ rfl (xo_c (by decide) rfl) rfl ⟨Nat.le_of_ble_eq_true rfl, Nat.le_of_ble_eq_true rfl⟩ ⟨Nat.le_of_ble_eq_true rfl, Nat.le_of_ble_eq_true rfl⟩ (Nat.le_of_ble_eq_true rfl) ?_
  intro r1 S9 R9 J9 I9 hq
  clear hf
  obtain ⟨rfl, rfl, rfl, rfl, hf⟩ := hq
  exact hx_iret hX hE dX0_ruled_11 ⟨rfl, rfl, rfl, rfl, hf⟩
/-! HungryHedge.clause()I -/
def x_X0_clause  (s : xS) (rd : xRd) (J : mJ) (I : mI) (Q : Int32 → Prop) : Prop :=
  x_X0_clauseFor 10 s rd J I (fun r1 => Q r1 )
theorem ct_X0_clause   (s : xS) (rd : xRd) (J : mJ) (I : mI) (Q : Int32 → Prop) (hf : x_X0_clause  s rd J I Q) : hh_Ct yX0_clause cX0_clause 1 (some .int) 402 23951 [.ref 0] (hx s rd J I) (xQi (fun r9 S9 R9 J9 I9 => s = S9 ∧ rd = R9 ∧ J = J9 ∧ I = I9 ∧ Q r9)) 0 0 := by
  refine hh_Ct.of (own := RX0) rfl (by decide +kernel) (Nat.le_of_ble_eq_true rfl) ?_
  intro X hX hN hE
  show hh_V X 0 [(0, .ref 0)] [] 0 0 (hx s rd J I)
  unfold x_X0_clause at hf
  refine hv_aload_n hX dX0_clause_0 rfl 0 rfl ?_
  refine hv_aload_n hX dX0_clause_1 rfl 0 rfl ?_
  refine hx_getR (v := 1) hX dX0_clause_2 fl0_10_0 (xo_c (by decide) rfl) (xR_c rfl) ?_
  refine hx_getR (v := 10) hX dX0_clause_5 fl0_127_1 (xo_c (by decide) rfl) (xR_c rfl) ?_
  refine hx_callVi (ci := 0) (q := (RX0, TX0, 19)) hX dX0_clause_8 (ct_X0_clauseFor 10 s rd J I _ hf) (lw_V q1153 q1155 qs32 q106 q1156) rfl (by decide) ⟨rfl, np_X0_clauseFor⟩ rfl (xo_c (by decide) rfl) rfl ⟨Nat.le_of_ble_eq_true rfl, Nat.le_of_ble_eq_true rfl⟩ ⟨Nat.le_of_ble_eq_true rfl, Nat.le_of_ble_eq_true rfl⟩ (Nat.le_of_ble_eq_true rfl) ?_
  intro r1 S9 R9 J9 I9 hq
  clear hf
  obtain ⟨rfl, rfl, rfl, rfl, hf⟩ := hq
  exact hx_iret hX hE dX0_clause_11 ⟨rfl, rfl, rfl, rfl, hf⟩
/-! HungryHedge.runs()I -/
def x_X0_runs_l23 (Q : Int32 → mI → Prop) : Nat → Int32 → xS → xRd → mJ → mI → Prop
  | 0, _, _, _, _, _ => False
  | n + 1, a1, s, rd, J, I =>
    (a1 = (-9) →
      Q ((I 97 2) - (I 10 2)) I) ∧ (¬ a1 = (-9) →
      x_X1_does 97 a1 s rd J I (fun I4 => x_X0_ruledFor 97 s rd J I4 (fun r5 => x_X0_runs_l23 Q   n r5 s rd J I4)))
theorem w_X0_runs_l23 {X : hh_CX} {S0 : xS} {R0 : xRd} {J0 : mJ} {Q : Int32 → mI → Prop} (hX : hh_C X cX0_runs RX0 (hrx 403 23973 0 0)) (hN : hh_nL X = 2) (hE : hh_E X (some .int) (xQi (fun r9 S9 R9 J9 I9 => S0 = S9 ∧ R0 = R9 ∧ J0 = J9 ∧ Q r9 I9)) 0 0) : ∀ (n : Nat) (a1 : Int32) (s : xS) (rd : xRd) (J : mJ) (I : mI), s = S0 → rd = R0 → J = J0 → x_X0_runs_l23 Q  n a1 s rd J I → hh_V X 23 [(0, .ref 0), (1, .int a1)] [] 0 0 (hx s rd J I) := by
  intro n
  induction n with
  | zero => intro _ _ _ _ _ _ _ _ hf; exact hf.elim
  | succ n ih =>
    intro a1 s rd J I e0 e1 e2 hf
    subst e0
    subst e1
    subst e2
    unfold x_X0_runs_l23 at hf
    refine hv_iload_n hX dX0_runs_23 rfl 1 rfl ?_
    refine hv_bipush (v := (-9)) hX bix_m9 dX0_runs_24 ?_
    refine hv_icmp_eq (tgt := 53) hX dX0_runs_26 (by decide) (fun c3 => ?_) (fun c3 => ?_)
    · replace hf := hf.1 c3
      refine hv_aload_n hX dX0_runs_53 rfl 0 rfl ?_
      refine hx_getR (v := 97) hX dX0_runs_54 fl0_63_0 (xo_c (by decide) rfl) (xR_c rfl) ?_
      refine hx_getI (v := (I 97 2)) hX dX0_runs_57 fl0_156_2 (.inl rfl) (xo_c (by decide) rfl) rfl ?_
      refine hv_aload_n hX dX0_runs_60 rfl 0 rfl ?_
      refine hx_getR (v := 1) hX dX0_runs_61 fl0_10_0 (xo_c (by decide) rfl) (xR_c rfl) ?_
      refine hx_getR (v := 10) hX dX0_runs_64 fl0_127_1 (xo_c (by decide) rfl) (xR_c rfl) ?_
      refine hx_getI (v := (I 10 2)) hX dX0_runs_67 fl0_156_2 (.inl rfl) (xo_c (by decide) rfl) rfl ?_
      refine hv_isub hX dX0_runs_70 ?_
      exact hx_iret hX hE dX0_runs_71 ⟨rfl, rfl, rfl, hf⟩
    · replace hf := hf.2 c3
      refine hv_aload_n hX dX0_runs_29 rfl 0 rfl ?_
      refine hx_getR (v := 1) hX dX0_runs_30 fl0_10_0 (xo_c (by decide) rfl) (xR_c rfl) ?_
      refine hv_aload_n hX dX0_runs_33 rfl 0 rfl ?_
      refine hx_getR (v := 97) hX dX0_runs_34 fl0_63_0 (xo_c (by decide) rfl) (xR_c rfl) ?_
      refine hv_iload_n hX dX0_runs_37 rfl 1 rfl ?_
      refine hx_callVv (ci := 1) (q := (RX1, TX1, 17)) hX dX0_runs_38 (ct_X1_does 97 a1 s rd J I _ hf) (lw_V q702 q703 q704 q107 q705) rfl (by decide) ⟨rfl, np_X1_does⟩ rfl (xo_c (by decide) rfl) rfl ⟨Nat.le_of_ble_eq_true rfl, Nat.le_of_ble_eq_true rfl⟩ ⟨Nat.le_of_ble_eq_true rfl, Nat.le_of_ble_eq_true rfl⟩ (Nat.le_of_ble_eq_true rfl) ?_
      intro  S9 R9 J9 I4 hq
      clear hf
      obtain ⟨rfl, rfl, rfl, hf⟩ := hq
      refine hv_aload_n hX dX0_runs_41 rfl 0 rfl ?_
      refine hv_aload_n hX dX0_runs_42 rfl 0 rfl ?_
      refine hx_getR (v := 97) hX dX0_runs_43 fl0_63_0 (xo_c (by decide) rfl) (xR_c rfl) ?_
      refine hx_callVi (ci := 0) (q := (RX0, TX0, 19)) hX dX0_runs_46 (ct_X0_ruledFor 97 s rd J I4 _ hf) (lw_V q1149 q1151 qs31 q106 q1152) rfl (by decide) ⟨rfl, np_X0_ruledFor⟩ rfl (xo_c (by decide) rfl) rfl ⟨Nat.le_of_ble_eq_true rfl, Nat.le_of_ble_eq_true rfl⟩ ⟨Nat.le_of_ble_eq_true rfl, Nat.le_of_ble_eq_true rfl⟩ (Nat.le_of_ble_eq_true rfl) ?_
      intro r5 S9 R9 J9 I9 hq
      clear hf
      obtain ⟨rfl, rfl, rfl, rfl, hf⟩ := hq
      refine hv_istore_n (loc2 := [(1, .int r5), (0, .ref 0)]) hX dX0_runs_49 rfl hN (Nat.le_of_ble_eq_true rfl) rfl ?_
      refine hv_goto (tgt := 23) hX dX0_runs_50 (by decide) ?_
      refine hv_fewer [1, 0] (loc2 := [(0, .ref 0), (1, .int r5)]) rfl ?_
      exact ih _ _ _ _ _ rfl rfl rfl hf
def x_X0_runs  (s : xS) (rd : xRd) (J : mJ) (I : mI) (Q : Int32 → mI → Prop) : Prop :=
  x_X2_become 97 10 s rd J I (fun I1 => x_X0_ruledFor 97 s rd J I1 (fun r2 => ∃ n0 : Nat, x_X0_runs_l23 Q   n0 r2 s rd J I1))
theorem ct_X0_runs   (s : xS) (rd : xRd) (J : mJ) (I : mI) (Q : Int32 → mI → Prop) (hf : x_X0_runs  s rd J I Q) : hh_Ct yX0_runs cX0_runs 2 (some .int) 403 23973 [.ref 0] (hx s rd J I) (xQi (fun r9 S9 R9 J9 I9 => s = S9 ∧ rd = R9 ∧ J = J9 ∧ Q r9 I9)) 0 0 := by
  refine hh_Ct.of (own := RX0) rfl (by decide +kernel) (Nat.le_of_ble_eq_true rfl) ?_
  intro X hX hN hE
  show hh_V X 0 [(0, .ref 0)] [] 0 0 (hx s rd J I)
  unfold x_X0_runs at hf
  refine hv_aload_n hX dX0_runs_0 rfl 0 rfl ?_
  refine hx_getR (v := 97) hX dX0_runs_1 fl0_63_0 (xo_c (by decide) rfl) (xR_c rfl) ?_
  refine hv_aload_n hX dX0_runs_4 rfl 0 rfl ?_
  refine hx_getR (v := 1) hX dX0_runs_5 fl0_10_0 (xo_c (by decide) rfl) (xR_c rfl) ?_
  refine hx_getR (v := 10) hX dX0_runs_8 fl0_127_1 (xo_c (by decide) rfl) (xR_c rfl) ?_
  refine hx_callVv (ci := 2) (q := (RX2, TX2, 4)) hX dX0_runs_11 (ct_X2_become 97 10 s rd J I _ hf) (lw_V q1208 q748 q749 q108 q750) rfl (by decide) ⟨rfl, np_X2_become⟩ rfl (xo_c (by decide) rfl) rfl ⟨Nat.le_of_ble_eq_true rfl, Nat.le_of_ble_eq_true rfl⟩ ⟨Nat.le_of_ble_eq_true rfl, Nat.le_of_ble_eq_true rfl⟩ (Nat.le_of_ble_eq_true rfl) ?_
  intro  S9 R9 J9 I1 hq
  clear hf
  obtain ⟨rfl, rfl, rfl, hf⟩ := hq
  refine hv_aload_n hX dX0_runs_14 rfl 0 rfl ?_
  refine hv_aload_n hX dX0_runs_15 rfl 0 rfl ?_
  refine hx_getR (v := 97) hX dX0_runs_16 fl0_63_0 (xo_c (by decide) rfl) (xR_c rfl) ?_
  refine hx_callVi (ci := 0) (q := (RX0, TX0, 19)) hX dX0_runs_19 (ct_X0_ruledFor 97 s rd J I1 _ hf) (lw_V q1149 q1151 qs31 q106 q1152) rfl (by decide) ⟨rfl, np_X0_ruledFor⟩ rfl (xo_c (by decide) rfl) rfl ⟨Nat.le_of_ble_eq_true rfl, Nat.le_of_ble_eq_true rfl⟩ ⟨Nat.le_of_ble_eq_true rfl, Nat.le_of_ble_eq_true rfl⟩ (Nat.le_of_ble_eq_true rfl) ?_
  intro r2 S9 R9 J9 I9 hq
  clear hf
  obtain ⟨rfl, rfl, rfl, rfl, hf⟩ := hq
  refine hv_istore_n (loc2 := [(1, .int r2), (0, .ref 0)]) hX dX0_runs_22 rfl hN (Nat.le_of_ble_eq_true rfl) rfl ?_
  refine hv_fewer [1, 0] (loc2 := [(0, .ref 0), (1, .int r2)]) rfl ?_
  obtain ⟨n0, hf⟩ := hf
  exact w_X0_runs_l23 hX hN hE  n0 _ _ _ _ _ rfl rfl rfl hf
/-! HungryHedge.run()I -/
def x_X0_run  (s : xS) (rd : xRd) (J : mJ) (I : mI) (Q : Int32 → mI → Prop) : Prop :=
  x_X0_runs s rd J I (fun r2 I1 => Q r2 I1)
theorem ct_X0_run   (s : xS) (rd : xRd) (J : mJ) (I : mI) (Q : Int32 → mI → Prop) (hf : x_X0_run  s rd J I Q) : hh_Ct yX0_run cX0_run 1 (some .int) 404 23994 [.ref 0] (hx s rd J I) (xQi (fun r9 S9 R9 J9 I9 => s = S9 ∧ rd = R9 ∧ J = J9 ∧ Q r9 I9)) 0 0 := by
  refine hh_Ct.of (own := RX0) rfl (by decide +kernel) (Nat.le_of_ble_eq_true rfl) ?_
  intro X hX hN hE
  show hh_V X 0 [(0, .ref 0)] [] 0 0 (hx s rd J I)
  unfold x_X0_run at hf
  refine hv_aload_n hX dX0_run_0 rfl 0 rfl ?_
  refine hx_callVi (ci := 0) (q := (RX0, TX0, 19)) hX dX0_run_1 (ct_X0_runs s rd J I _ hf) (lw_V q1204 q1206 qs34 q106 q1207) rfl (by decide) ⟨rfl, np_X0_runs⟩ rfl (xo_c (by decide) rfl) rfl ⟨Nat.le_of_ble_eq_true rfl, Nat.le_of_ble_eq_true rfl⟩ ⟨Nat.le_of_ble_eq_true rfl, Nat.le_of_ble_eq_true rfl⟩ (Nat.le_of_ble_eq_true rfl) ?_
  intro r2 S9 R9 J9 I1 hq
  clear hf
  obtain ⟨rfl, rfl, rfl, hf⟩ := hq
  exact hx_iret hX hE dX0_run_4 ⟨rfl, rfl, rfl, hf⟩
/-! HungryHedge.loss()I -/
def x_X0_loss  (s : xS) (rd : xRd) (J : mJ) (I : mI) (Q : Int32 → mI → Prop) : Prop :=
  x_X3_all 10 s rd J I (fun r2 I1 => x_X0_runs s rd J I1 (fun r4 I3 => Q (r2 - r4) I3))
theorem ct_X0_loss   (s : xS) (rd : xRd) (J : mJ) (I : mI) (Q : Int32 → mI → Prop) (hf : x_X0_loss  s rd J I Q) : hh_Ct yX0_loss cX0_loss 1 (some .int) 404 23994 [.ref 0] (hx s rd J I) (xQi (fun r9 S9 R9 J9 I9 => s = S9 ∧ rd = R9 ∧ J = J9 ∧ Q r9 I9)) 0 0 := by
  refine hh_Ct.of (own := RX0) rfl (by decide +kernel) (Nat.le_of_ble_eq_true rfl) ?_
  intro X hX hN hE
  show hh_V X 0 [(0, .ref 0)] [] 0 0 (hx s rd J I)
  unfold x_X0_loss at hf
  refine hv_aload_n hX dX0_loss_0 rfl 0 rfl ?_
  refine hx_getR (v := 23) hX dX0_loss_1 fl0_24_0 (xo_c (by decide) rfl) (xR_c rfl) ?_
  refine hv_aload_n hX dX0_loss_4 rfl 0 rfl ?_
  refine hx_getR (v := 1) hX dX0_loss_5 fl0_10_0 (xo_c (by decide) rfl) (xR_c rfl) ?_
  refine hx_getR (v := 10) hX dX0_loss_8 fl0_127_1 (xo_c (by decide) rfl) (xR_c rfl) ?_
  refine hx_callVi (ci := 3) (q := (RX3, TX3, 4)) hX dX0_loss_11 (ct_X3_all 10 s rd J I _ hf) (lw_V q722 q723 q724 q109 q725) rfl (by decide) ⟨rfl, np_X3_all⟩ rfl (xo_c (by decide) rfl) rfl ⟨Nat.le_of_ble_eq_true rfl, Nat.le_of_ble_eq_true rfl⟩ ⟨Nat.le_of_ble_eq_true rfl, Nat.le_of_ble_eq_true rfl⟩ (Nat.le_of_ble_eq_true rfl) ?_
  intro r2 S9 R9 J9 I1 hq
  clear hf
  obtain ⟨rfl, rfl, rfl, hf⟩ := hq
  refine hv_aload_n hX dX0_loss_14 rfl 0 rfl ?_
  refine hx_callVi (ci := 0) (q := (RX0, TX0, 19)) hX dX0_loss_15 (ct_X0_runs s rd J I1 _ hf) (lw_V q1204 q1206 qs34 q106 q1207) rfl (by decide) ⟨rfl, np_X0_runs⟩ rfl (xo_c (by decide) rfl) rfl ⟨Nat.le_of_ble_eq_true rfl, Nat.le_of_ble_eq_true rfl⟩ ⟨Nat.le_of_ble_eq_true rfl, Nat.le_of_ble_eq_true rfl⟩ (Nat.le_of_ble_eq_true rfl) ?_
  intro r4 S9 R9 J9 I3 hq
  clear hf
  obtain ⟨rfl, rfl, rfl, hf⟩ := hq
  refine hv_isub hX dX0_loss_18 ?_
  exact hx_iret hX hE dX0_loss_19 ⟨rfl, rfl, rfl, hf⟩
/-! HungryHedge.prove()I -/
def x_X0_prove_l31 (Q : Int32 → mI → Prop) : Nat → Int32 → xS → xRd → mJ → mI → Prop
  | 0, _, _, _, _, _ => False
  | n + 1, a1, s, rd, J, I =>
    (a1 = (-9) →
      Q (I 0 12) I) ∧ (¬ a1 = (-9) →
      vp_in (I 0 12) 20 ∧ (∃ v5 : Nat, xR rd 99 (I 0 12).toNatClampNeg = some v5 ∧ (xo s v5 9 ∧ (vp_in (I 0 12) 20 ∧ (∃ v7 : Nat, xR rd 99 (I 0 12).toNatClampNeg = some v7 ∧ (xo s v7 9 ∧ (x_X1_does 97 a1 s rd J (u2 (u2 (u2 I v5 0 (I 97 1)) v7 1 a1) 0 12 ((I 0 12) + 1)) (fun I9 => x_X3_first 97 s rd J I9 (fun r11 I10 => x_X0_prove_l31 Q   n r11 s rd J I10)))))))))
theorem w_X0_prove_l31 {X : hh_CX} {S0 : xS} {R0 : xRd} {J0 : mJ} {Q : Int32 → mI → Prop} (hX : hh_C X cX0_prove RX0 (hrx 101 5623 0 0)) (hN : hh_nL X = 2) (hE : hh_E X (some .int) (xQi (fun r9 S9 R9 J9 I9 => S0 = S9 ∧ R0 = R9 ∧ J0 = J9 ∧ Q r9 I9)) 0 0) : ∀ (n : Nat) (a1 : Int32) (s : xS) (rd : xRd) (J : mJ) (I : mI), s = S0 → rd = R0 → J = J0 → x_X0_prove_l31 Q  n a1 s rd J I → hh_V X 31 [(0, .ref 0), (1, .int a1)] [] 0 0 (hx s rd J I) := by
  intro n
  induction n with
  | zero => intro _ _ _ _ _ _ _ _ hf; exact hf.elim
  | succ n ih =>
    intro a1 s rd J I e0 e1 e2 hf
    subst e0
    subst e1
    subst e2
    unfold x_X0_prove_l31 at hf
    refine hv_iload_n hX dX0_prove_31 rfl 1 rfl ?_
    refine hv_bipush (v := (-9)) hX bix_m9 dX0_prove_32 ?_
    refine hv_icmp_eq (tgt := 106) hX dX0_prove_34 (by decide) (fun c4 => ?_) (fun c4 => ?_)
    · replace hf := hf.1 c4
      refine hv_aload_n hX dX0_prove_106 rfl 0 rfl ?_
      refine hx_getI (v := (I 0 12)) hX dX0_prove_107 fl0_334_0 (.inl rfl) (xo_c (by decide) rfl) rfl ?_
      exact hx_iret hX hE dX0_prove_110 ⟨rfl, rfl, rfl, hf⟩
    · replace hf := hf.2 c4
      refine hv_aload_n hX dX0_prove_37 rfl 0 rfl ?_
      refine hx_getR (v := 99) hX dX0_prove_38 fl0_71_0 (xo_c (by decide) rfl) (xR_c rfl) ?_
      refine hv_aload_n hX dX0_prove_41 rfl 0 rfl ?_
      refine hx_getI (v := (I 0 12)) hX dX0_prove_42 fl0_334_0 (.inl rfl) (xo_c (by decide) rfl) rfl ?_
      obtain ⟨g, hf⟩ := hf
      obtain ⟨v5, gv5, hf⟩ := hf
      refine hx_aald (v := v5) (a := 23) hX 7 rfl (by decide) dX0_prove_45 (xo_c (by decide) rfl) (xlen_c (by decide) rfl) g gv5 ?_
      refine hv_aload_n hX dX0_prove_46 rfl 0 rfl ?_
      refine hx_getR (v := 97) hX dX0_prove_47 fl0_63_0 (xo_c (by decide) rfl) (xR_c rfl) ?_
      refine hx_getI (v := (I 97 1)) hX dX0_prove_50 fl0_147_2 (.inl rfl) (xo_c (by decide) rfl) rfl ?_
      obtain ⟨o6, hf⟩ := hf
      refine hx_putI hX dX0_prove_53 fl0_337_9 o6 ?_
      refine hv_aload_n hX dX0_prove_56 rfl 0 rfl ?_
      refine hx_getR (v := 99) hX dX0_prove_57 fl0_71_0 (xo_c (by decide) rfl) (xR_c rfl) ?_
      refine hv_aload_n hX dX0_prove_60 rfl 0 rfl ?_
      refine hx_getI (v := (I 0 12)) hX dX0_prove_61 fl0_334_0 (.inl rfl) (xo_c (by decide) rfl) ((u2_ne _ _ (.inr (by decide)))) ?_
      obtain ⟨g, hf⟩ := hf
      obtain ⟨v7, gv7, hf⟩ := hf
      refine hx_aald (v := v7) (a := 23) hX 7 rfl (by decide) dX0_prove_64 (xo_c (by decide) rfl) (xlen_c (by decide) rfl) g gv7 ?_
      refine hv_iload_n hX dX0_prove_65 rfl 1 rfl ?_
      obtain ⟨o8, hf⟩ := hf
      refine hx_putI hX dX0_prove_66 fl0_338_9 o8 ?_
      refine hv_aload_n hX dX0_prove_69 rfl 0 rfl ?_
      refine hv_dup hX rfl dX0_prove_70 ?_
      refine hx_getI (v := (I 0 12)) hX dX0_prove_71 fl0_334_0 (.inl rfl) (xo_c (by decide) rfl) ((u2_ne _ _ (.inr (by decide))) |>.trans (u2_ne _ _ (.inr (by decide)))) ?_
      refine hv_iconst (v := 1) hX icx_1 dX0_prove_74 ?_
      refine hv_iadd hX dX0_prove_75 ?_
      refine hx_putI hX dX0_prove_76 fl0_334_0 (xo_c (by decide) rfl) ?_
      refine hv_aload_n hX dX0_prove_79 rfl 0 rfl ?_
      refine hx_getR (v := 1) hX dX0_prove_80 fl0_10_0 (xo_c (by decide) rfl) (xR_c rfl) ?_
      refine hv_aload_n hX dX0_prove_83 rfl 0 rfl ?_
      refine hx_getR (v := 97) hX dX0_prove_84 fl0_63_0 (xo_c (by decide) rfl) (xR_c rfl) ?_
      refine hv_iload_n hX dX0_prove_87 rfl 1 rfl ?_
      refine hx_callVv (ci := 1) (q := (RX1, TX1, 17)) hX dX0_prove_88 (ct_X1_does 97 a1 s rd J (u2 (u2 (u2 I v5 0 (I 97 1)) v7 1 a1) 0 12 ((I 0 12) + 1)) _ hf) (lw_V q702 q703 q704 q107 q705) rfl (by decide) ⟨rfl, np_X1_does⟩ rfl (xo_c (by decide) rfl) rfl ⟨Nat.le_of_ble_eq_true rfl, Nat.le_of_ble_eq_true rfl⟩ ⟨Nat.le_of_ble_eq_true rfl, Nat.le_of_ble_eq_true rfl⟩ (Nat.le_of_ble_eq_true rfl) ?_
      intro  S9 R9 J9 I9 hq
      clear hf
      obtain ⟨rfl, rfl, rfl, hf⟩ := hq
      refine hv_aload_n hX dX0_prove_91 rfl 0 rfl ?_
      refine hx_getR (v := 23) hX dX0_prove_92 fl0_24_0 (xo_c (by decide) rfl) (xR_c rfl) ?_
      refine hv_aload_n hX dX0_prove_95 rfl 0 rfl ?_
      refine hx_getR (v := 97) hX dX0_prove_96 fl0_63_0 (xo_c (by decide) rfl) (xR_c rfl) ?_
      refine hx_callVi (ci := 3) (q := (RX3, TX3, 4)) hX dX0_prove_99 (ct_X3_first 97 s rd J I9 _ hf) (lw_V q758 q759 q760 q109 q761) rfl (by decide) ⟨rfl, np_X3_first⟩ rfl (xo_c (by decide) rfl) rfl ⟨Nat.le_of_ble_eq_true rfl, Nat.le_of_ble_eq_true rfl⟩ ⟨Nat.le_of_ble_eq_true rfl, Nat.le_of_ble_eq_true rfl⟩ (Nat.le_of_ble_eq_true rfl) ?_
      intro r11 S9 R9 J9 I10 hq
      clear hf
      obtain ⟨rfl, rfl, rfl, hf⟩ := hq
      refine hv_istore_n (loc2 := [(1, .int r11), (0, .ref 0)]) hX dX0_prove_102 rfl hN (Nat.le_of_ble_eq_true rfl) rfl ?_
      refine hv_goto (tgt := 31) hX dX0_prove_103 (by decide) ?_
      refine hv_fewer [1, 0] (loc2 := [(0, .ref 0), (1, .int r11)]) rfl ?_
      exact ih _ _ _ _ _ rfl rfl rfl hf
def x_X0_prove  (s : xS) (rd : xRd) (J : mJ) (I : mI) (Q : Int32 → mI → Prop) : Prop :=
  x_X2_become 97 10 s rd J I (fun I1 => x_X3_first 97 s rd J (u2 I1 0 12 0) (fun r3 I2 => ∃ n0 : Nat, x_X0_prove_l31 Q   n0 r3 s rd J I2))
theorem ct_X0_prove   (s : xS) (rd : xRd) (J : mJ) (I : mI) (Q : Int32 → mI → Prop) (hf : x_X0_prove  s rd J I Q) : hh_Ct yX0_prove cX0_prove 2 (some .int) 101 5623 [.ref 0] (hx s rd J I) (xQi (fun r9 S9 R9 J9 I9 => s = S9 ∧ rd = R9 ∧ J = J9 ∧ Q r9 I9)) 0 0 := by
  refine hh_Ct.of (own := RX0) rfl (by decide +kernel) (Nat.le_of_ble_eq_true rfl) ?_
  intro X hX hN hE
  show hh_V X 0 [(0, .ref 0)] [] 0 0 (hx s rd J I)
  unfold x_X0_prove at hf
  refine hv_aload_n hX dX0_prove_0 rfl 0 rfl ?_
  refine hx_getR (v := 97) hX dX0_prove_1 fl0_63_0 (xo_c (by decide) rfl) (xR_c rfl) ?_
  refine hv_aload_n hX dX0_prove_4 rfl 0 rfl ?_
  refine hx_getR (v := 1) hX dX0_prove_5 fl0_10_0 (xo_c (by decide) rfl) (xR_c rfl) ?_
  refine hx_getR (v := 10) hX dX0_prove_8 fl0_127_1 (xo_c (by decide) rfl) (xR_c rfl) ?_
  refine hx_callVv (ci := 2) (q := (RX2, TX2, 4)) hX dX0_prove_11 (ct_X2_become 97 10 s rd J I _ hf) (lw_V q1208 q748 q749 q108 q750) rfl (by decide) ⟨rfl, np_X2_become⟩ rfl (xo_c (by decide) rfl) rfl ⟨Nat.le_of_ble_eq_true rfl, Nat.le_of_ble_eq_true rfl⟩ ⟨Nat.le_of_ble_eq_true rfl, Nat.le_of_ble_eq_true rfl⟩ (Nat.le_of_ble_eq_true rfl) ?_
  intro  S9 R9 J9 I1 hq
  clear hf
  obtain ⟨rfl, rfl, rfl, hf⟩ := hq
  refine hv_aload_n hX dX0_prove_14 rfl 0 rfl ?_
  refine hv_iconst (v := 0) hX icx_0 dX0_prove_15 ?_
  refine hx_putI hX dX0_prove_16 fl0_334_0 (xo_c (by decide) rfl) ?_
  refine hv_aload_n hX dX0_prove_19 rfl 0 rfl ?_
  refine hx_getR (v := 23) hX dX0_prove_20 fl0_24_0 (xo_c (by decide) rfl) (xR_c rfl) ?_
  refine hv_aload_n hX dX0_prove_23 rfl 0 rfl ?_
  refine hx_getR (v := 97) hX dX0_prove_24 fl0_63_0 (xo_c (by decide) rfl) (xR_c rfl) ?_
  refine hx_callVi (ci := 3) (q := (RX3, TX3, 4)) hX dX0_prove_27 (ct_X3_first 97 s rd J (u2 I1 0 12 0) _ hf) (lw_V q758 q759 q760 q109 q761) rfl (by decide) ⟨rfl, np_X3_first⟩ rfl (xo_c (by decide) rfl) rfl ⟨Nat.le_of_ble_eq_true rfl, Nat.le_of_ble_eq_true rfl⟩ ⟨Nat.le_of_ble_eq_true rfl, Nat.le_of_ble_eq_true rfl⟩ (Nat.le_of_ble_eq_true rfl) ?_
  intro r3 S9 R9 J9 I2 hq
  clear hf
  obtain ⟨rfl, rfl, rfl, hf⟩ := hq
  refine hv_istore_n (loc2 := [(1, .int r3), (0, .ref 0)]) hX dX0_prove_30 rfl hN (Nat.le_of_ble_eq_true rfl) rfl ?_
  refine hv_fewer [1, 0] (loc2 := [(0, .ref 0), (1, .int r3)]) rfl ?_
  obtain ⟨n0, hf⟩ := hf
  exact w_X0_prove_l31 hX hN hE  n0 _ _ _ _ _ rfl rfl rfl hf
/-! HungryHedge.isCell(II)Z -/
def x_X0_isCell (a1 : Int32) (a2 : Int32) (s : xS) (rd : xRd) (J : mJ) (I : mI) (Q : Int32 → Prop) : Prop :=
  x_X0_in a1 0 ((I 0 12) - 1) s rd J I (fun r1 => (r1 = 0 →
    Q 0 ) ∧ (¬ r1 = 0 →
    x_X0_in a2 0 1 s rd J I (fun r3 => (r3 = 0 →
      Q 0 ) ∧ (¬ r3 = 0 →
      Q 1 ))))
theorem ct_X0_isCell  (a1 : Int32) (a2 : Int32) (s : xS) (rd : xRd) (J : mJ) (I : mI) (Q : Int32 → Prop) (hf : x_X0_isCell a1 a2 s rd J I Q) : hh_Ct yX0_isCell cX0_isCell 3 (some .boolean) 1 22 [.ref 0, .int a1, .int a2] (hx s rd J I) (xQi (fun r9 S9 R9 J9 I9 => s = S9 ∧ rd = R9 ∧ J = J9 ∧ I = I9 ∧ Q r9)) 0 0 := by
  refine hh_Ct.of (own := RX0) rfl (by decide +kernel) (Nat.le_of_ble_eq_true rfl) ?_
  intro X hX hN hE
  show hh_V X 0 [(0, .ref 0), (1, .int a1), (2, .int a2)] [] 0 0 (hx s rd J I)
  unfold x_X0_isCell at hf
  refine hv_iload_n hX dX0_isCell_0 rfl 1 rfl ?_
  refine hv_iconst (v := 0) hX icx_0 dX0_isCell_1 ?_
  refine hv_aload_n hX dX0_isCell_2 rfl 0 rfl ?_
  refine hx_getI (v := (I 0 12)) hX dX0_isCell_3 fl0_334_0 (.inl rfl) (xo_c (by decide) rfl) rfl ?_
  refine hv_iconst (v := 1) hX icx_1 dX0_isCell_6 ?_
  refine hv_isub hX dX0_isCell_7 ?_
  refine hx_callSi hX dX0_isCell_8 (ct_X0_in a1 0 ((I 0 12) - 1) s rd J I _ hf) (lw_S q649 q650 q106 q651) np_X0_in rfl rfl ⟨Nat.le_of_ble_eq_true rfl, Nat.le_of_ble_eq_true rfl⟩ ⟨Nat.le_of_ble_eq_true rfl, Nat.le_of_ble_eq_true rfl⟩ (Nat.le_of_ble_eq_true rfl) ?_
  intro r1 S9 R9 J9 I9 hq
  clear hf
  obtain ⟨rfl, rfl, rfl, rfl, hf⟩ := hq
  refine hv_if_eq (tgt := 27) hX dX0_isCell_11 (by decide) (fun c2 => ?_) (fun c2 => ?_)
  · replace hf := hf.1 c2
    refine hv_iconst (v := 0) hX icx_0 dX0_isCell_27 ?_
    exact hx_zret hX hE dX0_isCell_28 (by decide) ⟨rfl, rfl, rfl, rfl, hf⟩
  · replace hf := hf.2 c2
    refine hv_iload_n hX dX0_isCell_14 rfl 2 rfl ?_
    refine hv_iconst (v := 0) hX icx_0 dX0_isCell_15 ?_
    refine hv_iconst (v := 1) hX icx_1 dX0_isCell_16 ?_
    refine hx_callSi hX dX0_isCell_17 (ct_X0_in a2 0 1 s rd J I _ hf) (lw_S q649 q650 q106 q651) np_X0_in rfl rfl ⟨Nat.le_of_ble_eq_true rfl, Nat.le_of_ble_eq_true rfl⟩ ⟨Nat.le_of_ble_eq_true rfl, Nat.le_of_ble_eq_true rfl⟩ (Nat.le_of_ble_eq_true rfl) ?_
    intro r3 S9 R9 J9 I9 hq
    clear hf
    obtain ⟨rfl, rfl, rfl, rfl, hf⟩ := hq
    refine hv_if_eq (tgt := 27) hX dX0_isCell_20 (by decide) (fun c4 => ?_) (fun c4 => ?_)
    · replace hf := hf.1 c4
      refine hv_iconst (v := 0) hX icx_0 dX0_isCell_27 ?_
      exact hx_zret hX hE dX0_isCell_28 (by decide) ⟨rfl, rfl, rfl, rfl, hf⟩
    · replace hf := hf.2 c4
      refine hv_iconst (v := 1) hX icx_1 dX0_isCell_23 ?_
      refine hv_goto (tgt := 28) hX dX0_isCell_24 (by decide) ?_
      exact hx_zret hX hE dX0_isCell_28 (by decide) ⟨rfl, rfl, rfl, rfl, hf⟩
/-! HungryHedge.row(II)I -/
def x_X0_row (a1 : Int32) (a2 : Int32) (s : xS) (rd : xRd) (J : mJ) (I : mI) (Q : Int32 → Prop) : Prop :=
  x_X0_isCell a1 a2 s rd J I (fun r1 => (r1 = 0 →
    Q (-9) ) ∧ (¬ r1 = 0 →
    (a2 = 0 →
      vp_in a1 20 ∧ (∃ v6 : Nat, xR rd 99 a1.toNatClampNeg = some v6 ∧ (xo s v6 9 ∧ (Q (I v6 0) )))) ∧ (¬ a2 = 0 →
      vp_in a1 20 ∧ (∃ v4 : Nat, xR rd 99 a1.toNatClampNeg = some v4 ∧ (xo s v4 9 ∧ (Q (I v4 1) ))))))
theorem ct_X0_row  (a1 : Int32) (a2 : Int32) (s : xS) (rd : xRd) (J : mJ) (I : mI) (Q : Int32 → Prop) (hf : x_X0_row a1 a2 s rd J I Q) : hh_Ct yX0_row cX0_row 3 (some .int) 2 44 [.ref 0, .int a1, .int a2] (hx s rd J I) (xQi (fun r9 S9 R9 J9 I9 => s = S9 ∧ rd = R9 ∧ J = J9 ∧ I = I9 ∧ Q r9)) 0 0 := by
  refine hh_Ct.of (own := RX0) rfl (by decide +kernel) (Nat.le_of_ble_eq_true rfl) ?_
  intro X hX hN hE
  show hh_V X 0 [(0, .ref 0), (1, .int a1), (2, .int a2)] [] 0 0 (hx s rd J I)
  unfold x_X0_row at hf
  refine hv_aload_n hX dX0_row_0 rfl 0 rfl ?_
  refine hv_iload_n hX dX0_row_1 rfl 1 rfl ?_
  refine hv_iload_n hX dX0_row_2 rfl 2 rfl ?_
  refine hx_callVi (ci := 0) (q := (RX0, TX0, 19)) hX dX0_row_3 (ct_X0_isCell a1 a2 s rd J I _ hf) (lw_V q1221 q1223 qs35 q106 q1224) rfl (by decide) ⟨rfl, np_X0_isCell⟩ rfl (xo_c (by decide) rfl) rfl ⟨Nat.le_of_ble_eq_true rfl, Nat.le_of_ble_eq_true rfl⟩ ⟨Nat.le_of_ble_eq_true rfl, Nat.le_of_ble_eq_true rfl⟩ (Nat.le_of_ble_eq_true rfl) ?_
  intro r1 S9 R9 J9 I9 hq
  clear hf
  obtain ⟨rfl, rfl, rfl, rfl, hf⟩ := hq
  refine hv_if_ne (tgt := 14) hX dX0_row_6 (by decide) (fun c2 => ?_) (fun c2 => ?_)
  · replace hf := hf.2 c2
    refine hv_iload_n hX dX0_row_14 rfl 2 rfl ?_
    refine hv_if_ne (tgt := 30) hX dX0_row_15 (by decide) (fun c3 => ?_) (fun c3 => ?_)
    · replace hf := hf.2 c3
      refine hv_aload_n hX dX0_row_30 rfl 0 rfl ?_
      refine hx_getR (v := 99) hX dX0_row_31 fl0_71_0 (xo_c (by decide) rfl) (xR_c rfl) ?_
      refine hv_iload_n hX dX0_row_34 rfl 1 rfl ?_
      obtain ⟨g, hf⟩ := hf
      obtain ⟨v4, gv4, hf⟩ := hf
      refine hx_aald (v := v4) (a := 23) hX 7 rfl (by decide) dX0_row_35 (xo_c (by decide) rfl) (xlen_c (by decide) rfl) g gv4 ?_
      obtain ⟨o5, hf⟩ := hf
      refine hx_getI (v := (I v4 1)) hX dX0_row_36 fl0_338_9 (.inl rfl) o5 rfl ?_
      exact hx_iret hX hE dX0_row_39 ⟨rfl, rfl, rfl, rfl, hf⟩
    · replace hf := hf.1 c3
      refine hv_aload_n hX dX0_row_18 rfl 0 rfl ?_
      refine hx_getR (v := 99) hX dX0_row_19 fl0_71_0 (xo_c (by decide) rfl) (xR_c rfl) ?_
      refine hv_iload_n hX dX0_row_22 rfl 1 rfl ?_
      obtain ⟨g, hf⟩ := hf
      obtain ⟨v6, gv6, hf⟩ := hf
      refine hx_aald (v := v6) (a := 23) hX 7 rfl (by decide) dX0_row_23 (xo_c (by decide) rfl) (xlen_c (by decide) rfl) g gv6 ?_
      obtain ⟨o7, hf⟩ := hf
      refine hx_getI (v := (I v6 0)) hX dX0_row_24 fl0_337_9 (.inl rfl) o7 rfl ?_
      refine hv_goto (tgt := 39) hX dX0_row_27 (by decide) ?_
      exact hx_iret hX hE dX0_row_39 ⟨rfl, rfl, rfl, rfl, hf⟩
  · replace hf := hf.1 c2
    refine hv_bipush (v := (-9)) hX bix_m9 dX0_row_9 ?_
    refine hv_goto (tgt := 39) hX dX0_row_11 (by decide) ?_
    exact hx_iret hX hE dX0_row_39 ⟨rfl, rfl, rfl, rfl, hf⟩
/-! HungryHedge.alterRow(III)I -/
def x_X0_alterRow_j43 (Q : Int32 → mI → Prop) (a1 : Int32) (a2 : Int32) (a3 : Int32) (a4 : Int32) (p0 : Nat) (p1 : Int32) (s : xS) (rd : xRd) (J : mJ) (I : mI) : Prop :=
  xo s p0 9 ∧ (vp_in a1 20 ∧ (∃ v9 : Nat, xR rd 99 a1.toNatClampNeg = some v9 ∧ ((a2 = 1 →
    xo s v9 9 ∧ (Q a4 (u2 (u2 I p0 0 p1) v9 1 a3))) ∧ (¬ a2 = 1 →
    vp_in a1 20 ∧ (∃ v11 : Nat, xR rd 99 a1.toNatClampNeg = some v11 ∧ (xo s v11 9 ∧ (xo s v9 9 ∧ (Q a4 (u2 (u2 I p0 0 p1) v9 1 (I v11 1))))))))))
theorem w_X0_alterRow_j43 {X : hh_CX} {S0 : xS} {R0 : xRd} {J0 : mJ} {Q : Int32 → mI → Prop} (hX : hh_C X cX0_alterRow RX0 (hrx 3 66 0 0)) (hN : hh_nL X = 5) (hE : hh_E X (some .int) (xQi (fun r9 S9 R9 J9 I9 => S0 = S9 ∧ R0 = R9 ∧ J0 = J9 ∧ Q r9 I9)) 0 0) : ∀ (a1 : Int32) (a2 : Int32) (a3 : Int32) (a4 : Int32) (p0 : Nat) (p1 : Int32) (s : xS) (rd : xRd) (J : mJ) (I : mI), s = S0 → rd = R0 → J = J0 → x_X0_alterRow_j43 Q  a1 a2 a3 a4 p0 p1 s rd J I → hh_V X 43 [(0, .ref 0), (1, .int a1), (2, .int a2), (3, .int a3), (4, .int a4)] [.int p1, .ref p0] 0 0 (hx s rd J I) := by
  intro a1 a2 a3 a4 p0 p1 s rd J I e0 e1 e2 hf
  subst e0
  subst e1
  subst e2
  unfold x_X0_alterRow_j43 at hf
  obtain ⟨o8, hf⟩ := hf
  refine hx_putI hX dX0_alterRow_43 fl0_337_9 o8 ?_
  refine hv_aload_n hX dX0_alterRow_46 rfl 0 rfl ?_
  refine hx_getR (v := 99) hX dX0_alterRow_47 fl0_71_0 (xo_c (by decide) rfl) (xR_c rfl) ?_
  refine hv_iload_n hX dX0_alterRow_50 rfl 1 rfl ?_
  obtain ⟨g, hf⟩ := hf
  obtain ⟨v9, gv9, hf⟩ := hf
  refine hx_aald (v := v9) (a := 23) hX 7 rfl (by decide) dX0_alterRow_51 (xo_c (by decide) rfl) (xlen_c (by decide) rfl) g gv9 ?_
  refine hv_iload_n hX dX0_alterRow_52 rfl 2 rfl ?_
  refine hv_iconst (v := 1) hX icx_1 dX0_alterRow_53 ?_
  refine hv_icmp_ne (tgt := 61) hX dX0_alterRow_54 (by decide) (fun c10 => ?_) (fun c10 => ?_)
  · replace hf := hf.2 c10
    refine hv_aload_n hX dX0_alterRow_61 rfl 0 rfl ?_
    refine hx_getR (v := 99) hX dX0_alterRow_62 fl0_71_0 (xo_c (by decide) rfl) (xR_c rfl) ?_
    refine hv_iload_n hX dX0_alterRow_65 rfl 1 rfl ?_
    obtain ⟨g, hf⟩ := hf
    obtain ⟨v11, gv11, hf⟩ := hf
    refine hx_aald (v := v11) (a := 23) hX 7 rfl (by decide) dX0_alterRow_66 (xo_c (by decide) rfl) (xlen_c (by decide) rfl) g gv11 ?_
    obtain ⟨o12, hf⟩ := hf
    refine hx_getI (v := (I v11 1)) hX dX0_alterRow_67 fl0_338_9 (.inl rfl) o12 ((u2_ne _ _ (.inr (by decide)))) ?_
    obtain ⟨o13, hf⟩ := hf
    refine hx_putI hX dX0_alterRow_70 fl0_338_9 o13 ?_
    refine hv_iload hX dX0_alterRow_73 4 rfl ?_
    exact hx_iret hX hE dX0_alterRow_75 ⟨rfl, rfl, rfl, hf⟩
  · replace hf := hf.1 c10
    refine hv_iload_n hX dX0_alterRow_57 rfl 3 rfl ?_
    refine hv_goto (tgt := 70) hX dX0_alterRow_58 (by decide) ?_
    obtain ⟨o14, hf⟩ := hf
    refine hx_putI hX dX0_alterRow_70 fl0_338_9 o14 ?_
    refine hv_iload hX dX0_alterRow_73 4 rfl ?_
    exact hx_iret hX hE dX0_alterRow_75 ⟨rfl, rfl, rfl, hf⟩
def x_X0_alterRow (a1 : Int32) (a2 : Int32) (a3 : Int32) (s : xS) (rd : xRd) (J : mJ) (I : mI) (Q : Int32 → mI → Prop) : Prop :=
  x_X0_isCell a1 a2 s rd J I (fun r1 => (r1 = 0 →
    Q (-9) I) ∧ (¬ r1 = 0 →
    x_X0_row a1 a2 s rd J I (fun r3 => vp_in a1 20 ∧ (∃ v4 : Nat, xR rd 99 a1.toNatClampNeg = some v4 ∧ ((a2 = 0 →
      x_X0_alterRow_j43 Q   a1 a2 a3 r3 v4 a3 s rd J I) ∧ (¬ a2 = 0 →
      vp_in a1 20 ∧ (∃ v6 : Nat, xR rd 99 a1.toNatClampNeg = some v6 ∧ (xo s v6 9 ∧ (x_X0_alterRow_j43 Q   a1 a2 a3 r3 v4 (I v6 0) s rd J I)))))))))
theorem ct_X0_alterRow  (a1 : Int32) (a2 : Int32) (a3 : Int32) (s : xS) (rd : xRd) (J : mJ) (I : mI) (Q : Int32 → mI → Prop) (hf : x_X0_alterRow a1 a2 a3 s rd J I Q) : hh_Ct yX0_alterRow cX0_alterRow 5 (some .int) 3 66 [.ref 0, .int a1, .int a2, .int a3] (hx s rd J I) (xQi (fun r9 S9 R9 J9 I9 => s = S9 ∧ rd = R9 ∧ J = J9 ∧ Q r9 I9)) 0 0 := by
  refine hh_Ct.of (own := RX0) rfl (by decide +kernel) (Nat.le_of_ble_eq_true rfl) ?_
  intro X hX hN hE
  show hh_V X 0 [(0, .ref 0), (1, .int a1), (2, .int a2), (3, .int a3)] [] 0 0 (hx s rd J I)
  unfold x_X0_alterRow at hf
  refine hv_aload_n hX dX0_alterRow_0 rfl 0 rfl ?_
  refine hv_iload_n hX dX0_alterRow_1 rfl 1 rfl ?_
  refine hv_iload_n hX dX0_alterRow_2 rfl 2 rfl ?_
  refine hx_callVi (ci := 0) (q := (RX0, TX0, 19)) hX dX0_alterRow_3 (ct_X0_isCell a1 a2 s rd J I _ hf) (lw_V q1221 q1223 qs35 q106 q1224) rfl (by decide) ⟨rfl, np_X0_isCell⟩ rfl (xo_c (by decide) rfl) rfl ⟨Nat.le_of_ble_eq_true rfl, Nat.le_of_ble_eq_true rfl⟩ ⟨Nat.le_of_ble_eq_true rfl, Nat.le_of_ble_eq_true rfl⟩ (Nat.le_of_ble_eq_true rfl) ?_
  intro r1 S9 R9 J9 I9 hq
  clear hf
  obtain ⟨rfl, rfl, rfl, rfl, hf⟩ := hq
  refine hv_if_ne (tgt := 12) hX dX0_alterRow_6 (by decide) (fun c2 => ?_) (fun c2 => ?_)
  · replace hf := hf.2 c2
    refine hv_aload_n hX dX0_alterRow_12 rfl 0 rfl ?_
    refine hv_iload_n hX dX0_alterRow_13 rfl 1 rfl ?_
    refine hv_iload_n hX dX0_alterRow_14 rfl 2 rfl ?_
    refine hx_callVi (ci := 0) (q := (RX0, TX0, 19)) hX dX0_alterRow_15 (ct_X0_row a1 a2 s rd J I _ hf) (lw_V q1229 q1218 q1219 q106 q1220) rfl (by decide) ⟨rfl, np_X0_row⟩ rfl (xo_c (by decide) rfl) rfl ⟨Nat.le_of_ble_eq_true rfl, Nat.le_of_ble_eq_true rfl⟩ ⟨Nat.le_of_ble_eq_true rfl, Nat.le_of_ble_eq_true rfl⟩ (Nat.le_of_ble_eq_true rfl) ?_
    intro r3 S9 R9 J9 I9 hq
    clear hf
    obtain ⟨rfl, rfl, rfl, rfl, hf⟩ := hq
    refine hv_istore (loc2 := [(4, .int r3), (0, .ref 0), (1, .int a1), (2, .int a2), (3, .int a3)]) hX dX0_alterRow_18 hN (Nat.le_of_ble_eq_true rfl) rfl ?_
    refine hv_aload_n hX dX0_alterRow_20 rfl 1 rfl ?_
    refine hx_getR (v := 99) hX dX0_alterRow_21 fl0_71_0 (xo_c (by decide) rfl) (xR_c rfl) ?_
    refine hv_iload_n hX dX0_alterRow_24 rfl 2 rfl ?_
    obtain ⟨g, hf⟩ := hf
    obtain ⟨v4, gv4, hf⟩ := hf
    refine hx_aald (v := v4) (a := 23) hX 7 rfl (by decide) dX0_alterRow_25 (xo_c (by decide) rfl) (xlen_c (by decide) rfl) g gv4 ?_
    refine hv_iload_n hX dX0_alterRow_26 rfl 3 rfl ?_
    refine hv_if_ne (tgt := 34) hX dX0_alterRow_27 (by decide) (fun c5 => ?_) (fun c5 => ?_)
    · replace hf := hf.2 c5
      refine hv_aload_n hX dX0_alterRow_34 rfl 1 rfl ?_
      refine hx_getR (v := 99) hX dX0_alterRow_35 fl0_71_0 (xo_c (by decide) rfl) (xR_c rfl) ?_
      refine hv_iload_n hX dX0_alterRow_38 rfl 2 rfl ?_
      obtain ⟨g, hf⟩ := hf
      obtain ⟨v6, gv6, hf⟩ := hf
      refine hx_aald (v := v6) (a := 23) hX 7 rfl (by decide) dX0_alterRow_39 (xo_c (by decide) rfl) (xlen_c (by decide) rfl) g gv6 ?_
      obtain ⟨o7, hf⟩ := hf
      refine hx_getI (v := (I v6 0)) hX dX0_alterRow_40 fl0_337_9 (.inl rfl) o7 rfl ?_
      refine hv_fewer [1, 2, 3, 4, 0] (loc2 := [(0, .ref 0), (1, .int a1), (2, .int a2), (3, .int a3), (4, .int r3)]) rfl ?_
      exact w_X0_alterRow_j43 hX hN hE  _ _ _ _ _ _ _ _ _ _ rfl rfl rfl hf
    · replace hf := hf.1 c5
      refine hv_iload_n hX dX0_alterRow_30 rfl 4 rfl ?_
      refine hv_goto (tgt := 43) hX dX0_alterRow_31 (by decide) ?_
      refine hv_fewer [1, 2, 3, 4, 0] (loc2 := [(0, .ref 0), (1, .int a1), (2, .int a2), (3, .int a3), (4, .int r3)]) rfl ?_
      exact w_X0_alterRow_j43 hX hN hE  _ _ _ _ _ _ _ _ _ _ rfl rfl rfl hf
  · replace hf := hf.1 c2
    refine hv_bipush (v := (-9)) hX bix_m9 dX0_alterRow_9 ?_
    exact hx_iret hX hE dX0_alterRow_11 ⟨rfl, rfl, rfl, hf⟩
/-! HungryHedge.mayAny(LHungryHedge$Trip;)Z -/
def x_X0_mayAny_j33 (Q : Int32 → Prop) (k4 : Nat → Int32 → Int32 → xS → xRd → mJ → mI → Prop) (a1 : Nat) (a3 : Int32) (p0 : Int32) (p1 : Int32) (s : xS) (rd : xRd) (J : mJ) (I : mI) : Prop :=
  k4 a1 (p0 ||| p1) (a3 + 1) s rd J I
theorem w_X0_mayAny_j33 {X : hh_CX} {S0 : xS} {R0 : xRd} {J0 : mJ} {I0 : mI} {Q : Int32 → Prop} (hX : hh_C X cX0_mayAny RX0 (hrx 1 23 0 0)) (hN : hh_nL X = 4) (hE : hh_E X (some .boolean) (xQi (fun r9 S9 R9 J9 I9 => S0 = S9 ∧ R0 = R9 ∧ J0 = J9 ∧ I0 = I9 ∧ Q r9)) 0 0) {k4 : Nat → Int32 → Int32 → xS → xRd → mJ → mI → Prop} (hk4 : ∀ (b0 : Nat) (b1 : Int32) (b2 : Int32) (s : xS) (rd : xRd) (J : mJ) (I : mI), s = S0 → rd = R0 → J = J0 → I = I0 → k4 b0 b1 b2 s rd J I → hh_V X 4 [(0, .ref 0), (1, .ref b0), (2, .int b1), (3, .int b2)] [] 0 0 (hx s rd J I)) : ∀ (a1 : Nat) (a3 : Int32) (p0 : Int32) (p1 : Int32) (s : xS) (rd : xRd) (J : mJ) (I : mI), s = S0 → rd = R0 → J = J0 → I = I0 → x_X0_mayAny_j33 Q k4 a1 a3 p0 p1 s rd J I → hh_V X 33 [(0, .ref 0), (1, .ref a1), (3, .int a3)] [.int p1, .int p0] 0 0 (hx s rd J I) := by
  intro a1 a3 p0 p1 s rd J I e0 e1 e2 e3 hf
  subst e0
  subst e1
  subst e2
  subst e3
  unfold x_X0_mayAny_j33 at hf
  refine hv_ior hX dX0_mayAny_33 ?_
  refine hv_istore_n (loc2 := [(2, .int (p0 ||| p1)), (0, .ref 0), (1, .ref a1), (3, .int a3)]) hX dX0_mayAny_34 rfl hN (Nat.le_of_ble_eq_true rfl) rfl ?_
  refine hv_iinc (v := (a3 + 1)) (loc2 := [(3, .int (a3 + 1)), (2, .int (p0 ||| p1)), (0, .ref 0), (1, .ref a1)]) hX dX0_mayAny_35 3 rfl (congrArg (fun y => a3 + y) icx_1) hN (Nat.le_of_ble_eq_true rfl) rfl ?_
  refine hv_goto (tgt := 4) hX dX0_mayAny_38 (by decide) ?_
  refine hv_fewer [2, 3, 1, 0] (loc2 := [(0, .ref 0), (1, .ref a1), (2, .int (p0 ||| p1)), (3, .int (a3 + 1))]) rfl ?_
  exact hk4 _ _ _ _ _ _ _ rfl rfl rfl rfl hf
def x_X0_mayAny_l4 (Q : Int32 → Prop) : Nat → Nat → Int32 → Int32 → xS → xRd → mJ → mI → Prop
  | 0, _, _, _, _, _, _, _ => False
  | n + 1, a1, a2, a3, s, rd, J, I =>
    ((I 1 0) ≤ a3 →
      (a2 = 0 ∨ a2 = 1) ∧ (Q a2 )) ∧ (¬ (I 1 0) ≤ a3 →
      x_X1_takes a1 a3 s rd J I (fun r2 => (r2 ≤ 0 →
        x_X0_mayAny_j33 Q  (fun b0 b1 b2 s rd J I => x_X0_mayAny_l4 Q   n b0 b1 b2 s rd J I) a1 a3 a2 0 s rd J I) ∧ (¬ r2 ≤ 0 →
        x_X0_mayAny_j33 Q  (fun b0 b1 b2 s rd J I => x_X0_mayAny_l4 Q   n b0 b1 b2 s rd J I) a1 a3 a2 1 s rd J I)))
theorem w_X0_mayAny_l4 {X : hh_CX} {S0 : xS} {R0 : xRd} {J0 : mJ} {I0 : mI} {Q : Int32 → Prop} (hX : hh_C X cX0_mayAny RX0 (hrx 1 23 0 0)) (hN : hh_nL X = 4) (hE : hh_E X (some .boolean) (xQi (fun r9 S9 R9 J9 I9 => S0 = S9 ∧ R0 = R9 ∧ J0 = J9 ∧ I0 = I9 ∧ Q r9)) 0 0) : ∀ (n : Nat) (a1 : Nat) (a2 : Int32) (a3 : Int32) (s : xS) (rd : xRd) (J : mJ) (I : mI), s = S0 → rd = R0 → J = J0 → I = I0 → x_X0_mayAny_l4 Q  n a1 a2 a3 s rd J I → hh_V X 4 [(0, .ref 0), (1, .ref a1), (2, .int a2), (3, .int a3)] [] 0 0 (hx s rd J I) := by
  intro n
  induction n with
  | zero => intro _ _ _ _ _ _ _ _ _ _ _ hf; exact hf.elim
  | succ n ih =>
    intro a1 a2 a3 s rd J I e0 e1 e2 e3 hf
    subst e0
    subst e1
    subst e2
    subst e3
    unfold x_X0_mayAny_l4 at hf
    refine hv_iload_n hX dX0_mayAny_4 rfl 3 rfl ?_
    refine hv_aload_n hX dX0_mayAny_5 rfl 0 rfl ?_
    refine hx_getR (v := 1) hX dX0_mayAny_6 fl0_10_0 (xo_c (by decide) rfl) (xR_c rfl) ?_
    refine hx_getI (v := (I 1 0)) hX dX0_mayAny_9 fl0_107_1 (.inl rfl) (xo_c (by decide) rfl) rfl ?_
    refine hv_icmp_ge (tgt := 41) hX dX0_mayAny_12 (by decide) (fun c1 => ?_) (fun c1 => ?_)
    · replace hf := hf.1 c1
      refine hv_iload_n hX dX0_mayAny_41 rfl 2 rfl ?_
      obtain ⟨g, hf⟩ := hf
      exact hx_zret hX hE dX0_mayAny_42 g ⟨rfl, rfl, rfl, rfl, hf⟩
    · replace hf := hf.2 c1
      refine hv_iload_n hX dX0_mayAny_15 rfl 2 rfl ?_
      refine hv_aload_n hX dX0_mayAny_16 rfl 0 rfl ?_
      refine hx_getR (v := 1) hX dX0_mayAny_17 fl0_10_0 (xo_c (by decide) rfl) (xR_c rfl) ?_
      refine hv_aload_n hX dX0_mayAny_20 rfl 1 rfl ?_
      refine hv_iload_n hX dX0_mayAny_21 rfl 3 rfl ?_
      refine hx_callVi (ci := 1) (q := (RX1, TX1, 17)) hX dX0_mayAny_22 (ct_X1_takes a1 a3 s rd J I _ hf) (lw_V q698 q699 q700 q107 q701) rfl (by decide) ⟨rfl, np_X1_takes⟩ rfl (xo_c (by decide) rfl) rfl ⟨Nat.le_of_ble_eq_true rfl, Nat.le_of_ble_eq_true rfl⟩ ⟨Nat.le_of_ble_eq_true rfl, Nat.le_of_ble_eq_true rfl⟩ (Nat.le_of_ble_eq_true rfl) ?_
      intro r2 S9 R9 J9 I9 hq
      clear hf
      obtain ⟨rfl, rfl, rfl, rfl, hf⟩ := hq
      refine hv_if_le (tgt := 32) hX dX0_mayAny_25 (by decide) (fun c3 => ?_) (fun c3 => ?_)
      · replace hf := hf.1 c3
        refine hv_iconst (v := 0) hX icx_0 dX0_mayAny_32 ?_
        refine hv_fewer [0, 1, 3] (loc2 := [(0, .ref 0), (1, .ref a1), (3, .int a3)]) rfl ?_
        exact w_X0_mayAny_j33 hX hN hE ih _ _ _ _ _ _ _ _ rfl rfl rfl rfl hf
      · replace hf := hf.2 c3
        refine hv_iconst (v := 1) hX icx_1 dX0_mayAny_28 ?_
        refine hv_goto (tgt := 33) hX dX0_mayAny_29 (by decide) ?_
        refine hv_fewer [0, 1, 3] (loc2 := [(0, .ref 0), (1, .ref a1), (3, .int a3)]) rfl ?_
        exact w_X0_mayAny_j33 hX hN hE ih _ _ _ _ _ _ _ _ rfl rfl rfl rfl hf
def x_X0_mayAny (a1 : Nat) (s : xS) (rd : xRd) (J : mJ) (I : mI) (Q : Int32 → Prop) : Prop :=
  ∃ n0 : Nat, x_X0_mayAny_l4 Q   n0 a1 0 (-1) s rd J I
theorem ct_X0_mayAny  (a1 : Nat) (s : xS) (rd : xRd) (J : mJ) (I : mI) (Q : Int32 → Prop) (hf : x_X0_mayAny a1 s rd J I Q) : hh_Ct yX0_mayAny cX0_mayAny 4 (some .boolean) 1 23 [.ref 0, .ref a1] (hx s rd J I) (xQi (fun r9 S9 R9 J9 I9 => s = S9 ∧ rd = R9 ∧ J = J9 ∧ I = I9 ∧ Q r9)) 0 0 := by
  refine hh_Ct.of (own := RX0) rfl (by decide +kernel) (Nat.le_of_ble_eq_true rfl) ?_
  intro X hX hN hE
  show hh_V X 0 [(0, .ref 0), (1, .ref a1)] [] 0 0 (hx s rd J I)
  unfold x_X0_mayAny at hf
  refine hv_iconst (v := 0) hX icx_0 dX0_mayAny_0 ?_
  refine hv_istore_n (loc2 := [(2, .int 0), (0, .ref 0), (1, .ref a1)]) hX dX0_mayAny_1 rfl hN (Nat.le_of_ble_eq_true rfl) rfl ?_
  refine hv_iconst (v := (-1)) hX icx_m1 dX0_mayAny_2 ?_
  refine hv_istore_n (loc2 := [(3, .int (-1)), (2, .int 0), (0, .ref 0), (1, .ref a1)]) hX dX0_mayAny_3 rfl hN (Nat.le_of_ble_eq_true rfl) rfl ?_
  refine hv_fewer [2, 3, 1, 0] (loc2 := [(0, .ref 0), (1, .ref a1), (2, .int 0), (3, .int (-1))]) rfl ?_
  obtain ⟨n0, hf⟩ := hf
  exact w_X0_mayAny_l4 hX hN hE  n0 _ _ _ _ _ _ _ rfl rfl rfl rfl hf
/-! HungryHedge.judge()I -/
def x_X0_judge_l31 (Q : Int32 → mI → Prop) : Nat → Int32 → Int32 → xS → xRd → mJ → mI → Prop
  | 0, _, _, _, _, _, _ => False
  | n + 1, a1, a2, s, rd, J, I =>
    ((I 0 12) ≤ a2 →
      x_X0_mayAny 97 s rd J I (fun r5 => (r5 = 0 →
        (((I 97 2) - (I 10 2)) = a1 →
          Q 0 I) ∧ (¬ ((I 97 2) - (I 10 2)) = a1 →
          Q 32 I)) ∧ (¬ r5 = 0 →
        Q 31 I))) ∧ (¬ (I 0 12) ≤ a2 →
      vp_in a2 20 ∧ (∃ v8 : Nat, xR rd 99 a2.toNatClampNeg = some v8 ∧ (xo s v8 9 ∧ (((I v8 0) = (I 97 1) →
        vp_in a2 20 ∧ (∃ v11 : Nat, xR rd 99 a2.toNatClampNeg = some v11 ∧ (xo s v11 9 ∧ (x_X0_isAct (I v11 1) s rd J I (fun r13 => (r13 = 0 →
          Q (a2 + 1) I) ∧ (¬ r13 = 0 →
          vp_in a2 20 ∧ (∃ v15 : Nat, xR rd 99 a2.toNatClampNeg = some v15 ∧ (xo s v15 9 ∧ (x_X1_takes 97 (I v15 1) s rd J I (fun r17 => (r17 = 0 →
            Q (a2 + 1) I) ∧ (¬ r17 = 0 →
            vp_in a2 20 ∧ (∃ v19 : Nat, xR rd 99 a2.toNatClampNeg = some v19 ∧ (xo s v19 9 ∧ (x_X1_does 97 (I v19 1) s rd J I (fun I21 => x_X0_judge_l31 Q   n a1 (a2 + 1) s rd J I21))))))))))))))) ∧ (¬ (I v8 0) = (I 97 1) →
        Q (a2 + 1) I)))))
theorem w_X0_judge_l31 {X : hh_CX} {S0 : xS} {R0 : xRd} {J0 : mJ} {Q : Int32 → mI → Prop} (hX : hh_C X cX0_judge RX0 (hrx 98 5422 0 0)) (hN : hh_nL X = 3) (hE : hh_E X (some .int) (xQi (fun r9 S9 R9 J9 I9 => S0 = S9 ∧ R0 = R9 ∧ J0 = J9 ∧ Q r9 I9)) 0 0) : ∀ (n : Nat) (a1 : Int32) (a2 : Int32) (s : xS) (rd : xRd) (J : mJ) (I : mI), s = S0 → rd = R0 → J = J0 → x_X0_judge_l31 Q  n a1 a2 s rd J I → hh_V X 31 [(0, .ref 0), (1, .int a1), (2, .int a2)] [] 0 0 (hx s rd J I) := by
  intro n
  induction n with
  | zero => intro _ _ _ _ _ _ _ _ _ hf; exact hf.elim
  | succ n ih =>
    intro a1 a2 s rd J I e0 e1 e2 hf
    subst e0
    subst e1
    subst e2
    unfold x_X0_judge_l31 at hf
    refine hv_iload_n hX dX0_judge_31 rfl 2 rfl ?_
    refine hv_aload_n hX dX0_judge_32 rfl 0 rfl ?_
    refine hx_getI (v := (I 0 12)) hX dX0_judge_33 fl0_334_0 (.inl rfl) (xo_c (by decide) rfl) rfl ?_
    refine hv_icmp_ge (tgt := 126) hX dX0_judge_36 (by decide) (fun c4 => ?_) (fun c4 => ?_)
    · replace hf := hf.1 c4
      refine hv_aload_n hX dX0_judge_126 rfl 0 rfl ?_
      refine hv_aload_n hX dX0_judge_127 rfl 0 rfl ?_
      refine hx_getR (v := 97) hX dX0_judge_128 fl0_63_0 (xo_c (by decide) rfl) (xR_c rfl) ?_
      refine hx_callVi (ci := 0) (q := (RX0, TX0, 19)) hX dX0_judge_131 (ct_X0_mayAny 97 s rd J I _ hf) (lw_V q1234 q1236 qs36 q106 q1237) rfl (by decide) ⟨rfl, np_X0_mayAny⟩ rfl (xo_c (by decide) rfl) rfl ⟨Nat.le_of_ble_eq_true rfl, Nat.le_of_ble_eq_true rfl⟩ ⟨Nat.le_of_ble_eq_true rfl, Nat.le_of_ble_eq_true rfl⟩ (Nat.le_of_ble_eq_true rfl) ?_
      intro r5 S9 R9 J9 I9 hq
      clear hf
      obtain ⟨rfl, rfl, rfl, rfl, hf⟩ := hq
      refine hv_if_eq (tgt := 140) hX dX0_judge_134 (by decide) (fun c6 => ?_) (fun c6 => ?_)
      · replace hf := hf.1 c6
        refine hv_aload_n hX dX0_judge_140 rfl 0 rfl ?_
        refine hx_getR (v := 97) hX dX0_judge_141 fl0_63_0 (xo_c (by decide) rfl) (xR_c rfl) ?_
        refine hx_getI (v := (I 97 2)) hX dX0_judge_144 fl0_156_2 (.inl rfl) (xo_c (by decide) rfl) rfl ?_
        refine hv_aload_n hX dX0_judge_147 rfl 0 rfl ?_
        refine hx_getR (v := 1) hX dX0_judge_148 fl0_10_0 (xo_c (by decide) rfl) (xR_c rfl) ?_
        refine hx_getR (v := 10) hX dX0_judge_151 fl0_127_1 (xo_c (by decide) rfl) (xR_c rfl) ?_
        refine hx_getI (v := (I 10 2)) hX dX0_judge_154 fl0_156_2 (.inl rfl) (xo_c (by decide) rfl) rfl ?_
        refine hv_isub hX dX0_judge_157 ?_
        refine hv_iload_n hX dX0_judge_158 rfl 1 rfl ?_
        refine hv_icmp_ne (tgt := 166) hX dX0_judge_159 (by decide) (fun c7 => ?_) (fun c7 => ?_)
        · replace hf := hf.2 c7
          refine hv_bipush (v := 32) hX bix_32 dX0_judge_166 ?_
          exact hx_iret hX hE dX0_judge_168 ⟨rfl, rfl, rfl, hf⟩
        · replace hf := hf.1 c7
          refine hv_iconst (v := 0) hX icx_0 dX0_judge_162 ?_
          refine hv_goto (tgt := 168) hX dX0_judge_163 (by decide) ?_
          exact hx_iret hX hE dX0_judge_168 ⟨rfl, rfl, rfl, hf⟩
      · replace hf := hf.2 c6
        refine hv_bipush (v := 31) hX bix_31 dX0_judge_137 ?_
        exact hx_iret hX hE dX0_judge_139 ⟨rfl, rfl, rfl, hf⟩
    · replace hf := hf.2 c4
      refine hv_aload_n hX dX0_judge_39 rfl 0 rfl ?_
      refine hx_getR (v := 99) hX dX0_judge_40 fl0_71_0 (xo_c (by decide) rfl) (xR_c rfl) ?_
      refine hv_iload_n hX dX0_judge_43 rfl 2 rfl ?_
      obtain ⟨g, hf⟩ := hf
      obtain ⟨v8, gv8, hf⟩ := hf
      refine hx_aald (v := v8) (a := 23) hX 7 rfl (by decide) dX0_judge_44 (xo_c (by decide) rfl) (xlen_c (by decide) rfl) g gv8 ?_
      obtain ⟨o9, hf⟩ := hf
      refine hx_getI (v := (I v8 0)) hX dX0_judge_45 fl0_337_9 (.inl rfl) o9 rfl ?_
      refine hv_aload_n hX dX0_judge_48 rfl 0 rfl ?_
      refine hx_getR (v := 97) hX dX0_judge_49 fl0_63_0 (xo_c (by decide) rfl) (xR_c rfl) ?_
      refine hx_getI (v := (I 97 1)) hX dX0_judge_52 fl0_147_2 (.inl rfl) (xo_c (by decide) rfl) rfl ?_
      refine hv_icmp_ne (tgt := 96) hX dX0_judge_55 (by decide) (fun c10 => ?_) (fun c10 => ?_)
      · replace hf := hf.2 c10
        refine hv_iload_n hX dX0_judge_96 rfl 2 rfl ?_
        refine hv_iconst (v := 1) hX icx_1 dX0_judge_97 ?_
        refine hv_iadd hX dX0_judge_98 ?_
        exact hx_iret hX hE dX0_judge_99 ⟨rfl, rfl, rfl, hf⟩
      · replace hf := hf.1 c10
        refine hv_aload_n hX dX0_judge_58 rfl 0 rfl ?_
        refine hx_getR (v := 99) hX dX0_judge_59 fl0_71_0 (xo_c (by decide) rfl) (xR_c rfl) ?_
        refine hv_iload_n hX dX0_judge_62 rfl 2 rfl ?_
        obtain ⟨g, hf⟩ := hf
        obtain ⟨v11, gv11, hf⟩ := hf
        refine hx_aald (v := v11) (a := 23) hX 7 rfl (by decide) dX0_judge_63 (xo_c (by decide) rfl) (xlen_c (by decide) rfl) g gv11 ?_
        obtain ⟨o12, hf⟩ := hf
        refine hx_getI (v := (I v11 1)) hX dX0_judge_64 fl0_338_9 (.inl rfl) o12 rfl ?_
        refine hx_callSi hX dX0_judge_67 (ct_X0_isAct (I v11 1) s rd J I _ hf) (lw_S q695 q696 q106 q697) np_X0_isAct rfl rfl ⟨Nat.le_of_ble_eq_true rfl, Nat.le_of_ble_eq_true rfl⟩ ⟨Nat.le_of_ble_eq_true rfl, Nat.le_of_ble_eq_true rfl⟩ (Nat.le_of_ble_eq_true rfl) ?_
        intro r13 S9 R9 J9 I9 hq
        clear hf
        obtain ⟨rfl, rfl, rfl, rfl, hf⟩ := hq
        refine hv_if_eq (tgt := 96) hX dX0_judge_70 (by decide) (fun c14 => ?_) (fun c14 => ?_)
        · replace hf := hf.1 c14
          refine hv_iload_n hX dX0_judge_96 rfl 2 rfl ?_
          refine hv_iconst (v := 1) hX icx_1 dX0_judge_97 ?_
          refine hv_iadd hX dX0_judge_98 ?_
          exact hx_iret hX hE dX0_judge_99 ⟨rfl, rfl, rfl, hf⟩
        · replace hf := hf.2 c14
          refine hv_aload_n hX dX0_judge_73 rfl 0 rfl ?_
          refine hx_getR (v := 1) hX dX0_judge_74 fl0_10_0 (xo_c (by decide) rfl) (xR_c rfl) ?_
          refine hv_aload_n hX dX0_judge_77 rfl 0 rfl ?_
          refine hx_getR (v := 97) hX dX0_judge_78 fl0_63_0 (xo_c (by decide) rfl) (xR_c rfl) ?_
          refine hv_aload_n hX dX0_judge_81 rfl 0 rfl ?_
          refine hx_getR (v := 99) hX dX0_judge_82 fl0_71_0 (xo_c (by decide) rfl) (xR_c rfl) ?_
          refine hv_iload_n hX dX0_judge_85 rfl 2 rfl ?_
          obtain ⟨g, hf⟩ := hf
          obtain ⟨v15, gv15, hf⟩ := hf
          refine hx_aald (v := v15) (a := 23) hX 7 rfl (by decide) dX0_judge_86 (xo_c (by decide) rfl) (xlen_c (by decide) rfl) g gv15 ?_
          obtain ⟨o16, hf⟩ := hf
          refine hx_getI (v := (I v15 1)) hX dX0_judge_87 fl0_338_9 (.inl rfl) o16 rfl ?_
          refine hx_callVi (ci := 1) (q := (RX1, TX1, 17)) hX dX0_judge_90 (ct_X1_takes 97 (I v15 1) s rd J I _ hf) (lw_V q698 q699 q700 q107 q701) rfl (by decide) ⟨rfl, np_X1_takes⟩ rfl (xo_c (by decide) rfl) rfl ⟨Nat.le_of_ble_eq_true rfl, Nat.le_of_ble_eq_true rfl⟩ ⟨Nat.le_of_ble_eq_true rfl, Nat.le_of_ble_eq_true rfl⟩ (Nat.le_of_ble_eq_true rfl) ?_
          intro r17 S9 R9 J9 I9 hq
          clear hf
          obtain ⟨rfl, rfl, rfl, rfl, hf⟩ := hq
          refine hv_if_ne (tgt := 100) hX dX0_judge_93 (by decide) (fun c18 => ?_) (fun c18 => ?_)
          · replace hf := hf.2 c18
            refine hv_aload_n hX dX0_judge_100 rfl 0 rfl ?_
            refine hx_getR (v := 1) hX dX0_judge_101 fl0_10_0 (xo_c (by decide) rfl) (xR_c rfl) ?_
            refine hv_aload_n hX dX0_judge_104 rfl 0 rfl ?_
            refine hx_getR (v := 97) hX dX0_judge_105 fl0_63_0 (xo_c (by decide) rfl) (xR_c rfl) ?_
            refine hv_aload_n hX dX0_judge_108 rfl 0 rfl ?_
            refine hx_getR (v := 99) hX dX0_judge_109 fl0_71_0 (xo_c (by decide) rfl) (xR_c rfl) ?_
            refine hv_iload_n hX dX0_judge_112 rfl 2 rfl ?_
            obtain ⟨g, hf⟩ := hf
            obtain ⟨v19, gv19, hf⟩ := hf
            refine hx_aald (v := v19) (a := 23) hX 7 rfl (by decide) dX0_judge_113 (xo_c (by decide) rfl) (xlen_c (by decide) rfl) g gv19 ?_
            obtain ⟨o20, hf⟩ := hf
            refine hx_getI (v := (I v19 1)) hX dX0_judge_114 fl0_338_9 (.inl rfl) o20 rfl ?_
            refine hx_callVv (ci := 1) (q := (RX1, TX1, 17)) hX dX0_judge_117 (ct_X1_does 97 (I v19 1) s rd J I _ hf) (lw_V q702 q703 q704 q107 q705) rfl (by decide) ⟨rfl, np_X1_does⟩ rfl (xo_c (by decide) rfl) rfl ⟨Nat.le_of_ble_eq_true rfl, Nat.le_of_ble_eq_true rfl⟩ ⟨Nat.le_of_ble_eq_true rfl, Nat.le_of_ble_eq_true rfl⟩ (Nat.le_of_ble_eq_true rfl) ?_
            intro  S9 R9 J9 I21 hq
            clear hf
            obtain ⟨rfl, rfl, rfl, hf⟩ := hq
            refine hv_iinc (v := (a2 + 1)) (loc2 := [(2, .int (a2 + 1)), (0, .ref 0), (1, .int a1)]) hX dX0_judge_120 2 rfl (congrArg (fun y => a2 + y) icx_1) hN (Nat.le_of_ble_eq_true rfl) rfl ?_
            refine hv_goto (tgt := 31) hX dX0_judge_123 (by decide) ?_
            refine hv_fewer [1, 2, 0] (loc2 := [(0, .ref 0), (1, .int a1), (2, .int (a2 + 1))]) rfl ?_
            exact ih _ _ _ _ _ _ rfl rfl rfl hf
          · replace hf := hf.1 c18
            refine hv_iload_n hX dX0_judge_96 rfl 2 rfl ?_
            refine hv_iconst (v := 1) hX icx_1 dX0_judge_97 ?_
            refine hv_iadd hX dX0_judge_98 ?_
            exact hx_iret hX hE dX0_judge_99 ⟨rfl, rfl, rfl, hf⟩
def x_X0_judge  (s : xS) (rd : xRd) (J : mJ) (I : mI) (Q : Int32 → mI → Prop) : Prop :=
  x_X3_all 10 s rd J I (fun r2 I1 => x_X2_become 97 10 s rd J I1 (fun I3 => ∃ n0 : Nat, x_X0_judge_l31 Q   n0 r2 0 s rd J I3))
theorem ct_X0_judge   (s : xS) (rd : xRd) (J : mJ) (I : mI) (Q : Int32 → mI → Prop) (hf : x_X0_judge  s rd J I Q) : hh_Ct yX0_judge cX0_judge 3 (some .int) 98 5422 [.ref 0] (hx s rd J I) (xQi (fun r9 S9 R9 J9 I9 => s = S9 ∧ rd = R9 ∧ J = J9 ∧ Q r9 I9)) 0 0 := by
  refine hh_Ct.of (own := RX0) rfl (by decide +kernel) (Nat.le_of_ble_eq_true rfl) ?_
  intro X hX hN hE
  show hh_V X 0 [(0, .ref 0)] [] 0 0 (hx s rd J I)
  unfold x_X0_judge at hf
  refine hv_aload_n hX dX0_judge_0 rfl 0 rfl ?_
  refine hx_getR (v := 23) hX dX0_judge_1 fl0_24_0 (xo_c (by decide) rfl) (xR_c rfl) ?_
  refine hv_aload_n hX dX0_judge_4 rfl 0 rfl ?_
  refine hx_getR (v := 1) hX dX0_judge_5 fl0_10_0 (xo_c (by decide) rfl) (xR_c rfl) ?_
  refine hx_getR (v := 10) hX dX0_judge_8 fl0_127_1 (xo_c (by decide) rfl) (xR_c rfl) ?_
  refine hx_callVi (ci := 3) (q := (RX3, TX3, 4)) hX dX0_judge_11 (ct_X3_all 10 s rd J I _ hf) (lw_V q722 q723 q724 q109 q725) rfl (by decide) ⟨rfl, np_X3_all⟩ rfl (xo_c (by decide) rfl) rfl ⟨Nat.le_of_ble_eq_true rfl, Nat.le_of_ble_eq_true rfl⟩ ⟨Nat.le_of_ble_eq_true rfl, Nat.le_of_ble_eq_true rfl⟩ (Nat.le_of_ble_eq_true rfl) ?_
  intro r2 S9 R9 J9 I1 hq
  clear hf
  obtain ⟨rfl, rfl, rfl, hf⟩ := hq
  refine hv_istore_n (loc2 := [(1, .int r2), (0, .ref 0)]) hX dX0_judge_14 rfl hN (Nat.le_of_ble_eq_true rfl) rfl ?_
  refine hv_aload_n hX dX0_judge_15 rfl 1 rfl ?_
  refine hx_getR (v := 97) hX dX0_judge_16 fl0_63_0 (xo_c (by decide) rfl) (xR_c rfl) ?_
  refine hv_aload_n hX dX0_judge_19 rfl 1 rfl ?_
  refine hx_getR (v := 1) hX dX0_judge_20 fl0_10_0 (xo_c (by decide) rfl) (xR_c rfl) ?_
  refine hx_getR (v := 10) hX dX0_judge_23 fl0_127_1 (xo_c (by decide) rfl) (xR_c rfl) ?_
  refine hx_callVv (ci := 2) (q := (RX2, TX2, 4)) hX dX0_judge_26 (ct_X2_become 97 10 s rd J I1 _ hf) (lw_V q1208 q748 q749 q108 q750) rfl (by decide) ⟨rfl, np_X2_become⟩ rfl (xo_c (by decide) rfl) rfl ⟨Nat.le_of_ble_eq_true rfl, Nat.le_of_ble_eq_true rfl⟩ ⟨Nat.le_of_ble_eq_true rfl, Nat.le_of_ble_eq_true rfl⟩ (Nat.le_of_ble_eq_true rfl) ?_
  intro  S9 R9 J9 I3 hq
  clear hf
  obtain ⟨rfl, rfl, rfl, hf⟩ := hq
  refine hv_iconst (v := 0) hX icx_0 dX0_judge_29 ?_
  refine hv_istore_n (loc2 := [(2, .int 0), (1, .int r2), (0, .ref 0)]) hX dX0_judge_30 rfl hN (Nat.le_of_ble_eq_true rfl) rfl ?_
  refine hv_fewer [2, 1, 0] (loc2 := [(0, .ref 0), (1, .int r2), (2, .int 0)]) rfl ?_
  obtain ⟨n0, hf⟩ := hf
  exact w_X0_judge_l31 hX hN hE  n0 _ _ _ _ _ _ rfl rfl rfl hf
/-! HungryHedge$Sheet.becomes(II)V -/
def x_X10_becomes (a0 : Nat) (a1 : Int32) (a2 : Int32) (s : xS) (rd : xRd) (J : mJ) (I : mI) (QX : Nat → xS → xRd → mJ → mI → Prop) (Q : xS → xRd → mJ → mI → Prop) : Prop :=
  (a1 = 0 →
    (a2 < 0 → QX 4 s rd J I) ∧ (¬ a2 < 0 → a2.toNatClampNeg ≤ 64 ∧ xnw s rd J I 101 a2.toNatClampNeg (fun q3 s4 rd5 J6 I7 => xo s4 a0 10 ∧ (xR0 a0 0 = none ∧ (Q s4 (u2 rd5 a0 0 (some q3)) J6 (u2 I7 a0 4 a1)))))) ∧ (¬ a1 = 0 →
    (a1 = 1 →
    (a2 < 0 → QX 4 s rd J I) ∧ (¬ a2 < 0 → a2.toNatClampNeg ≤ 64 ∧ xnw s rd J I 102 a2.toNatClampNeg (fun q12 s13 rd14 J15 I16 => xo s13 a0 10 ∧ (xR0 a0 1 = none ∧ (Q s13 (u2 rd14 a0 1 (some q12)) J15 (u2 I16 a0 4 a1)))))) ∧ (¬ a1 = 1 →
    (a1 = 2 →
    (a2 < 0 → QX 4 s rd J I) ∧ (¬ a2 < 0 → a2.toNatClampNeg ≤ 64 ∧ xnw s rd J I 100 a2.toNatClampNeg (fun q21 s22 rd23 J24 I25 => xo s22 a0 10 ∧ (xR0 a0 2 = none ∧ (Q s22 (u2 rd23 a0 2 (some q21)) J24 (u2 I25 a0 4 a1)))))) ∧ (¬ a1 = 2 →
    (a1 = 3 →
    (a2 < 0 → QX 4 s rd J I) ∧ (¬ a2 < 0 → a2.toNatClampNeg ≤ 64 ∧ xnw s rd J I 110 a2.toNatClampNeg (fun q30 s31 rd32 J33 I34 => xo s31 a0 10 ∧ (xR0 a0 3 = none ∧ (Q s31 (u2 rd32 a0 3 (some q30)) J33 (u2 I34 a0 4 a1)))))) ∧ (¬ a1 = 3 →
    xo s a0 10 ∧ (Q s rd J (u2 I a0 4 a1))))))
theorem ct_X10_becomes  (a0 : Nat) (a1 : Int32) (a2 : Int32) (s : xS) (rd : xRd) (J : mJ) (I : mI) (QX : Nat → xS → xRd → mJ → mI → Prop) (Q : xS → xRd → mJ → mI → Prop) (hf : x_X10_becomes a0 a1 a2 s rd J I QX Q) : hh_CtX yX10_becomes cX10_becomes 3 none 7 10319 [.ref a0, .int a1, .int a2] (hx s rd J I) (xQv (fun S9 R9 J9 I9 => Q S9 R9 J9 I9)) (xQX (fun c9 S9 R9 J9 I9 => QX c9 S9 R9 J9 I9)) 3 64 := by
  refine hh_CtX.of (own := RX10) rfl (by decide +kernel) (Nat.le_of_ble_eq_true rfl) ?_
  intro X hX hN hE hT
  show hh_V X 0 [(0, .ref a0), (1, .int a1), (2, .int a2)] [] 0 0 (hx s rd J I)
  unfold x_X10_becomes at hf
  refine hv_iload_n hX dX10_becomes_0 rfl 1 rfl ?_
  by_cases c1 : a1 = 0
  · replace hf := hf.1 c1
    refine hv_tswA (v := 0) (tgt := 32) (off := 31) hX dX10_becomes_1 c1 ⟨by decide, by decide, by decide⟩ (by decide) ?_
    refine hv_aload_n hX dX10_becomes_32 rfl 0 rfl ?_
    refine hv_iload_n hX dX10_becomes_33 rfl 2 rfl ?_
    by_cases c2 : a2 < 0
    · replace hf := hf.1 c2
      refine hv_newarrayZ hX c2 dX10_becomes_34 ⟨Nat.le_of_ble_eq_true rfl, Nat.le_of_ble_eq_true rfl⟩ ⟨Nat.le_of_ble_eq_true rfl, Nat.le_of_ble_eq_true rfl⟩ ?_
      exact hx_out (c := 4) hX hE hT ⟨Nat.le_of_ble_eq_true rfl, Nat.le_of_ble_eq_true rfl⟩ hf
    replace hf := hf.2 c2
    obtain ⟨g, hf⟩ := hf
    refine hx_newAr (atype := .byte) (a := 1) (N := a2.toNatClampNeg) hX 1 rfl (by decide) rfl (by decide) rfl q455 dX10_becomes_34 c2 rfl (hx_nby 1 (by decide) g) hf ⟨Nat.le_of_ble_eq_true rfl, Nat.le_trans (Nat.add_le_add_left g _) (Nat.le_of_ble_eq_true rfl)⟩ ?_
    intro q3 s4 rd5 J6 I7 hf o8 mono
    refine hv_widen (z' := 1) (k' := 64) (Nat.le_refl _) (Nat.add_le_add_left g _) ?_
    obtain ⟨o9, hf⟩ := hf
    obtain ⟨g, hf⟩ := hf
    refine hx_putO (v := (some q3)) hX dX10_becomes_36 fl10_13_10 o9 g ?_
    refine hv_goto (tgt := 72) hX dX10_becomes_39 (by decide) ?_
    refine hv_aload_n hX dX10_becomes_72 rfl 0 rfl ?_
    refine hv_iload_n hX dX10_becomes_73 rfl 1 rfl ?_
    refine hx_putI hX dX10_becomes_74 fl10_7_10 o9 ?_
    refine hv_widen (z' := 3) (k' := 64) (Nat.le_of_ble_eq_true rfl) (Nat.le_of_ble_eq_true rfl) ?_
    exact hv_xret hX hE (fun X hX hE => hx_vret hX hE dX10_becomes_77 hf)
  · replace hf := hf.2 c1
    by_cases c10 : a1 = 1
    · replace hf := hf.1 c10
      refine hv_tswA (v := 1) (tgt := 42) (off := 41) hX dX10_becomes_1 c10 ⟨by decide, by decide, by decide⟩ (by decide) ?_
      refine hv_aload_n hX dX10_becomes_42 rfl 0 rfl ?_
      refine hv_iload_n hX dX10_becomes_43 rfl 2 rfl ?_
      by_cases c11 : a2 < 0
      · replace hf := hf.1 c11
        refine hv_newarrayZ hX c11 dX10_becomes_44 ⟨Nat.le_of_ble_eq_true rfl, Nat.le_of_ble_eq_true rfl⟩ ⟨Nat.le_of_ble_eq_true rfl, Nat.le_of_ble_eq_true rfl⟩ ?_
        exact hx_out (c := 4) hX hE hT ⟨Nat.le_of_ble_eq_true rfl, Nat.le_of_ble_eq_true rfl⟩ hf
      replace hf := hf.2 c11
      obtain ⟨g, hf⟩ := hf
      refine hx_newAr (atype := .short) (a := 2) (N := a2.toNatClampNeg) hX 2 rfl (by decide) rfl (by decide) rfl q1260 dX10_becomes_44 c11 rfl (hx_nby 2 (by decide) g) hf ⟨Nat.le_of_ble_eq_true rfl, Nat.le_trans (Nat.add_le_add_left g _) (Nat.le_of_ble_eq_true rfl)⟩ ?_
      intro q12 s13 rd14 J15 I16 hf o17 mono
      refine hv_widen (z' := 1) (k' := 64) (Nat.le_refl _) (Nat.add_le_add_left g _) ?_
      obtain ⟨o18, hf⟩ := hf
      obtain ⟨g, hf⟩ := hf
      refine hx_putO (v := (some q12)) hX dX10_becomes_46 fl10_17_10 o18 g ?_
      refine hv_goto (tgt := 72) hX dX10_becomes_49 (by decide) ?_
      refine hv_aload_n hX dX10_becomes_72 rfl 0 rfl ?_
      refine hv_iload_n hX dX10_becomes_73 rfl 1 rfl ?_
      refine hx_putI hX dX10_becomes_74 fl10_7_10 o18 ?_
      refine hv_widen (z' := 3) (k' := 64) (Nat.le_of_ble_eq_true rfl) (Nat.le_of_ble_eq_true rfl) ?_
      exact hv_xret hX hE (fun X hX hE => hx_vret hX hE dX10_becomes_77 hf)
    · replace hf := hf.2 c10
      by_cases c19 : a1 = 2
      · replace hf := hf.1 c19
        refine hv_tswA (v := 2) (tgt := 52) (off := 51) hX dX10_becomes_1 c19 ⟨by decide, by decide, by decide⟩ (by decide) ?_
        refine hv_aload_n hX dX10_becomes_52 rfl 0 rfl ?_
        refine hv_iload_n hX dX10_becomes_53 rfl 2 rfl ?_
        by_cases c20 : a2 < 0
        · replace hf := hf.1 c20
          refine hv_newarrayZ hX c20 dX10_becomes_54 ⟨Nat.le_of_ble_eq_true rfl, Nat.le_of_ble_eq_true rfl⟩ ⟨Nat.le_of_ble_eq_true rfl, Nat.le_of_ble_eq_true rfl⟩ ?_
          exact hx_out (c := 4) hX hE hT ⟨Nat.le_of_ble_eq_true rfl, Nat.le_of_ble_eq_true rfl⟩ hf
        replace hf := hf.2 c20
        obtain ⟨g, hf⟩ := hf
        refine hx_newAr (atype := .int) (a := 0) (N := a2.toNatClampNeg) hX 0 rfl (by decide) rfl (by decide) rfl q196 dX10_becomes_54 c20 rfl (hx_nby 0 (by decide) g) hf ⟨Nat.le_of_ble_eq_true rfl, Nat.le_trans (Nat.add_le_add_left g _) (Nat.le_of_ble_eq_true rfl)⟩ ?_
        intro q21 s22 rd23 J24 I25 hf o26 mono
        refine hv_widen (z' := 1) (k' := 64) (Nat.le_refl _) (Nat.add_le_add_left g _) ?_
        obtain ⟨o27, hf⟩ := hf
        obtain ⟨g, hf⟩ := hf
        refine hx_putO (v := (some q21)) hX dX10_becomes_56 fl10_21_10 o27 g ?_
        refine hv_goto (tgt := 72) hX dX10_becomes_59 (by decide) ?_
        refine hv_aload_n hX dX10_becomes_72 rfl 0 rfl ?_
        refine hv_iload_n hX dX10_becomes_73 rfl 1 rfl ?_
        refine hx_putI hX dX10_becomes_74 fl10_7_10 o27 ?_
        refine hv_widen (z' := 3) (k' := 64) (Nat.le_of_ble_eq_true rfl) (Nat.le_of_ble_eq_true rfl) ?_
        exact hv_xret hX hE (fun X hX hE => hx_vret hX hE dX10_becomes_77 hf)
      · replace hf := hf.2 c19
        by_cases c28 : a1 = 3
        · replace hf := hf.1 c28
          refine hv_tswA (v := 3) (tgt := 62) (off := 61) hX dX10_becomes_1 c28 ⟨by decide, by decide, by decide⟩ (by decide) ?_
          refine hv_aload_n hX dX10_becomes_62 rfl 0 rfl ?_
          refine hv_iload_n hX dX10_becomes_63 rfl 2 rfl ?_
          by_cases c29 : a2 < 0
          · replace hf := hf.1 c29
            refine hv_newarrayZ hX c29 dX10_becomes_64 ⟨Nat.le_of_ble_eq_true rfl, Nat.le_of_ble_eq_true rfl⟩ ⟨Nat.le_of_ble_eq_true rfl, Nat.le_of_ble_eq_true rfl⟩ ?_
            exact hx_out (c := 4) hX hE hT ⟨Nat.le_of_ble_eq_true rfl, Nat.le_of_ble_eq_true rfl⟩ hf
          replace hf := hf.2 c29
          obtain ⟨g, hf⟩ := hf
          refine hx_newAr (atype := .long) (a := 10) (N := a2.toNatClampNeg) hX 3 rfl (by decide) rfl (by decide) rfl q341 dX10_becomes_64 c29 rfl (hx_nby 10 (by decide) g) hf ⟨Nat.le_of_ble_eq_true rfl, Nat.le_trans (Nat.add_le_add_left g _) (Nat.le_of_ble_eq_true rfl)⟩ ?_
          intro q30 s31 rd32 J33 I34 hf o35 mono
          refine hv_widen (z' := 1) (k' := 64) (Nat.le_refl _) (Nat.add_le_add_left g _) ?_
          obtain ⟨o36, hf⟩ := hf
          obtain ⟨g, hf⟩ := hf
          refine hx_putO (v := (some q30)) hX dX10_becomes_66 fl10_25_10 o36 g ?_
          refine hv_goto (tgt := 72) hX dX10_becomes_69 (by decide) ?_
          refine hv_aload_n hX dX10_becomes_72 rfl 0 rfl ?_
          refine hv_iload_n hX dX10_becomes_73 rfl 1 rfl ?_
          refine hx_putI hX dX10_becomes_74 fl10_7_10 o36 ?_
          refine hv_widen (z' := 3) (k' := 64) (Nat.le_of_ble_eq_true rfl) (Nat.le_of_ble_eq_true rfl) ?_
          exact hv_xret hX hE (fun X hX hE => hx_vret hX hE dX10_becomes_77 hf)
        · replace hf := hf.2 c28
          refine hv_tswO (tgt := 72) hX dX10_becomes_1 (by have z0 := lv_neT c1 (a := 0) (by decide); have z1 := lv_neT c10 (a := 1) (by decide); have z2 := lv_neT c19 (a := 2) (by decide); have z3 := lv_neT c28 (a := 3) (by decide); omega) (by decide) ?_
          refine hv_aload_n hX dX10_becomes_72 rfl 0 rfl ?_
          refine hv_iload_n hX dX10_becomes_73 rfl 1 rfl ?_
          obtain ⟨o37, hf⟩ := hf
          refine hx_putI hX dX10_becomes_74 fl10_7_10 o37 ?_
          refine hv_widen (z' := 3) (k' := 64) (Nat.le_of_ble_eq_true rfl) (Nat.le_of_ble_eq_true rfl) ?_
          exact hv_xret hX hE (fun X hX hE => hx_vret hX hE dX10_becomes_77 hf)
/-! HungryHedge.sheet(III)I -/
def x_X0_sheet_j28 (Q : Int32 → xS → xRd → mJ → mI → Prop) (a1 : Int32) (a2 : Int32) (a3 : Int32) (s : xS) (rd : xRd) (J : mJ) (I : mI) : Prop :=
  vp_in a1 4 ∧ (∃ v6 : Nat, xR rd 120 a1.toNatClampNeg = some v6 ∧ (xo s v6 10 ∧ (x_X10_becomes v6 a2 a3 s rd J I (fun c16 s12 rd13 J14 I15 => (c16 = 4 ∧ (Q (-14) s12 rd13 J14 I15))) (fun s7 rd8 J9 I10 => Q 1 s7 rd8 J9 I10))))
theorem w_X0_sheet_j28 {X : hh_CX}  {Q : Int32 → xS → xRd → mJ → mI → Prop} (hX : hh_C X cX0_sheet RX0 (hrx 8 10341 3 64)) (hN : hh_nL X = 5) (hE : hh_E X (some .int) (xQi (fun r9 S9 R9 J9 I9 => Q r9 S9 R9 J9 I9)) 3 64) (hT : hh_XT X (tableOf [((28 : Nat), (40 : Nat), (41 : Nat), (354 : Nat))])) : ∀ (a1 : Int32) (a2 : Int32) (a3 : Int32) (s : xS) (rd : xRd) (J : mJ) (I : mI), x_X0_sheet_j28 Q  a1 a2 a3 s rd J I → hh_V X 28 [(0, .ref 0), (1, .int a1), (2, .int a2), (3, .int a3)] [] 0 0 (hx s rd J I) := by
  intro a1 a2 a3 s rd J I  hf
  unfold x_X0_sheet_j28 at hf
  refine hv_aload_n hX dX0_sheet_28 rfl 0 rfl ?_
  refine hx_getR (v := 120) hX dX0_sheet_29 fl0_78_0 (xo_c (by decide) rfl) (xR_c rfl) ?_
  refine hv_iload_n hX dX0_sheet_32 rfl 1 rfl ?_
  obtain ⟨g, hf⟩ := hf
  obtain ⟨v6, gv6, hf⟩ := hf
  refine hx_aald (v := v6) (a := 24) hX 8 rfl (by decide) dX0_sheet_33 (xo_c (by decide) rfl) (xlen_c (by decide) rfl) g gv6 ?_
  refine hv_iload_n hX dX0_sheet_34 rfl 2 rfl ?_
  refine hv_iload_n hX dX0_sheet_35 rfl 3 rfl ?_
  obtain ⟨o11, hf⟩ := hf
  refine hx_callVXv (ci := 10) (q := (RX10, TX10, 5)) hX dX0_sheet_36 (ct_X10_becomes v6 a2 a3 s rd J I _ _ hf) (lw_V q1256 q1257 q1258 q119 q1259) rfl (by decide) ⟨rfl, np_X10_becomes⟩ rfl o11 rfl ⟨Nat.le_of_ble_eq_true rfl, Nat.le_of_ble_eq_true rfl⟩ ⟨Nat.le_of_ble_eq_true rfl, Nat.le_of_ble_eq_true rfl⟩ (Nat.le_of_ble_eq_true rfl) ?_ ?_
  · intro c16 s12 rd13 J14 I15 hq
    clear hf
    have hf := hq
    rcases hf with ⟨rfl, hf⟩
    · skip
      refine ht_catch0 (i := 4) (loc2 := [(0, .ref 0), (1, .int a1), (2, .int a2), (3, .int a3)]) hX hN hT (⟨28, 40, 41, 354⟩ : ExceptionTableEntry) (ht_takes.here (by decide) (by decide) q1242 (hh_nwm q1254 rfl)) (.inr ⟨dX0_sheet_41, rfl⟩) (Nat.le_of_ble_eq_true rfl) rfl ?_
      refine hv_bipush (v := (-14)) hX bix_m14 dX0_sheet_43 ?_
      exact hx_iret hX hE dX0_sheet_45 hf
  intro  s7 rd8 J9 I10 hq
  clear hf
  have hf := hq
  refine hv_iconst (v := 1) hX icx_1 dX0_sheet_39 ?_
  exact hx_iret hX hE dX0_sheet_40 hf
def x_X0_sheet (a1 : Int32) (a2 : Int32) (a3 : Int32) (s : xS) (rd : xRd) (J : mJ) (I : mI) (Q : Int32 → xS → xRd → mJ → mI → Prop) : Prop :=
  x_X0_isSheet a1 s rd J I (fun r1 => (r1 = 0 →
    Q (-1) s rd J I) ∧ (¬ r1 = 0 →
    x_X0_in a2 (-1) 3 s rd J I (fun r3 => (r3 = 0 →
      Q (-1) s rd J I) ∧ (¬ r3 = 0 →
      (a2 < 0 →
        x_X0_sheet_j28 Q   a1 a2 a3 s rd J I) ∧ (¬ a2 < 0 →
        (a3 ≤ 40 →
          x_X0_sheet_j28 Q   a1 a2 a3 s rd J I) ∧ (¬ a3 ≤ 40 →
          Q (-1) s rd J I))))))
theorem ct_X0_sheet  (a1 : Int32) (a2 : Int32) (a3 : Int32) (s : xS) (rd : xRd) (J : mJ) (I : mI) (Q : Int32 → xS → xRd → mJ → mI → Prop) (hf : x_X0_sheet a1 a2 a3 s rd J I Q) : hh_CtW yX0_sheet cX0_sheet 5 (some .int) [((28 : Nat), (40 : Nat), (41 : Nat), (354 : Nat))] 8 10341 [.ref 0, .int a1, .int a2, .int a3] (hx s rd J I) (xQi (fun r9 S9 R9 J9 I9 => Q r9 S9 R9 J9 I9)) 3 64 := by
  refine hh_CtW.of (own := RX0) rfl (by decide +kernel) (Nat.le_of_ble_eq_true rfl) ?_
  intro X hX hN hE hT
  show hh_V X 0 [(0, .ref 0), (1, .int a1), (2, .int a2), (3, .int a3)] [] 0 0 (hx s rd J I)
  unfold x_X0_sheet at hf
  refine hv_iload_n hX dX0_sheet_0 rfl 1 rfl ?_
  refine hx_callSi hX dX0_sheet_1 (ct_X0_isSheet a1 s rd J I _ hf) (lw_S q873 q874 q106 q875) np_X0_isSheet rfl rfl ⟨Nat.le_of_ble_eq_true rfl, Nat.le_of_ble_eq_true rfl⟩ ⟨Nat.le_of_ble_eq_true rfl, Nat.le_of_ble_eq_true rfl⟩ (Nat.le_of_ble_eq_true rfl) ?_
  intro r1 S9 R9 J9 I9 hq
  clear hf
  obtain ⟨rfl, rfl, rfl, rfl, hf⟩ := hq
  refine hv_if_eq (tgt := 26) hX dX0_sheet_4 (by decide) (fun c2 => ?_) (fun c2 => ?_)
  · replace hf := hf.1 c2
    refine hv_iconst (v := (-1)) hX icx_m1 dX0_sheet_26 ?_
    refine hv_widen (z' := 3) (k' := 64) (Nat.le_of_ble_eq_true rfl) (Nat.le_of_ble_eq_true rfl) ?_
    exact hx_iret hX hE dX0_sheet_27 hf
  · replace hf := hf.2 c2
    refine hv_iload_n hX dX0_sheet_7 rfl 2 rfl ?_
    refine hv_iconst (v := (-1)) hX icx_m1 dX0_sheet_8 ?_
    refine hv_iconst (v := 3) hX icx_3 dX0_sheet_9 ?_
    refine hx_callSi hX dX0_sheet_10 (ct_X0_in a2 (-1) 3 s rd J I _ hf) (lw_S q649 q650 q106 q651) np_X0_in rfl rfl ⟨Nat.le_of_ble_eq_true rfl, Nat.le_of_ble_eq_true rfl⟩ ⟨Nat.le_of_ble_eq_true rfl, Nat.le_of_ble_eq_true rfl⟩ (Nat.le_of_ble_eq_true rfl) ?_
    intro r3 S9 R9 J9 I9 hq
    clear hf
    obtain ⟨rfl, rfl, rfl, rfl, hf⟩ := hq
    refine hv_if_eq (tgt := 26) hX dX0_sheet_13 (by decide) (fun c4 => ?_) (fun c4 => ?_)
    · replace hf := hf.1 c4
      refine hv_iconst (v := (-1)) hX icx_m1 dX0_sheet_26 ?_
      refine hv_widen (z' := 3) (k' := 64) (Nat.le_of_ble_eq_true rfl) (Nat.le_of_ble_eq_true rfl) ?_
      exact hx_iret hX hE dX0_sheet_27 hf
    · replace hf := hf.2 c4
      refine hv_iload_n hX dX0_sheet_16 rfl 2 rfl ?_
      refine hv_if_lt (tgt := 28) hX dX0_sheet_17 (by decide) (fun c5 => ?_) (fun c5 => ?_)
      · replace hf := hf.1 c5
        exact w_X0_sheet_j28 hX hN hE hT  _ _ _ _ _ _ _ hf
      · replace hf := hf.2 c5
        refine hv_iload_n hX dX0_sheet_20 rfl 3 rfl ?_
        refine hv_bipush (v := 40) hX bix_40 dX0_sheet_21 ?_
        refine hv_icmp_le (tgt := 28) hX dX0_sheet_23 (by decide) (fun c17 => ?_) (fun c17 => ?_)
        · replace hf := hf.1 c17
          exact w_X0_sheet_j28 hX hN hE hT  _ _ _ _ _ _ _ hf
        · replace hf := hf.2 c17
          refine hv_iconst (v := (-1)) hX icx_m1 dX0_sheet_26 ?_
          refine hv_widen (z' := 3) (k' := 64) (Nat.le_of_ble_eq_true rfl) (Nat.le_of_ble_eq_true rfl) ?_
          exact hx_iret hX hE dX0_sheet_27 hf
/-! HungryHedge.lengthOf(Ljava/lang/Object;)I -/
def x_X0_lengthOf (a0 : Nat) (s : xS) (rd : xRd) (J : mJ) (I : mI) (Q : Int32 → Prop) : Prop :=
  (xo s a0 100 ∧ (Q (nI (xlen s a0)) )) ∨ (xo s a0 101 ∧ (Q (nI (xlen s a0)) )) ∨ (xo s a0 102 ∧ (Q (nI (xlen s a0)) )) ∨ (xo s a0 110 ∧ (Q (nI (xlen s a0)) ))
theorem ct_X0_lengthOf  (a0 : Nat) (s : xS) (rd : xRd) (J : mJ) (I : mI) (Q : Int32 → Prop) (hf : x_X0_lengthOf a0 s rd J I Q) : hh_Ct yX0_lengthOf cX0_lengthOf 1 (some .int) 0 0 [.ref a0] (hx s rd J I) (xQi (fun r9 S9 R9 J9 I9 => s = S9 ∧ rd = R9 ∧ J = J9 ∧ I = I9 ∧ Q r9)) 0 0 := by
  refine hh_Ct.of (own := RX0) rfl (by decide +kernel) (Nat.le_of_ble_eq_true rfl) ?_
  intro X hX hN hE
  show hh_V X 0 [(0, .ref a0)] [] 0 0 (hx s rd J I)
  unfold x_X0_lengthOf at hf
  refine hv_aload_n hX dX0_lengthOf_0 rfl 0 rfl ?_
  rcases hf with ⟨o1, hf⟩ | ⟨o1, hf⟩ | ⟨o1, hf⟩ | ⟨o1, hf⟩
  · skip
    refine hx_instNo hX q905 o1 isC_100 (by decide) dX0_lengthOf_1 ?_
    refine hv_if_eq (tgt := 13) hX dX0_lengthOf_4 (by decide) (fun c2 => ?_) (fun c2 => ?_)
    · skip
      refine hv_aload_n hX dX0_lengthOf_13 rfl 0 rfl ?_
      refine hx_instNo hX q884 o1 isC_100 (by decide) dX0_lengthOf_14 ?_
      refine hv_if_eq (tgt := 26) hX dX0_lengthOf_17 (by decide) (fun c3 => ?_) (fun c3 => ?_)
      · skip
        refine hv_aload_n hX dX0_lengthOf_26 rfl 0 rfl ?_
        refine hx_instNo hX q1272 o1 isC_100 (by decide) dX0_lengthOf_27 ?_
        refine hv_if_eq (tgt := 41) hX dX0_lengthOf_30 (by decide) (fun c4 => ?_) (fun c4 => ?_)
        · skip
          refine hv_aload_n hX dX0_lengthOf_41 rfl 0 rfl ?_
          refine hx_cast hX q1273 o1 isC_100 (.inl rfl) dX0_lengthOf_42 ?_
          refine hx_alen (v := nI (xlen s a0)) hX 0 rfl dX0_lengthOf_45 o1 rfl ?_
          exact hx_iret hX hE dX0_lengthOf_46 ⟨rfl, rfl, rfl, rfl, hf⟩
        · exact absurd c4 (by decide)
      · exact absurd c3 (by decide)
    · exact absurd c2 (by decide)
  · skip
    refine hx_instY hX q905 o1 isC_101 (.inl rfl) dX0_lengthOf_1 ?_
    refine hv_if_eq (tgt := 13) hX dX0_lengthOf_4 (by decide) (fun c5 => ?_) (fun c5 => ?_)
    · exact absurd c5 (by decide)
    · skip
      refine hv_aload_n hX dX0_lengthOf_7 rfl 0 rfl ?_
      refine hx_cast hX q905 o1 isC_101 (.inl rfl) dX0_lengthOf_8 ?_
      refine hx_alen (v := nI (xlen s a0)) hX 1 rfl dX0_lengthOf_11 o1 rfl ?_
      exact hx_iret hX hE dX0_lengthOf_12 ⟨rfl, rfl, rfl, rfl, hf⟩
  · skip
    refine hx_instNo hX q905 o1 isC_102 (by decide) dX0_lengthOf_1 ?_
    refine hv_if_eq (tgt := 13) hX dX0_lengthOf_4 (by decide) (fun c6 => ?_) (fun c6 => ?_)
    · skip
      refine hv_aload_n hX dX0_lengthOf_13 rfl 0 rfl ?_
      refine hx_instY hX q884 o1 isC_102 (.inl rfl) dX0_lengthOf_14 ?_
      refine hv_if_eq (tgt := 26) hX dX0_lengthOf_17 (by decide) (fun c7 => ?_) (fun c7 => ?_)
      · exact absurd c7 (by decide)
      · skip
        refine hv_aload_n hX dX0_lengthOf_20 rfl 0 rfl ?_
        refine hx_cast hX q884 o1 isC_102 (.inl rfl) dX0_lengthOf_21 ?_
        refine hx_alen (v := nI (xlen s a0)) hX 2 rfl dX0_lengthOf_24 o1 rfl ?_
        exact hx_iret hX hE dX0_lengthOf_25 ⟨rfl, rfl, rfl, rfl, hf⟩
    · exact absurd c6 (by decide)
  · skip
    refine hx_instNo hX q905 o1 isC_110 (by decide) dX0_lengthOf_1 ?_
    refine hv_if_eq (tgt := 13) hX dX0_lengthOf_4 (by decide) (fun c8 => ?_) (fun c8 => ?_)
    · skip
      refine hv_aload_n hX dX0_lengthOf_13 rfl 0 rfl ?_
      refine hx_instNo hX q884 o1 isC_110 (by decide) dX0_lengthOf_14 ?_
      refine hv_if_eq (tgt := 26) hX dX0_lengthOf_17 (by decide) (fun c9 => ?_) (fun c9 => ?_)
      · skip
        refine hv_aload_n hX dX0_lengthOf_26 rfl 0 rfl ?_
        refine hx_instY hX q1272 o1 isC_110 (.inl rfl) dX0_lengthOf_27 ?_
        refine hv_if_eq (tgt := 41) hX dX0_lengthOf_30 (by decide) (fun c10 => ?_) (fun c10 => ?_)
        · exact absurd c10 (by decide)
        · skip
          refine hv_aload_n hX dX0_lengthOf_33 rfl 0 rfl ?_
          refine hx_cast hX q1272 o1 isC_110 (.inl rfl) dX0_lengthOf_34 ?_
          refine hx_alen (v := nI (xlen s a0)) hX 3 rfl dX0_lengthOf_37 o1 rfl ?_
          refine hv_goto (tgt := 46) hX dX0_lengthOf_38 (by decide) ?_
          exact hx_iret hX hE dX0_lengthOf_46 ⟨rfl, rfl, rfl, rfl, hf⟩
      · exact absurd c9 (by decide)
    · exact absurd c8 (by decide)
/-! HungryHedge.within(II)V -/
def x_X0_within_j9 (QX : Nat → Prop) (Q : Prop)  (s : xS) (rd : xRd) (J : mJ) (I : mI) : Prop :=
  QX 0 
theorem w_X0_within_j9 {X : hh_CX} {S0 : xS} {R0 : xRd} {J0 : mJ} {I0 : mI} {QX : Nat → Prop} {Q : Prop} (hX : hh_C X cX0_within RX0 (hrx 0 0 0 0)) (hN : hh_nL X = 3) (hE : hh_EX X none (xQv (fun S9 R9 J9 I9 => S0 = S9 ∧ R0 = R9 ∧ J0 = J9 ∧ I0 = I9 ∧ Q)) (xQX (fun c9 S9 R9 J9 I9 => S0 = S9 ∧ R0 = R9 ∧ J0 = J9 ∧ I0 = I9 ∧ QX c9)) 0 0) (hT : hh_XT X []) : ∀  (s : xS) (rd : xRd) (J : mJ) (I : mI), s = S0 → rd = R0 → J = J0 → I = I0 → x_X0_within_j9 QX Q   s rd J I → hh_V X 9 [(0, .ref 0)] [] 0 0 (hx s rd J I) := by
  intro  s rd J I e0 e1 e2 e3 hf
  subst e0
  subst e1
  subst e2
  subst e3
  unfold x_X0_within_j9 at hf
  refine hv_aload_n hX dX0_within_9 rfl 0 rfl ?_
  refine hx_getR (v := 125) hX dX0_within_10 fl0_85_0 (xo_c (by decide) rfl) (xR_c rfl) ?_
  refine hx_athrow (ci := 11) (c := 0) (q := (RX11, TX11, 6)) hX rfl (by decide) (xo_c (by decide) rfl) rfl dX0_within_13 ?_
  exact hx_out (c := 0) hX hE hT ⟨Nat.le_of_ble_eq_true rfl, Nat.le_of_ble_eq_true rfl⟩ ⟨rfl, rfl, rfl, rfl, hf⟩
def x_X0_within (a1 : Int32) (a2 : Int32) (s : xS) (rd : xRd) (J : mJ) (I : mI) (QX : Nat → Prop) (Q : Prop) : Prop :=
  (a1 < 0 →
    x_X0_within_j9 QX Q    s rd J I) ∧ (¬ a1 < 0 →
    (a1 < a2 →
      Q ) ∧ (¬ a1 < a2 →
      x_X0_within_j9 QX Q    s rd J I))
theorem ct_X0_within  (a1 : Int32) (a2 : Int32) (s : xS) (rd : xRd) (J : mJ) (I : mI) (QX : Nat → Prop) (Q : Prop) (hf : x_X0_within a1 a2 s rd J I QX Q) : hh_CtX yX0_within cX0_within 3 none 0 0 [.ref 0, .int a1, .int a2] (hx s rd J I) (xQv (fun S9 R9 J9 I9 => s = S9 ∧ rd = R9 ∧ J = J9 ∧ I = I9 ∧ Q)) (xQX (fun c9 S9 R9 J9 I9 => s = S9 ∧ rd = R9 ∧ J = J9 ∧ I = I9 ∧ QX c9)) 0 0 := by
  refine hh_CtX.of (own := RX0) rfl (by decide +kernel) (Nat.le_of_ble_eq_true rfl) ?_
  intro X hX hN hE hT
  show hh_V X 0 [(0, .ref 0), (1, .int a1), (2, .int a2)] [] 0 0 (hx s rd J I)
  unfold x_X0_within at hf
  refine hv_iload_n hX dX0_within_0 rfl 1 rfl ?_
  refine hv_if_lt (tgt := 9) hX dX0_within_1 (by decide) (fun c1 => ?_) (fun c1 => ?_)
  · replace hf := hf.1 c1
    refine hv_fewer [0] (loc2 := [(0, .ref 0)]) rfl ?_
    exact w_X0_within_j9 hX hN hE hT   _ _ _ _ rfl rfl rfl rfl hf
  · replace hf := hf.2 c1
    refine hv_iload_n hX dX0_within_4 rfl 1 rfl ?_
    refine hv_iload_n hX dX0_within_5 rfl 2 rfl ?_
    refine hv_icmp_lt (tgt := 14) hX dX0_within_6 (by decide) (fun c2 => ?_) (fun c2 => ?_)
    · replace hf := hf.1 c2
      exact hv_xret hX hE (fun X hX hE => hx_vret hX hE dX0_within_14 ⟨rfl, rfl, rfl, rfl, hf⟩)
    · replace hf := hf.2 c2
      refine hv_fewer [0] (loc2 := [(0, .ref 0)]) rfl ?_
      exact w_X0_within_j9 hX hN hE hT   _ _ _ _ rfl rfl rfl rfl hf
/-! HungryHedge.set(Ljava/lang/Object;II)V -/
def x_X0_set (a1 : Nat) (a2 : Int32) (a3 : Int32) (s : xS) (rd : xRd) (J : mJ) (I : mI) (QX : Nat → mJ → mI → Prop) (Q : mJ → mI → Prop) : Prop :=
  x_X0_lengthOf a1 s rd J I (fun r1 => x_X0_within a2 r1 s rd J I (fun c2  => QX c2 J I) ((xo s a1 100 ∧ (vp_in a2 (xlen s a1) ∧ (Q J (u2 I a1 a2.toNatClampNeg a3)))) ∨ (xo s a1 101 ∧ (vp_in a2 (xlen s a1) ∧ (Q J (u2 I a1 a2.toNatClampNeg (vp_nar .byte (a3.toInt8.toInt32)))))) ∨ (xo s a1 102 ∧ (vp_in a2 (xlen s a1) ∧ (Q J (u2 I a1 a2.toNatClampNeg (vp_nar .short (a3.toInt16.toInt32)))))) ∨ (xo s a1 110 ∧ (vp_in a2 (xlen s a1) ∧ (Q (u2 J a1 a2.toNatClampNeg (a3.toInt64)) I)))))
theorem ct_X0_set  (a1 : Nat) (a2 : Int32) (a3 : Int32) (s : xS) (rd : xRd) (J : mJ) (I : mI) (QX : Nat → mJ → mI → Prop) (Q : mJ → mI → Prop) (hf : x_X0_set a1 a2 a3 s rd J I QX Q) : hh_CtX yX0_set cX0_set 4 none 1 22 [.ref 0, .ref a1, .int a2, .int a3] (hx s rd J I) (xQv (fun S9 R9 J9 I9 => s = S9 ∧ rd = R9 ∧ Q J9 I9)) (xQX (fun c9 S9 R9 J9 I9 => s = S9 ∧ rd = R9 ∧ QX c9 J9 I9)) 0 0 := by
  refine hh_CtX.of (own := RX0) rfl (by decide +kernel) (Nat.le_of_ble_eq_true rfl) ?_
  intro X hX hN hE hT
  show hh_V X 0 [(0, .ref 0), (1, .ref a1), (2, .int a2), (3, .int a3)] [] 0 0 (hx s rd J I)
  unfold x_X0_set at hf
  refine hv_aload_n hX dX0_set_0 rfl 0 rfl ?_
  refine hv_iload_n hX dX0_set_1 rfl 2 rfl ?_
  refine hv_aload_n hX dX0_set_2 rfl 1 rfl ?_
  refine hx_callSi hX dX0_set_3 (ct_X0_lengthOf a1 s rd J I _ hf) (lw_S q1269 q1270 q106 q1271) np_X0_lengthOf rfl rfl ⟨Nat.le_of_ble_eq_true rfl, Nat.le_of_ble_eq_true rfl⟩ ⟨Nat.le_of_ble_eq_true rfl, Nat.le_of_ble_eq_true rfl⟩ (Nat.le_of_ble_eq_true rfl) ?_
  intro r1 S9 R9 J9 I9 hq
  clear hf
  obtain ⟨rfl, rfl, rfl, rfl, hf⟩ := hq
  refine hx_callVXv (ci := 0) (q := (RX0, TX0, 19)) hX dX0_set_6 (ct_X0_within a2 r1 s rd J I _ _ hf) (lw_V q1274 q1276 qs38 q106 q1277) rfl (by decide) ⟨rfl, np_X0_within⟩ rfl (xo_c (by decide) rfl) rfl ⟨Nat.le_of_ble_eq_true rfl, Nat.le_of_ble_eq_true rfl⟩ ⟨Nat.le_of_ble_eq_true rfl, Nat.le_of_ble_eq_true rfl⟩ (Nat.le_of_ble_eq_true rfl) ?_ ?_
  · intro c2 S9 R9 J9 I9 hq
    clear hf
    obtain ⟨rfl, rfl, rfl, rfl, hf⟩ := hq
    exact hx_out (c := c2) hX hE hT ⟨Nat.le_of_ble_eq_true rfl, Nat.le_of_ble_eq_true rfl⟩ ⟨rfl, rfl, hf⟩
  intro  S9 R9 J9 I9 hq
  clear hf
  obtain ⟨rfl, rfl, rfl, rfl, hf⟩ := hq
  refine hv_aload_n hX dX0_set_9 rfl 1 rfl ?_
  rcases hf with ⟨o3, hf⟩ | ⟨o3, hf⟩ | ⟨o3, hf⟩ | ⟨o3, hf⟩
  · skip
    refine hx_instNo hX q905 o3 isC_100 (by decide) dX0_set_10 ?_
    refine hv_if_eq (tgt := 27) hX dX0_set_13 (by decide) (fun c4 => ?_) (fun c4 => ?_)
    · skip
      refine hv_aload_n hX dX0_set_27 rfl 1 rfl ?_
      refine hx_instNo hX q884 o3 isC_100 (by decide) dX0_set_28 ?_
      refine hv_if_eq (tgt := 45) hX dX0_set_31 (by decide) (fun c5 => ?_) (fun c5 => ?_)
      · skip
        refine hv_aload_n hX dX0_set_45 rfl 1 rfl ?_
        refine hx_instNo hX q1272 o3 isC_100 (by decide) dX0_set_46 ?_
        refine hv_if_eq (tgt := 63) hX dX0_set_49 (by decide) (fun c6 => ?_) (fun c6 => ?_)
        · skip
          refine hv_aload_n hX dX0_set_63 rfl 1 rfl ?_
          refine hx_cast hX q1273 o3 isC_100 (.inl rfl) dX0_set_64 ?_
          refine hv_iload_n hX dX0_set_67 rfl 2 rfl ?_
          refine hv_iload_n hX dX0_set_68 rfl 3 rfl ?_
          obtain ⟨g, hf⟩ := hf
          refine hx_iast hX dX0_set_69 o3 rfl g ?_
          exact hv_xret hX hE (fun X hX hE => hx_vret hX hE dX0_set_70 ⟨rfl, rfl, hf⟩)
        · exact absurd c6 (by decide)
      · exact absurd c5 (by decide)
    · exact absurd c4 (by decide)
  · skip
    refine hx_instY hX q905 o3 isC_101 (.inl rfl) dX0_set_10 ?_
    refine hv_if_eq (tgt := 27) hX dX0_set_13 (by decide) (fun c7 => ?_) (fun c7 => ?_)
    · exact absurd c7 (by decide)
    · skip
      refine hv_aload_n hX dX0_set_16 rfl 1 rfl ?_
      refine hx_cast hX q905 o3 isC_101 (.inl rfl) dX0_set_17 ?_
      refine hv_iload_n hX dX0_set_20 rfl 2 rfl ?_
      refine hv_iload_n hX dX0_set_21 rfl 3 rfl ?_
      refine hv_i2b hX dX0_set_22 ?_
      obtain ⟨g, hf⟩ := hf
      refine hx_bast hX dX0_set_23 o3 rfl g ?_
      refine hv_goto (tgt := 70) hX dX0_set_24 (by decide) ?_
      exact hv_xret hX hE (fun X hX hE => hx_vret hX hE dX0_set_70 ⟨rfl, rfl, hf⟩)
  · skip
    refine hx_instNo hX q905 o3 isC_102 (by decide) dX0_set_10 ?_
    refine hv_if_eq (tgt := 27) hX dX0_set_13 (by decide) (fun c8 => ?_) (fun c8 => ?_)
    · skip
      refine hv_aload_n hX dX0_set_27 rfl 1 rfl ?_
      refine hx_instY hX q884 o3 isC_102 (.inl rfl) dX0_set_28 ?_
      refine hv_if_eq (tgt := 45) hX dX0_set_31 (by decide) (fun c9 => ?_) (fun c9 => ?_)
      · exact absurd c9 (by decide)
      · skip
        refine hv_aload_n hX dX0_set_34 rfl 1 rfl ?_
        refine hx_cast hX q884 o3 isC_102 (.inl rfl) dX0_set_35 ?_
        refine hv_iload_n hX dX0_set_38 rfl 2 rfl ?_
        refine hv_iload_n hX dX0_set_39 rfl 3 rfl ?_
        refine hv_i2s hX dX0_set_40 ?_
        obtain ⟨g, hf⟩ := hf
        refine hx_sast hX dX0_set_41 o3 rfl g ?_
        refine hv_goto (tgt := 70) hX dX0_set_42 (by decide) ?_
        exact hv_xret hX hE (fun X hX hE => hx_vret hX hE dX0_set_70 ⟨rfl, rfl, hf⟩)
    · exact absurd c8 (by decide)
  · skip
    refine hx_instNo hX q905 o3 isC_110 (by decide) dX0_set_10 ?_
    refine hv_if_eq (tgt := 27) hX dX0_set_13 (by decide) (fun c10 => ?_) (fun c10 => ?_)
    · skip
      refine hv_aload_n hX dX0_set_27 rfl 1 rfl ?_
      refine hx_instNo hX q884 o3 isC_110 (by decide) dX0_set_28 ?_
      refine hv_if_eq (tgt := 45) hX dX0_set_31 (by decide) (fun c11 => ?_) (fun c11 => ?_)
      · skip
        refine hv_aload_n hX dX0_set_45 rfl 1 rfl ?_
        refine hx_instY hX q1272 o3 isC_110 (.inl rfl) dX0_set_46 ?_
        refine hv_if_eq (tgt := 63) hX dX0_set_49 (by decide) (fun c12 => ?_) (fun c12 => ?_)
        · exact absurd c12 (by decide)
        · skip
          refine hv_aload_n hX dX0_set_52 rfl 1 rfl ?_
          refine hx_cast hX q1272 o3 isC_110 (.inl rfl) dX0_set_53 ?_
          refine hv_iload_n hX dX0_set_56 rfl 2 rfl ?_
          refine hv_iload_n hX dX0_set_57 rfl 3 rfl ?_
          refine hv_i2l hX dX0_set_58 ?_
          obtain ⟨g, hf⟩ := hf
          refine hx_last hX dX0_set_59 o3 rfl g ?_
          refine hv_goto (tgt := 70) hX dX0_set_60 (by decide) ?_
          exact hv_xret hX hE (fun X hX hE => hx_vret hX hE dX0_set_70 ⟨rfl, rfl, hf⟩)
      · exact absurd c11 (by decide)
    · exact absurd c10 (by decide)
/-! HungryHedge.put(III)I -/
def x_X0_put (a1 : Int32) (a2 : Int32) (a3 : Int32) (s : xS) (rd : xRd) (J : mJ) (I : mI) (Q : Int32 → mJ → mI → Prop) : Prop :=
  x_X0_isSheet a1 s rd J I (fun r1 => (r1 = 0 →
    Q (-1) J I) ∧ (¬ r1 = 0 →
    vp_in a1 4 ∧ (∃ v3 : Nat, xR rd 120 a1.toNatClampNeg = some v3 ∧ (xo s v3 10 ∧ (x_X10_row v3 s rd J I (fun r4 => x_X0_there r4 s rd J I (fun c7 => (c7 = 1 ∧ (Q (-11) J I))) (fun r6 => x_X0_set r6 a2 a3 s rd J I (fun c12 J10 I11 => (c12 = 0 ∧ (Q (-12) J10 I11))) (fun J8 I9 => Q 1 J8 I9))))))))
theorem ct_X0_put  (a1 : Int32) (a2 : Int32) (a3 : Int32) (s : xS) (rd : xRd) (J : mJ) (I : mI) (Q : Int32 → mJ → mI → Prop) (hf : x_X0_put a1 a2 a3 s rd J I Q) : hh_CtW yX0_put cX0_put 5 (some .int) [((9 : Nat), (29 : Nat), (30 : Nat), (89 : Nat)), ((9 : Nat), (29 : Nat), (35 : Nat), (82 : Nat))] 2 45 [.ref 0, .int a1, .int a2, .int a3] (hx s rd J I) (xQi (fun r9 S9 R9 J9 I9 => s = S9 ∧ rd = R9 ∧ Q r9 J9 I9)) 0 0 := by
  refine hh_CtW.of (own := RX0) rfl (by decide +kernel) (Nat.le_of_ble_eq_true rfl) ?_
  intro X hX hN hE hT
  show hh_V X 0 [(0, .ref 0), (1, .int a1), (2, .int a2), (3, .int a3)] [] 0 0 (hx s rd J I)
  unfold x_X0_put at hf
  refine hv_iload_n hX dX0_put_0 rfl 1 rfl ?_
  refine hx_callSi hX dX0_put_1 (ct_X0_isSheet a1 s rd J I _ hf) (lw_S q873 q874 q106 q875) np_X0_isSheet rfl rfl ⟨Nat.le_of_ble_eq_true rfl, Nat.le_of_ble_eq_true rfl⟩ ⟨Nat.le_of_ble_eq_true rfl, Nat.le_of_ble_eq_true rfl⟩ (Nat.le_of_ble_eq_true rfl) ?_
  intro r1 S9 R9 J9 I9 hq
  clear hf
  obtain ⟨rfl, rfl, rfl, rfl, hf⟩ := hq
  refine hv_if_ne (tgt := 9) hX dX0_put_4 (by decide) (fun c2 => ?_) (fun c2 => ?_)
  · replace hf := hf.2 c2
    refine hv_aload_n hX dX0_put_9 rfl 0 rfl ?_
    refine hv_aload_n hX dX0_put_10 rfl 0 rfl ?_
    refine hv_aload_n hX dX0_put_11 rfl 0 rfl ?_
    refine hx_getR (v := 120) hX dX0_put_12 fl0_78_0 (xo_c (by decide) rfl) (xR_c rfl) ?_
    refine hv_iload_n hX dX0_put_15 rfl 1 rfl ?_
    obtain ⟨g, hf⟩ := hf
    obtain ⟨v3, gv3, hf⟩ := hf
    refine hx_aald (v := v3) (a := 24) hX 8 rfl (by decide) dX0_put_16 (xo_c (by decide) rfl) (xlen_c (by decide) rfl) g gv3 ?_
    obtain ⟨o5, hf⟩ := hf
    refine hx_callVo (ci := 10) (q := (RX10, TX10, 5)) hX dX0_put_17 (ct_X10_row v3 s rd J I _ hf) (lw_V q876 q877 q878 q119 q879) rfl (by decide) ⟨rfl, np_X10_row⟩ rfl o5 rfl ⟨Nat.le_of_ble_eq_true rfl, Nat.le_of_ble_eq_true rfl⟩ ⟨Nat.le_of_ble_eq_true rfl, Nat.le_of_ble_eq_true rfl⟩ (Nat.le_of_ble_eq_true rfl) ?_
    intro r4 S9 R9 J9 I9 hq
    clear hf
    obtain ⟨rfl, rfl, rfl, rfl, hf⟩ := hq
    refine hx_callVXr (ci := 0) (q := (RX0, TX0, 19)) hX dX0_put_20 (ct_X0_there r4 s rd J I _ _ hf) (lw_V q880 q882 qs12 q106 q883) rfl (by decide) ⟨rfl, np_X0_there⟩ rfl (xo_c (by decide) rfl) rfl ⟨Nat.le_of_ble_eq_true rfl, Nat.le_of_ble_eq_true rfl⟩ ⟨Nat.le_of_ble_eq_true rfl, Nat.le_of_ble_eq_true rfl⟩ (Nat.le_of_ble_eq_true rfl) ?_ ?_
    · intro c7 S9 R9 J9 I9 hq
      clear hf
      obtain ⟨rfl, rfl, rfl, rfl, hf⟩ := hq
      rcases hf with ⟨rfl, hf⟩
      · skip
        refine ht_catch0 (i := 4) (loc2 := [(0, .ref 0), (1, .int a1), (2, .int a2), (3, .int a3)]) hX hN hT (⟨9, 29, 30, 89⟩ : ExceptionTableEntry) (ht_takes.here (by decide) (by decide) q550 (hh_nwm q552 rfl)) (.inr ⟨dX0_put_30, rfl⟩) (Nat.le_of_ble_eq_true rfl) rfl ?_
        refine hv_bipush (v := (-11)) hX bix_m11 dX0_put_32 ?_
        exact hx_iret hX hE dX0_put_34 ⟨rfl, rfl, hf⟩
    intro r6 S9 R9 J9 I9 hq
    clear hf
    obtain ⟨rfl, rfl, rfl, rfl, hf⟩ := hq
    refine hv_iload_n hX dX0_put_23 rfl 2 rfl ?_
    refine hv_iload_n hX dX0_put_24 rfl 3 rfl ?_
    refine hx_callVXv (ci := 0) (q := (RX0, TX0, 19)) hX dX0_put_25 (ct_X0_set r6 a2 a3 s rd J I _ _ hf) (lw_V q1265 q1267 qs37 q106 q1268) rfl (by decide) ⟨rfl, np_X0_set⟩ rfl (xo_c (by decide) rfl) rfl ⟨Nat.le_of_ble_eq_true rfl, Nat.le_of_ble_eq_true rfl⟩ ⟨Nat.le_of_ble_eq_true rfl, Nat.le_of_ble_eq_true rfl⟩ (Nat.le_of_ble_eq_true rfl) ?_ ?_
    · intro c12 S9 R9 J10 I11 hq
      clear hf
      obtain ⟨rfl, rfl, hf⟩ := hq
      rcases hf with ⟨rfl, hf⟩
      · skip
        refine ht_catch0 (i := 4) (loc2 := [(0, .ref 0), (1, .int a1), (2, .int a2), (3, .int a3)]) hX hN hT (⟨9, 29, 35, 82⟩ : ExceptionTableEntry) (ht_takes.pass (by decide) q550 (by decide) (ht_takes.here (by decide) (by decide) q535 (hh_nwm q537 rfl))) (.inr ⟨dX0_put_35, rfl⟩) (Nat.le_of_ble_eq_true rfl) rfl ?_
        refine hv_bipush (v := (-12)) hX bix_m12 dX0_put_37 ?_
        exact hx_iret hX hE dX0_put_39 ⟨rfl, rfl, hf⟩
    intro  S9 R9 J8 I9 hq
    clear hf
    obtain ⟨rfl, rfl, hf⟩ := hq
    refine hv_iconst (v := 1) hX icx_1 dX0_put_28 ?_
    exact hx_iret hX hE dX0_put_29 ⟨rfl, rfl, hf⟩
  · replace hf := hf.1 c2
    refine hv_iconst (v := (-1)) hX icx_m1 dX0_put_7 ?_
    exact hx_iret hX hE dX0_put_8 ⟨rfl, rfl, hf⟩
/-! HungryHedge.byteAt([BI)I -/
def x_X0_byteAt (a1 : Nat) (a2 : Int32) (s : xS) (rd : xRd) (J : mJ) (I : mI) (QX : Nat → Prop) (Q : Int32 → Prop) : Prop :=
  xo s a1 101 ∧ (x_X0_within a2 (nI (xlen s a1)) s rd J I (fun c2  => QX c2 ) (vp_in a2 (xlen s a1) ∧ (Q (I a1 a2.toNatClampNeg) )))
theorem ct_X0_byteAt  (a1 : Nat) (a2 : Int32) (s : xS) (rd : xRd) (J : mJ) (I : mI) (QX : Nat → Prop) (Q : Int32 → Prop) (hf : x_X0_byteAt a1 a2 s rd J I QX Q) : hh_CtX yX0_byteAt cX0_byteAt 3 (some .int) 1 22 [.ref 0, .ref a1, .int a2] (hx s rd J I) (xQi (fun r9 S9 R9 J9 I9 => s = S9 ∧ rd = R9 ∧ J = J9 ∧ I = I9 ∧ Q r9)) (xQX (fun c9 S9 R9 J9 I9 => s = S9 ∧ rd = R9 ∧ J = J9 ∧ I = I9 ∧ QX c9)) 0 0 := by
  refine hh_CtX.of (own := RX0) rfl (by decide +kernel) (Nat.le_of_ble_eq_true rfl) ?_
  intro X hX hN hE hT
  show hh_V X 0 [(0, .ref 0), (1, .ref a1), (2, .int a2)] [] 0 0 (hx s rd J I)
  unfold x_X0_byteAt at hf
  refine hv_aload_n hX dX0_byteAt_0 rfl 0 rfl ?_
  refine hv_iload_n hX dX0_byteAt_1 rfl 2 rfl ?_
  refine hv_aload_n hX dX0_byteAt_2 rfl 1 rfl ?_
  obtain ⟨o1, hf⟩ := hf
  refine hx_alen (v := nI (xlen s a1)) hX 1 rfl dX0_byteAt_3 o1 rfl ?_
  refine hx_callVXv (ci := 0) (q := (RX0, TX0, 19)) hX dX0_byteAt_4 (ct_X0_within a2 (nI (xlen s a1)) s rd J I _ _ hf) (lw_V q1274 q1276 qs38 q106 q1277) rfl (by decide) ⟨rfl, np_X0_within⟩ rfl (xo_c (by decide) rfl) rfl ⟨Nat.le_of_ble_eq_true rfl, Nat.le_of_ble_eq_true rfl⟩ ⟨Nat.le_of_ble_eq_true rfl, Nat.le_of_ble_eq_true rfl⟩ (Nat.le_of_ble_eq_true rfl) ?_ ?_
  · intro c2 S9 R9 J9 I9 hq
    clear hf
    obtain ⟨rfl, rfl, rfl, rfl, hf⟩ := hq
    exact hx_out (c := c2) hX hE hT ⟨Nat.le_of_ble_eq_true rfl, Nat.le_of_ble_eq_true rfl⟩ ⟨rfl, rfl, rfl, rfl, hf⟩
  intro  S9 R9 J9 I9 hq
  clear hf
  obtain ⟨rfl, rfl, rfl, rfl, hf⟩ := hq
  refine hv_aload_n hX dX0_byteAt_7 rfl 1 rfl ?_
  refine hv_iload_n hX dX0_byteAt_8 rfl 2 rfl ?_
  obtain ⟨g, hf⟩ := hf
  refine hx_bald (v := (I a1 a2.toNatClampNeg)) hX dX0_byteAt_9 o1 rfl g rfl ?_
  exact hv_xret hX hE (fun X hX hE => hx_iret hX hE dX0_byteAt_10 ⟨rfl, rfl, rfl, rfl, hf⟩)
/-! HungryHedge.shortAt([SI)I -/
def x_X0_shortAt (a1 : Nat) (a2 : Int32) (s : xS) (rd : xRd) (J : mJ) (I : mI) (QX : Nat → Prop) (Q : Int32 → Prop) : Prop :=
  xo s a1 102 ∧ (x_X0_within a2 (nI (xlen s a1)) s rd J I (fun c2  => QX c2 ) (vp_in a2 (xlen s a1) ∧ (Q (I a1 a2.toNatClampNeg) )))
theorem ct_X0_shortAt  (a1 : Nat) (a2 : Int32) (s : xS) (rd : xRd) (J : mJ) (I : mI) (QX : Nat → Prop) (Q : Int32 → Prop) (hf : x_X0_shortAt a1 a2 s rd J I QX Q) : hh_CtX yX0_shortAt cX0_shortAt 3 (some .int) 1 22 [.ref 0, .ref a1, .int a2] (hx s rd J I) (xQi (fun r9 S9 R9 J9 I9 => s = S9 ∧ rd = R9 ∧ J = J9 ∧ I = I9 ∧ Q r9)) (xQX (fun c9 S9 R9 J9 I9 => s = S9 ∧ rd = R9 ∧ J = J9 ∧ I = I9 ∧ QX c9)) 0 0 := by
  refine hh_CtX.of (own := RX0) rfl (by decide +kernel) (Nat.le_of_ble_eq_true rfl) ?_
  intro X hX hN hE hT
  show hh_V X 0 [(0, .ref 0), (1, .ref a1), (2, .int a2)] [] 0 0 (hx s rd J I)
  unfold x_X0_shortAt at hf
  refine hv_aload_n hX dX0_shortAt_0 rfl 0 rfl ?_
  refine hv_iload_n hX dX0_shortAt_1 rfl 2 rfl ?_
  refine hv_aload_n hX dX0_shortAt_2 rfl 1 rfl ?_
  obtain ⟨o1, hf⟩ := hf
  refine hx_alen (v := nI (xlen s a1)) hX 2 rfl dX0_shortAt_3 o1 rfl ?_
  refine hx_callVXv (ci := 0) (q := (RX0, TX0, 19)) hX dX0_shortAt_4 (ct_X0_within a2 (nI (xlen s a1)) s rd J I _ _ hf) (lw_V q1274 q1276 qs38 q106 q1277) rfl (by decide) ⟨rfl, np_X0_within⟩ rfl (xo_c (by decide) rfl) rfl ⟨Nat.le_of_ble_eq_true rfl, Nat.le_of_ble_eq_true rfl⟩ ⟨Nat.le_of_ble_eq_true rfl, Nat.le_of_ble_eq_true rfl⟩ (Nat.le_of_ble_eq_true rfl) ?_ ?_
  · intro c2 S9 R9 J9 I9 hq
    clear hf
    obtain ⟨rfl, rfl, rfl, rfl, hf⟩ := hq
    exact hx_out (c := c2) hX hE hT ⟨Nat.le_of_ble_eq_true rfl, Nat.le_of_ble_eq_true rfl⟩ ⟨rfl, rfl, rfl, rfl, hf⟩
  intro  S9 R9 J9 I9 hq
  clear hf
  obtain ⟨rfl, rfl, rfl, rfl, hf⟩ := hq
  refine hv_aload_n hX dX0_shortAt_7 rfl 1 rfl ?_
  refine hv_iload_n hX dX0_shortAt_8 rfl 2 rfl ?_
  obtain ⟨g, hf⟩ := hf
  refine hx_sald (v := (I a1 a2.toNatClampNeg)) hX dX0_shortAt_9 o1 rfl g rfl ?_
  exact hv_xret hX hE (fun X hX hE => hx_iret hX hE dX0_shortAt_10 ⟨rfl, rfl, rfl, rfl, hf⟩)
/-! HungryHedge.intAt([II)I -/
def x_X0_intAt (a1 : Nat) (a2 : Int32) (s : xS) (rd : xRd) (J : mJ) (I : mI) (QX : Nat → Prop) (Q : Int32 → Prop) : Prop :=
  xo s a1 100 ∧ (x_X0_within a2 (nI (xlen s a1)) s rd J I (fun c2  => QX c2 ) (vp_in a2 (xlen s a1) ∧ (Q (I a1 a2.toNatClampNeg) )))
theorem ct_X0_intAt  (a1 : Nat) (a2 : Int32) (s : xS) (rd : xRd) (J : mJ) (I : mI) (QX : Nat → Prop) (Q : Int32 → Prop) (hf : x_X0_intAt a1 a2 s rd J I QX Q) : hh_CtX yX0_intAt cX0_intAt 3 (some .int) 1 22 [.ref 0, .ref a1, .int a2] (hx s rd J I) (xQi (fun r9 S9 R9 J9 I9 => s = S9 ∧ rd = R9 ∧ J = J9 ∧ I = I9 ∧ Q r9)) (xQX (fun c9 S9 R9 J9 I9 => s = S9 ∧ rd = R9 ∧ J = J9 ∧ I = I9 ∧ QX c9)) 0 0 := by
  refine hh_CtX.of (own := RX0) rfl (by decide +kernel) (Nat.le_of_ble_eq_true rfl) ?_
  intro X hX hN hE hT
  show hh_V X 0 [(0, .ref 0), (1, .ref a1), (2, .int a2)] [] 0 0 (hx s rd J I)
  unfold x_X0_intAt at hf
  refine hv_aload_n hX dX0_intAt_0 rfl 0 rfl ?_
  refine hv_iload_n hX dX0_intAt_1 rfl 2 rfl ?_
  refine hv_aload_n hX dX0_intAt_2 rfl 1 rfl ?_
  obtain ⟨o1, hf⟩ := hf
  refine hx_alen (v := nI (xlen s a1)) hX 0 rfl dX0_intAt_3 o1 rfl ?_
  refine hx_callVXv (ci := 0) (q := (RX0, TX0, 19)) hX dX0_intAt_4 (ct_X0_within a2 (nI (xlen s a1)) s rd J I _ _ hf) (lw_V q1274 q1276 qs38 q106 q1277) rfl (by decide) ⟨rfl, np_X0_within⟩ rfl (xo_c (by decide) rfl) rfl ⟨Nat.le_of_ble_eq_true rfl, Nat.le_of_ble_eq_true rfl⟩ ⟨Nat.le_of_ble_eq_true rfl, Nat.le_of_ble_eq_true rfl⟩ (Nat.le_of_ble_eq_true rfl) ?_ ?_
  · intro c2 S9 R9 J9 I9 hq
    clear hf
    obtain ⟨rfl, rfl, rfl, rfl, hf⟩ := hq
    exact hx_out (c := c2) hX hE hT ⟨Nat.le_of_ble_eq_true rfl, Nat.le_of_ble_eq_true rfl⟩ ⟨rfl, rfl, rfl, rfl, hf⟩
  intro  S9 R9 J9 I9 hq
  clear hf
  obtain ⟨rfl, rfl, rfl, rfl, hf⟩ := hq
  refine hv_aload_n hX dX0_intAt_7 rfl 1 rfl ?_
  refine hv_iload_n hX dX0_intAt_8 rfl 2 rfl ?_
  obtain ⟨g, hf⟩ := hf
  refine hx_iald (v := (I a1 a2.toNatClampNeg)) hX dX0_intAt_9 o1 rfl g rfl ?_
  exact hv_xret hX hE (fun X hX hE => hx_iret hX hE dX0_intAt_10 ⟨rfl, rfl, rfl, rfl, hf⟩)
/-! HungryHedge.longAt([JI)I -/
def x_X0_longAt (a1 : Nat) (a2 : Int32) (s : xS) (rd : xRd) (J : mJ) (I : mI) (QX : Nat → Prop) (Q : Int32 → Prop) : Prop :=
  xo s a1 110 ∧ (x_X0_within a2 (nI (xlen s a1)) s rd J I (fun c2  => QX c2 ) (vp_in a2 (xlen s a1) ∧ (Q ((J a1 a2.toNatClampNeg).toInt32) )))
theorem ct_X0_longAt  (a1 : Nat) (a2 : Int32) (s : xS) (rd : xRd) (J : mJ) (I : mI) (QX : Nat → Prop) (Q : Int32 → Prop) (hf : x_X0_longAt a1 a2 s rd J I QX Q) : hh_CtX yX0_longAt cX0_longAt 3 (some .int) 1 22 [.ref 0, .ref a1, .int a2] (hx s rd J I) (xQi (fun r9 S9 R9 J9 I9 => s = S9 ∧ rd = R9 ∧ J = J9 ∧ I = I9 ∧ Q r9)) (xQX (fun c9 S9 R9 J9 I9 => s = S9 ∧ rd = R9 ∧ J = J9 ∧ I = I9 ∧ QX c9)) 0 0 := by
  refine hh_CtX.of (own := RX0) rfl (by decide +kernel) (Nat.le_of_ble_eq_true rfl) ?_
  intro X hX hN hE hT
  show hh_V X 0 [(0, .ref 0), (1, .ref a1), (2, .int a2)] [] 0 0 (hx s rd J I)
  unfold x_X0_longAt at hf
  refine hv_aload_n hX dX0_longAt_0 rfl 0 rfl ?_
  refine hv_iload_n hX dX0_longAt_1 rfl 2 rfl ?_
  refine hv_aload_n hX dX0_longAt_2 rfl 1 rfl ?_
  obtain ⟨o1, hf⟩ := hf
  refine hx_alen (v := nI (xlen s a1)) hX 3 rfl dX0_longAt_3 o1 rfl ?_
  refine hx_callVXv (ci := 0) (q := (RX0, TX0, 19)) hX dX0_longAt_4 (ct_X0_within a2 (nI (xlen s a1)) s rd J I _ _ hf) (lw_V q1274 q1276 qs38 q106 q1277) rfl (by decide) ⟨rfl, np_X0_within⟩ rfl (xo_c (by decide) rfl) rfl ⟨Nat.le_of_ble_eq_true rfl, Nat.le_of_ble_eq_true rfl⟩ ⟨Nat.le_of_ble_eq_true rfl, Nat.le_of_ble_eq_true rfl⟩ (Nat.le_of_ble_eq_true rfl) ?_ ?_
  · intro c2 S9 R9 J9 I9 hq
    clear hf
    obtain ⟨rfl, rfl, rfl, rfl, hf⟩ := hq
    exact hx_out (c := c2) hX hE hT ⟨Nat.le_of_ble_eq_true rfl, Nat.le_of_ble_eq_true rfl⟩ ⟨rfl, rfl, rfl, rfl, hf⟩
  intro  S9 R9 J9 I9 hq
  clear hf
  obtain ⟨rfl, rfl, rfl, rfl, hf⟩ := hq
  refine hv_aload_n hX dX0_longAt_7 rfl 1 rfl ?_
  refine hv_iload_n hX dX0_longAt_8 rfl 2 rfl ?_
  obtain ⟨g, hf⟩ := hf
  refine hx_lald (v := (J a1 a2.toNatClampNeg)) hX dX0_longAt_9 o1 rfl g rfl ?_
  refine hv_l2i hX dX0_longAt_10 ?_
  exact hv_xret hX hE (fun X hX hE => hx_iret hX hE dX0_longAt_11 ⟨rfl, rfl, rfl, rfl, hf⟩)
/-! HungryHedge.itemOf(Ljava/lang/Object;II)I -/
def x_X0_itemOf (a1 : Nat) (a2 : Int32) (a3 : Int32) (s : xS) (rd : xRd) (J : mJ) (I : mI) (QX : Nat → Prop) (Q : Int32 → Prop) : Prop :=
  (a2 = 0 →
    (xo s a1 100 ∧ (QX 3 )) ∨ (xo s a1 101 ∧ (x_X0_byteAt a1 a3 s rd J I (fun c4 => QX c4 ) (fun r3 => Q r3 ))) ∨ (xo s a1 102 ∧ (QX 3 )) ∨ (xo s a1 110 ∧ (QX 3 ))) ∧ (¬ a2 = 0 →
    (a2 = 1 →
    (xo s a1 100 ∧ (QX 3 )) ∨ (xo s a1 101 ∧ (QX 3 )) ∨ (xo s a1 102 ∧ (x_X0_shortAt a1 a3 s rd J I (fun c8 => QX c8 ) (fun r7 => Q r7 ))) ∨ (xo s a1 110 ∧ (QX 3 ))) ∧ (¬ a2 = 1 →
    (a2 = 2 →
    (xo s a1 100 ∧ (x_X0_intAt a1 a3 s rd J I (fun c12 => QX c12 ) (fun r11 => Q r11 ))) ∨ (xo s a1 101 ∧ (QX 3 )) ∨ (xo s a1 102 ∧ (QX 3 )) ∨ (xo s a1 110 ∧ (QX 3 ))) ∧ (¬ a2 = 2 →
    (xo s a1 100 ∧ (QX 3 )) ∨ (xo s a1 101 ∧ (QX 3 )) ∨ (xo s a1 102 ∧ (QX 3 )) ∨ (xo s a1 110 ∧ (x_X0_longAt a1 a3 s rd J I (fun c15 => QX c15 ) (fun r14 => Q r14 ))))))
theorem ct_X0_itemOf  (a1 : Nat) (a2 : Int32) (a3 : Int32) (s : xS) (rd : xRd) (J : mJ) (I : mI) (QX : Nat → Prop) (Q : Int32 → Prop) (hf : x_X0_itemOf a1 a2 a3 s rd J I QX Q) : hh_CtX yX0_itemOf cX0_itemOf 4 (some .int) 7 10319 [.ref 0, .ref a1, .int a2, .int a3] (hx s rd J I) (xQi (fun r9 S9 R9 J9 I9 => s = S9 ∧ rd = R9 ∧ J = J9 ∧ I = I9 ∧ Q r9)) (xQX (fun c9 S9 R9 J9 I9 => s = S9 ∧ rd = R9 ∧ J = J9 ∧ I = I9 ∧ QX c9)) 3 910 := by
  refine hh_CtX.of (own := RX0) rfl (by decide +kernel) (Nat.le_of_ble_eq_true rfl) ?_
  intro X hX hN hE hT
  show hh_V X 0 [(0, .ref 0), (1, .ref a1), (2, .int a2), (3, .int a3)] [] 0 0 (hx s rd J I)
  unfold x_X0_itemOf at hf
  refine hv_iload_n hX dX0_itemOf_0 rfl 2 rfl ?_
  by_cases c1 : a2 = 0
  · replace hf := hf.1 c1
    refine hv_tswA (v := 0) (tgt := 28) (off := 27) hX dX0_itemOf_1 c1 ⟨by decide, by decide, by decide⟩ (by decide) ?_
    refine hv_aload_n hX dX0_itemOf_28 rfl 0 rfl ?_
    refine hv_aload_n hX dX0_itemOf_29 rfl 1 rfl ?_
    rcases hf with ⟨o2, hf⟩ | ⟨o2, hf⟩ | ⟨o2, hf⟩ | ⟨o2, hf⟩
    · skip
      refine hx_castZ hX q905 o2 isC_100 (by decide) (by decide) (by decide) dX0_itemOf_30 ⟨Nat.le_of_ble_eq_true rfl, Nat.le_of_ble_eq_true rfl⟩ ⟨Nat.le_of_ble_eq_true rfl, Nat.le_of_ble_eq_true rfl⟩ ?_
      exact hx_out (c := 3) hX hE hT ⟨Nat.le_of_ble_eq_true rfl, Nat.le_of_ble_eq_true rfl⟩ ⟨rfl, rfl, rfl, rfl, hf⟩
    · skip
      refine hx_cast hX q905 o2 isC_101 (.inl rfl) dX0_itemOf_30 ?_
      refine hv_iload_n hX dX0_itemOf_33 rfl 3 rfl ?_
      refine hx_callVXi (ci := 0) (q := (RX0, TX0, 19)) hX dX0_itemOf_34 (ct_X0_byteAt a1 a3 s rd J I _ _ hf) (lw_V q1286 q1288 qs40 q106 q1289) rfl (by decide) ⟨rfl, np_X0_byteAt⟩ rfl (xo_c (by decide) rfl) rfl ⟨Nat.le_of_ble_eq_true rfl, Nat.le_of_ble_eq_true rfl⟩ ⟨Nat.le_of_ble_eq_true rfl, Nat.le_of_ble_eq_true rfl⟩ (Nat.le_of_ble_eq_true rfl) ?_ ?_
      · intro c4 S9 R9 J9 I9 hq
        clear hf
        obtain ⟨rfl, rfl, rfl, rfl, hf⟩ := hq
        exact hx_out (c := c4) hX hE hT ⟨Nat.le_of_ble_eq_true rfl, Nat.le_of_ble_eq_true rfl⟩ ⟨rfl, rfl, rfl, rfl, hf⟩
      intro r3 S9 R9 J9 I9 hq
      clear hf
      obtain ⟨rfl, rfl, rfl, rfl, hf⟩ := hq
      refine hv_widen (z' := 3) (k' := 910) (Nat.le_of_ble_eq_true rfl) (Nat.le_of_ble_eq_true rfl) ?_
      exact hv_xret hX hE (fun X hX hE => hx_iret hX hE dX0_itemOf_37 ⟨rfl, rfl, rfl, rfl, hf⟩)
    · skip
      refine hx_castZ hX q905 o2 isC_102 (by decide) (by decide) (by decide) dX0_itemOf_30 ⟨Nat.le_of_ble_eq_true rfl, Nat.le_of_ble_eq_true rfl⟩ ⟨Nat.le_of_ble_eq_true rfl, Nat.le_of_ble_eq_true rfl⟩ ?_
      exact hx_out (c := 3) hX hE hT ⟨Nat.le_of_ble_eq_true rfl, Nat.le_of_ble_eq_true rfl⟩ ⟨rfl, rfl, rfl, rfl, hf⟩
    · skip
      refine hx_castZ hX q905 o2 isC_110 (by decide) (by decide) (by decide) dX0_itemOf_30 ⟨Nat.le_of_ble_eq_true rfl, Nat.le_of_ble_eq_true rfl⟩ ⟨Nat.le_of_ble_eq_true rfl, Nat.le_of_ble_eq_true rfl⟩ ?_
      exact hx_out (c := 3) hX hE hT ⟨Nat.le_of_ble_eq_true rfl, Nat.le_of_ble_eq_true rfl⟩ ⟨rfl, rfl, rfl, rfl, hf⟩
  · replace hf := hf.2 c1
    by_cases c5 : a2 = 1
    · replace hf := hf.1 c5
      refine hv_tswA (v := 1) (tgt := 38) (off := 37) hX dX0_itemOf_1 c5 ⟨by decide, by decide, by decide⟩ (by decide) ?_
      refine hv_aload_n hX dX0_itemOf_38 rfl 0 rfl ?_
      refine hv_aload_n hX dX0_itemOf_39 rfl 1 rfl ?_
      rcases hf with ⟨o6, hf⟩ | ⟨o6, hf⟩ | ⟨o6, hf⟩ | ⟨o6, hf⟩
      · skip
        refine hx_castZ hX q884 o6 isC_100 (by decide) (by decide) (by decide) dX0_itemOf_40 ⟨Nat.le_of_ble_eq_true rfl, Nat.le_of_ble_eq_true rfl⟩ ⟨Nat.le_of_ble_eq_true rfl, Nat.le_of_ble_eq_true rfl⟩ ?_
        exact hx_out (c := 3) hX hE hT ⟨Nat.le_of_ble_eq_true rfl, Nat.le_of_ble_eq_true rfl⟩ ⟨rfl, rfl, rfl, rfl, hf⟩
      · skip
        refine hx_castZ hX q884 o6 isC_101 (by decide) (by decide) (by decide) dX0_itemOf_40 ⟨Nat.le_of_ble_eq_true rfl, Nat.le_of_ble_eq_true rfl⟩ ⟨Nat.le_of_ble_eq_true rfl, Nat.le_of_ble_eq_true rfl⟩ ?_
        exact hx_out (c := 3) hX hE hT ⟨Nat.le_of_ble_eq_true rfl, Nat.le_of_ble_eq_true rfl⟩ ⟨rfl, rfl, rfl, rfl, hf⟩
      · skip
        refine hx_cast hX q884 o6 isC_102 (.inl rfl) dX0_itemOf_40 ?_
        refine hv_iload_n hX dX0_itemOf_43 rfl 3 rfl ?_
        refine hx_callVXi (ci := 0) (q := (RX0, TX0, 19)) hX dX0_itemOf_44 (ct_X0_shortAt a1 a3 s rd J I _ _ hf) (lw_V q1290 q1292 qs41 q106 q1293) rfl (by decide) ⟨rfl, np_X0_shortAt⟩ rfl (xo_c (by decide) rfl) rfl ⟨Nat.le_of_ble_eq_true rfl, Nat.le_of_ble_eq_true rfl⟩ ⟨Nat.le_of_ble_eq_true rfl, Nat.le_of_ble_eq_true rfl⟩ (Nat.le_of_ble_eq_true rfl) ?_ ?_
        · intro c8 S9 R9 J9 I9 hq
          clear hf
          obtain ⟨rfl, rfl, rfl, rfl, hf⟩ := hq
          exact hx_out (c := c8) hX hE hT ⟨Nat.le_of_ble_eq_true rfl, Nat.le_of_ble_eq_true rfl⟩ ⟨rfl, rfl, rfl, rfl, hf⟩
        intro r7 S9 R9 J9 I9 hq
        clear hf
        obtain ⟨rfl, rfl, rfl, rfl, hf⟩ := hq
        refine hv_widen (z' := 3) (k' := 910) (Nat.le_of_ble_eq_true rfl) (Nat.le_of_ble_eq_true rfl) ?_
        exact hv_xret hX hE (fun X hX hE => hx_iret hX hE dX0_itemOf_47 ⟨rfl, rfl, rfl, rfl, hf⟩)
      · skip
        refine hx_castZ hX q884 o6 isC_110 (by decide) (by decide) (by decide) dX0_itemOf_40 ⟨Nat.le_of_ble_eq_true rfl, Nat.le_of_ble_eq_true rfl⟩ ⟨Nat.le_of_ble_eq_true rfl, Nat.le_of_ble_eq_true rfl⟩ ?_
        exact hx_out (c := 3) hX hE hT ⟨Nat.le_of_ble_eq_true rfl, Nat.le_of_ble_eq_true rfl⟩ ⟨rfl, rfl, rfl, rfl, hf⟩
    · replace hf := hf.2 c5
      by_cases c9 : a2 = 2
      · replace hf := hf.1 c9
        refine hv_tswA (v := 2) (tgt := 48) (off := 47) hX dX0_itemOf_1 c9 ⟨by decide, by decide, by decide⟩ (by decide) ?_
        refine hv_aload_n hX dX0_itemOf_48 rfl 0 rfl ?_
        refine hv_aload_n hX dX0_itemOf_49 rfl 1 rfl ?_
        rcases hf with ⟨o10, hf⟩ | ⟨o10, hf⟩ | ⟨o10, hf⟩ | ⟨o10, hf⟩
        · skip
          refine hx_cast hX q1273 o10 isC_100 (.inl rfl) dX0_itemOf_50 ?_
          refine hv_iload_n hX dX0_itemOf_53 rfl 3 rfl ?_
          refine hx_callVXi (ci := 0) (q := (RX0, TX0, 19)) hX dX0_itemOf_54 (ct_X0_intAt a1 a3 s rd J I _ _ hf) (lw_V q1294 q1296 qs42 q106 q1297) rfl (by decide) ⟨rfl, np_X0_intAt⟩ rfl (xo_c (by decide) rfl) rfl ⟨Nat.le_of_ble_eq_true rfl, Nat.le_of_ble_eq_true rfl⟩ ⟨Nat.le_of_ble_eq_true rfl, Nat.le_of_ble_eq_true rfl⟩ (Nat.le_of_ble_eq_true rfl) ?_ ?_
          · intro c12 S9 R9 J9 I9 hq
            clear hf
            obtain ⟨rfl, rfl, rfl, rfl, hf⟩ := hq
            exact hx_out (c := c12) hX hE hT ⟨Nat.le_of_ble_eq_true rfl, Nat.le_of_ble_eq_true rfl⟩ ⟨rfl, rfl, rfl, rfl, hf⟩
          intro r11 S9 R9 J9 I9 hq
          clear hf
          obtain ⟨rfl, rfl, rfl, rfl, hf⟩ := hq
          refine hv_widen (z' := 3) (k' := 910) (Nat.le_of_ble_eq_true rfl) (Nat.le_of_ble_eq_true rfl) ?_
          exact hv_xret hX hE (fun X hX hE => hx_iret hX hE dX0_itemOf_57 ⟨rfl, rfl, rfl, rfl, hf⟩)
        · skip
          refine hx_castZ hX q1273 o10 isC_101 (by decide) (by decide) (by decide) dX0_itemOf_50 ⟨Nat.le_of_ble_eq_true rfl, Nat.le_of_ble_eq_true rfl⟩ ⟨Nat.le_of_ble_eq_true rfl, Nat.le_of_ble_eq_true rfl⟩ ?_
          exact hx_out (c := 3) hX hE hT ⟨Nat.le_of_ble_eq_true rfl, Nat.le_of_ble_eq_true rfl⟩ ⟨rfl, rfl, rfl, rfl, hf⟩
        · skip
          refine hx_castZ hX q1273 o10 isC_102 (by decide) (by decide) (by decide) dX0_itemOf_50 ⟨Nat.le_of_ble_eq_true rfl, Nat.le_of_ble_eq_true rfl⟩ ⟨Nat.le_of_ble_eq_true rfl, Nat.le_of_ble_eq_true rfl⟩ ?_
          exact hx_out (c := 3) hX hE hT ⟨Nat.le_of_ble_eq_true rfl, Nat.le_of_ble_eq_true rfl⟩ ⟨rfl, rfl, rfl, rfl, hf⟩
        · skip
          refine hx_castZ hX q1273 o10 isC_110 (by decide) (by decide) (by decide) dX0_itemOf_50 ⟨Nat.le_of_ble_eq_true rfl, Nat.le_of_ble_eq_true rfl⟩ ⟨Nat.le_of_ble_eq_true rfl, Nat.le_of_ble_eq_true rfl⟩ ?_
          exact hx_out (c := 3) hX hE hT ⟨Nat.le_of_ble_eq_true rfl, Nat.le_of_ble_eq_true rfl⟩ ⟨rfl, rfl, rfl, rfl, hf⟩
      · replace hf := hf.2 c9
        refine hv_tswO (tgt := 58) hX dX0_itemOf_1 (by have z0 := lv_neT c1 (a := 0) (by decide); have z1 := lv_neT c5 (a := 1) (by decide); have z2 := lv_neT c9 (a := 2) (by decide); omega) (by decide) ?_
        refine hv_aload_n hX dX0_itemOf_58 rfl 0 rfl ?_
        refine hv_aload_n hX dX0_itemOf_59 rfl 1 rfl ?_
        rcases hf with ⟨o13, hf⟩ | ⟨o13, hf⟩ | ⟨o13, hf⟩ | ⟨o13, hf⟩
        · skip
          refine hx_castZ hX q1272 o13 isC_100 (by decide) (by decide) (by decide) dX0_itemOf_60 ⟨Nat.le_of_ble_eq_true rfl, Nat.le_of_ble_eq_true rfl⟩ ⟨Nat.le_of_ble_eq_true rfl, Nat.le_of_ble_eq_true rfl⟩ ?_
          exact hx_out (c := 3) hX hE hT ⟨Nat.le_of_ble_eq_true rfl, Nat.le_of_ble_eq_true rfl⟩ ⟨rfl, rfl, rfl, rfl, hf⟩
        · skip
          refine hx_castZ hX q1272 o13 isC_101 (by decide) (by decide) (by decide) dX0_itemOf_60 ⟨Nat.le_of_ble_eq_true rfl, Nat.le_of_ble_eq_true rfl⟩ ⟨Nat.le_of_ble_eq_true rfl, Nat.le_of_ble_eq_true rfl⟩ ?_
          exact hx_out (c := 3) hX hE hT ⟨Nat.le_of_ble_eq_true rfl, Nat.le_of_ble_eq_true rfl⟩ ⟨rfl, rfl, rfl, rfl, hf⟩
        · skip
          refine hx_castZ hX q1272 o13 isC_102 (by decide) (by decide) (by decide) dX0_itemOf_60 ⟨Nat.le_of_ble_eq_true rfl, Nat.le_of_ble_eq_true rfl⟩ ⟨Nat.le_of_ble_eq_true rfl, Nat.le_of_ble_eq_true rfl⟩ ?_
          exact hx_out (c := 3) hX hE hT ⟨Nat.le_of_ble_eq_true rfl, Nat.le_of_ble_eq_true rfl⟩ ⟨rfl, rfl, rfl, rfl, hf⟩
        · skip
          refine hx_cast hX q1272 o13 isC_110 (.inl rfl) dX0_itemOf_60 ?_
          refine hv_iload_n hX dX0_itemOf_63 rfl 3 rfl ?_
          refine hx_callVXi (ci := 0) (q := (RX0, TX0, 19)) hX dX0_itemOf_64 (ct_X0_longAt a1 a3 s rd J I _ _ hf) (lw_V q1298 q1300 qs43 q106 q1301) rfl (by decide) ⟨rfl, np_X0_longAt⟩ rfl (xo_c (by decide) rfl) rfl ⟨Nat.le_of_ble_eq_true rfl, Nat.le_of_ble_eq_true rfl⟩ ⟨Nat.le_of_ble_eq_true rfl, Nat.le_of_ble_eq_true rfl⟩ (Nat.le_of_ble_eq_true rfl) ?_ ?_
          · intro c15 S9 R9 J9 I9 hq
            clear hf
            obtain ⟨rfl, rfl, rfl, rfl, hf⟩ := hq
            exact hx_out (c := c15) hX hE hT ⟨Nat.le_of_ble_eq_true rfl, Nat.le_of_ble_eq_true rfl⟩ ⟨rfl, rfl, rfl, rfl, hf⟩
          intro r14 S9 R9 J9 I9 hq
          clear hf
          obtain ⟨rfl, rfl, rfl, rfl, hf⟩ := hq
          refine hv_widen (z' := 3) (k' := 910) (Nat.le_of_ble_eq_true rfl) (Nat.le_of_ble_eq_true rfl) ?_
          exact hv_xret hX hE (fun X hX hE => hx_iret hX hE dX0_itemOf_67 ⟨rfl, rfl, rfl, rfl, hf⟩)
/-! HungryHedge.item(III)I -/
def x_X0_item (a1 : Int32) (a2 : Int32) (a3 : Int32) (s : xS) (rd : xRd) (J : mJ) (I : mI) (Q : Int32 → Prop) : Prop :=
  x_X0_isSheet a1 s rd J I (fun r1 => (r1 = 0 →
    Q (-1) ) ∧ (¬ r1 = 0 →
    x_X0_in a2 0 3 s rd J I (fun r3 => (r3 = 0 →
      Q (-1) ) ∧ (¬ r3 = 0 →
      vp_in a1 4 ∧ (∃ v5 : Nat, xR rd 120 a1.toNatClampNeg = some v5 ∧ (xo s v5 10 ∧ (x_X10_row v5 s rd J I (fun r6 => x_X0_there r6 s rd J I (fun c9 => (c9 = 1 ∧ (Q (-11) ))) (fun r8 => x_X0_itemOf r8 a2 a3 s rd J I (fun c11 => (c11 = 3 ∧ (Q (-13) )) ∨ (c11 = 0 ∧ (Q (-12) ))) (fun r10 => Q r10 ))))))))))
theorem ct_X0_item  (a1 : Int32) (a2 : Int32) (a3 : Int32) (s : xS) (rd : xRd) (J : mJ) (I : mI) (Q : Int32 → Prop) (hf : x_X0_item a1 a2 a3 s rd J I Q) : hh_CtW yX0_item cX0_item 5 (some .int) [((18 : Nat), (37 : Nat), (38 : Nat), (89 : Nat)), ((18 : Nat), (37 : Nat), (43 : Nat), (254 : Nat)), ((18 : Nat), (37 : Nat), (48 : Nat), (82 : Nat))] 8 10342 [.ref 0, .int a1, .int a2, .int a3] (hx s rd J I) (xQi (fun r9 S9 R9 J9 I9 => s = S9 ∧ rd = R9 ∧ J = J9 ∧ I = I9 ∧ Q r9)) 3 910 := by
  refine hh_CtW.of (own := RX0) rfl (by decide +kernel) (Nat.le_of_ble_eq_true rfl) ?_
  intro X hX hN hE hT
  show hh_V X 0 [(0, .ref 0), (1, .int a1), (2, .int a2), (3, .int a3)] [] 0 0 (hx s rd J I)
  unfold x_X0_item at hf
  refine hv_iload_n hX dX0_item_0 rfl 1 rfl ?_
  refine hx_callSi hX dX0_item_1 (ct_X0_isSheet a1 s rd J I _ hf) (lw_S q873 q874 q106 q875) np_X0_isSheet rfl rfl ⟨Nat.le_of_ble_eq_true rfl, Nat.le_of_ble_eq_true rfl⟩ ⟨Nat.le_of_ble_eq_true rfl, Nat.le_of_ble_eq_true rfl⟩ (Nat.le_of_ble_eq_true rfl) ?_
  intro r1 S9 R9 J9 I9 hq
  clear hf
  obtain ⟨rfl, rfl, rfl, rfl, hf⟩ := hq
  refine hv_if_eq (tgt := 16) hX dX0_item_4 (by decide) (fun c2 => ?_) (fun c2 => ?_)
  · replace hf := hf.1 c2
    refine hv_iconst (v := (-1)) hX icx_m1 dX0_item_16 ?_
    refine hv_widen (z' := 3) (k' := 910) (Nat.le_of_ble_eq_true rfl) (Nat.le_of_ble_eq_true rfl) ?_
    exact hx_iret hX hE dX0_item_17 ⟨rfl, rfl, rfl, rfl, hf⟩
  · replace hf := hf.2 c2
    refine hv_iload_n hX dX0_item_7 rfl 2 rfl ?_
    refine hv_iconst (v := 0) hX icx_0 dX0_item_8 ?_
    refine hv_iconst (v := 3) hX icx_3 dX0_item_9 ?_
    refine hx_callSi hX dX0_item_10 (ct_X0_in a2 0 3 s rd J I _ hf) (lw_S q649 q650 q106 q651) np_X0_in rfl rfl ⟨Nat.le_of_ble_eq_true rfl, Nat.le_of_ble_eq_true rfl⟩ ⟨Nat.le_of_ble_eq_true rfl, Nat.le_of_ble_eq_true rfl⟩ (Nat.le_of_ble_eq_true rfl) ?_
    intro r3 S9 R9 J9 I9 hq
    clear hf
    obtain ⟨rfl, rfl, rfl, rfl, hf⟩ := hq
    refine hv_if_ne (tgt := 18) hX dX0_item_13 (by decide) (fun c4 => ?_) (fun c4 => ?_)
    · replace hf := hf.2 c4
      refine hv_aload_n hX dX0_item_18 rfl 0 rfl ?_
      refine hv_aload_n hX dX0_item_19 rfl 0 rfl ?_
      refine hv_aload_n hX dX0_item_20 rfl 0 rfl ?_
      refine hx_getR (v := 120) hX dX0_item_21 fl0_78_0 (xo_c (by decide) rfl) (xR_c rfl) ?_
      refine hv_iload_n hX dX0_item_24 rfl 1 rfl ?_
      obtain ⟨g, hf⟩ := hf
      obtain ⟨v5, gv5, hf⟩ := hf
      refine hx_aald (v := v5) (a := 24) hX 8 rfl (by decide) dX0_item_25 (xo_c (by decide) rfl) (xlen_c (by decide) rfl) g gv5 ?_
      obtain ⟨o7, hf⟩ := hf
      refine hx_callVo (ci := 10) (q := (RX10, TX10, 5)) hX dX0_item_26 (ct_X10_row v5 s rd J I _ hf) (lw_V q876 q877 q878 q119 q879) rfl (by decide) ⟨rfl, np_X10_row⟩ rfl o7 rfl ⟨Nat.le_of_ble_eq_true rfl, Nat.le_of_ble_eq_true rfl⟩ ⟨Nat.le_of_ble_eq_true rfl, Nat.le_of_ble_eq_true rfl⟩ (Nat.le_of_ble_eq_true rfl) ?_
      intro r6 S9 R9 J9 I9 hq
      clear hf
      obtain ⟨rfl, rfl, rfl, rfl, hf⟩ := hq
      refine hx_callVXr (ci := 0) (q := (RX0, TX0, 19)) hX dX0_item_29 (ct_X0_there r6 s rd J I _ _ hf) (lw_V q880 q882 qs12 q106 q883) rfl (by decide) ⟨rfl, np_X0_there⟩ rfl (xo_c (by decide) rfl) rfl ⟨Nat.le_of_ble_eq_true rfl, Nat.le_of_ble_eq_true rfl⟩ ⟨Nat.le_of_ble_eq_true rfl, Nat.le_of_ble_eq_true rfl⟩ (Nat.le_of_ble_eq_true rfl) ?_ ?_
      · intro c9 S9 R9 J9 I9 hq
        clear hf
        obtain ⟨rfl, rfl, rfl, rfl, hf⟩ := hq
        rcases hf with ⟨rfl, hf⟩
        · skip
          refine ht_catch0 (i := 4) (loc2 := [(0, .ref 0), (1, .int a1), (2, .int a2), (3, .int a3)]) hX hN hT (⟨18, 37, 38, 89⟩ : ExceptionTableEntry) (ht_takes.here (by decide) (by decide) q550 (hh_nwm q552 rfl)) (.inr ⟨dX0_item_38, rfl⟩) (Nat.le_of_ble_eq_true rfl) rfl ?_
          refine hv_bipush (v := (-11)) hX bix_m11 dX0_item_40 ?_
          refine hv_widen (z' := 3) (k' := 910) (Nat.le_of_ble_eq_true rfl) (Nat.le_of_ble_eq_true rfl) ?_
          exact hx_iret hX hE dX0_item_42 ⟨rfl, rfl, rfl, rfl, hf⟩
      intro r8 S9 R9 J9 I9 hq
      clear hf
      obtain ⟨rfl, rfl, rfl, rfl, hf⟩ := hq
      refine hv_iload_n hX dX0_item_32 rfl 2 rfl ?_
      refine hv_iload_n hX dX0_item_33 rfl 3 rfl ?_
      refine hx_callVXi (ci := 0) (q := (RX0, TX0, 19)) hX dX0_item_34 (ct_X0_itemOf r8 a2 a3 s rd J I _ _ hf) (lw_V q1282 q1284 qs39 q106 q1285) rfl (by decide) ⟨rfl, np_X0_itemOf⟩ rfl (xo_c (by decide) rfl) rfl ⟨Nat.le_of_ble_eq_true rfl, Nat.le_of_ble_eq_true rfl⟩ ⟨Nat.le_of_ble_eq_true rfl, Nat.le_of_ble_eq_true rfl⟩ (Nat.le_of_ble_eq_true rfl) ?_ ?_
      · intro c11 S9 R9 J9 I9 hq
        clear hf
        obtain ⟨rfl, rfl, rfl, rfl, hf⟩ := hq
        rcases hf with ⟨rfl, hf⟩ | ⟨rfl, hf⟩
        · skip
          refine ht_catch0 (i := 4) (loc2 := [(0, .ref 0), (1, .int a1), (2, .int a2), (3, .int a3)]) hX hN hT (⟨18, 37, 43, 254⟩ : ExceptionTableEntry) (ht_takes.pass (by decide) q550 (by decide) (ht_takes.here (by decide) (by decide) q846 (hh_nwm q866 rfl))) (.inr ⟨dX0_item_43, rfl⟩) (Nat.le_of_ble_eq_true rfl) rfl ?_
          refine hv_bipush (v := (-13)) hX bix_m13 dX0_item_45 ?_
          exact hx_iret hX hE dX0_item_47 ⟨rfl, rfl, rfl, rfl, hf⟩
        · skip
          refine ht_catch0 (i := 4) (loc2 := [(0, .ref 0), (1, .int a1), (2, .int a2), (3, .int a3)]) hX hN hT (⟨18, 37, 48, 82⟩ : ExceptionTableEntry) (ht_takes.pass (by decide) q550 (by decide) (ht_takes.pass (by decide) q846 (by decide) (ht_takes.here (by decide) (by decide) q535 (hh_nwm q537 rfl)))) (.inr ⟨dX0_item_48, rfl⟩) (Nat.le_of_ble_eq_true rfl) rfl ?_
          refine hv_bipush (v := (-12)) hX bix_m12 dX0_item_50 ?_
          exact hx_iret hX hE dX0_item_52 ⟨rfl, rfl, rfl, rfl, hf⟩
      intro r10 S9 R9 J9 I9 hq
      clear hf
      obtain ⟨rfl, rfl, rfl, rfl, hf⟩ := hq
      exact hx_iret hX hE dX0_item_37 ⟨rfl, rfl, rfl, rfl, hf⟩
    · replace hf := hf.1 c4
      refine hv_iconst (v := (-1)) hX icx_m1 dX0_item_16 ?_
      refine hv_widen (z' := 3) (k' := 910) (Nat.le_of_ble_eq_true rfl) (Nat.le_of_ble_eq_true rfl) ?_
      exact hx_iret hX hE dX0_item_17 ⟨rfl, rfl, rfl, rfl, hf⟩
/-! HungryHedge.doneBy([III)I -/
def x_X0_doneBy_j35 (QX : Nat → mI → Prop) (Q : Int32 → mI → Prop) (k6 : Nat → Int32 → Int32 → Int32 → Int32 → xS → xRd → mJ → mI → Prop) (a1 : Nat) (a2 : Int32) (a3 : Int32) (a5 : Int32) (p0 : Int32) (p1 : Int32) (s : xS) (rd : xRd) (J : mJ) (I : mI) : Prop :=
  k6 a1 a2 a3 (p0 + p1) (a5 + 1) s rd J I
theorem w_X0_doneBy_j35 {X : hh_CX} {S0 : xS} {R0 : xRd} {J0 : mJ} {QX : Nat → mI → Prop} {Q : Int32 → mI → Prop} (hX : hh_C X cX0_doneBy RX0 (hrx 4 89 0 0)) (hN : hh_nL X = 6) (hE : hh_EX X (some .int) (xQi (fun r9 S9 R9 J9 I9 => S0 = S9 ∧ R0 = R9 ∧ J0 = J9 ∧ Q r9 I9)) (xQX (fun c9 S9 R9 J9 I9 => S0 = S9 ∧ R0 = R9 ∧ J0 = J9 ∧ QX c9 I9)) 0 0) (hT : hh_XT X []) {k6 : Nat → Int32 → Int32 → Int32 → Int32 → xS → xRd → mJ → mI → Prop} (hk6 : ∀ (b0 : Nat) (b1 : Int32) (b2 : Int32) (b3 : Int32) (b4 : Int32) (s : xS) (rd : xRd) (J : mJ) (I : mI), s = S0 → rd = R0 → J = J0 → k6 b0 b1 b2 b3 b4 s rd J I → hh_V X 6 [(0, .ref 0), (1, .ref b0), (2, .int b1), (3, .int b2), (4, .int b3), (5, .int b4)] [] 0 0 (hx s rd J I)) : ∀ (a1 : Nat) (a2 : Int32) (a3 : Int32) (a5 : Int32) (p0 : Int32) (p1 : Int32) (s : xS) (rd : xRd) (J : mJ) (I : mI), s = S0 → rd = R0 → J = J0 → x_X0_doneBy_j35 QX Q k6 a1 a2 a3 a5 p0 p1 s rd J I → hh_V X 35 [(0, .ref 0), (1, .ref a1), (2, .int a2), (3, .int a3), (5, .int a5)] [.int p1, .int p0] 0 0 (hx s rd J I) := by
  intro a1 a2 a3 a5 p0 p1 s rd J I e0 e1 e2 hf
  subst e0
  subst e1
  subst e2
  unfold x_X0_doneBy_j35 at hf
  refine hv_iadd hX dX0_doneBy_35 ?_
  refine hv_istore (loc2 := [(4, .int (p0 + p1)), (0, .ref 0), (1, .ref a1), (2, .int a2), (3, .int a3), (5, .int a5)]) hX dX0_doneBy_36 hN (Nat.le_of_ble_eq_true rfl) rfl ?_
  refine hv_iinc (v := (a5 + 1)) (loc2 := [(5, .int (a5 + 1)), (4, .int (p0 + p1)), (0, .ref 0), (1, .ref a1), (2, .int a2), (3, .int a3)]) hX dX0_doneBy_38 5 rfl (congrArg (fun y => a5 + y) icx_1) hN (Nat.le_of_ble_eq_true rfl) rfl ?_
  refine hv_goto (tgt := 6) hX dX0_doneBy_41 (by decide) ?_
  refine hv_fewer [2, 3, 4, 5, 1, 0] (loc2 := [(0, .ref 0), (1, .ref a1), (2, .int a2), (3, .int a3), (4, .int (p0 + p1)), (5, .int (a5 + 1))]) rfl ?_
  exact hk6 _ _ _ _ _ _ _ _ _ rfl rfl rfl hf
def x_X0_doneBy_l6 (QX : Nat → mI → Prop) (Q : Int32 → mI → Prop) : Nat → Nat → Int32 → Int32 → Int32 → Int32 → xS → xRd → mJ → mI → Prop
  | 0, _, _, _, _, _, _, _, _, _ => False
  | n + 1, a1, a2, a3, a4, a5, s, rd, J, I =>
    (a3 ≤ a5 →
      Q a4 I) ∧ (¬ a3 ≤ a5 →
      x_X0_intAt a1 (a2 + a5) s rd J I (fun c3 => QX c3 I) (fun r2 => x_X0_does r2 s rd J I (fun r5 I4 => (r5 < 0 →
        x_X0_doneBy_j35 QX Q  (fun b0 b1 b2 b3 b4 s rd J I => x_X0_doneBy_l6 QX Q   n b0 b1 b2 b3 b4 s rd J I) a1 a2 a3 a5 a4 0 s rd J I4) ∧ (¬ r5 < 0 →
        x_X0_doneBy_j35 QX Q  (fun b0 b1 b2 b3 b4 s rd J I => x_X0_doneBy_l6 QX Q   n b0 b1 b2 b3 b4 s rd J I) a1 a2 a3 a5 a4 1 s rd J I4))))
theorem w_X0_doneBy_l6 {X : hh_CX} {S0 : xS} {R0 : xRd} {J0 : mJ} {QX : Nat → mI → Prop} {Q : Int32 → mI → Prop} (hX : hh_C X cX0_doneBy RX0 (hrx 4 89 0 0)) (hN : hh_nL X = 6) (hE : hh_EX X (some .int) (xQi (fun r9 S9 R9 J9 I9 => S0 = S9 ∧ R0 = R9 ∧ J0 = J9 ∧ Q r9 I9)) (xQX (fun c9 S9 R9 J9 I9 => S0 = S9 ∧ R0 = R9 ∧ J0 = J9 ∧ QX c9 I9)) 0 0) (hT : hh_XT X []) : ∀ (n : Nat) (a1 : Nat) (a2 : Int32) (a3 : Int32) (a4 : Int32) (a5 : Int32) (s : xS) (rd : xRd) (J : mJ) (I : mI), s = S0 → rd = R0 → J = J0 → x_X0_doneBy_l6 QX Q  n a1 a2 a3 a4 a5 s rd J I → hh_V X 6 [(0, .ref 0), (1, .ref a1), (2, .int a2), (3, .int a3), (4, .int a4), (5, .int a5)] [] 0 0 (hx s rd J I) := by
  intro n
  induction n with
  | zero => intro _ _ _ _ _ _ _ _ _ _ _ _ hf; exact hf.elim
  | succ n ih =>
    intro a1 a2 a3 a4 a5 s rd J I e0 e1 e2 hf
    subst e0
    subst e1
    subst e2
    unfold x_X0_doneBy_l6 at hf
    refine hv_iload hX dX0_doneBy_6 5 rfl ?_
    refine hv_iload_n hX dX0_doneBy_8 rfl 3 rfl ?_
    refine hv_icmp_ge (tgt := 44) hX dX0_doneBy_9 (by decide) (fun c1 => ?_) (fun c1 => ?_)
    · replace hf := hf.1 c1
      refine hv_iload hX dX0_doneBy_44 4 rfl ?_
      exact hv_xret hX hE (fun X hX hE => hx_iret hX hE dX0_doneBy_46 ⟨rfl, rfl, rfl, hf⟩)
    · replace hf := hf.2 c1
      refine hv_iload hX dX0_doneBy_12 4 rfl ?_
      refine hv_aload_n hX dX0_doneBy_14 rfl 0 rfl ?_
      refine hv_aload_n hX dX0_doneBy_15 rfl 0 rfl ?_
      refine hv_aload_n hX dX0_doneBy_16 rfl 1 rfl ?_
      refine hv_iload_n hX dX0_doneBy_17 rfl 2 rfl ?_
      refine hv_iload hX dX0_doneBy_18 5 rfl ?_
      refine hv_iadd hX dX0_doneBy_20 ?_
      refine hx_callVXi (ci := 0) (q := (RX0, TX0, 19)) hX dX0_doneBy_21 (ct_X0_intAt a1 (a2 + a5) s rd J I _ _ hf) (lw_V q1294 q1296 qs42 q106 q1297) rfl (by decide) ⟨rfl, np_X0_intAt⟩ rfl (xo_c (by decide) rfl) rfl ⟨Nat.le_of_ble_eq_true rfl, Nat.le_of_ble_eq_true rfl⟩ ⟨Nat.le_of_ble_eq_true rfl, Nat.le_of_ble_eq_true rfl⟩ (Nat.le_of_ble_eq_true rfl) ?_ ?_
      · intro c3 S9 R9 J9 I9 hq
        clear hf
        obtain ⟨rfl, rfl, rfl, rfl, hf⟩ := hq
        exact hx_out (c := c3) hX hE hT ⟨Nat.le_of_ble_eq_true rfl, Nat.le_of_ble_eq_true rfl⟩ ⟨rfl, rfl, rfl, hf⟩
      intro r2 S9 R9 J9 I9 hq
      clear hf
      obtain ⟨rfl, rfl, rfl, rfl, hf⟩ := hq
      refine hx_callVi (ci := 0) (q := (RX0, TX0, 19)) hX dX0_doneBy_24 (ct_X0_does r2 s rd J I _ hf) (lw_V q1310 q692 q693 q106 q694) rfl (by decide) ⟨rfl, np_X0_does⟩ rfl (xo_c (by decide) rfl) rfl ⟨Nat.le_of_ble_eq_true rfl, Nat.le_of_ble_eq_true rfl⟩ ⟨Nat.le_of_ble_eq_true rfl, Nat.le_of_ble_eq_true rfl⟩ (Nat.le_of_ble_eq_true rfl) ?_
      intro r5 S9 R9 J9 I4 hq
      clear hf
      obtain ⟨rfl, rfl, rfl, hf⟩ := hq
      refine hv_if_lt (tgt := 34) hX dX0_doneBy_27 (by decide) (fun c6 => ?_) (fun c6 => ?_)
      · replace hf := hf.1 c6
        refine hv_iconst (v := 0) hX icx_0 dX0_doneBy_34 ?_
        refine hv_fewer [0, 1, 2, 3, 5] (loc2 := [(0, .ref 0), (1, .ref a1), (2, .int a2), (3, .int a3), (5, .int a5)]) rfl ?_
        exact w_X0_doneBy_j35 hX hN hE hT ih _ _ _ _ _ _ _ _ _ _ rfl rfl rfl hf
      · replace hf := hf.2 c6
        refine hv_iconst (v := 1) hX icx_1 dX0_doneBy_30 ?_
        refine hv_goto (tgt := 35) hX dX0_doneBy_31 (by decide) ?_
        refine hv_fewer [0, 1, 2, 3, 5] (loc2 := [(0, .ref 0), (1, .ref a1), (2, .int a2), (3, .int a3), (5, .int a5)]) rfl ?_
        exact w_X0_doneBy_j35 hX hN hE hT ih _ _ _ _ _ _ _ _ _ _ rfl rfl rfl hf
def x_X0_doneBy (a1 : Nat) (a2 : Int32) (a3 : Int32) (s : xS) (rd : xRd) (J : mJ) (I : mI) (QX : Nat → mI → Prop) (Q : Int32 → mI → Prop) : Prop :=
  ∃ n0 : Nat, x_X0_doneBy_l6 QX Q   n0 a1 a2 a3 0 0 s rd J I
theorem ct_X0_doneBy  (a1 : Nat) (a2 : Int32) (a3 : Int32) (s : xS) (rd : xRd) (J : mJ) (I : mI) (QX : Nat → mI → Prop) (Q : Int32 → mI → Prop) (hf : x_X0_doneBy a1 a2 a3 s rd J I QX Q) : hh_CtX yX0_doneBy cX0_doneBy 6 (some .int) 4 89 [.ref 0, .ref a1, .int a2, .int a3] (hx s rd J I) (xQi (fun r9 S9 R9 J9 I9 => s = S9 ∧ rd = R9 ∧ J = J9 ∧ Q r9 I9)) (xQX (fun c9 S9 R9 J9 I9 => s = S9 ∧ rd = R9 ∧ J = J9 ∧ QX c9 I9)) 0 0 := by
  refine hh_CtX.of (own := RX0) rfl (by decide +kernel) (Nat.le_of_ble_eq_true rfl) ?_
  intro X hX hN hE hT
  show hh_V X 0 [(0, .ref 0), (1, .ref a1), (2, .int a2), (3, .int a3)] [] 0 0 (hx s rd J I)
  unfold x_X0_doneBy at hf
  refine hv_iconst (v := 0) hX icx_0 dX0_doneBy_0 ?_
  refine hv_istore (loc2 := [(4, .int 0), (0, .ref 0), (1, .ref a1), (2, .int a2), (3, .int a3)]) hX dX0_doneBy_1 hN (Nat.le_of_ble_eq_true rfl) rfl ?_
  refine hv_iconst (v := 0) hX icx_0 dX0_doneBy_3 ?_
  refine hv_istore (loc2 := [(5, .int 0), (4, .int 0), (0, .ref 0), (1, .ref a1), (2, .int a2), (3, .int a3)]) hX dX0_doneBy_4 hN (Nat.le_of_ble_eq_true rfl) rfl ?_
  refine hv_fewer [2, 3, 4, 5, 1, 0] (loc2 := [(0, .ref 0), (1, .ref a1), (2, .int a2), (3, .int a3), (4, .int 0), (5, .int 0)]) rfl ?_
  obtain ⟨n0, hf⟩ := hf
  exact w_X0_doneBy_l6 hX hN hE hT  n0 _ _ _ _ _ _ _ _ _ rfl rfl rfl hf
/-! HungryHedge.acts(III)I -/
def x_X0_acts (a1 : Int32) (a2 : Int32) (a3 : Int32) (s : xS) (rd : xRd) (J : mJ) (I : mI) (Q : Int32 → mI → Prop) : Prop :=
  x_X0_isSheet a1 s rd J I (fun r1 => (r1 = 0 →
    Q (-1) I) ∧ (¬ r1 = 0 →
    x_X0_in a3 0 20 s rd J I (fun r3 => (r3 = 0 →
      Q (-1) I) ∧ (¬ r3 = 0 →
      vp_in a1 4 ∧ (∃ v5 : Nat, xR rd 120 a1.toNatClampNeg = some v5 ∧ (xo s v5 10 ∧ (x_X10_row v5 s rd J I (fun r6 => x_X0_there r6 s rd J I (fun c9 => (c9 = 1 ∧ (Q (-11) I))) (fun r8 => (xo s r8 100 ∧ (x_X0_doneBy r8 a2 a3 s rd J I (fun c14 I13 => (c14 = 0 ∧ (Q (-12) I13))) (fun r12 I11 => Q r12 I11))) ∨ (xo s r8 101 ∧ (Q (-13) I)) ∨ (xo s r8 102 ∧ (Q (-13) I)) ∨ (xo s r8 110 ∧ (Q (-13) I)))))))))))
theorem ct_X0_acts  (a1 : Int32) (a2 : Int32) (a3 : Int32) (s : xS) (rd : xRd) (J : mJ) (I : mI) (Q : Int32 → mI → Prop) (hf : x_X0_acts a1 a2 a3 s rd J I Q) : hh_CtW yX0_acts cX0_acts 5 (some .int) [((19 : Nat), (41 : Nat), (42 : Nat), (89 : Nat)), ((19 : Nat), (41 : Nat), (47 : Nat), (254 : Nat)), ((19 : Nat), (41 : Nat), (52 : Nat), (82 : Nat))] 7 10319 [.ref 0, .int a1, .int a2, .int a3] (hx s rd J I) (xQi (fun r9 S9 R9 J9 I9 => s = S9 ∧ rd = R9 ∧ J = J9 ∧ Q r9 I9)) 3 910 := by
  refine hh_CtW.of (own := RX0) rfl (by decide +kernel) (Nat.le_of_ble_eq_true rfl) ?_
  intro X hX hN hE hT
  show hh_V X 0 [(0, .ref 0), (1, .int a1), (2, .int a2), (3, .int a3)] [] 0 0 (hx s rd J I)
  unfold x_X0_acts at hf
  refine hv_iload_n hX dX0_acts_0 rfl 1 rfl ?_
  refine hx_callSi hX dX0_acts_1 (ct_X0_isSheet a1 s rd J I _ hf) (lw_S q873 q874 q106 q875) np_X0_isSheet rfl rfl ⟨Nat.le_of_ble_eq_true rfl, Nat.le_of_ble_eq_true rfl⟩ ⟨Nat.le_of_ble_eq_true rfl, Nat.le_of_ble_eq_true rfl⟩ (Nat.le_of_ble_eq_true rfl) ?_
  intro r1 S9 R9 J9 I9 hq
  clear hf
  obtain ⟨rfl, rfl, rfl, rfl, hf⟩ := hq
  refine hv_if_eq (tgt := 17) hX dX0_acts_4 (by decide) (fun c2 => ?_) (fun c2 => ?_)
  · replace hf := hf.1 c2
    refine hv_iconst (v := (-1)) hX icx_m1 dX0_acts_17 ?_
    refine hv_widen (z' := 3) (k' := 910) (Nat.le_of_ble_eq_true rfl) (Nat.le_of_ble_eq_true rfl) ?_
    exact hx_iret hX hE dX0_acts_18 ⟨rfl, rfl, rfl, hf⟩
  · replace hf := hf.2 c2
    refine hv_iload_n hX dX0_acts_7 rfl 3 rfl ?_
    refine hv_iconst (v := 0) hX icx_0 dX0_acts_8 ?_
    refine hv_bipush (v := 20) hX bix_20 dX0_acts_9 ?_
    refine hx_callSi hX dX0_acts_11 (ct_X0_in a3 0 20 s rd J I _ hf) (lw_S q649 q650 q106 q651) np_X0_in rfl rfl ⟨Nat.le_of_ble_eq_true rfl, Nat.le_of_ble_eq_true rfl⟩ ⟨Nat.le_of_ble_eq_true rfl, Nat.le_of_ble_eq_true rfl⟩ (Nat.le_of_ble_eq_true rfl) ?_
    intro r3 S9 R9 J9 I9 hq
    clear hf
    obtain ⟨rfl, rfl, rfl, rfl, hf⟩ := hq
    refine hv_if_ne (tgt := 19) hX dX0_acts_14 (by decide) (fun c4 => ?_) (fun c4 => ?_)
    · replace hf := hf.2 c4
      refine hv_aload_n hX dX0_acts_19 rfl 0 rfl ?_
      refine hv_aload_n hX dX0_acts_20 rfl 0 rfl ?_
      refine hv_aload_n hX dX0_acts_21 rfl 0 rfl ?_
      refine hx_getR (v := 120) hX dX0_acts_22 fl0_78_0 (xo_c (by decide) rfl) (xR_c rfl) ?_
      refine hv_iload_n hX dX0_acts_25 rfl 1 rfl ?_
      obtain ⟨g, hf⟩ := hf
      obtain ⟨v5, gv5, hf⟩ := hf
      refine hx_aald (v := v5) (a := 24) hX 8 rfl (by decide) dX0_acts_26 (xo_c (by decide) rfl) (xlen_c (by decide) rfl) g gv5 ?_
      obtain ⟨o7, hf⟩ := hf
      refine hx_callVo (ci := 10) (q := (RX10, TX10, 5)) hX dX0_acts_27 (ct_X10_row v5 s rd J I _ hf) (lw_V q876 q877 q878 q119 q879) rfl (by decide) ⟨rfl, np_X10_row⟩ rfl o7 rfl ⟨Nat.le_of_ble_eq_true rfl, Nat.le_of_ble_eq_true rfl⟩ ⟨Nat.le_of_ble_eq_true rfl, Nat.le_of_ble_eq_true rfl⟩ (Nat.le_of_ble_eq_true rfl) ?_
      intro r6 S9 R9 J9 I9 hq
      clear hf
      obtain ⟨rfl, rfl, rfl, rfl, hf⟩ := hq
      refine hx_callVXr (ci := 0) (q := (RX0, TX0, 19)) hX dX0_acts_30 (ct_X0_there r6 s rd J I _ _ hf) (lw_V q880 q882 qs12 q106 q883) rfl (by decide) ⟨rfl, np_X0_there⟩ rfl (xo_c (by decide) rfl) rfl ⟨Nat.le_of_ble_eq_true rfl, Nat.le_of_ble_eq_true rfl⟩ ⟨Nat.le_of_ble_eq_true rfl, Nat.le_of_ble_eq_true rfl⟩ (Nat.le_of_ble_eq_true rfl) ?_ ?_
      · intro c9 S9 R9 J9 I9 hq
        clear hf
        obtain ⟨rfl, rfl, rfl, rfl, hf⟩ := hq
        rcases hf with ⟨rfl, hf⟩
        · skip
          refine ht_catch0 (i := 4) (loc2 := [(0, .ref 0), (1, .int a1), (2, .int a2), (3, .int a3)]) hX hN hT (⟨19, 41, 42, 89⟩ : ExceptionTableEntry) (ht_takes.here (by decide) (by decide) q550 (hh_nwm q552 rfl)) (.inr ⟨dX0_acts_42, rfl⟩) (Nat.le_of_ble_eq_true rfl) rfl ?_
          refine hv_bipush (v := (-11)) hX bix_m11 dX0_acts_44 ?_
          refine hv_widen (z' := 3) (k' := 910) (Nat.le_of_ble_eq_true rfl) (Nat.le_of_ble_eq_true rfl) ?_
          exact hx_iret hX hE dX0_acts_46 ⟨rfl, rfl, rfl, hf⟩
      intro r8 S9 R9 J9 I9 hq
      clear hf
      obtain ⟨rfl, rfl, rfl, rfl, hf⟩ := hq
      rcases hf with ⟨o10, hf⟩ | ⟨o10, hf⟩ | ⟨o10, hf⟩ | ⟨o10, hf⟩
      · skip
        refine hx_cast hX q1273 o10 isC_100 (.inl rfl) dX0_acts_33 ?_
        refine hv_iload_n hX dX0_acts_36 rfl 2 rfl ?_
        refine hv_iload_n hX dX0_acts_37 rfl 3 rfl ?_
        refine hx_callVXi (ci := 0) (q := (RX0, TX0, 19)) hX dX0_acts_38 (ct_X0_doneBy r8 a2 a3 s rd J I _ _ hf) (lw_V q1306 q1308 qs44 q106 q1309) rfl (by decide) ⟨rfl, np_X0_doneBy⟩ rfl (xo_c (by decide) rfl) rfl ⟨Nat.le_of_ble_eq_true rfl, Nat.le_of_ble_eq_true rfl⟩ ⟨Nat.le_of_ble_eq_true rfl, Nat.le_of_ble_eq_true rfl⟩ (Nat.le_of_ble_eq_true rfl) ?_ ?_
        · intro c14 S9 R9 J9 I13 hq
          clear hf
          obtain ⟨rfl, rfl, rfl, hf⟩ := hq
          rcases hf with ⟨rfl, hf⟩
          · skip
            refine ht_catch0 (i := 4) (loc2 := [(0, .ref 0), (1, .int a1), (2, .int a2), (3, .int a3)]) hX hN hT (⟨19, 41, 52, 82⟩ : ExceptionTableEntry) (ht_takes.pass (by decide) q550 (by decide) (ht_takes.pass (by decide) q846 (by decide) (ht_takes.here (by decide) (by decide) q535 (hh_nwm q537 rfl)))) (.inr ⟨dX0_acts_52, rfl⟩) (Nat.le_of_ble_eq_true rfl) rfl ?_
            refine hv_bipush (v := (-12)) hX bix_m12 dX0_acts_54 ?_
            refine hv_widen (z' := 3) (k' := 910) (Nat.le_of_ble_eq_true rfl) (Nat.le_of_ble_eq_true rfl) ?_
            exact hx_iret hX hE dX0_acts_56 ⟨rfl, rfl, rfl, hf⟩
        intro r12 S9 R9 J9 I11 hq
        clear hf
        obtain ⟨rfl, rfl, rfl, hf⟩ := hq
        refine hv_widen (z' := 3) (k' := 910) (Nat.le_of_ble_eq_true rfl) (Nat.le_of_ble_eq_true rfl) ?_
        exact hx_iret hX hE dX0_acts_41 ⟨rfl, rfl, rfl, hf⟩
      · skip
        refine hx_castZ hX q1273 o10 isC_101 (by decide) (by decide) (by decide) dX0_acts_33 ⟨Nat.le_of_ble_eq_true rfl, Nat.le_of_ble_eq_true rfl⟩ ⟨Nat.le_of_ble_eq_true rfl, Nat.le_of_ble_eq_true rfl⟩ ?_
        refine ht_catch0 (i := 4) (loc2 := [(0, .ref 0), (1, .int a1), (2, .int a2), (3, .int a3)]) hX hN hT (⟨19, 41, 47, 254⟩ : ExceptionTableEntry) (ht_takes.pass (by decide) q550 (by decide) (ht_takes.here (by decide) (by decide) q846 (hh_nwm q866 rfl))) (.inr ⟨dX0_acts_47, rfl⟩) (Nat.le_of_ble_eq_true rfl) rfl ?_
        refine hv_bipush (v := (-13)) hX bix_m13 dX0_acts_49 ?_
        exact hx_iret hX hE dX0_acts_51 ⟨rfl, rfl, rfl, hf⟩
      · skip
        refine hx_castZ hX q1273 o10 isC_102 (by decide) (by decide) (by decide) dX0_acts_33 ⟨Nat.le_of_ble_eq_true rfl, Nat.le_of_ble_eq_true rfl⟩ ⟨Nat.le_of_ble_eq_true rfl, Nat.le_of_ble_eq_true rfl⟩ ?_
        refine ht_catch0 (i := 4) (loc2 := [(0, .ref 0), (1, .int a1), (2, .int a2), (3, .int a3)]) hX hN hT (⟨19, 41, 47, 254⟩ : ExceptionTableEntry) (ht_takes.pass (by decide) q550 (by decide) (ht_takes.here (by decide) (by decide) q846 (hh_nwm q866 rfl))) (.inr ⟨dX0_acts_47, rfl⟩) (Nat.le_of_ble_eq_true rfl) rfl ?_
        refine hv_bipush (v := (-13)) hX bix_m13 dX0_acts_49 ?_
        exact hx_iret hX hE dX0_acts_51 ⟨rfl, rfl, rfl, hf⟩
      · skip
        refine hx_castZ hX q1273 o10 isC_110 (by decide) (by decide) (by decide) dX0_acts_33 ⟨Nat.le_of_ble_eq_true rfl, Nat.le_of_ble_eq_true rfl⟩ ⟨Nat.le_of_ble_eq_true rfl, Nat.le_of_ble_eq_true rfl⟩ ?_
        refine ht_catch0 (i := 4) (loc2 := [(0, .ref 0), (1, .int a1), (2, .int a2), (3, .int a3)]) hX hN hT (⟨19, 41, 47, 254⟩ : ExceptionTableEntry) (ht_takes.pass (by decide) q550 (by decide) (ht_takes.here (by decide) (by decide) q846 (hh_nwm q866 rfl))) (.inr ⟨dX0_acts_47, rfl⟩) (Nat.le_of_ble_eq_true rfl) rfl ?_
        refine hv_bipush (v := (-13)) hX bix_m13 dX0_acts_49 ?_
        exact hx_iret hX hE dX0_acts_51 ⟨rfl, rfl, rfl, hf⟩
    · replace hf := hf.1 c4
      refine hv_iconst (v := (-1)) hX icx_m1 dX0_acts_17 ?_
      refine hv_widen (z' := 3) (k' := 910) (Nat.le_of_ble_eq_true rfl) (Nat.le_of_ble_eq_true rfl) ?_
      exact hx_iret hX hE dX0_acts_18 ⟨rfl, rfl, rfl, hf⟩
/-! HungryHedge.isShelf(I)Z -/
def x_X0_isShelf (a0 : Int32) (s : xS) (rd : xRd) (J : mJ) (I : mI) (Q : Int32 → Prop) : Prop :=
  x_X0_in a0 0 3 s rd J I (fun r1 => (r1 = 0 ∨ r1 = 1) ∧ (Q r1 ))
theorem ct_X0_isShelf  (a0 : Int32) (s : xS) (rd : xRd) (J : mJ) (I : mI) (Q : Int32 → Prop) (hf : x_X0_isShelf a0 s rd J I Q) : hh_Ct yX0_isShelf cX0_isShelf 1 (some .boolean) 1 22 [.int a0] (hx s rd J I) (xQi (fun r9 S9 R9 J9 I9 => s = S9 ∧ rd = R9 ∧ J = J9 ∧ I = I9 ∧ Q r9)) 0 0 := by
  refine hh_Ct.of (own := RX0) rfl (by decide +kernel) (Nat.le_of_ble_eq_true rfl) ?_
  intro X hX hN hE
  show hh_V X 0 [(0, .int a0)] [] 0 0 (hx s rd J I)
  unfold x_X0_isShelf at hf
  refine hv_iload_n hX dX0_isShelf_0 rfl 0 rfl ?_
  refine hv_iconst (v := 0) hX icx_0 dX0_isShelf_1 ?_
  refine hv_iconst (v := 3) hX icx_3 dX0_isShelf_2 ?_
  refine hx_callSi hX dX0_isShelf_3 (ct_X0_in a0 0 3 s rd J I _ hf) (lw_S q649 q650 q106 q651) np_X0_in rfl rfl ⟨Nat.le_of_ble_eq_true rfl, Nat.le_of_ble_eq_true rfl⟩ ⟨Nat.le_of_ble_eq_true rfl, Nat.le_of_ble_eq_true rfl⟩ (Nat.le_of_ble_eq_true rfl) ?_
  intro r1 S9 R9 J9 I9 hq
  clear hf
  obtain ⟨rfl, rfl, rfl, rfl, hf⟩ := hq
  obtain ⟨g, hf⟩ := hf
  exact hx_zret hX hE dX0_isShelf_6 g ⟨rfl, rfl, rfl, rfl, hf⟩
/-! HungryHedge.isRisk(I)Z -/
def x_X0_isRisk (a1 : Int32) (s : xS) (rd : xRd) (J : mJ) (I : mI) (Q : Int32 → Prop) : Prop :=
  x_X0_in a1 0 ((I 1 1) - 1) s rd J I (fun r1 => (r1 = 0 ∨ r1 = 1) ∧ (Q r1 ))
theorem ct_X0_isRisk  (a1 : Int32) (s : xS) (rd : xRd) (J : mJ) (I : mI) (Q : Int32 → Prop) (hf : x_X0_isRisk a1 s rd J I Q) : hh_Ct yX0_isRisk cX0_isRisk 2 (some .boolean) 1 22 [.ref 0, .int a1] (hx s rd J I) (xQi (fun r9 S9 R9 J9 I9 => s = S9 ∧ rd = R9 ∧ J = J9 ∧ I = I9 ∧ Q r9)) 0 0 := by
  refine hh_Ct.of (own := RX0) rfl (by decide +kernel) (Nat.le_of_ble_eq_true rfl) ?_
  intro X hX hN hE
  show hh_V X 0 [(0, .ref 0), (1, .int a1)] [] 0 0 (hx s rd J I)
  unfold x_X0_isRisk at hf
  refine hv_iload_n hX dX0_isRisk_0 rfl 1 rfl ?_
  refine hv_iconst (v := 0) hX icx_0 dX0_isRisk_1 ?_
  refine hv_aload_n hX dX0_isRisk_2 rfl 0 rfl ?_
  refine hx_getR (v := 1) hX dX0_isRisk_3 fl0_10_0 (xo_c (by decide) rfl) (xR_c rfl) ?_
  refine hx_getI (v := (I 1 1)) hX dX0_isRisk_6 fl0_221_1 (.inl rfl) (xo_c (by decide) rfl) rfl ?_
  refine hv_iconst (v := 1) hX icx_1 dX0_isRisk_9 ?_
  refine hv_isub hX dX0_isRisk_10 ?_
  refine hx_callSi hX dX0_isRisk_11 (ct_X0_in a1 0 ((I 1 1) - 1) s rd J I _ hf) (lw_S q649 q650 q106 q651) np_X0_in rfl rfl ⟨Nat.le_of_ble_eq_true rfl, Nat.le_of_ble_eq_true rfl⟩ ⟨Nat.le_of_ble_eq_true rfl, Nat.le_of_ble_eq_true rfl⟩ (Nat.le_of_ble_eq_true rfl) ?_
  intro r1 S9 R9 J9 I9 hq
  clear hf
  obtain ⟨rfl, rfl, rfl, rfl, hf⟩ := hq
  obtain ⟨g, hf⟩ := hf
  exact hx_zret hX hE dX0_isRisk_14 g ⟨rfl, rfl, rfl, rfl, hf⟩
/-! HungryHedge.shelf(III)I -/
def x_X0_shelf_j96 (Q : Int32 → xRd → mI → Prop) (a1 : Int32) (a2 : Int32) (a3 : Int32) (p0 : Nat) (p1 : Int32) (s : xS) (rd : xRd) (J : mJ) (I : mI) : Prop :=
  xo s p0 13 ∧ (vp_in a1 4 ∧ (∃ v14 : Nat, xR rd 128 a1.toNatClampNeg = some v14 ∧ ((a2 = 3 →
    vp_in a3 4 ∧ (∃ v17 : Nat, xR rd 120 a3.toNatClampNeg = some v17 ∧ (xo s v17 10 ∧ (x_X10_row v17 s rd J (u2 I p0 1 p1) (fun r18 => xo s v14 13 ∧ (xR0 v14 2 = none ∧ (Q 1 (u2 rd v14 2 r18) (u2 I p0 1 p1)))))))) ∧ (¬ a2 = 3 →
    xo s v14 13 ∧ (xR0 v14 2 = none ∧ (Q 1 (u2 rd v14 2 none) (u2 I p0 1 p1)))))))
theorem w_X0_shelf_j96 {X : hh_CX} {S0 : xS} {J0 : mJ} {Q : Int32 → xRd → mI → Prop} (hX : hh_C X cX0_shelf RX0 (hrx 2 43 0 0)) (hN : hh_nL X = 4) (hE : hh_E X (some .int) (xQi (fun r9 S9 R9 J9 I9 => S0 = S9 ∧ J0 = J9 ∧ Q r9 R9 I9)) 0 0) : ∀ (a1 : Int32) (a2 : Int32) (a3 : Int32) (p0 : Nat) (p1 : Int32) (s : xS) (rd : xRd) (J : mJ) (I : mI), s = S0 → J = J0 → x_X0_shelf_j96 Q  a1 a2 a3 p0 p1 s rd J I → hh_V X 96 [(0, .ref 0), (1, .int a1), (2, .int a2), (3, .int a3)] [.int p1, .ref p0] 0 0 (hx s rd J I) := by
  intro a1 a2 a3 p0 p1 s rd J I e0 e1 hf
  subst e0
  subst e1
  unfold x_X0_shelf_j96 at hf
  obtain ⟨o13, hf⟩ := hf
  refine hx_putI hX dX0_shelf_96 fl0_413_13 o13 ?_
  refine hv_aload_n hX dX0_shelf_99 rfl 0 rfl ?_
  refine hx_getR (v := 128) hX dX0_shelf_100 fl0_103_0 (xo_c (by decide) rfl) (xR_c rfl) ?_
  refine hv_iload_n hX dX0_shelf_103 rfl 1 rfl ?_
  obtain ⟨g, hf⟩ := hf
  obtain ⟨v14, gv14, hf⟩ := hf
  refine hx_aald (v := v14) (a := 25) hX 9 rfl (by decide) dX0_shelf_104 (xo_c (by decide) rfl) (xlen_c (by decide) rfl) g gv14 ?_
  refine hv_iload_n hX dX0_shelf_105 rfl 2 rfl ?_
  refine hv_iconst (v := 3) hX icx_3 dX0_shelf_106 ?_
  refine hv_icmp_ne (tgt := 122) hX dX0_shelf_107 (by decide) (fun c15 => ?_) (fun c15 => ?_)
  · replace hf := hf.2 c15
    refine hv_null hX dX0_shelf_122 ?_
    obtain ⟨o16, hf⟩ := hf
    obtain ⟨g, hf⟩ := hf
    refine hx_putO (v := none) hX dX0_shelf_123 fl0_432_13 o16 g ?_
    refine hv_iconst (v := 1) hX icx_1 dX0_shelf_126 ?_
    exact hx_iret hX hE dX0_shelf_127 ⟨rfl, rfl, hf⟩
  · replace hf := hf.1 c15
    refine hv_aload_n hX dX0_shelf_110 rfl 0 rfl ?_
    refine hx_getR (v := 120) hX dX0_shelf_111 fl0_78_0 (xo_c (by decide) rfl) (xR_c rfl) ?_
    refine hv_iload_n hX dX0_shelf_114 rfl 3 rfl ?_
    obtain ⟨g, hf⟩ := hf
    obtain ⟨v17, gv17, hf⟩ := hf
    refine hx_aald (v := v17) (a := 24) hX 8 rfl (by decide) dX0_shelf_115 (xo_c (by decide) rfl) (xlen_c (by decide) rfl) g gv17 ?_
    obtain ⟨o19, hf⟩ := hf
    refine hx_callVo (ci := 10) (q := (RX10, TX10, 5)) hX dX0_shelf_116 (ct_X10_row v17 s rd J (u2 I p0 1 p1) _ hf) (lw_V q876 q877 q878 q119 q879) rfl (by decide) ⟨rfl, np_X10_row⟩ rfl o19 rfl ⟨Nat.le_of_ble_eq_true rfl, Nat.le_of_ble_eq_true rfl⟩ ⟨Nat.le_of_ble_eq_true rfl, Nat.le_of_ble_eq_true rfl⟩ (Nat.le_of_ble_eq_true rfl) ?_
    intro r18 S9 R9 J9 I9 hq
    clear hf
    obtain ⟨rfl, rfl, rfl, rfl, hf⟩ := hq
    refine hv_goto (tgt := 123) hX dX0_shelf_119 (by decide) ?_
    obtain ⟨o20, hf⟩ := hf
    obtain ⟨g, hf⟩ := hf
    refine hx_putO (v := r18) hX dX0_shelf_123 fl0_432_13 o20 g ?_
    refine hv_iconst (v := 1) hX icx_1 dX0_shelf_126 ?_
    exact hx_iret hX hE dX0_shelf_127 ⟨rfl, rfl, hf⟩
def x_X0_shelf_j70 (Q : Int32 → xRd → mI → Prop) (a1 : Int32) (a2 : Int32) (a3 : Int32) (s : xS) (rd : xRd) (J : mJ) (I : mI) : Prop :=
  vp_in a1 4 ∧ (∃ v9 : Nat, xR rd 128 a1.toNatClampNeg = some v9 ∧ (xo s v9 13 ∧ (vp_in a1 4 ∧ (∃ v11 : Nat, xR rd 128 a1.toNatClampNeg = some v11 ∧ (((2 : Int32) ≤ a2 →
    x_X0_shelf_j96 Q   a1 a2 a3 v11 0 s rd J (u2 I v9 0 a2)) ∧ (¬ (2 : Int32) ≤ a2 →
    x_X0_shelf_j96 Q   a1 a2 a3 v11 a3 s rd J (u2 I v9 0 a2)))))))
theorem w_X0_shelf_j70 {X : hh_CX} {S0 : xS} {J0 : mJ} {Q : Int32 → xRd → mI → Prop} (hX : hh_C X cX0_shelf RX0 (hrx 2 43 0 0)) (hN : hh_nL X = 4) (hE : hh_E X (some .int) (xQi (fun r9 S9 R9 J9 I9 => S0 = S9 ∧ J0 = J9 ∧ Q r9 R9 I9)) 0 0) : ∀ (a1 : Int32) (a2 : Int32) (a3 : Int32) (s : xS) (rd : xRd) (J : mJ) (I : mI), s = S0 → J = J0 → x_X0_shelf_j70 Q  a1 a2 a3 s rd J I → hh_V X 70 [(0, .ref 0), (1, .int a1), (2, .int a2), (3, .int a3)] [] 0 0 (hx s rd J I) := by
  intro a1 a2 a3 s rd J I e0 e1 hf
  subst e0
  subst e1
  unfold x_X0_shelf_j70 at hf
  refine hv_aload_n hX dX0_shelf_70 rfl 0 rfl ?_
  refine hx_getR (v := 128) hX dX0_shelf_71 fl0_103_0 (xo_c (by decide) rfl) (xR_c rfl) ?_
  refine hv_iload_n hX dX0_shelf_74 rfl 1 rfl ?_
  obtain ⟨g, hf⟩ := hf
  obtain ⟨v9, gv9, hf⟩ := hf
  refine hx_aald (v := v9) (a := 25) hX 9 rfl (by decide) dX0_shelf_75 (xo_c (by decide) rfl) (xlen_c (by decide) rfl) g gv9 ?_
  refine hv_iload_n hX dX0_shelf_76 rfl 2 rfl ?_
  obtain ⟨o10, hf⟩ := hf
  refine hx_putI hX dX0_shelf_77 fl0_410_13 o10 ?_
  refine hv_aload_n hX dX0_shelf_80 rfl 0 rfl ?_
  refine hx_getR (v := 128) hX dX0_shelf_81 fl0_103_0 (xo_c (by decide) rfl) (xR_c rfl) ?_
  refine hv_iload_n hX dX0_shelf_84 rfl 1 rfl ?_
  obtain ⟨g, hf⟩ := hf
  obtain ⟨v11, gv11, hf⟩ := hf
  refine hx_aald (v := v11) (a := 25) hX 9 rfl (by decide) dX0_shelf_85 (xo_c (by decide) rfl) (xlen_c (by decide) rfl) g gv11 ?_
  refine hv_iload_n hX dX0_shelf_86 rfl 2 rfl ?_
  refine hv_iconst (v := 2) hX icx_2 dX0_shelf_87 ?_
  refine hv_icmp_ge (tgt := 95) hX dX0_shelf_88 (by decide) (fun c12 => ?_) (fun c12 => ?_)
  · replace hf := hf.1 c12
    refine hv_iconst (v := 0) hX icx_0 dX0_shelf_95 ?_
    exact w_X0_shelf_j96 hX hN hE  _ _ _ _ _ _ _ _ _ rfl rfl hf
  · replace hf := hf.2 c12
    refine hv_iload_n hX dX0_shelf_91 rfl 3 rfl ?_
    refine hv_goto (tgt := 96) hX dX0_shelf_92 (by decide) ?_
    exact w_X0_shelf_j96 hX hN hE  _ _ _ _ _ _ _ _ _ rfl rfl hf
def x_X0_shelf_j56 (Q : Int32 → xRd → mI → Prop) (a1 : Int32) (a2 : Int32) (a3 : Int32) (s : xS) (rd : xRd) (J : mJ) (I : mI) : Prop :=
  (a2 = 3 →
    x_X0_isSheet a3 s rd J I (fun r21 => (r21 = 0 →
      Q (-1) rd I) ∧ (¬ r21 = 0 →
      x_X0_shelf_j70 Q   a1 a2 a3 s rd J I))) ∧ (¬ a2 = 3 →
    x_X0_shelf_j70 Q   a1 a2 a3 s rd J I)
theorem w_X0_shelf_j56 {X : hh_CX} {S0 : xS} {J0 : mJ} {Q : Int32 → xRd → mI → Prop} (hX : hh_C X cX0_shelf RX0 (hrx 2 43 0 0)) (hN : hh_nL X = 4) (hE : hh_E X (some .int) (xQi (fun r9 S9 R9 J9 I9 => S0 = S9 ∧ J0 = J9 ∧ Q r9 R9 I9)) 0 0) : ∀ (a1 : Int32) (a2 : Int32) (a3 : Int32) (s : xS) (rd : xRd) (J : mJ) (I : mI), s = S0 → J = J0 → x_X0_shelf_j56 Q  a1 a2 a3 s rd J I → hh_V X 56 [(0, .ref 0), (1, .int a1), (2, .int a2), (3, .int a3)] [] 0 0 (hx s rd J I) := by
  intro a1 a2 a3 s rd J I e0 e1 hf
  subst e0
  subst e1
  unfold x_X0_shelf_j56 at hf
  refine hv_iload_n hX dX0_shelf_56 rfl 2 rfl ?_
  refine hv_iconst (v := 3) hX icx_3 dX0_shelf_57 ?_
  refine hv_icmp_ne (tgt := 70) hX dX0_shelf_58 (by decide) (fun c8 => ?_) (fun c8 => ?_)
  · replace hf := hf.2 c8
    exact w_X0_shelf_j70 hX hN hE  _ _ _ _ _ _ _ rfl rfl hf
  · replace hf := hf.1 c8
    refine hv_iload_n hX dX0_shelf_61 rfl 3 rfl ?_
    refine hx_callSi hX dX0_shelf_62 (ct_X0_isSheet a3 s rd J I _ hf) (lw_S q873 q874 q106 q875) np_X0_isSheet rfl rfl ⟨Nat.le_of_ble_eq_true rfl, Nat.le_of_ble_eq_true rfl⟩ ⟨Nat.le_of_ble_eq_true rfl, Nat.le_of_ble_eq_true rfl⟩ (Nat.le_of_ble_eq_true rfl) ?_
    intro r21 S9 R9 J9 I9 hq
    clear hf
    obtain ⟨rfl, rfl, rfl, rfl, hf⟩ := hq
    refine hv_if_ne (tgt := 70) hX dX0_shelf_65 (by decide) (fun c22 => ?_) (fun c22 => ?_)
    · replace hf := hf.2 c22
      exact w_X0_shelf_j70 hX hN hE  _ _ _ _ _ _ _ rfl rfl hf
    · replace hf := hf.1 c22
      refine hv_iconst (v := (-1)) hX icx_m1 dX0_shelf_68 ?_
      exact hx_iret hX hE dX0_shelf_69 ⟨rfl, rfl, hf⟩
def x_X0_shelf_j41 (Q : Int32 → xRd → mI → Prop) (a1 : Int32) (a2 : Int32) (a3 : Int32) (s : xS) (rd : xRd) (J : mJ) (I : mI) : Prop :=
  (a2 = 2 →
    ((I 1 0) = 0 →
      Q (-1) rd I) ∧ (¬ (I 1 0) = 0 →
      x_X0_shelf_j56 Q   a1 a2 a3 s rd J I)) ∧ (¬ a2 = 2 →
    x_X0_shelf_j56 Q   a1 a2 a3 s rd J I)
theorem w_X0_shelf_j41 {X : hh_CX} {S0 : xS} {J0 : mJ} {Q : Int32 → xRd → mI → Prop} (hX : hh_C X cX0_shelf RX0 (hrx 2 43 0 0)) (hN : hh_nL X = 4) (hE : hh_E X (some .int) (xQi (fun r9 S9 R9 J9 I9 => S0 = S9 ∧ J0 = J9 ∧ Q r9 R9 I9)) 0 0) : ∀ (a1 : Int32) (a2 : Int32) (a3 : Int32) (s : xS) (rd : xRd) (J : mJ) (I : mI), s = S0 → J = J0 → x_X0_shelf_j41 Q  a1 a2 a3 s rd J I → hh_V X 41 [(0, .ref 0), (1, .int a1), (2, .int a2), (3, .int a3)] [] 0 0 (hx s rd J I) := by
  intro a1 a2 a3 s rd J I e0 e1 hf
  subst e0
  subst e1
  unfold x_X0_shelf_j41 at hf
  refine hv_iload_n hX dX0_shelf_41 rfl 2 rfl ?_
  refine hv_iconst (v := 2) hX icx_2 dX0_shelf_42 ?_
  refine hv_icmp_ne (tgt := 56) hX dX0_shelf_43 (by decide) (fun c7 => ?_) (fun c7 => ?_)
  · replace hf := hf.2 c7
    exact w_X0_shelf_j56 hX hN hE  _ _ _ _ _ _ _ rfl rfl hf
  · replace hf := hf.1 c7
    refine hv_aload_n hX dX0_shelf_46 rfl 0 rfl ?_
    refine hx_getR (v := 1) hX dX0_shelf_47 fl0_10_0 (xo_c (by decide) rfl) (xR_c rfl) ?_
    refine hx_getI (v := (I 1 0)) hX dX0_shelf_50 fl0_107_1 (.inl rfl) (xo_c (by decide) rfl) rfl ?_
    refine hv_if_eq (tgt := 68) hX dX0_shelf_53 (by decide) (fun c23 => ?_) (fun c23 => ?_)
    · replace hf := hf.1 c23
      refine hv_iconst (v := (-1)) hX icx_m1 dX0_shelf_68 ?_
      exact hx_iret hX hE dX0_shelf_69 ⟨rfl, rfl, hf⟩
    · replace hf := hf.2 c23
      exact w_X0_shelf_j56 hX hN hE  _ _ _ _ _ _ _ rfl rfl hf
def x_X0_shelf_j28 (Q : Int32 → xRd → mI → Prop) (a1 : Int32) (a2 : Int32) (a3 : Int32) (s : xS) (rd : xRd) (J : mJ) (I : mI) : Prop :=
  (a2 = 1 →
    x_X0_isRisk a3 s rd J I (fun r24 => (r24 = 0 →
      Q (-1) rd I) ∧ (¬ r24 = 0 →
      x_X0_shelf_j41 Q   a1 a2 a3 s rd J I))) ∧ (¬ a2 = 1 →
    x_X0_shelf_j41 Q   a1 a2 a3 s rd J I)
theorem w_X0_shelf_j28 {X : hh_CX} {S0 : xS} {J0 : mJ} {Q : Int32 → xRd → mI → Prop} (hX : hh_C X cX0_shelf RX0 (hrx 2 43 0 0)) (hN : hh_nL X = 4) (hE : hh_E X (some .int) (xQi (fun r9 S9 R9 J9 I9 => S0 = S9 ∧ J0 = J9 ∧ Q r9 R9 I9)) 0 0) : ∀ (a1 : Int32) (a2 : Int32) (a3 : Int32) (s : xS) (rd : xRd) (J : mJ) (I : mI), s = S0 → J = J0 → x_X0_shelf_j28 Q  a1 a2 a3 s rd J I → hh_V X 28 [(0, .ref 0), (1, .int a1), (2, .int a2), (3, .int a3)] [] 0 0 (hx s rd J I) := by
  intro a1 a2 a3 s rd J I e0 e1 hf
  subst e0
  subst e1
  unfold x_X0_shelf_j28 at hf
  refine hv_iload_n hX dX0_shelf_28 rfl 2 rfl ?_
  refine hv_iconst (v := 1) hX icx_1 dX0_shelf_29 ?_
  refine hv_icmp_ne (tgt := 41) hX dX0_shelf_30 (by decide) (fun c6 => ?_) (fun c6 => ?_)
  · replace hf := hf.2 c6
    exact w_X0_shelf_j41 hX hN hE  _ _ _ _ _ _ _ rfl rfl hf
  · replace hf := hf.1 c6
    refine hv_aload_n hX dX0_shelf_33 rfl 0 rfl ?_
    refine hv_iload_n hX dX0_shelf_34 rfl 3 rfl ?_
    refine hx_callVi (ci := 0) (q := (RX0, TX0, 19)) hX dX0_shelf_35 (ct_X0_isRisk a3 s rd J I _ hf) (lw_V q1318 q1320 qs45 q106 q1321) rfl (by decide) ⟨rfl, np_X0_isRisk⟩ rfl (xo_c (by decide) rfl) rfl ⟨Nat.le_of_ble_eq_true rfl, Nat.le_of_ble_eq_true rfl⟩ ⟨Nat.le_of_ble_eq_true rfl, Nat.le_of_ble_eq_true rfl⟩ (Nat.le_of_ble_eq_true rfl) ?_
    intro r24 S9 R9 J9 I9 hq
    clear hf
    obtain ⟨rfl, rfl, rfl, rfl, hf⟩ := hq
    refine hv_if_eq (tgt := 68) hX dX0_shelf_38 (by decide) (fun c25 => ?_) (fun c25 => ?_)
    · replace hf := hf.1 c25
      refine hv_iconst (v := (-1)) hX icx_m1 dX0_shelf_68 ?_
      exact hx_iret hX hE dX0_shelf_69 ⟨rfl, rfl, hf⟩
    · replace hf := hf.2 c25
      exact w_X0_shelf_j41 hX hN hE  _ _ _ _ _ _ _ rfl rfl hf
def x_X0_shelf (a1 : Int32) (a2 : Int32) (a3 : Int32) (s : xS) (rd : xRd) (J : mJ) (I : mI) (Q : Int32 → xRd → mI → Prop) : Prop :=
  x_X0_isShelf a1 s rd J I (fun r1 => (r1 = 0 →
    Q (-1) rd I) ∧ (¬ r1 = 0 →
    x_X0_in a2 0 4 s rd J I (fun r3 => (r3 = 0 →
      Q (-1) rd I) ∧ (¬ r3 = 0 →
      (a2 = 0 →
        x_X0_isPatch a3 s rd J I (fun r26 => (r26 = 0 →
          Q (-1) rd I) ∧ (¬ r26 = 0 →
          x_X0_shelf_j28 Q   a1 a2 a3 s rd J I))) ∧ (¬ a2 = 0 →
        x_X0_shelf_j28 Q   a1 a2 a3 s rd J I)))))
theorem ct_X0_shelf  (a1 : Int32) (a2 : Int32) (a3 : Int32) (s : xS) (rd : xRd) (J : mJ) (I : mI) (Q : Int32 → xRd → mI → Prop) (hf : x_X0_shelf a1 a2 a3 s rd J I Q) : hh_Ct yX0_shelf cX0_shelf 4 (some .int) 2 43 [.ref 0, .int a1, .int a2, .int a3] (hx s rd J I) (xQi (fun r9 S9 R9 J9 I9 => s = S9 ∧ J = J9 ∧ Q r9 R9 I9)) 0 0 := by
  refine hh_Ct.of (own := RX0) rfl (by decide +kernel) (Nat.le_of_ble_eq_true rfl) ?_
  intro X hX hN hE
  show hh_V X 0 [(0, .ref 0), (1, .int a1), (2, .int a2), (3, .int a3)] [] 0 0 (hx s rd J I)
  unfold x_X0_shelf at hf
  refine hv_iload_n hX dX0_shelf_0 rfl 1 rfl ?_
  refine hx_callSi hX dX0_shelf_1 (ct_X0_isShelf a1 s rd J I _ hf) (lw_S q1315 q1316 q106 q1317) np_X0_isShelf rfl rfl ⟨Nat.le_of_ble_eq_true rfl, Nat.le_of_ble_eq_true rfl⟩ ⟨Nat.le_of_ble_eq_true rfl, Nat.le_of_ble_eq_true rfl⟩ (Nat.le_of_ble_eq_true rfl) ?_
  intro r1 S9 R9 J9 I9 hq
  clear hf
  obtain ⟨rfl, rfl, rfl, rfl, hf⟩ := hq
  refine hv_if_eq (tgt := 68) hX dX0_shelf_4 (by decide) (fun c2 => ?_) (fun c2 => ?_)
  · replace hf := hf.1 c2
    refine hv_iconst (v := (-1)) hX icx_m1 dX0_shelf_68 ?_
    exact hx_iret hX hE dX0_shelf_69 ⟨rfl, rfl, hf⟩
  · replace hf := hf.2 c2
    refine hv_iload_n hX dX0_shelf_7 rfl 2 rfl ?_
    refine hv_iconst (v := 0) hX icx_0 dX0_shelf_8 ?_
    refine hv_iconst (v := 4) hX icx_4 dX0_shelf_9 ?_
    refine hx_callSi hX dX0_shelf_10 (ct_X0_in a2 0 4 s rd J I _ hf) (lw_S q649 q650 q106 q651) np_X0_in rfl rfl ⟨Nat.le_of_ble_eq_true rfl, Nat.le_of_ble_eq_true rfl⟩ ⟨Nat.le_of_ble_eq_true rfl, Nat.le_of_ble_eq_true rfl⟩ (Nat.le_of_ble_eq_true rfl) ?_
    intro r3 S9 R9 J9 I9 hq
    clear hf
    obtain ⟨rfl, rfl, rfl, rfl, hf⟩ := hq
    refine hv_if_eq (tgt := 68) hX dX0_shelf_13 (by decide) (fun c4 => ?_) (fun c4 => ?_)
    · replace hf := hf.1 c4
      refine hv_iconst (v := (-1)) hX icx_m1 dX0_shelf_68 ?_
      exact hx_iret hX hE dX0_shelf_69 ⟨rfl, rfl, hf⟩
    · replace hf := hf.2 c4
      refine hv_iload_n hX dX0_shelf_16 rfl 2 rfl ?_
      refine hv_if_ne (tgt := 28) hX dX0_shelf_17 (by decide) (fun c5 => ?_) (fun c5 => ?_)
      · replace hf := hf.2 c5
        exact w_X0_shelf_j28 hX hN hE  _ _ _ _ _ _ _ rfl rfl hf
      · replace hf := hf.1 c5
        refine hv_aload_n hX dX0_shelf_20 rfl 0 rfl ?_
        refine hv_iload_n hX dX0_shelf_21 rfl 3 rfl ?_
        refine hx_callVi (ci := 0) (q := (RX0, TX0, 19)) hX dX0_shelf_22 (ct_X0_isPatch a3 s rd J I _ hf) (lw_V q656 q658 qs1 q106 q659) rfl (by decide) ⟨rfl, np_X0_isPatch⟩ rfl (xo_c (by decide) rfl) rfl ⟨Nat.le_of_ble_eq_true rfl, Nat.le_of_ble_eq_true rfl⟩ ⟨Nat.le_of_ble_eq_true rfl, Nat.le_of_ble_eq_true rfl⟩ (Nat.le_of_ble_eq_true rfl) ?_
        intro r26 S9 R9 J9 I9 hq
        clear hf
        obtain ⟨rfl, rfl, rfl, rfl, hf⟩ := hq
        refine hv_if_eq (tgt := 68) hX dX0_shelf_25 (by decide) (fun c27 => ?_) (fun c27 => ?_)
        · replace hf := hf.1 c27
          refine hv_iconst (v := (-1)) hX icx_m1 dX0_shelf_68 ?_
          exact hx_iret hX hE dX0_shelf_69 ⟨rfl, rfl, hf⟩
        · replace hf := hf.2 c27
          exact w_X0_shelf_j28 hX hN hE  _ _ _ _ _ _ _ rfl rfl hf
/-! HungryHedge.rowAs(Ljava/lang/Object;I)I -/
def x_X0_rowAs (a0 : Nat) (a1 : Int32) (s : xS) (rd : xRd) (J : mJ) (I : mI) (QX : Nat → Prop) (Q : Int32 → Prop) : Prop :=
  (a1 = 10 →
    (xo s a0 100 ∧ (QX 3 )) ∨ (xo s a0 101 ∧ (Q (nI (xlen s a0)) )) ∨ (xo s a0 102 ∧ (QX 3 )) ∨ (xo s a0 110 ∧ (QX 3 )) ∨ (xo s a0 22 ∧ (QX 3 )) ∨ (xo s a0 23 ∧ (QX 3 )) ∨ (xo s a0 24 ∧ (QX 3 )) ∨ (xo s a0 25 ∧ (QX 3 )) ∨ (xo s a0 26 ∧ (QX 3 )) ∨ (xo s a0 27 ∧ (QX 3 ))) ∧ (¬ a1 = 10 →
    (a1 = 11 →
    (xo s a0 100 ∧ (QX 3 )) ∨ (xo s a0 101 ∧ (QX 3 )) ∨ (xo s a0 102 ∧ (Q (nI (xlen s a0)) )) ∨ (xo s a0 110 ∧ (QX 3 )) ∨ (xo s a0 22 ∧ (QX 3 )) ∨ (xo s a0 23 ∧ (QX 3 )) ∨ (xo s a0 24 ∧ (QX 3 )) ∨ (xo s a0 25 ∧ (QX 3 )) ∨ (xo s a0 26 ∧ (QX 3 )) ∨ (xo s a0 27 ∧ (QX 3 ))) ∧ (¬ a1 = 11 →
    (a1 = 12 →
    (xo s a0 100 ∧ (Q (nI (xlen s a0)) )) ∨ (xo s a0 101 ∧ (QX 3 )) ∨ (xo s a0 102 ∧ (QX 3 )) ∨ (xo s a0 110 ∧ (QX 3 )) ∨ (xo s a0 22 ∧ (QX 3 )) ∨ (xo s a0 23 ∧ (QX 3 )) ∨ (xo s a0 24 ∧ (QX 3 )) ∨ (xo s a0 25 ∧ (QX 3 )) ∨ (xo s a0 26 ∧ (QX 3 )) ∨ (xo s a0 27 ∧ (QX 3 ))) ∧ (¬ a1 = 12 →
    (xo s a0 100 ∧ (QX 3 )) ∨ (xo s a0 101 ∧ (QX 3 )) ∨ (xo s a0 102 ∧ (QX 3 )) ∨ (xo s a0 110 ∧ (Q (nI (xlen s a0)) )) ∨ (xo s a0 22 ∧ (QX 3 )) ∨ (xo s a0 23 ∧ (QX 3 )) ∨ (xo s a0 24 ∧ (QX 3 )) ∨ (xo s a0 25 ∧ (QX 3 )) ∨ (xo s a0 26 ∧ (QX 3 )) ∨ (xo s a0 27 ∧ (QX 3 )))))
theorem ct_X0_rowAs  (a0 : Nat) (a1 : Int32) (s : xS) (rd : xRd) (J : mJ) (I : mI) (QX : Nat → Prop) (Q : Int32 → Prop) (hf : x_X0_rowAs a0 a1 s rd J I QX Q) : hh_CtX yX0_rowAs cX0_rowAs 2 (some .int) 7 10319 [.ref a0, .int a1] (hx s rd J I) (xQi (fun r9 S9 R9 J9 I9 => s = S9 ∧ rd = R9 ∧ J = J9 ∧ I = I9 ∧ Q r9)) (xQX (fun c9 S9 R9 J9 I9 => s = S9 ∧ rd = R9 ∧ J = J9 ∧ I = I9 ∧ QX c9)) 3 910 := by
  refine hh_CtX.of (own := RX0) rfl (by decide +kernel) (Nat.le_of_ble_eq_true rfl) ?_
  intro X hX hN hE hT
  show hh_V X 0 [(0, .ref a0), (1, .int a1)] [] 0 0 (hx s rd J I)
  unfold x_X0_rowAs at hf
  refine hv_iload_n hX dX0_rowAs_0 rfl 1 rfl ?_
  by_cases c1 : a1 = 10
  · replace hf := hf.1 c1
    refine hv_tswA (v := 10) (tgt := 28) (off := 27) hX dX0_rowAs_1 c1 ⟨by decide, by decide, by decide⟩ (by decide) ?_
    refine hv_aload_n hX dX0_rowAs_28 rfl 0 rfl ?_
    rcases hf with ⟨o2, hf⟩ | ⟨o2, hf⟩ | ⟨o2, hf⟩ | ⟨o2, hf⟩ | ⟨o2, hf⟩ | ⟨o2, hf⟩ | ⟨o2, hf⟩ | ⟨o2, hf⟩ | ⟨o2, hf⟩ | ⟨o2, hf⟩
    · skip
      refine hx_castZ hX q905 o2 isC_100 (by decide) (by decide) (by decide) dX0_rowAs_29 ⟨Nat.le_of_ble_eq_true rfl, Nat.le_of_ble_eq_true rfl⟩ ⟨Nat.le_of_ble_eq_true rfl, Nat.le_of_ble_eq_true rfl⟩ ?_
      exact hx_out (c := 3) hX hE hT ⟨Nat.le_of_ble_eq_true rfl, Nat.le_of_ble_eq_true rfl⟩ ⟨rfl, rfl, rfl, rfl, hf⟩
    · skip
      refine hx_cast hX q905 o2 isC_101 (.inl rfl) dX0_rowAs_29 ?_
      refine hx_alen (v := nI (xlen s a0)) hX 1 rfl dX0_rowAs_32 o2 rfl ?_
      refine hv_widen (z' := 3) (k' := 910) (Nat.le_of_ble_eq_true rfl) (Nat.le_of_ble_eq_true rfl) ?_
      exact hv_xret hX hE (fun X hX hE => hx_iret hX hE dX0_rowAs_33 ⟨rfl, rfl, rfl, rfl, hf⟩)
    · skip
      refine hx_castZ hX q905 o2 isC_102 (by decide) (by decide) (by decide) dX0_rowAs_29 ⟨Nat.le_of_ble_eq_true rfl, Nat.le_of_ble_eq_true rfl⟩ ⟨Nat.le_of_ble_eq_true rfl, Nat.le_of_ble_eq_true rfl⟩ ?_
      exact hx_out (c := 3) hX hE hT ⟨Nat.le_of_ble_eq_true rfl, Nat.le_of_ble_eq_true rfl⟩ ⟨rfl, rfl, rfl, rfl, hf⟩
    · skip
      refine hx_castZ hX q905 o2 isC_110 (by decide) (by decide) (by decide) dX0_rowAs_29 ⟨Nat.le_of_ble_eq_true rfl, Nat.le_of_ble_eq_true rfl⟩ ⟨Nat.le_of_ble_eq_true rfl, Nat.le_of_ble_eq_true rfl⟩ ?_
      exact hx_out (c := 3) hX hE hT ⟨Nat.le_of_ble_eq_true rfl, Nat.le_of_ble_eq_true rfl⟩ ⟨rfl, rfl, rfl, rfl, hf⟩
    · skip
      refine hx_castZ hX q905 o2 isC_22 (by decide) (by decide) (by decide) dX0_rowAs_29 ⟨Nat.le_of_ble_eq_true rfl, Nat.le_of_ble_eq_true rfl⟩ ⟨Nat.le_of_ble_eq_true rfl, Nat.le_of_ble_eq_true rfl⟩ ?_
      exact hx_out (c := 3) hX hE hT ⟨Nat.le_of_ble_eq_true rfl, Nat.le_of_ble_eq_true rfl⟩ ⟨rfl, rfl, rfl, rfl, hf⟩
    · skip
      refine hx_castZ hX q905 o2 isC_23 (by decide) (by decide) (by decide) dX0_rowAs_29 ⟨Nat.le_of_ble_eq_true rfl, Nat.le_of_ble_eq_true rfl⟩ ⟨Nat.le_of_ble_eq_true rfl, Nat.le_of_ble_eq_true rfl⟩ ?_
      exact hx_out (c := 3) hX hE hT ⟨Nat.le_of_ble_eq_true rfl, Nat.le_of_ble_eq_true rfl⟩ ⟨rfl, rfl, rfl, rfl, hf⟩
    · skip
      refine hx_castZ hX q905 o2 isC_24 (by decide) (by decide) (by decide) dX0_rowAs_29 ⟨Nat.le_of_ble_eq_true rfl, Nat.le_of_ble_eq_true rfl⟩ ⟨Nat.le_of_ble_eq_true rfl, Nat.le_of_ble_eq_true rfl⟩ ?_
      exact hx_out (c := 3) hX hE hT ⟨Nat.le_of_ble_eq_true rfl, Nat.le_of_ble_eq_true rfl⟩ ⟨rfl, rfl, rfl, rfl, hf⟩
    · skip
      refine hx_castZ hX q905 o2 isC_25 (by decide) (by decide) (by decide) dX0_rowAs_29 ⟨Nat.le_of_ble_eq_true rfl, Nat.le_of_ble_eq_true rfl⟩ ⟨Nat.le_of_ble_eq_true rfl, Nat.le_of_ble_eq_true rfl⟩ ?_
      exact hx_out (c := 3) hX hE hT ⟨Nat.le_of_ble_eq_true rfl, Nat.le_of_ble_eq_true rfl⟩ ⟨rfl, rfl, rfl, rfl, hf⟩
    · skip
      refine hx_castZ hX q905 o2 isC_26 (by decide) (by decide) (by decide) dX0_rowAs_29 ⟨Nat.le_of_ble_eq_true rfl, Nat.le_of_ble_eq_true rfl⟩ ⟨Nat.le_of_ble_eq_true rfl, Nat.le_of_ble_eq_true rfl⟩ ?_
      exact hx_out (c := 3) hX hE hT ⟨Nat.le_of_ble_eq_true rfl, Nat.le_of_ble_eq_true rfl⟩ ⟨rfl, rfl, rfl, rfl, hf⟩
    · skip
      refine hx_castZ hX q905 o2 isC_27 (by decide) (by decide) (by decide) dX0_rowAs_29 ⟨Nat.le_of_ble_eq_true rfl, Nat.le_of_ble_eq_true rfl⟩ ⟨Nat.le_of_ble_eq_true rfl, Nat.le_of_ble_eq_true rfl⟩ ?_
      exact hx_out (c := 3) hX hE hT ⟨Nat.le_of_ble_eq_true rfl, Nat.le_of_ble_eq_true rfl⟩ ⟨rfl, rfl, rfl, rfl, hf⟩
  · replace hf := hf.2 c1
    by_cases c3 : a1 = 11
    · replace hf := hf.1 c3
      refine hv_tswA (v := 11) (tgt := 34) (off := 33) hX dX0_rowAs_1 c3 ⟨by decide, by decide, by decide⟩ (by decide) ?_
      refine hv_aload_n hX dX0_rowAs_34 rfl 0 rfl ?_
      rcases hf with ⟨o4, hf⟩ | ⟨o4, hf⟩ | ⟨o4, hf⟩ | ⟨o4, hf⟩ | ⟨o4, hf⟩ | ⟨o4, hf⟩ | ⟨o4, hf⟩ | ⟨o4, hf⟩ | ⟨o4, hf⟩ | ⟨o4, hf⟩
      · skip
        refine hx_castZ hX q884 o4 isC_100 (by decide) (by decide) (by decide) dX0_rowAs_35 ⟨Nat.le_of_ble_eq_true rfl, Nat.le_of_ble_eq_true rfl⟩ ⟨Nat.le_of_ble_eq_true rfl, Nat.le_of_ble_eq_true rfl⟩ ?_
        exact hx_out (c := 3) hX hE hT ⟨Nat.le_of_ble_eq_true rfl, Nat.le_of_ble_eq_true rfl⟩ ⟨rfl, rfl, rfl, rfl, hf⟩
      · skip
        refine hx_castZ hX q884 o4 isC_101 (by decide) (by decide) (by decide) dX0_rowAs_35 ⟨Nat.le_of_ble_eq_true rfl, Nat.le_of_ble_eq_true rfl⟩ ⟨Nat.le_of_ble_eq_true rfl, Nat.le_of_ble_eq_true rfl⟩ ?_
        exact hx_out (c := 3) hX hE hT ⟨Nat.le_of_ble_eq_true rfl, Nat.le_of_ble_eq_true rfl⟩ ⟨rfl, rfl, rfl, rfl, hf⟩
      · skip
        refine hx_cast hX q884 o4 isC_102 (.inl rfl) dX0_rowAs_35 ?_
        refine hx_alen (v := nI (xlen s a0)) hX 2 rfl dX0_rowAs_38 o4 rfl ?_
        refine hv_widen (z' := 3) (k' := 910) (Nat.le_of_ble_eq_true rfl) (Nat.le_of_ble_eq_true rfl) ?_
        exact hv_xret hX hE (fun X hX hE => hx_iret hX hE dX0_rowAs_39 ⟨rfl, rfl, rfl, rfl, hf⟩)
      · skip
        refine hx_castZ hX q884 o4 isC_110 (by decide) (by decide) (by decide) dX0_rowAs_35 ⟨Nat.le_of_ble_eq_true rfl, Nat.le_of_ble_eq_true rfl⟩ ⟨Nat.le_of_ble_eq_true rfl, Nat.le_of_ble_eq_true rfl⟩ ?_
        exact hx_out (c := 3) hX hE hT ⟨Nat.le_of_ble_eq_true rfl, Nat.le_of_ble_eq_true rfl⟩ ⟨rfl, rfl, rfl, rfl, hf⟩
      · skip
        refine hx_castZ hX q884 o4 isC_22 (by decide) (by decide) (by decide) dX0_rowAs_35 ⟨Nat.le_of_ble_eq_true rfl, Nat.le_of_ble_eq_true rfl⟩ ⟨Nat.le_of_ble_eq_true rfl, Nat.le_of_ble_eq_true rfl⟩ ?_
        exact hx_out (c := 3) hX hE hT ⟨Nat.le_of_ble_eq_true rfl, Nat.le_of_ble_eq_true rfl⟩ ⟨rfl, rfl, rfl, rfl, hf⟩
      · skip
        refine hx_castZ hX q884 o4 isC_23 (by decide) (by decide) (by decide) dX0_rowAs_35 ⟨Nat.le_of_ble_eq_true rfl, Nat.le_of_ble_eq_true rfl⟩ ⟨Nat.le_of_ble_eq_true rfl, Nat.le_of_ble_eq_true rfl⟩ ?_
        exact hx_out (c := 3) hX hE hT ⟨Nat.le_of_ble_eq_true rfl, Nat.le_of_ble_eq_true rfl⟩ ⟨rfl, rfl, rfl, rfl, hf⟩
      · skip
        refine hx_castZ hX q884 o4 isC_24 (by decide) (by decide) (by decide) dX0_rowAs_35 ⟨Nat.le_of_ble_eq_true rfl, Nat.le_of_ble_eq_true rfl⟩ ⟨Nat.le_of_ble_eq_true rfl, Nat.le_of_ble_eq_true rfl⟩ ?_
        exact hx_out (c := 3) hX hE hT ⟨Nat.le_of_ble_eq_true rfl, Nat.le_of_ble_eq_true rfl⟩ ⟨rfl, rfl, rfl, rfl, hf⟩
      · skip
        refine hx_castZ hX q884 o4 isC_25 (by decide) (by decide) (by decide) dX0_rowAs_35 ⟨Nat.le_of_ble_eq_true rfl, Nat.le_of_ble_eq_true rfl⟩ ⟨Nat.le_of_ble_eq_true rfl, Nat.le_of_ble_eq_true rfl⟩ ?_
        exact hx_out (c := 3) hX hE hT ⟨Nat.le_of_ble_eq_true rfl, Nat.le_of_ble_eq_true rfl⟩ ⟨rfl, rfl, rfl, rfl, hf⟩
      · skip
        refine hx_castZ hX q884 o4 isC_26 (by decide) (by decide) (by decide) dX0_rowAs_35 ⟨Nat.le_of_ble_eq_true rfl, Nat.le_of_ble_eq_true rfl⟩ ⟨Nat.le_of_ble_eq_true rfl, Nat.le_of_ble_eq_true rfl⟩ ?_
        exact hx_out (c := 3) hX hE hT ⟨Nat.le_of_ble_eq_true rfl, Nat.le_of_ble_eq_true rfl⟩ ⟨rfl, rfl, rfl, rfl, hf⟩
      · skip
        refine hx_castZ hX q884 o4 isC_27 (by decide) (by decide) (by decide) dX0_rowAs_35 ⟨Nat.le_of_ble_eq_true rfl, Nat.le_of_ble_eq_true rfl⟩ ⟨Nat.le_of_ble_eq_true rfl, Nat.le_of_ble_eq_true rfl⟩ ?_
        exact hx_out (c := 3) hX hE hT ⟨Nat.le_of_ble_eq_true rfl, Nat.le_of_ble_eq_true rfl⟩ ⟨rfl, rfl, rfl, rfl, hf⟩
    · replace hf := hf.2 c3
      by_cases c5 : a1 = 12
      · replace hf := hf.1 c5
        refine hv_tswA (v := 12) (tgt := 40) (off := 39) hX dX0_rowAs_1 c5 ⟨by decide, by decide, by decide⟩ (by decide) ?_
        refine hv_aload_n hX dX0_rowAs_40 rfl 0 rfl ?_
        rcases hf with ⟨o6, hf⟩ | ⟨o6, hf⟩ | ⟨o6, hf⟩ | ⟨o6, hf⟩ | ⟨o6, hf⟩ | ⟨o6, hf⟩ | ⟨o6, hf⟩ | ⟨o6, hf⟩ | ⟨o6, hf⟩ | ⟨o6, hf⟩
        · skip
          refine hx_cast hX q1273 o6 isC_100 (.inl rfl) dX0_rowAs_41 ?_
          refine hx_alen (v := nI (xlen s a0)) hX 0 rfl dX0_rowAs_44 o6 rfl ?_
          refine hv_widen (z' := 3) (k' := 910) (Nat.le_of_ble_eq_true rfl) (Nat.le_of_ble_eq_true rfl) ?_
          exact hv_xret hX hE (fun X hX hE => hx_iret hX hE dX0_rowAs_45 ⟨rfl, rfl, rfl, rfl, hf⟩)
        · skip
          refine hx_castZ hX q1273 o6 isC_101 (by decide) (by decide) (by decide) dX0_rowAs_41 ⟨Nat.le_of_ble_eq_true rfl, Nat.le_of_ble_eq_true rfl⟩ ⟨Nat.le_of_ble_eq_true rfl, Nat.le_of_ble_eq_true rfl⟩ ?_
          exact hx_out (c := 3) hX hE hT ⟨Nat.le_of_ble_eq_true rfl, Nat.le_of_ble_eq_true rfl⟩ ⟨rfl, rfl, rfl, rfl, hf⟩
        · skip
          refine hx_castZ hX q1273 o6 isC_102 (by decide) (by decide) (by decide) dX0_rowAs_41 ⟨Nat.le_of_ble_eq_true rfl, Nat.le_of_ble_eq_true rfl⟩ ⟨Nat.le_of_ble_eq_true rfl, Nat.le_of_ble_eq_true rfl⟩ ?_
          exact hx_out (c := 3) hX hE hT ⟨Nat.le_of_ble_eq_true rfl, Nat.le_of_ble_eq_true rfl⟩ ⟨rfl, rfl, rfl, rfl, hf⟩
        · skip
          refine hx_castZ hX q1273 o6 isC_110 (by decide) (by decide) (by decide) dX0_rowAs_41 ⟨Nat.le_of_ble_eq_true rfl, Nat.le_of_ble_eq_true rfl⟩ ⟨Nat.le_of_ble_eq_true rfl, Nat.le_of_ble_eq_true rfl⟩ ?_
          exact hx_out (c := 3) hX hE hT ⟨Nat.le_of_ble_eq_true rfl, Nat.le_of_ble_eq_true rfl⟩ ⟨rfl, rfl, rfl, rfl, hf⟩
        · skip
          refine hx_castZ hX q1273 o6 isC_22 (by decide) (by decide) (by decide) dX0_rowAs_41 ⟨Nat.le_of_ble_eq_true rfl, Nat.le_of_ble_eq_true rfl⟩ ⟨Nat.le_of_ble_eq_true rfl, Nat.le_of_ble_eq_true rfl⟩ ?_
          exact hx_out (c := 3) hX hE hT ⟨Nat.le_of_ble_eq_true rfl, Nat.le_of_ble_eq_true rfl⟩ ⟨rfl, rfl, rfl, rfl, hf⟩
        · skip
          refine hx_castZ hX q1273 o6 isC_23 (by decide) (by decide) (by decide) dX0_rowAs_41 ⟨Nat.le_of_ble_eq_true rfl, Nat.le_of_ble_eq_true rfl⟩ ⟨Nat.le_of_ble_eq_true rfl, Nat.le_of_ble_eq_true rfl⟩ ?_
          exact hx_out (c := 3) hX hE hT ⟨Nat.le_of_ble_eq_true rfl, Nat.le_of_ble_eq_true rfl⟩ ⟨rfl, rfl, rfl, rfl, hf⟩
        · skip
          refine hx_castZ hX q1273 o6 isC_24 (by decide) (by decide) (by decide) dX0_rowAs_41 ⟨Nat.le_of_ble_eq_true rfl, Nat.le_of_ble_eq_true rfl⟩ ⟨Nat.le_of_ble_eq_true rfl, Nat.le_of_ble_eq_true rfl⟩ ?_
          exact hx_out (c := 3) hX hE hT ⟨Nat.le_of_ble_eq_true rfl, Nat.le_of_ble_eq_true rfl⟩ ⟨rfl, rfl, rfl, rfl, hf⟩
        · skip
          refine hx_castZ hX q1273 o6 isC_25 (by decide) (by decide) (by decide) dX0_rowAs_41 ⟨Nat.le_of_ble_eq_true rfl, Nat.le_of_ble_eq_true rfl⟩ ⟨Nat.le_of_ble_eq_true rfl, Nat.le_of_ble_eq_true rfl⟩ ?_
          exact hx_out (c := 3) hX hE hT ⟨Nat.le_of_ble_eq_true rfl, Nat.le_of_ble_eq_true rfl⟩ ⟨rfl, rfl, rfl, rfl, hf⟩
        · skip
          refine hx_castZ hX q1273 o6 isC_26 (by decide) (by decide) (by decide) dX0_rowAs_41 ⟨Nat.le_of_ble_eq_true rfl, Nat.le_of_ble_eq_true rfl⟩ ⟨Nat.le_of_ble_eq_true rfl, Nat.le_of_ble_eq_true rfl⟩ ?_
          exact hx_out (c := 3) hX hE hT ⟨Nat.le_of_ble_eq_true rfl, Nat.le_of_ble_eq_true rfl⟩ ⟨rfl, rfl, rfl, rfl, hf⟩
        · skip
          refine hx_castZ hX q1273 o6 isC_27 (by decide) (by decide) (by decide) dX0_rowAs_41 ⟨Nat.le_of_ble_eq_true rfl, Nat.le_of_ble_eq_true rfl⟩ ⟨Nat.le_of_ble_eq_true rfl, Nat.le_of_ble_eq_true rfl⟩ ?_
          exact hx_out (c := 3) hX hE hT ⟨Nat.le_of_ble_eq_true rfl, Nat.le_of_ble_eq_true rfl⟩ ⟨rfl, rfl, rfl, rfl, hf⟩
      · replace hf := hf.2 c5
        refine hv_tswO (tgt := 46) hX dX0_rowAs_1 (by have z0 := lv_neT c1 (a := 10) (by decide); have z1 := lv_neT c3 (a := 11) (by decide); have z2 := lv_neT c5 (a := 12) (by decide); omega) (by decide) ?_
        refine hv_aload_n hX dX0_rowAs_46 rfl 0 rfl ?_
        rcases hf with ⟨o7, hf⟩ | ⟨o7, hf⟩ | ⟨o7, hf⟩ | ⟨o7, hf⟩ | ⟨o7, hf⟩ | ⟨o7, hf⟩ | ⟨o7, hf⟩ | ⟨o7, hf⟩ | ⟨o7, hf⟩ | ⟨o7, hf⟩
        · skip
          refine hx_castZ hX q1272 o7 isC_100 (by decide) (by decide) (by decide) dX0_rowAs_47 ⟨Nat.le_of_ble_eq_true rfl, Nat.le_of_ble_eq_true rfl⟩ ⟨Nat.le_of_ble_eq_true rfl, Nat.le_of_ble_eq_true rfl⟩ ?_
          exact hx_out (c := 3) hX hE hT ⟨Nat.le_of_ble_eq_true rfl, Nat.le_of_ble_eq_true rfl⟩ ⟨rfl, rfl, rfl, rfl, hf⟩
        · skip
          refine hx_castZ hX q1272 o7 isC_101 (by decide) (by decide) (by decide) dX0_rowAs_47 ⟨Nat.le_of_ble_eq_true rfl, Nat.le_of_ble_eq_true rfl⟩ ⟨Nat.le_of_ble_eq_true rfl, Nat.le_of_ble_eq_true rfl⟩ ?_
          exact hx_out (c := 3) hX hE hT ⟨Nat.le_of_ble_eq_true rfl, Nat.le_of_ble_eq_true rfl⟩ ⟨rfl, rfl, rfl, rfl, hf⟩
        · skip
          refine hx_castZ hX q1272 o7 isC_102 (by decide) (by decide) (by decide) dX0_rowAs_47 ⟨Nat.le_of_ble_eq_true rfl, Nat.le_of_ble_eq_true rfl⟩ ⟨Nat.le_of_ble_eq_true rfl, Nat.le_of_ble_eq_true rfl⟩ ?_
          exact hx_out (c := 3) hX hE hT ⟨Nat.le_of_ble_eq_true rfl, Nat.le_of_ble_eq_true rfl⟩ ⟨rfl, rfl, rfl, rfl, hf⟩
        · skip
          refine hx_cast hX q1272 o7 isC_110 (.inl rfl) dX0_rowAs_47 ?_
          refine hx_alen (v := nI (xlen s a0)) hX 3 rfl dX0_rowAs_50 o7 rfl ?_
          refine hv_widen (z' := 3) (k' := 910) (Nat.le_of_ble_eq_true rfl) (Nat.le_of_ble_eq_true rfl) ?_
          exact hv_xret hX hE (fun X hX hE => hx_iret hX hE dX0_rowAs_51 ⟨rfl, rfl, rfl, rfl, hf⟩)
        · skip
          refine hx_castZ hX q1272 o7 isC_22 (by decide) (by decide) (by decide) dX0_rowAs_47 ⟨Nat.le_of_ble_eq_true rfl, Nat.le_of_ble_eq_true rfl⟩ ⟨Nat.le_of_ble_eq_true rfl, Nat.le_of_ble_eq_true rfl⟩ ?_
          exact hx_out (c := 3) hX hE hT ⟨Nat.le_of_ble_eq_true rfl, Nat.le_of_ble_eq_true rfl⟩ ⟨rfl, rfl, rfl, rfl, hf⟩
        · skip
          refine hx_castZ hX q1272 o7 isC_23 (by decide) (by decide) (by decide) dX0_rowAs_47 ⟨Nat.le_of_ble_eq_true rfl, Nat.le_of_ble_eq_true rfl⟩ ⟨Nat.le_of_ble_eq_true rfl, Nat.le_of_ble_eq_true rfl⟩ ?_
          exact hx_out (c := 3) hX hE hT ⟨Nat.le_of_ble_eq_true rfl, Nat.le_of_ble_eq_true rfl⟩ ⟨rfl, rfl, rfl, rfl, hf⟩
        · skip
          refine hx_castZ hX q1272 o7 isC_24 (by decide) (by decide) (by decide) dX0_rowAs_47 ⟨Nat.le_of_ble_eq_true rfl, Nat.le_of_ble_eq_true rfl⟩ ⟨Nat.le_of_ble_eq_true rfl, Nat.le_of_ble_eq_true rfl⟩ ?_
          exact hx_out (c := 3) hX hE hT ⟨Nat.le_of_ble_eq_true rfl, Nat.le_of_ble_eq_true rfl⟩ ⟨rfl, rfl, rfl, rfl, hf⟩
        · skip
          refine hx_castZ hX q1272 o7 isC_25 (by decide) (by decide) (by decide) dX0_rowAs_47 ⟨Nat.le_of_ble_eq_true rfl, Nat.le_of_ble_eq_true rfl⟩ ⟨Nat.le_of_ble_eq_true rfl, Nat.le_of_ble_eq_true rfl⟩ ?_
          exact hx_out (c := 3) hX hE hT ⟨Nat.le_of_ble_eq_true rfl, Nat.le_of_ble_eq_true rfl⟩ ⟨rfl, rfl, rfl, rfl, hf⟩
        · skip
          refine hx_castZ hX q1272 o7 isC_26 (by decide) (by decide) (by decide) dX0_rowAs_47 ⟨Nat.le_of_ble_eq_true rfl, Nat.le_of_ble_eq_true rfl⟩ ⟨Nat.le_of_ble_eq_true rfl, Nat.le_of_ble_eq_true rfl⟩ ?_
          exact hx_out (c := 3) hX hE hT ⟨Nat.le_of_ble_eq_true rfl, Nat.le_of_ble_eq_true rfl⟩ ⟨rfl, rfl, rfl, rfl, hf⟩
        · skip
          refine hx_castZ hX q1272 o7 isC_27 (by decide) (by decide) (by decide) dX0_rowAs_47 ⟨Nat.le_of_ble_eq_true rfl, Nat.le_of_ble_eq_true rfl⟩ ⟨Nat.le_of_ble_eq_true rfl, Nat.le_of_ble_eq_true rfl⟩ ?_
          exact hx_out (c := 3) hX hE hT ⟨Nat.le_of_ble_eq_true rfl, Nat.le_of_ble_eq_true rfl⟩ ⟨rfl, rfl, rfl, rfl, hf⟩
/-! HungryHedge.ran(I)V -/
def x_X0_ran_j19 (Q : mI → Prop)  (s : xS) (rd : xRd) (J : mJ) (I : mI) : Prop :=
  Q (u2 I 0 17 ((I 0 17) + 1))
theorem w_X0_ran_j19 {X : hh_CX} {S0 : xS} {R0 : xRd} {J0 : mJ} {Q : mI → Prop} (hX : hh_C X cX0_ran RX0 (hrx 0 0 0 0)) (hN : hh_nL X = 2) (hE : hh_E X none (xQv (fun S9 R9 J9 I9 => S0 = S9 ∧ R0 = R9 ∧ J0 = J9 ∧ Q I9)) 0 0) : ∀  (s : xS) (rd : xRd) (J : mJ) (I : mI), s = S0 → rd = R0 → J = J0 → x_X0_ran_j19 Q   s rd J I → hh_V X 19 [(0, .ref 0)] [] 0 0 (hx s rd J I) := by
  intro  s rd J I e0 e1 e2 hf
  subst e0
  subst e1
  subst e2
  unfold x_X0_ran_j19 at hf
  refine hv_aload_n hX dX0_ran_19 rfl 0 rfl ?_
  refine hv_dup hX rfl dX0_ran_20 ?_
  refine hx_getI (v := (I 0 17)) hX dX0_ran_21 fl0_393_0 (.inl rfl) (xo_c (by decide) rfl) rfl ?_
  refine hv_iconst (v := 1) hX icx_1 dX0_ran_24 ?_
  refine hv_iadd hX dX0_ran_25 ?_
  refine hx_putI hX dX0_ran_26 fl0_393_0 (xo_c (by decide) rfl) ?_
  exact hx_vret hX hE dX0_ran_29 ⟨rfl, rfl, rfl, hf⟩
def x_X0_ran (a1 : Int32) (s : xS) (rd : xRd) (J : mJ) (I : mI) (Q : mI → Prop) : Prop :=
  ((30 : Int32) ≤ (I 0 17) →
    x_X0_ran_j19 Q    s rd J I) ∧ (¬ (30 : Int32) ≤ (I 0 17) →
    vp_in (I 0 17) 30 ∧ (x_X0_ran_j19 Q    s rd J (u2 I 127 (I 0 17).toNatClampNeg a1)))
theorem ct_X0_ran  (a1 : Int32) (s : xS) (rd : xRd) (J : mJ) (I : mI) (Q : mI → Prop) (hf : x_X0_ran a1 s rd J I Q) : hh_Ct yX0_ran cX0_ran 2 none 0 0 [.ref 0, .int a1] (hx s rd J I) (xQv (fun S9 R9 J9 I9 => s = S9 ∧ rd = R9 ∧ J = J9 ∧ Q I9)) 0 0 := by
  refine hh_Ct.of (own := RX0) rfl (by decide +kernel) (Nat.le_of_ble_eq_true rfl) ?_
  intro X hX hN hE
  show hh_V X 0 [(0, .ref 0), (1, .int a1)] [] 0 0 (hx s rd J I)
  unfold x_X0_ran at hf
  refine hv_aload_n hX dX0_ran_0 rfl 0 rfl ?_
  refine hx_getI (v := (I 0 17)) hX dX0_ran_1 fl0_393_0 (.inl rfl) (xo_c (by decide) rfl) rfl ?_
  refine hv_bipush (v := 30) hX bix_30 dX0_ran_4 ?_
  refine hv_icmp_ge (tgt := 19) hX dX0_ran_6 (by decide) (fun c1 => ?_) (fun c1 => ?_)
  · replace hf := hf.1 c1
    refine hv_fewer [0] (loc2 := [(0, .ref 0)]) rfl ?_
    exact w_X0_ran_j19 hX hN hE   _ _ _ _ rfl rfl rfl hf
  · replace hf := hf.2 c1
    refine hv_aload_n hX dX0_ran_9 rfl 0 rfl ?_
    refine hx_getR (v := 127) hX dX0_ran_10 fl0_96_0 (xo_c (by decide) rfl) (xR_c rfl) ?_
    refine hv_aload_n hX dX0_ran_13 rfl 0 rfl ?_
    refine hx_getI (v := (I 0 17)) hX dX0_ran_14 fl0_393_0 (.inl rfl) (xo_c (by decide) rfl) rfl ?_
    refine hv_iload_n hX dX0_ran_17 rfl 1 rfl ?_
    obtain ⟨g, hf⟩ := hf
    refine hx_iast hX dX0_ran_18 (xo_c (by decide) rfl) (xlen_c (by decide) rfl) g ?_
    refine hv_fewer [0] (loc2 := [(0, .ref 0)]) rfl ?_
    exact w_X0_ran_j19 hX hN hE   _ _ _ _ rfl rfl rfl hf
/-! HungryHedge.trace(I)I -/
def x_X0_trace (a1 : Int32) (s : xS) (rd : xRd) (J : mJ) (I : mI) (Q : Int32 → Prop) : Prop :=
  (a1 < 0 →
    Q (-3) ) ∧ (¬ a1 < 0 →
    ((if 30 < (I 0 17) then 30 else (I 0 17)) ≤ a1 →
      Q (-3) ) ∧ (¬ (if 30 < (I 0 17) then 30 else (I 0 17)) ≤ a1 →
      vp_in a1 30 ∧ (Q (I 127 a1.toNatClampNeg) )))
theorem ct_X0_trace  (a1 : Int32) (s : xS) (rd : xRd) (J : mJ) (I : mI) (Q : Int32 → Prop) (hf : x_X0_trace a1 s rd J I Q) : hh_Ct yX0_trace cX0_trace 2 (some .int) 1 21 [.ref 0, .int a1] (hx s rd J I) (xQi (fun r9 S9 R9 J9 I9 => s = S9 ∧ rd = R9 ∧ J = J9 ∧ I = I9 ∧ Q r9)) 0 0 := by
  refine hh_Ct.of (own := RX0) rfl (by decide +kernel) (Nat.le_of_ble_eq_true rfl) ?_
  intro X hX hN hE
  show hh_V X 0 [(0, .ref 0), (1, .int a1)] [] 0 0 (hx s rd J I)
  unfold x_X0_trace at hf
  refine hv_iload_n hX dX0_trace_0 rfl 1 rfl ?_
  refine hv_if_lt (tgt := 26) hX dX0_trace_1 (by decide) (fun c1 => ?_) (fun c1 => ?_)
  · replace hf := hf.1 c1
    refine hv_bipush (v := (-3)) hX bix_m3 dX0_trace_26 ?_
    exact hx_iret hX hE dX0_trace_28 ⟨rfl, rfl, rfl, rfl, hf⟩
  · replace hf := hf.2 c1
    refine hv_iload_n hX dX0_trace_4 rfl 1 rfl ?_
    refine hv_aload_n hX dX0_trace_5 rfl 0 rfl ?_
    refine hx_getI (v := (I 0 17)) hX dX0_trace_6 fl0_393_0 (.inl rfl) (xo_c (by decide) rfl) rfl ?_
    refine hv_bipush (v := 30) hX bix_30 dX0_trace_9 ?_
    refine hv_mmin hX dX0_trace_11 q1667 q716 q127 q717 ⟨Nat.le_of_ble_eq_true rfl, Nat.le_of_ble_eq_true rfl⟩ ⟨Nat.le_of_ble_eq_true rfl, Nat.le_of_ble_eq_true rfl⟩ ?_
    refine hv_icmp_ge (tgt := 26) hX dX0_trace_14 (by decide) (fun c2 => ?_) (fun c2 => ?_)
    · replace hf := hf.1 c2
      refine hv_bipush (v := (-3)) hX bix_m3 dX0_trace_26 ?_
      exact hx_iret hX hE dX0_trace_28 ⟨rfl, rfl, rfl, rfl, hf⟩
    · replace hf := hf.2 c2
      refine hv_aload_n hX dX0_trace_17 rfl 0 rfl ?_
      refine hx_getR (v := 127) hX dX0_trace_18 fl0_96_0 (xo_c (by decide) rfl) (xR_c rfl) ?_
      refine hv_iload_n hX dX0_trace_21 rfl 1 rfl ?_
      obtain ⟨g, hf⟩ := hf
      refine hx_iald (v := (I 127 a1.toNatClampNeg)) hX dX0_trace_22 (xo_c (by decide) rfl) (xlen_c (by decide) rfl) g rfl ?_
      refine hv_goto (tgt := 28) hX dX0_trace_23 (by decide) ?_
      exact hx_iret hX hE dX0_trace_28 ⟨rfl, rfl, rfl, rfl, hf⟩
/-! HungryHedge.many(I)I -/
def x_X0_many (a1 : Int32) (s : xS) (rd : xRd) (J : mJ) (I : mI) (Q : Int32 → Prop) : Prop :=
  (a1 = 0 →
    Q (I 1 0) ) ∧ (¬ a1 = 0 →
    (a1 = 1 →
    Q (I 1 1) ) ∧ (¬ a1 = 1 →
    (a1 = 2 →
    Q (I 1 2) ) ∧ (¬ a1 = 2 →
    (a1 = 3 →
    Q (I 0 12) ) ∧ (¬ a1 = 3 →
    (a1 = 4 →
    Q (I 0 8) ) ∧ (¬ a1 = 4 →
    (a1 = 5 →
    Q (if 30 < (I 0 17) then 30 else (I 0 17)) ) ∧ (¬ a1 = 5 →
    (a1 = 6 →
    Q (I 10 1) ) ∧ (¬ a1 = 6 →
    (a1 = 7 →
    Q (I 10 2) ) ∧ (¬ a1 = 7 →
    (a1 = 8 →
    Q (I 1 3) ) ∧ (¬ a1 = 8 →
    (a1 = 9 →
    Q (I 10 0) ) ∧ (¬ a1 = 9 →
    Q (-1) ))))))))))
theorem ct_X0_many  (a1 : Int32) (s : xS) (rd : xRd) (J : mJ) (I : mI) (Q : Int32 → Prop) (hf : x_X0_many a1 s rd J I Q) : hh_Ct yX0_many cX0_many 2 (some .int) 1 21 [.ref 0, .int a1] (hx s rd J I) (xQi (fun r9 S9 R9 J9 I9 => s = S9 ∧ rd = R9 ∧ J = J9 ∧ I = I9 ∧ Q r9)) 0 0 := by
  refine hh_Ct.of (own := RX0) rfl (by decide +kernel) (Nat.le_of_ble_eq_true rfl) ?_
  intro X hX hN hE
  show hh_V X 0 [(0, .ref 0), (1, .int a1)] [] 0 0 (hx s rd J I)
  unfold x_X0_many at hf
  refine hv_iload_n hX dX0_many_0 rfl 1 rfl ?_
  by_cases c1 : a1 = 0
  · replace hf := hf.1 c1
    refine hv_tswA (v := 0) (tgt := 56) (off := 55) hX dX0_many_1 c1 ⟨by decide, by decide, by decide⟩ (by decide) ?_
    refine hv_aload_n hX dX0_many_56 rfl 0 rfl ?_
    refine hx_getR (v := 1) hX dX0_many_57 fl0_10_0 (xo_c (by decide) rfl) (xR_c rfl) ?_
    refine hx_getI (v := (I 1 0)) hX dX0_many_60 fl0_107_1 (.inl rfl) (xo_c (by decide) rfl) rfl ?_
    exact hx_iret hX hE dX0_many_63 ⟨rfl, rfl, rfl, rfl, hf⟩
  · replace hf := hf.2 c1
    by_cases c2 : a1 = 1
    · replace hf := hf.1 c2
      refine hv_tswA (v := 1) (tgt := 64) (off := 63) hX dX0_many_1 c2 ⟨by decide, by decide, by decide⟩ (by decide) ?_
      refine hv_aload_n hX dX0_many_64 rfl 0 rfl ?_
      refine hx_getR (v := 1) hX dX0_many_65 fl0_10_0 (xo_c (by decide) rfl) (xR_c rfl) ?_
      refine hx_getI (v := (I 1 1)) hX dX0_many_68 fl0_221_1 (.inl rfl) (xo_c (by decide) rfl) rfl ?_
      exact hx_iret hX hE dX0_many_71 ⟨rfl, rfl, rfl, rfl, hf⟩
    · replace hf := hf.2 c2
      by_cases c3 : a1 = 2
      · replace hf := hf.1 c3
        refine hv_tswA (v := 2) (tgt := 72) (off := 71) hX dX0_many_1 c3 ⟨by decide, by decide, by decide⟩ (by decide) ?_
        refine hv_aload_n hX dX0_many_72 rfl 0 rfl ?_
        refine hx_getR (v := 1) hX dX0_many_73 fl0_10_0 (xo_c (by decide) rfl) (xR_c rfl) ?_
        refine hx_getI (v := (I 1 2)) hX dX0_many_76 fl0_301_1 (.inl rfl) (xo_c (by decide) rfl) rfl ?_
        exact hx_iret hX hE dX0_many_79 ⟨rfl, rfl, rfl, rfl, hf⟩
      · replace hf := hf.2 c3
        by_cases c4 : a1 = 3
        · replace hf := hf.1 c4
          refine hv_tswA (v := 3) (tgt := 80) (off := 79) hX dX0_many_1 c4 ⟨by decide, by decide, by decide⟩ (by decide) ?_
          refine hv_aload_n hX dX0_many_80 rfl 0 rfl ?_
          refine hx_getI (v := (I 0 12)) hX dX0_many_81 fl0_334_0 (.inl rfl) (xo_c (by decide) rfl) rfl ?_
          exact hx_iret hX hE dX0_many_84 ⟨rfl, rfl, rfl, rfl, hf⟩
        · replace hf := hf.2 c4
          by_cases c5 : a1 = 4
          · replace hf := hf.1 c5
            refine hv_tswA (v := 4) (tgt := 85) (off := 84) hX dX0_many_1 c5 ⟨by decide, by decide, by decide⟩ (by decide) ?_
            refine hv_aload_n hX dX0_many_85 rfl 0 rfl ?_
            refine hx_getI (v := (I 0 8)) hX dX0_many_86 fl0_281_0 (.inl rfl) (xo_c (by decide) rfl) rfl ?_
            exact hx_iret hX hE dX0_many_89 ⟨rfl, rfl, rfl, rfl, hf⟩
          · replace hf := hf.2 c5
            by_cases c6 : a1 = 5
            · replace hf := hf.1 c6
              refine hv_tswA (v := 5) (tgt := 90) (off := 89) hX dX0_many_1 c6 ⟨by decide, by decide, by decide⟩ (by decide) ?_
              refine hv_aload_n hX dX0_many_90 rfl 0 rfl ?_
              refine hx_getI (v := (I 0 17)) hX dX0_many_91 fl0_393_0 (.inl rfl) (xo_c (by decide) rfl) rfl ?_
              refine hv_bipush (v := 30) hX bix_30 dX0_many_94 ?_
              refine hv_mmin hX dX0_many_96 q1667 q716 q127 q717 ⟨Nat.le_of_ble_eq_true rfl, Nat.le_of_ble_eq_true rfl⟩ ⟨Nat.le_of_ble_eq_true rfl, Nat.le_of_ble_eq_true rfl⟩ ?_
              exact hx_iret hX hE dX0_many_99 ⟨rfl, rfl, rfl, rfl, hf⟩
            · replace hf := hf.2 c6
              by_cases c7 : a1 = 6
              · replace hf := hf.1 c7
                refine hv_tswA (v := 6) (tgt := 100) (off := 99) hX dX0_many_1 c7 ⟨by decide, by decide, by decide⟩ (by decide) ?_
                refine hv_aload_n hX dX0_many_100 rfl 0 rfl ?_
                refine hx_getR (v := 1) hX dX0_many_101 fl0_10_0 (xo_c (by decide) rfl) (xR_c rfl) ?_
                refine hx_getR (v := 10) hX dX0_many_104 fl0_127_1 (xo_c (by decide) rfl) (xR_c rfl) ?_
                refine hx_getI (v := (I 10 1)) hX dX0_many_107 fl0_147_2 (.inl rfl) (xo_c (by decide) rfl) rfl ?_
                exact hx_iret hX hE dX0_many_110 ⟨rfl, rfl, rfl, rfl, hf⟩
              · replace hf := hf.2 c7
                by_cases c8 : a1 = 7
                · replace hf := hf.1 c8
                  refine hv_tswA (v := 7) (tgt := 111) (off := 110) hX dX0_many_1 c8 ⟨by decide, by decide, by decide⟩ (by decide) ?_
                  refine hv_aload_n hX dX0_many_111 rfl 0 rfl ?_
                  refine hx_getR (v := 1) hX dX0_many_112 fl0_10_0 (xo_c (by decide) rfl) (xR_c rfl) ?_
                  refine hx_getR (v := 10) hX dX0_many_115 fl0_127_1 (xo_c (by decide) rfl) (xR_c rfl) ?_
                  refine hx_getI (v := (I 10 2)) hX dX0_many_118 fl0_156_2 (.inl rfl) (xo_c (by decide) rfl) rfl ?_
                  exact hx_iret hX hE dX0_many_121 ⟨rfl, rfl, rfl, rfl, hf⟩
                · replace hf := hf.2 c8
                  by_cases c9 : a1 = 8
                  · replace hf := hf.1 c9
                    refine hv_tswA (v := 8) (tgt := 122) (off := 121) hX dX0_many_1 c9 ⟨by decide, by decide, by decide⟩ (by decide) ?_
                    refine hv_aload_n hX dX0_many_122 rfl 0 rfl ?_
                    refine hx_getR (v := 1) hX dX0_many_123 fl0_10_0 (xo_c (by decide) rfl) (xR_c rfl) ?_
                    refine hx_getI (v := (I 1 3)) hX dX0_many_126 fl0_150_1 (.inl rfl) (xo_c (by decide) rfl) rfl ?_
                    exact hx_iret hX hE dX0_many_129 ⟨rfl, rfl, rfl, rfl, hf⟩
                  · replace hf := hf.2 c9
                    by_cases c10 : a1 = 9
                    · replace hf := hf.1 c10
                      refine hv_tswA (v := 9) (tgt := 130) (off := 129) hX dX0_many_1 c10 ⟨by decide, by decide, by decide⟩ (by decide) ?_
                      refine hv_aload_n hX dX0_many_130 rfl 0 rfl ?_
                      refine hx_getR (v := 1) hX dX0_many_131 fl0_10_0 (xo_c (by decide) rfl) (xR_c rfl) ?_
                      refine hx_getR (v := 10) hX dX0_many_134 fl0_127_1 (xo_c (by decide) rfl) (xR_c rfl) ?_
                      refine hx_getI (v := (I 10 0)) hX dX0_many_137 fl0_153_2 (.inl rfl) (xo_c (by decide) rfl) rfl ?_
                      exact hx_iret hX hE dX0_many_140 ⟨rfl, rfl, rfl, rfl, hf⟩
                    · replace hf := hf.2 c10
                      refine hv_tswO (tgt := 141) hX dX0_many_1 (by have z0 := lv_neT c1 (a := 0) (by decide); have z1 := lv_neT c2 (a := 1) (by decide); have z2 := lv_neT c3 (a := 2) (by decide); have z3 := lv_neT c4 (a := 3) (by decide); have z4 := lv_neT c5 (a := 4) (by decide); have z5 := lv_neT c6 (a := 5) (by decide); have z6 := lv_neT c7 (a := 6) (by decide); have z7 := lv_neT c8 (a := 7) (by decide); have z8 := lv_neT c9 (a := 8) (by decide); have z9 := lv_neT c10 (a := 9) (by decide); omega) (by decide) ?_
                      refine hv_iconst (v := (-1)) hX icx_m1 dX0_many_141 ?_
                      exact hx_iret hX hE dX0_many_142 ⟨rfl, rfl, rfl, rfl, hf⟩
/-! HungryHedge$Kept.become(LHungryHedge$Kept;)V -/
def x_X1_become_12_1  (s : xS) (rd : xRd) (J : mJ) (I : mI) (Q : xRd → mI → Prop) : Prop :=
  x_X1_copy 2 13 s rd J (u2 (u2 (u2 (u2 (u2 (u2 (u2 (u2 I 12 0 (I 1 0)) 12 1 (I 1 1)) 12 2 (I 1 2)) 12 3 (I 1 3)) 12 4 (I 1 4)) 12 5 (I 1 5)) 12 6 (I 1 6)) 12 7 (I 1 7)) (fun I1 => x_X1_copy 3 14 s rd J I1 (fun I2 => x_X1_copy 4 15 s rd J I2 (fun I3 => x_X1_copy 5 16 s rd J I3 (fun I4 => x_X1_copy 6 17 s rd J I4 (fun I5 => x_X1_copy 7 18 s rd J I5 (fun I6 => (¬ (0 : Int32) < 0 ∧ ¬ (0 : Int32) < 0 ∧ ¬ (4 : Int32) < 0 ∧ (0 : Int32).toNatClampNeg + (4 : Int32).toNatClampNeg ≤ (xlen s 8) ∧ (0 : Int32).toNatClampNeg + (4 : Int32).toNatClampNeg ≤ (xlen s 19)) ∧ ((∀ i, i < (4 : Int32).toNatClampNeg → ∀ y, xR rd 8 ((0 : Int32).toNatClampNeg + i) = some y → xo s y 15) ∧ ((¬ (0 : Int32) < 0 ∧ ¬ (0 : Int32) < 0 ∧ ¬ (6 : Int32) < 0 ∧ (0 : Int32).toNatClampNeg + (6 : Int32).toNatClampNeg ≤ (xlen s 9) ∧ (0 : Int32).toNatClampNeg + (6 : Int32).toNatClampNeg ≤ (xlen s 20)) ∧ ((∀ i, i < (6 : Int32).toNatClampNeg → ∀ y, xR (ur rd 19 (va_cpy (xR rd 8) (xR rd 19) (0 : Int32).toNatClampNeg (0 : Int32).toNatClampNeg (4 : Int32).toNatClampNeg)) 9 ((0 : Int32).toNatClampNeg + i) = some y → xo s y 16) ∧ (∀ R7 : xRd, R7 = (ur (ur rd 19 (va_cpy (xR rd 8) (xR rd 19) (0 : Int32).toNatClampNeg (0 : Int32).toNatClampNeg (4 : Int32).toNatClampNeg)) 20 (va_cpy (xR (ur rd 19 (va_cpy (xR rd 8) (xR rd 19) (0 : Int32).toNatClampNeg (0 : Int32).toNatClampNeg (4 : Int32).toNatClampNeg)) 9) (xR (ur rd 19 (va_cpy (xR rd 8) (xR rd 19) (0 : Int32).toNatClampNeg (0 : Int32).toNatClampNeg (4 : Int32).toNatClampNeg)) 20) (0 : Int32).toNatClampNeg (0 : Int32).toNatClampNeg (6 : Int32).toNatClampNeg)) → (x_X2_become 21 10 s R7 J I6 (fun I8 => Q R7 I8))))))))))))
theorem ct_X1_become_12_1   (s : xS) (rd : xRd) (J : mJ) (I : mI) (Q : xRd → mI → Prop) (hf : x_X1_become_12_1  s rd J I Q) : hh_Ct yX1_become cX1_become 2 none 2 47 [.ref 12, .ref 1] (hx s rd J I) (xQv (fun S9 R9 J9 I9 => s = S9 ∧ J = J9 ∧ Q R9 I9)) 0 0 := by
  refine hh_Ct.of (own := RX1) rfl (by decide +kernel) (Nat.le_of_ble_eq_true rfl) ?_
  intro X hX hN hE
  show hh_V X 0 [(0, .ref 12), (1, .ref 1)] [] 0 0 (hx s rd J I)
  unfold x_X1_become_12_1 at hf
  refine hv_aload_n hX dX1_become_0 rfl 0 rfl ?_
  refine hv_aload_n hX dX1_become_1 rfl 1 rfl ?_
  refine hx_getI (v := (I 1 0)) hX dX1_become_2 fl1_65_1 (.inl rfl) (xo_c (by decide) rfl) rfl ?_
  refine hx_putI hX dX1_become_5 fl1_65_1 (xo_c (by decide) rfl) ?_
  refine hv_aload_n hX dX1_become_8 rfl 0 rfl ?_
  refine hv_aload_n hX dX1_become_9 rfl 1 rfl ?_
  refine hx_getI (v := (I 1 1)) hX dX1_become_10 fl1_68_1 (.inl rfl) (xo_c (by decide) rfl) ((u2_ne _ _ (.inl (by decide)))) ?_
  refine hx_putI hX dX1_become_13 fl1_68_1 (xo_c (by decide) rfl) ?_
  refine hv_aload_n hX dX1_become_16 rfl 0 rfl ?_
  refine hv_aload_n hX dX1_become_17 rfl 1 rfl ?_
  refine hx_getI (v := (I 1 2)) hX dX1_become_18 fl1_71_1 (.inl rfl) (xo_c (by decide) rfl) ((u2_ne _ _ (.inl (by decide))) |>.trans (u2_ne _ _ (.inl (by decide)))) ?_
  refine hx_putI hX dX1_become_21 fl1_71_1 (xo_c (by decide) rfl) ?_
  refine hv_aload_n hX dX1_become_24 rfl 0 rfl ?_
  refine hv_aload_n hX dX1_become_25 rfl 1 rfl ?_
  refine hx_getI (v := (I 1 3)) hX dX1_become_26 fl1_9_1 (.inl rfl) (xo_c (by decide) rfl) ((u2_ne _ _ (.inl (by decide))) |>.trans (u2_ne _ _ (.inl (by decide))) |>.trans (u2_ne _ _ (.inl (by decide)))) ?_
  refine hx_putI hX dX1_become_29 fl1_9_1 (xo_c (by decide) rfl) ?_
  refine hv_aload_n hX dX1_become_32 rfl 0 rfl ?_
  refine hv_aload_n hX dX1_become_33 rfl 1 rfl ?_
  refine hx_getI (v := (I 1 4)) hX dX1_become_34 fl1_15_1 (.inl rfl) (xo_c (by decide) rfl) ((u2_ne _ _ (.inl (by decide))) |>.trans (u2_ne _ _ (.inl (by decide))) |>.trans (u2_ne _ _ (.inl (by decide))) |>.trans (u2_ne _ _ (.inl (by decide)))) ?_
  refine hx_putI hX dX1_become_37 fl1_15_1 (xo_c (by decide) rfl) ?_
  refine hv_aload_n hX dX1_become_40 rfl 0 rfl ?_
  refine hv_aload_n hX dX1_become_41 rfl 1 rfl ?_
  refine hx_getI (v := (I 1 5)) hX dX1_become_42 fl1_74_1 (.inl rfl) (xo_c (by decide) rfl) ((u2_ne _ _ (.inl (by decide))) |>.trans (u2_ne _ _ (.inl (by decide))) |>.trans (u2_ne _ _ (.inl (by decide))) |>.trans (u2_ne _ _ (.inl (by decide))) |>.trans (u2_ne _ _ (.inl (by decide)))) ?_
  refine hx_putI hX dX1_become_45 fl1_74_1 (xo_c (by decide) rfl) ?_
  refine hv_aload_n hX dX1_become_48 rfl 0 rfl ?_
  refine hv_aload_n hX dX1_become_49 rfl 1 rfl ?_
  refine hx_getI (v := (I 1 6)) hX dX1_become_50 fl1_77_1 (.inl rfl) (xo_c (by decide) rfl) ((u2_ne _ _ (.inl (by decide))) |>.trans (u2_ne _ _ (.inl (by decide))) |>.trans (u2_ne _ _ (.inl (by decide))) |>.trans (u2_ne _ _ (.inl (by decide))) |>.trans (u2_ne _ _ (.inl (by decide))) |>.trans (u2_ne _ _ (.inl (by decide)))) ?_
  refine hx_putI hX dX1_become_53 fl1_77_1 (xo_c (by decide) rfl) ?_
  refine hv_aload_n hX dX1_become_56 rfl 0 rfl ?_
  refine hv_aload_n hX dX1_become_57 rfl 1 rfl ?_
  refine hx_getI (v := (I 1 7)) hX dX1_become_58 fl1_18_1 (.inl rfl) (xo_c (by decide) rfl) ((u2_ne _ _ (.inl (by decide))) |>.trans (u2_ne _ _ (.inl (by decide))) |>.trans (u2_ne _ _ (.inl (by decide))) |>.trans (u2_ne _ _ (.inl (by decide))) |>.trans (u2_ne _ _ (.inl (by decide))) |>.trans (u2_ne _ _ (.inl (by decide))) |>.trans (u2_ne _ _ (.inl (by decide)))) ?_
  refine hx_putI hX dX1_become_61 fl1_18_1 (xo_c (by decide) rfl) ?_
  refine hv_aload_n hX dX1_become_64 rfl 1 rfl ?_
  refine hx_getR (v := 2) hX dX1_become_65 fl1_21_1 (xo_c (by decide) rfl) (xR_c rfl) ?_
  refine hv_aload_n hX dX1_become_68 rfl 0 rfl ?_
  refine hx_getR (v := 13) hX dX1_become_69 fl1_21_1 (xo_c (by decide) rfl) (xR_c rfl) ?_
  refine hx_callSv hX dX1_become_72 (ct_X1_copy 2 13 s rd J (u2 (u2 (u2 (u2 (u2 (u2 (u2 (u2 I 12 0 (I 1 0)) 12 1 (I 1 1)) 12 2 (I 1 2)) 12 3 (I 1 3)) 12 4 (I 1 4)) 12 5 (I 1 5)) 12 6 (I 1 6)) 12 7 (I 1 7)) _ hf) (lw_S q1680 q1681 q107 q1682) np_X1_copy rfl rfl ⟨Nat.le_of_ble_eq_true rfl, Nat.le_of_ble_eq_true rfl⟩ ⟨Nat.le_of_ble_eq_true rfl, Nat.le_of_ble_eq_true rfl⟩ (Nat.le_of_ble_eq_true rfl) ?_
  intro  S9 R9 J9 I1 hq
  clear hf
  obtain ⟨rfl, rfl, rfl, hf⟩ := hq
  refine hv_aload_n hX dX1_become_75 rfl 1 rfl ?_
  refine hx_getR (v := 3) hX dX1_become_76 fl1_25_1 (xo_c (by decide) rfl) (xR_c rfl) ?_
  refine hv_aload_n hX dX1_become_79 rfl 0 rfl ?_
  refine hx_getR (v := 14) hX dX1_become_80 fl1_25_1 (xo_c (by decide) rfl) (xR_c rfl) ?_
  refine hx_callSv hX dX1_become_83 (ct_X1_copy 3 14 s rd J I1 _ hf) (lw_S q1680 q1681 q107 q1682) np_X1_copy rfl rfl ⟨Nat.le_of_ble_eq_true rfl, Nat.le_of_ble_eq_true rfl⟩ ⟨Nat.le_of_ble_eq_true rfl, Nat.le_of_ble_eq_true rfl⟩ (Nat.le_of_ble_eq_true rfl) ?_
  intro  S9 R9 J9 I2 hq
  clear hf
  obtain ⟨rfl, rfl, rfl, hf⟩ := hq
  refine hv_aload_n hX dX1_become_86 rfl 1 rfl ?_
  refine hx_getR (v := 4) hX dX1_become_87 fl1_28_1 (xo_c (by decide) rfl) (xR_c rfl) ?_
  refine hv_aload_n hX dX1_become_90 rfl 0 rfl ?_
  refine hx_getR (v := 15) hX dX1_become_91 fl1_28_1 (xo_c (by decide) rfl) (xR_c rfl) ?_
  refine hx_callSv hX dX1_become_94 (ct_X1_copy 4 15 s rd J I2 _ hf) (lw_S q1680 q1681 q107 q1682) np_X1_copy rfl rfl ⟨Nat.le_of_ble_eq_true rfl, Nat.le_of_ble_eq_true rfl⟩ ⟨Nat.le_of_ble_eq_true rfl, Nat.le_of_ble_eq_true rfl⟩ (Nat.le_of_ble_eq_true rfl) ?_
  intro  S9 R9 J9 I3 hq
  clear hf
  obtain ⟨rfl, rfl, rfl, hf⟩ := hq
  refine hv_aload_n hX dX1_become_97 rfl 1 rfl ?_
  refine hx_getR (v := 5) hX dX1_become_98 fl1_31_1 (xo_c (by decide) rfl) (xR_c rfl) ?_
  refine hv_aload_n hX dX1_become_101 rfl 0 rfl ?_
  refine hx_getR (v := 16) hX dX1_become_102 fl1_31_1 (xo_c (by decide) rfl) (xR_c rfl) ?_
  refine hx_callSv hX dX1_become_105 (ct_X1_copy 5 16 s rd J I3 _ hf) (lw_S q1680 q1681 q107 q1682) np_X1_copy rfl rfl ⟨Nat.le_of_ble_eq_true rfl, Nat.le_of_ble_eq_true rfl⟩ ⟨Nat.le_of_ble_eq_true rfl, Nat.le_of_ble_eq_true rfl⟩ (Nat.le_of_ble_eq_true rfl) ?_
  intro  S9 R9 J9 I4 hq
  clear hf
  obtain ⟨rfl, rfl, rfl, hf⟩ := hq
  refine hv_aload_n hX dX1_become_108 rfl 1 rfl ?_
  refine hx_getR (v := 6) hX dX1_become_109 fl1_34_1 (xo_c (by decide) rfl) (xR_c rfl) ?_
  refine hv_aload_n hX dX1_become_112 rfl 0 rfl ?_
  refine hx_getR (v := 17) hX dX1_become_113 fl1_34_1 (xo_c (by decide) rfl) (xR_c rfl) ?_
  refine hx_callSv hX dX1_become_116 (ct_X1_copy 6 17 s rd J I4 _ hf) (lw_S q1680 q1681 q107 q1682) np_X1_copy rfl rfl ⟨Nat.le_of_ble_eq_true rfl, Nat.le_of_ble_eq_true rfl⟩ ⟨Nat.le_of_ble_eq_true rfl, Nat.le_of_ble_eq_true rfl⟩ (Nat.le_of_ble_eq_true rfl) ?_
  intro  S9 R9 J9 I5 hq
  clear hf
  obtain ⟨rfl, rfl, rfl, hf⟩ := hq
  refine hv_aload_n hX dX1_become_119 rfl 1 rfl ?_
  refine hx_getR (v := 7) hX dX1_become_120 fl1_37_1 (xo_c (by decide) rfl) (xR_c rfl) ?_
  refine hv_aload_n hX dX1_become_123 rfl 0 rfl ?_
  refine hx_getR (v := 18) hX dX1_become_124 fl1_37_1 (xo_c (by decide) rfl) (xR_c rfl) ?_
  refine hx_callSv hX dX1_become_127 (ct_X1_copy 7 18 s rd J I5 _ hf) (lw_S q1680 q1681 q107 q1682) np_X1_copy rfl rfl ⟨Nat.le_of_ble_eq_true rfl, Nat.le_of_ble_eq_true rfl⟩ ⟨Nat.le_of_ble_eq_true rfl, Nat.le_of_ble_eq_true rfl⟩ (Nat.le_of_ble_eq_true rfl) ?_
  intro  S9 R9 J9 I6 hq
  clear hf
  obtain ⟨rfl, rfl, rfl, hf⟩ := hq
  refine hv_aload_n hX dX1_become_130 rfl 1 rfl ?_
  refine hx_getR (v := 8) hX dX1_become_131 fl1_42_1 (xo_c (by decide) rfl) (xR_c rfl) ?_
  refine hv_iconst (v := 0) hX icx_0 dX1_become_134 ?_
  refine hv_aload_n hX dX1_become_135 rfl 0 rfl ?_
  refine hx_getR (v := 19) hX dX1_become_136 fl1_42_1 (xo_c (by decide) rfl) (xR_c rfl) ?_
  refine hv_iconst (v := 0) hX icx_0 dX1_become_139 ?_
  refine hv_iconst (v := 4) hX icx_4 dX1_become_140 ?_
  obtain ⟨g, hf⟩ := hf
  obtain ⟨g2, hf⟩ := hf
  refine hx_copyR (a := 21) hX 5 rfl (by decide) (q := (RX15, TX15, 1)) rfl (by decide) rfl dX1_become_141 q1683 q690 q689 q126 (xo_c (by decide) rfl) (xo_c (by decide) rfl) g g2 (fun _ => rfl) ⟨Nat.le_of_ble_eq_true rfl, Nat.le_of_ble_eq_true rfl⟩ ?_
  refine hv_aload_n hX dX1_become_144 rfl 1 rfl ?_
  refine hx_getR (v := 9) hX dX1_become_145 fl1_48_1 (xo_c (by decide) rfl) (xR_c rfl) ?_
  refine hv_iconst (v := 0) hX icx_0 dX1_become_148 ?_
  refine hv_aload_n hX dX1_become_149 rfl 0 rfl ?_
  refine hx_getR (v := 20) hX dX1_become_150 fl1_48_1 (xo_c (by decide) rfl) (xR_c rfl) ?_
  refine hv_iconst (v := 0) hX icx_0 dX1_become_153 ?_
  refine hv_bipush (v := 6) hX bix_6 dX1_become_154 ?_
  obtain ⟨g, hf⟩ := hf
  obtain ⟨g2, hf⟩ := hf
  refine hx_copyR (a := 22) hX 6 rfl (by decide) (q := (RX16, TX16, 2)) rfl (by decide) rfl dX1_become_156 q1683 q690 q689 q126 (xo_c (by decide) rfl) (xo_c (by decide) rfl) g g2 (fun _ => rfl) ⟨Nat.le_of_ble_eq_true rfl, Nat.le_of_ble_eq_true rfl⟩ ?_
  refine hx_nmR (fun R7 eR7 => ?_)
  replace hf := hf R7 eR7
  refine hv_aload_n hX dX1_become_159 rfl 0 rfl ?_
  refine hx_getR (v := 21) hX dX1_become_160 fl1_55_1 (xo_c (by decide) rfl) (xR_c rfl) ?_
  refine hv_aload_n hX dX1_become_163 rfl 1 rfl ?_
  refine hx_getR (v := 10) hX dX1_become_164 fl1_55_1 (xo_c (by decide) rfl) (xR_c rfl) ?_
  refine hx_callVv (ci := 2) (q := (RX2, TX2, 4)) hX dX1_become_167 (ct_X2_become 21 10 s R7 J I6 _ hf) (lw_V q1684 q748 q749 q108 q750) rfl (by decide) ⟨rfl, np_X2_become⟩ rfl (xo_c (by decide) rfl) rfl ⟨Nat.le_of_ble_eq_true rfl, Nat.le_of_ble_eq_true rfl⟩ ⟨Nat.le_of_ble_eq_true rfl, Nat.le_of_ble_eq_true rfl⟩ (Nat.le_of_ble_eq_true rfl) ?_
  intro  S9 R9 J9 I8 hq
  clear hf
  obtain ⟨rfl, rfl, rfl, hf⟩ := hq
  exact hx_vret hX hE dX1_become_170 ⟨rfl, rfl, hf⟩
/-! HungryHedge.keep()I -/
def x_X0_keep  (s : xS) (rd : xRd) (J : mJ) (I : mI) (Q : Int32 → xRd → mI → Prop) : Prop :=
  x_X1_become_12_1 s rd J I (fun rd1 I2 => Q 1 rd1 (u2 I2 0 2 1))
theorem ct_X0_keep   (s : xS) (rd : xRd) (J : mJ) (I : mI) (Q : Int32 → xRd → mI → Prop) (hf : x_X0_keep  s rd J I Q) : hh_Ct yX0_keep cX0_keep 1 (some .int) 3 68 [.ref 0] (hx s rd J I) (xQi (fun r9 S9 R9 J9 I9 => s = S9 ∧ J = J9 ∧ Q r9 R9 I9)) 0 0 := by
  refine hh_Ct.of (own := RX0) rfl (by decide +kernel) (Nat.le_of_ble_eq_true rfl) ?_
  intro X hX hN hE
  show hh_V X 0 [(0, .ref 0)] [] 0 0 (hx s rd J I)
  unfold x_X0_keep at hf
  refine hv_aload_n hX dX0_keep_0 rfl 0 rfl ?_
  refine hx_getR (v := 12) hX dX0_keep_1 fl0_16_0 (xo_c (by decide) rfl) (xR_c rfl) ?_
  refine hv_aload_n hX dX0_keep_4 rfl 0 rfl ?_
  refine hx_getR (v := 1) hX dX0_keep_5 fl0_10_0 (xo_c (by decide) rfl) (xR_c rfl) ?_
  refine hx_callVv (ci := 1) (q := (RX1, TX1, 17)) hX dX0_keep_8 (ct_X1_become_12_1 s rd J I _ hf) (lw_V q1676 q1677 q1678 q107 q1679) rfl (by decide) ⟨rfl, np_X1_become⟩ rfl (xo_c (by decide) rfl) rfl ⟨Nat.le_of_ble_eq_true rfl, Nat.le_of_ble_eq_true rfl⟩ ⟨Nat.le_of_ble_eq_true rfl, Nat.le_of_ble_eq_true rfl⟩ (Nat.le_of_ble_eq_true rfl) ?_
  intro  S9 rd1 J9 I2 hq
  clear hf
  obtain ⟨rfl, rfl, hf⟩ := hq
  refine hv_aload_n hX dX0_keep_11 rfl 0 rfl ?_
  refine hv_iconst (v := 1) hX icx_1 dX0_keep_12 ?_
  refine hx_putZ hX dX0_keep_13 fl0_486_0 (by decide) (xo_c (by decide) rfl) ?_
  refine hv_iconst (v := 1) hX icx_1 dX0_keep_16 ?_
  exact hx_iret hX hE dX0_keep_17 ⟨rfl, rfl, hf⟩
/-! HungryHedge$Kept.become(LHungryHedge$Kept;)V -/
def x_X1_become_1_12  (s : xS) (rd : xRd) (J : mJ) (I : mI) (Q : xRd → mI → Prop) : Prop :=
  x_X1_copy 13 2 s rd J (u2 (u2 (u2 (u2 (u2 (u2 (u2 (u2 I 1 0 (I 12 0)) 1 1 (I 12 1)) 1 2 (I 12 2)) 1 3 (I 12 3)) 1 4 (I 12 4)) 1 5 (I 12 5)) 1 6 (I 12 6)) 1 7 (I 12 7)) (fun I1 => x_X1_copy 14 3 s rd J I1 (fun I2 => x_X1_copy 15 4 s rd J I2 (fun I3 => x_X1_copy 16 5 s rd J I3 (fun I4 => x_X1_copy 17 6 s rd J I4 (fun I5 => x_X1_copy 18 7 s rd J I5 (fun I6 => (¬ (0 : Int32) < 0 ∧ ¬ (0 : Int32) < 0 ∧ ¬ (4 : Int32) < 0 ∧ (0 : Int32).toNatClampNeg + (4 : Int32).toNatClampNeg ≤ (xlen s 19) ∧ (0 : Int32).toNatClampNeg + (4 : Int32).toNatClampNeg ≤ (xlen s 8)) ∧ ((∀ i, i < (4 : Int32).toNatClampNeg → ∀ y, xR rd 19 ((0 : Int32).toNatClampNeg + i) = some y → xo s y 15) ∧ ((¬ (0 : Int32) < 0 ∧ ¬ (0 : Int32) < 0 ∧ ¬ (6 : Int32) < 0 ∧ (0 : Int32).toNatClampNeg + (6 : Int32).toNatClampNeg ≤ (xlen s 20) ∧ (0 : Int32).toNatClampNeg + (6 : Int32).toNatClampNeg ≤ (xlen s 9)) ∧ ((∀ i, i < (6 : Int32).toNatClampNeg → ∀ y, xR (ur rd 8 (va_cpy (xR rd 19) (xR rd 8) (0 : Int32).toNatClampNeg (0 : Int32).toNatClampNeg (4 : Int32).toNatClampNeg)) 20 ((0 : Int32).toNatClampNeg + i) = some y → xo s y 16) ∧ (∀ R7 : xRd, R7 = (ur (ur rd 8 (va_cpy (xR rd 19) (xR rd 8) (0 : Int32).toNatClampNeg (0 : Int32).toNatClampNeg (4 : Int32).toNatClampNeg)) 9 (va_cpy (xR (ur rd 8 (va_cpy (xR rd 19) (xR rd 8) (0 : Int32).toNatClampNeg (0 : Int32).toNatClampNeg (4 : Int32).toNatClampNeg)) 20) (xR (ur rd 8 (va_cpy (xR rd 19) (xR rd 8) (0 : Int32).toNatClampNeg (0 : Int32).toNatClampNeg (4 : Int32).toNatClampNeg)) 9) (0 : Int32).toNatClampNeg (0 : Int32).toNatClampNeg (6 : Int32).toNatClampNeg)) → (x_X2_become 10 21 s R7 J I6 (fun I8 => Q R7 I8))))))))))))
theorem ct_X1_become_1_12   (s : xS) (rd : xRd) (J : mJ) (I : mI) (Q : xRd → mI → Prop) (hf : x_X1_become_1_12  s rd J I Q) : hh_Ct yX1_become cX1_become 2 none 2 47 [.ref 1, .ref 12] (hx s rd J I) (xQv (fun S9 R9 J9 I9 => s = S9 ∧ J = J9 ∧ Q R9 I9)) 0 0 := by
  refine hh_Ct.of (own := RX1) rfl (by decide +kernel) (Nat.le_of_ble_eq_true rfl) ?_
  intro X hX hN hE
  show hh_V X 0 [(0, .ref 1), (1, .ref 12)] [] 0 0 (hx s rd J I)
  unfold x_X1_become_1_12 at hf
  refine hv_aload_n hX dX1_become_0 rfl 0 rfl ?_
  refine hv_aload_n hX dX1_become_1 rfl 1 rfl ?_
  refine hx_getI (v := (I 12 0)) hX dX1_become_2 fl1_65_1 (.inl rfl) (xo_c (by decide) rfl) rfl ?_
  refine hx_putI hX dX1_become_5 fl1_65_1 (xo_c (by decide) rfl) ?_
  refine hv_aload_n hX dX1_become_8 rfl 0 rfl ?_
  refine hv_aload_n hX dX1_become_9 rfl 1 rfl ?_
  refine hx_getI (v := (I 12 1)) hX dX1_become_10 fl1_68_1 (.inl rfl) (xo_c (by decide) rfl) ((u2_ne _ _ (.inl (by decide)))) ?_
  refine hx_putI hX dX1_become_13 fl1_68_1 (xo_c (by decide) rfl) ?_
  refine hv_aload_n hX dX1_become_16 rfl 0 rfl ?_
  refine hv_aload_n hX dX1_become_17 rfl 1 rfl ?_
  refine hx_getI (v := (I 12 2)) hX dX1_become_18 fl1_71_1 (.inl rfl) (xo_c (by decide) rfl) ((u2_ne _ _ (.inl (by decide))) |>.trans (u2_ne _ _ (.inl (by decide)))) ?_
  refine hx_putI hX dX1_become_21 fl1_71_1 (xo_c (by decide) rfl) ?_
  refine hv_aload_n hX dX1_become_24 rfl 0 rfl ?_
  refine hv_aload_n hX dX1_become_25 rfl 1 rfl ?_
  refine hx_getI (v := (I 12 3)) hX dX1_become_26 fl1_9_1 (.inl rfl) (xo_c (by decide) rfl) ((u2_ne _ _ (.inl (by decide))) |>.trans (u2_ne _ _ (.inl (by decide))) |>.trans (u2_ne _ _ (.inl (by decide)))) ?_
  refine hx_putI hX dX1_become_29 fl1_9_1 (xo_c (by decide) rfl) ?_
  refine hv_aload_n hX dX1_become_32 rfl 0 rfl ?_
  refine hv_aload_n hX dX1_become_33 rfl 1 rfl ?_
  refine hx_getI (v := (I 12 4)) hX dX1_become_34 fl1_15_1 (.inl rfl) (xo_c (by decide) rfl) ((u2_ne _ _ (.inl (by decide))) |>.trans (u2_ne _ _ (.inl (by decide))) |>.trans (u2_ne _ _ (.inl (by decide))) |>.trans (u2_ne _ _ (.inl (by decide)))) ?_
  refine hx_putI hX dX1_become_37 fl1_15_1 (xo_c (by decide) rfl) ?_
  refine hv_aload_n hX dX1_become_40 rfl 0 rfl ?_
  refine hv_aload_n hX dX1_become_41 rfl 1 rfl ?_
  refine hx_getI (v := (I 12 5)) hX dX1_become_42 fl1_74_1 (.inl rfl) (xo_c (by decide) rfl) ((u2_ne _ _ (.inl (by decide))) |>.trans (u2_ne _ _ (.inl (by decide))) |>.trans (u2_ne _ _ (.inl (by decide))) |>.trans (u2_ne _ _ (.inl (by decide))) |>.trans (u2_ne _ _ (.inl (by decide)))) ?_
  refine hx_putI hX dX1_become_45 fl1_74_1 (xo_c (by decide) rfl) ?_
  refine hv_aload_n hX dX1_become_48 rfl 0 rfl ?_
  refine hv_aload_n hX dX1_become_49 rfl 1 rfl ?_
  refine hx_getI (v := (I 12 6)) hX dX1_become_50 fl1_77_1 (.inl rfl) (xo_c (by decide) rfl) ((u2_ne _ _ (.inl (by decide))) |>.trans (u2_ne _ _ (.inl (by decide))) |>.trans (u2_ne _ _ (.inl (by decide))) |>.trans (u2_ne _ _ (.inl (by decide))) |>.trans (u2_ne _ _ (.inl (by decide))) |>.trans (u2_ne _ _ (.inl (by decide)))) ?_
  refine hx_putI hX dX1_become_53 fl1_77_1 (xo_c (by decide) rfl) ?_
  refine hv_aload_n hX dX1_become_56 rfl 0 rfl ?_
  refine hv_aload_n hX dX1_become_57 rfl 1 rfl ?_
  refine hx_getI (v := (I 12 7)) hX dX1_become_58 fl1_18_1 (.inl rfl) (xo_c (by decide) rfl) ((u2_ne _ _ (.inl (by decide))) |>.trans (u2_ne _ _ (.inl (by decide))) |>.trans (u2_ne _ _ (.inl (by decide))) |>.trans (u2_ne _ _ (.inl (by decide))) |>.trans (u2_ne _ _ (.inl (by decide))) |>.trans (u2_ne _ _ (.inl (by decide))) |>.trans (u2_ne _ _ (.inl (by decide)))) ?_
  refine hx_putI hX dX1_become_61 fl1_18_1 (xo_c (by decide) rfl) ?_
  refine hv_aload_n hX dX1_become_64 rfl 1 rfl ?_
  refine hx_getR (v := 13) hX dX1_become_65 fl1_21_1 (xo_c (by decide) rfl) (xR_c rfl) ?_
  refine hv_aload_n hX dX1_become_68 rfl 0 rfl ?_
  refine hx_getR (v := 2) hX dX1_become_69 fl1_21_1 (xo_c (by decide) rfl) (xR_c rfl) ?_
  refine hx_callSv hX dX1_become_72 (ct_X1_copy 13 2 s rd J (u2 (u2 (u2 (u2 (u2 (u2 (u2 (u2 I 1 0 (I 12 0)) 1 1 (I 12 1)) 1 2 (I 12 2)) 1 3 (I 12 3)) 1 4 (I 12 4)) 1 5 (I 12 5)) 1 6 (I 12 6)) 1 7 (I 12 7)) _ hf) (lw_S q1680 q1681 q107 q1682) np_X1_copy rfl rfl ⟨Nat.le_of_ble_eq_true rfl, Nat.le_of_ble_eq_true rfl⟩ ⟨Nat.le_of_ble_eq_true rfl, Nat.le_of_ble_eq_true rfl⟩ (Nat.le_of_ble_eq_true rfl) ?_
  intro  S9 R9 J9 I1 hq
  clear hf
  obtain ⟨rfl, rfl, rfl, hf⟩ := hq
  refine hv_aload_n hX dX1_become_75 rfl 1 rfl ?_
  refine hx_getR (v := 14) hX dX1_become_76 fl1_25_1 (xo_c (by decide) rfl) (xR_c rfl) ?_
  refine hv_aload_n hX dX1_become_79 rfl 0 rfl ?_
  refine hx_getR (v := 3) hX dX1_become_80 fl1_25_1 (xo_c (by decide) rfl) (xR_c rfl) ?_
  refine hx_callSv hX dX1_become_83 (ct_X1_copy 14 3 s rd J I1 _ hf) (lw_S q1680 q1681 q107 q1682) np_X1_copy rfl rfl ⟨Nat.le_of_ble_eq_true rfl, Nat.le_of_ble_eq_true rfl⟩ ⟨Nat.le_of_ble_eq_true rfl, Nat.le_of_ble_eq_true rfl⟩ (Nat.le_of_ble_eq_true rfl) ?_
  intro  S9 R9 J9 I2 hq
  clear hf
  obtain ⟨rfl, rfl, rfl, hf⟩ := hq
  refine hv_aload_n hX dX1_become_86 rfl 1 rfl ?_
  refine hx_getR (v := 15) hX dX1_become_87 fl1_28_1 (xo_c (by decide) rfl) (xR_c rfl) ?_
  refine hv_aload_n hX dX1_become_90 rfl 0 rfl ?_
  refine hx_getR (v := 4) hX dX1_become_91 fl1_28_1 (xo_c (by decide) rfl) (xR_c rfl) ?_
  refine hx_callSv hX dX1_become_94 (ct_X1_copy 15 4 s rd J I2 _ hf) (lw_S q1680 q1681 q107 q1682) np_X1_copy rfl rfl ⟨Nat.le_of_ble_eq_true rfl, Nat.le_of_ble_eq_true rfl⟩ ⟨Nat.le_of_ble_eq_true rfl, Nat.le_of_ble_eq_true rfl⟩ (Nat.le_of_ble_eq_true rfl) ?_
  intro  S9 R9 J9 I3 hq
  clear hf
  obtain ⟨rfl, rfl, rfl, hf⟩ := hq
  refine hv_aload_n hX dX1_become_97 rfl 1 rfl ?_
  refine hx_getR (v := 16) hX dX1_become_98 fl1_31_1 (xo_c (by decide) rfl) (xR_c rfl) ?_
  refine hv_aload_n hX dX1_become_101 rfl 0 rfl ?_
  refine hx_getR (v := 5) hX dX1_become_102 fl1_31_1 (xo_c (by decide) rfl) (xR_c rfl) ?_
  refine hx_callSv hX dX1_become_105 (ct_X1_copy 16 5 s rd J I3 _ hf) (lw_S q1680 q1681 q107 q1682) np_X1_copy rfl rfl ⟨Nat.le_of_ble_eq_true rfl, Nat.le_of_ble_eq_true rfl⟩ ⟨Nat.le_of_ble_eq_true rfl, Nat.le_of_ble_eq_true rfl⟩ (Nat.le_of_ble_eq_true rfl) ?_
  intro  S9 R9 J9 I4 hq
  clear hf
  obtain ⟨rfl, rfl, rfl, hf⟩ := hq
  refine hv_aload_n hX dX1_become_108 rfl 1 rfl ?_
  refine hx_getR (v := 17) hX dX1_become_109 fl1_34_1 (xo_c (by decide) rfl) (xR_c rfl) ?_
  refine hv_aload_n hX dX1_become_112 rfl 0 rfl ?_
  refine hx_getR (v := 6) hX dX1_become_113 fl1_34_1 (xo_c (by decide) rfl) (xR_c rfl) ?_
  refine hx_callSv hX dX1_become_116 (ct_X1_copy 17 6 s rd J I4 _ hf) (lw_S q1680 q1681 q107 q1682) np_X1_copy rfl rfl ⟨Nat.le_of_ble_eq_true rfl, Nat.le_of_ble_eq_true rfl⟩ ⟨Nat.le_of_ble_eq_true rfl, Nat.le_of_ble_eq_true rfl⟩ (Nat.le_of_ble_eq_true rfl) ?_
  intro  S9 R9 J9 I5 hq
  clear hf
  obtain ⟨rfl, rfl, rfl, hf⟩ := hq
  refine hv_aload_n hX dX1_become_119 rfl 1 rfl ?_
  refine hx_getR (v := 18) hX dX1_become_120 fl1_37_1 (xo_c (by decide) rfl) (xR_c rfl) ?_
  refine hv_aload_n hX dX1_become_123 rfl 0 rfl ?_
  refine hx_getR (v := 7) hX dX1_become_124 fl1_37_1 (xo_c (by decide) rfl) (xR_c rfl) ?_
  refine hx_callSv hX dX1_become_127 (ct_X1_copy 18 7 s rd J I5 _ hf) (lw_S q1680 q1681 q107 q1682) np_X1_copy rfl rfl ⟨Nat.le_of_ble_eq_true rfl, Nat.le_of_ble_eq_true rfl⟩ ⟨Nat.le_of_ble_eq_true rfl, Nat.le_of_ble_eq_true rfl⟩ (Nat.le_of_ble_eq_true rfl) ?_
  intro  S9 R9 J9 I6 hq
  clear hf
  obtain ⟨rfl, rfl, rfl, hf⟩ := hq
  refine hv_aload_n hX dX1_become_130 rfl 1 rfl ?_
  refine hx_getR (v := 19) hX dX1_become_131 fl1_42_1 (xo_c (by decide) rfl) (xR_c rfl) ?_
  refine hv_iconst (v := 0) hX icx_0 dX1_become_134 ?_
  refine hv_aload_n hX dX1_become_135 rfl 0 rfl ?_
  refine hx_getR (v := 8) hX dX1_become_136 fl1_42_1 (xo_c (by decide) rfl) (xR_c rfl) ?_
  refine hv_iconst (v := 0) hX icx_0 dX1_become_139 ?_
  refine hv_iconst (v := 4) hX icx_4 dX1_become_140 ?_
  obtain ⟨g, hf⟩ := hf
  obtain ⟨g2, hf⟩ := hf
  refine hx_copyR (a := 21) hX 5 rfl (by decide) (q := (RX15, TX15, 1)) rfl (by decide) rfl dX1_become_141 q1683 q690 q689 q126 (xo_c (by decide) rfl) (xo_c (by decide) rfl) g g2 (fun _ => rfl) ⟨Nat.le_of_ble_eq_true rfl, Nat.le_of_ble_eq_true rfl⟩ ?_
  refine hv_aload_n hX dX1_become_144 rfl 1 rfl ?_
  refine hx_getR (v := 20) hX dX1_become_145 fl1_48_1 (xo_c (by decide) rfl) (xR_c rfl) ?_
  refine hv_iconst (v := 0) hX icx_0 dX1_become_148 ?_
  refine hv_aload_n hX dX1_become_149 rfl 0 rfl ?_
  refine hx_getR (v := 9) hX dX1_become_150 fl1_48_1 (xo_c (by decide) rfl) (xR_c rfl) ?_
  refine hv_iconst (v := 0) hX icx_0 dX1_become_153 ?_
  refine hv_bipush (v := 6) hX bix_6 dX1_become_154 ?_
  obtain ⟨g, hf⟩ := hf
  obtain ⟨g2, hf⟩ := hf
  refine hx_copyR (a := 22) hX 6 rfl (by decide) (q := (RX16, TX16, 2)) rfl (by decide) rfl dX1_become_156 q1683 q690 q689 q126 (xo_c (by decide) rfl) (xo_c (by decide) rfl) g g2 (fun _ => rfl) ⟨Nat.le_of_ble_eq_true rfl, Nat.le_of_ble_eq_true rfl⟩ ?_
  refine hx_nmR (fun R7 eR7 => ?_)
  replace hf := hf R7 eR7
  refine hv_aload_n hX dX1_become_159 rfl 0 rfl ?_
  refine hx_getR (v := 10) hX dX1_become_160 fl1_55_1 (xo_c (by decide) rfl) (xR_c rfl) ?_
  refine hv_aload_n hX dX1_become_163 rfl 1 rfl ?_
  refine hx_getR (v := 21) hX dX1_become_164 fl1_55_1 (xo_c (by decide) rfl) (xR_c rfl) ?_
  refine hx_callVv (ci := 2) (q := (RX2, TX2, 4)) hX dX1_become_167 (ct_X2_become 10 21 s R7 J I6 _ hf) (lw_V q1684 q748 q749 q108 q750) rfl (by decide) ⟨rfl, np_X2_become⟩ rfl (xo_c (by decide) rfl) rfl ⟨Nat.le_of_ble_eq_true rfl, Nat.le_of_ble_eq_true rfl⟩ ⟨Nat.le_of_ble_eq_true rfl, Nat.le_of_ble_eq_true rfl⟩ (Nat.le_of_ble_eq_true rfl) ?_
  intro  S9 R9 J9 I8 hq
  clear hf
  obtain ⟨rfl, rfl, rfl, hf⟩ := hq
  exact hx_vret hX hE dX1_become_170 ⟨rfl, rfl, hf⟩
/-! HungryHedge.again()I -/
def x_X0_again  (s : xS) (rd : xRd) (J : mJ) (I : mI) (Q : Int32 → xRd → mI → Prop) : Prop :=
  ((I 0 2) = 0 →
    Q (-3) rd I) ∧ (¬ (I 0 2) = 0 →
    x_X1_become_1_12 s rd J I (fun rd2 I3 => Q 1 rd2 I3))
theorem ct_X0_again   (s : xS) (rd : xRd) (J : mJ) (I : mI) (Q : Int32 → xRd → mI → Prop) (hf : x_X0_again  s rd J I Q) : hh_Ct yX0_again cX0_again 1 (some .int) 3 68 [.ref 0] (hx s rd J I) (xQi (fun r9 S9 R9 J9 I9 => s = S9 ∧ J = J9 ∧ Q r9 R9 I9)) 0 0 := by
  refine hh_Ct.of (own := RX0) rfl (by decide +kernel) (Nat.le_of_ble_eq_true rfl) ?_
  intro X hX hN hE
  show hh_V X 0 [(0, .ref 0)] [] 0 0 (hx s rd J I)
  unfold x_X0_again at hf
  refine hv_aload_n hX dX0_again_0 rfl 0 rfl ?_
  refine hx_getI (v := (I 0 2)) hX dX0_again_1 fl0_486_0 (.inr rfl) (xo_c (by decide) rfl) rfl ?_
  refine hv_if_ne (tgt := 10) hX dX0_again_4 (by decide) (fun c1 => ?_) (fun c1 => ?_)
  · replace hf := hf.2 c1
    refine hv_aload_n hX dX0_again_10 rfl 0 rfl ?_
    refine hx_getR (v := 1) hX dX0_again_11 fl0_10_0 (xo_c (by decide) rfl) (xR_c rfl) ?_
    refine hv_aload_n hX dX0_again_14 rfl 0 rfl ?_
    refine hx_getR (v := 12) hX dX0_again_15 fl0_16_0 (xo_c (by decide) rfl) (xR_c rfl) ?_
    refine hx_callVv (ci := 1) (q := (RX1, TX1, 17)) hX dX0_again_18 (ct_X1_become_1_12 s rd J I _ hf) (lw_V q1676 q1677 q1678 q107 q1679) rfl (by decide) ⟨rfl, np_X1_become⟩ rfl (xo_c (by decide) rfl) rfl ⟨Nat.le_of_ble_eq_true rfl, Nat.le_of_ble_eq_true rfl⟩ ⟨Nat.le_of_ble_eq_true rfl, Nat.le_of_ble_eq_true rfl⟩ (Nat.le_of_ble_eq_true rfl) ?_
    intro  S9 rd2 J9 I3 hq
    clear hf
    obtain ⟨rfl, rfl, hf⟩ := hq
    refine hv_iconst (v := 1) hX icx_1 dX0_again_21 ?_
    exact hx_iret hX hE dX0_again_22 ⟨rfl, rfl, hf⟩
  · replace hf := hf.1 c1
    refine hv_bipush (v := (-3)) hX bix_m3 dX0_again_7 ?_
    exact hx_iret hX hE dX0_again_9 ⟨rfl, rfl, hf⟩
/-! HungryHedge$Not.<init>(LHungryHedge$Cond;)V -/
def x_X18_init (a0 : Nat) (a1 : Nat) (s : xS) (rd : xRd) (J : mJ) (I : mI) (Q : xRd → Prop) : Prop :=
  xo s a0 18 ∧ (xR0 a0 0 = none ∧ (Q (u2 rd a0 0 (some a1))))
theorem ct_X18_init  (a0 : Nat) (a1 : Nat) (s : xS) (rd : xRd) (J : mJ) (I : mI) (Q : xRd → Prop) (hf : x_X18_init a0 a1 s rd J I Q) : hh_Ct yX18_init cX18_init 2 none 1 20 [.ref a0, .ref a1] (hx s rd J I) (xQv (fun S9 R9 J9 I9 => s = S9 ∧ J = J9 ∧ I = I9 ∧ Q R9)) 0 0 := by
  refine hh_Ct.ofN (own := RX18) rfl (by decide +kernel) (Nat.le_of_ble_eq_true rfl) ?_
  intro X hX hN hE hNm
  show hh_V X 0 [(0, .ref a0), (1, .ref a1)] [] 0 0 (hx s rd J I)
  unfold x_X18_init at hf
  refine hv_aload_n hX dX18_init_0 rfl 0 rfl ?_
  refine hv_objinit hX dX18_init_1 q1098 q153 q154 hN ⟨Nat.le_of_ble_eq_true rfl, Nat.le_of_ble_eq_true rfl⟩ ?_
  refine hv_aload_n hX dX18_init_4 rfl 0 rfl ?_
  refine hv_aload_n hX dX18_init_5 rfl 1 rfl ?_
  obtain ⟨o1, hf⟩ := hf
  obtain ⟨g, hf⟩ := hf
  refine hx_putFO (v := (some a1)) hX hNm dX18_init_6 fl18_7_18 ⟨RX18, TX18, 1, "HungryHedge$Not", rfl, rfl, q1099, .inl rfl⟩ o1 g ?_
  exact hx_vret hX hE dX18_init_9 ⟨rfl, rfl, rfl, hf⟩
/-! HungryHedge$Clause.<init>(ILHungryHedge$Cond;)V -/
def x_X16_init (a0 : Nat) (a1 : Int32) (a2 : Nat) (s : xS) (rd : xRd) (J : mJ) (I : mI) (Q : xRd → mI → Prop) : Prop :=
  xo s a0 16 ∧ (xR0 a0 1 = none ∧ (Q (u2 rd a0 1 (some a2)) (u2 I a0 0 a1)))
theorem ct_X16_init  (a0 : Nat) (a1 : Int32) (a2 : Nat) (s : xS) (rd : xRd) (J : mJ) (I : mI) (Q : xRd → mI → Prop) (hf : x_X16_init a0 a1 a2 s rd J I Q) : hh_Ct yX16_init cX16_init 3 none 1 20 [.ref a0, .int a1, .ref a2] (hx s rd J I) (xQv (fun S9 R9 J9 I9 => s = S9 ∧ J = J9 ∧ Q R9 I9)) 0 0 := by
  refine hh_Ct.ofN (own := RX16) rfl (by decide +kernel) (Nat.le_of_ble_eq_true rfl) ?_
  intro X hX hN hE hNm
  show hh_V X 0 [(0, .ref a0), (1, .int a1), (2, .ref a2)] [] 0 0 (hx s rd J I)
  unfold x_X16_init at hf
  refine hv_aload_n hX dX16_init_0 rfl 0 rfl ?_
  refine hv_objinit hX dX16_init_1 q1134 q153 q154 hN ⟨Nat.le_of_ble_eq_true rfl, Nat.le_of_ble_eq_true rfl⟩ ?_
  refine hv_aload_n hX dX16_init_4 rfl 0 rfl ?_
  refine hv_iload_n hX dX16_init_5 rfl 1 rfl ?_
  obtain ⟨o1, hf⟩ := hf
  refine hx_putFI hX hNm dX16_init_6 fl16_7_16 ⟨RX16, TX16, 2, "HungryHedge$Clause", rfl, rfl, q1135, .inl rfl⟩ o1 ?_
  refine hv_aload_n hX dX16_init_9 rfl 0 rfl ?_
  refine hv_aload_n hX dX16_init_10 rfl 2 rfl ?_
  obtain ⟨g, hf⟩ := hf
  refine hx_putFO (v := (some a2)) hX hNm dX16_init_11 fl16_13_16 ⟨RX16, TX16, 2, "HungryHedge$Clause", rfl, rfl, q1137, .inl rfl⟩ o1 g ?_
  exact hx_vret hX hE dX16_init_14 ⟨rfl, rfl, hf⟩
/-! HungryHedge$Sheet.<init>()V -/
def x_X10_init (a0 : Nat) (s : xS) (rd : xRd) (J : mJ) (I : mI) (Q : mI → Prop) : Prop :=
  xo s a0 10 ∧ (Q (u2 I a0 4 (-1)))
theorem ct_X10_init  (a0 : Nat) (s : xS) (rd : xRd) (J : mJ) (I : mI) (Q : mI → Prop) (hf : x_X10_init a0 s rd J I Q) : hh_Ct yX10_init cX10_init 1 none 1 20 [.ref a0] (hx s rd J I) (xQv (fun S9 R9 J9 I9 => s = S9 ∧ rd = R9 ∧ J = J9 ∧ Q I9)) 0 0 := by
  refine hh_Ct.ofN (own := RX10) rfl (by decide +kernel) (Nat.le_of_ble_eq_true rfl) ?_
  intro X hX hN hE hNm
  show hh_V X 0 [(0, .ref a0)] [] 0 0 (hx s rd J I)
  unfold x_X10_init at hf
  refine hv_aload_n hX dX10_init_0 rfl 0 rfl ?_
  refine hv_objinit hX dX10_init_1 q518 q153 q154 hN ⟨Nat.le_of_ble_eq_true rfl, Nat.le_of_ble_eq_true rfl⟩ ?_
  refine hv_aload_n hX dX10_init_4 rfl 0 rfl ?_
  refine hv_iconst (v := (-1)) hX icx_m1 dX10_init_5 ?_
  obtain ⟨o1, hf⟩ := hf
  refine hx_putI hX dX10_init_6 fl10_7_10 o1 ?_
  exact hx_vret hX hE dX10_init_9 ⟨rfl, rfl, rfl, hf⟩
